/-! walks (printed by gen/desk.py): 20.wmap.lean -/
set_option maxRecDepth 100000
set_option maxHeartbeats 4000000
def wp_X3_init (g : Nat → Nat) (M : Mem) (a0 : Nat) (x1 : Int32) (x2 : Int32) (Q : Mem → Prop) : Prop := m_tg M a0 = 4 ∧ ∀ M2 : Mem, M2 = (m_pi M a0 0 (if x2 < x1 then x2 else x1)) → ∀ M6 : Mem, M6 = (m_pi M2 a0 1 (if x1 < x2 then x2 else x1)) → Q M6
theorem bk_X3_init_0 (G : Gp) (C : m_Cx) (n0 s0 : Nat) (M0 : Mem) (Q : Mem → Prop) (X : m_in G C RX3 cX3_init 3 none "<init>" 1 14 n0 s0) (M : Mem) (a0 : Nat) (x1 : Int32) (x2 : Int32) (hw : wp_X3_init G.2 M a0 x1 x2 Q) : pW G C 3 n0 s0 M0 (m_Q G C n0 s0 (va_Qv (m_q0 M0 Q) (m_W G) (m_A G))) M 0 [(0, vR (some a0)), (1, vI x1), (2, vI x2)] [] := by
  refine pw_aload_n X dX3_init_0 rfl rfl ?_
  refine pw_objInit X rfl q293 q127 q128 dX3_init_1 (Nat.le_of_ble_eq_true rfl) (Nat.le_of_ble_eq_true rfl) ?_
  refine pw_aload_n X dX3_init_4 rfl rfl ?_
  refine pw_iload_n X dX3_init_5 rfl rfl ?_
  refine pw_iload_n X dX3_init_6 rfl rfl ?_
  refine pw_mmin X q294 q295 q92 q296 (Nat.le_of_ble_eq_true rfl) (Nat.le_of_ble_eq_true rfl) dX3_init_7 ?_
  obtain ⟨ht1, hw⟩ := hw
  obtain ⟨M2, hM3⟩ : ∃ z : Mem, z = (m_pi M a0 0 (if x2 < x1 then x2 else x1)) := ⟨_, rfl⟩
  replace hw := hw M2 hM3
  refine pw_putF X (q := (RX3, TX3, tyX3, 2)) (ci := 3) (k := 0) (ref := "PatrolDesk$Between") M2 hM3.symm ht1 rfl (by decide) in_X3 tyX3_ok nmX3 q300 (Or.inl rfl) rfl rfl rfl (m_kd_i (fun _ _ => rfl)) rfl rfl dX3_init_10 ?_
  have hle4 : m_le M M2 := by rw [hM3]; exact m_le_pi
  have ht5 : m_tg M2 a0 = 4 := m_le_tg hle4 ht1
  refine pw_aload_n X dX3_init_13 rfl rfl ?_
  refine pw_iload_n X dX3_init_14 rfl rfl ?_
  refine pw_iload_n X dX3_init_15 rfl rfl ?_
  refine pw_mmax X q297 q298 q92 q299 (Nat.le_of_ble_eq_true rfl) (Nat.le_of_ble_eq_true rfl) dX3_init_16 ?_
  obtain ⟨M6, hM7⟩ : ∃ z : Mem, z = (m_pi M2 a0 1 (if x1 < x2 then x2 else x1)) := ⟨_, rfl⟩
  replace hw := hw M6 hM7
  refine pw_putF X (q := (RX3, TX3, tyX3, 2)) (ci := 3) (k := 1) (ref := "PatrolDesk$Between") M6 hM7.symm ht5 rfl (by decide) in_X3 tyX3_ok nmX3 q301 (Or.inl rfl) rfl rfl rfl (m_kd_i (fun _ _ => rfl)) rfl rfl dX3_init_19 ?_
  have hle8 : m_le M2 M6 := by rw [hM7]; exact m_le_pi
  have ht9 : m_tg M6 a0 = 4 := m_le_tg hle8 ht5
  exact pw_vret X hw dX3_init_22
theorem met_X3_init (G : Gp) (l : Launch) (M : Mem) (a0 : Nat) (x1 : Int32) (x2 : Int32) (Q : Mem → Prop) (hw : wp_X3_init G.2 M a0 x1 x2 Q) : m_K G l yX3_init cX3_init 3 none 1 14 [vR (some a0), vI x1, vI x2] M (va_Qv (m_q0 M Q) (m_W G) (m_A G)) := by
  refine m_met (by decide) (Nat.le_of_ble_eq_true rfl) (fun C e X => ?_)
  exact bk_X3_init_0 G C _ _ M Q X M a0 x1 x2 hw
theorem nh_X3_init : m_nMH yX3_init 2 := by decide +kernel

def wp_X3_hashCode (g : Nat → Nat) (M : Mem) (a0 : Nat) (Q : Int32 → Mem → Prop) : Prop := m_tg M a0 = 4 ∧ Q ((12 * (m_gi M a0 0)) + (m_gi M a0 1)) M
theorem bk_X3_hashCode_0 (G : Gp) (C : m_Cx) (n0 s0 : Nat) (M0 : Mem) (Q : Int32 → Mem → Prop) (X : m_in G C RX3 cX3_hashCode 1 (some .int) "hashCode" 0 0 n0 s0) (M : Mem) (a0 : Nat) (hw : wp_X3_hashCode G.2 M a0 Q) : pW G C 1 n0 s0 M0 (m_Q G C n0 s0 (va_Qi (m_q1 M0 Q) (m_W G) (m_A G))) M 0 [(0, vR (some a0))] [] := by
  refine pw_bipush X 12 dX3_hashCode_0 (by decide) ?_
  refine pw_aload_n X dX3_hashCode_2 rfl rfl ?_
  obtain ⟨ht1, hw⟩ := hw
  refine pw_get X (q := (RX3, TX3, tyX3, 2)) (ci := 3) (k := 0) (ref := "PatrolDesk$Between") (vI (m_gi M a0 0)) ht1 rfl (by decide) in_X3 q300 (Or.inl rfl) rfl dX3_hashCode_3 ?_
  refine pw_imul X dX3_hashCode_6 ?_
  refine pw_aload_n X dX3_hashCode_7 rfl rfl ?_
  refine pw_get X (q := (RX3, TX3, tyX3, 2)) (ci := 3) (k := 1) (ref := "PatrolDesk$Between") (vI (m_gi M a0 1)) ht1 rfl (by decide) in_X3 q301 (Or.inl rfl) rfl dX3_hashCode_8 ?_
  refine pw_iadd X dX3_hashCode_11 ?_
  exact pw_iret X hw dX3_hashCode_12
theorem met_X3_hashCode (G : Gp) (l : Launch) (M : Mem) (a0 : Nat) (Q : Int32 → Mem → Prop) (hw : wp_X3_hashCode G.2 M a0 Q) : m_K G l yX3_hashCode cX3_hashCode 1 (some .int) 0 0 [vR (some a0)] M (va_Qi (m_q1 M Q) (m_W G) (m_A G)) := by
  refine m_met (by decide) (Nat.le_of_ble_eq_true rfl) (fun C e X => ?_)
  exact bk_X3_hashCode_0 G C _ _ M Q X M a0 hw
theorem nh_X3_hashCode : m_nMH yX3_hashCode 0 := by decide +kernel

def wp_X3_equals (g : Nat → Nat) (M : Mem) (a0 : Nat) (a1 : Nat) (Q : Int32 → Mem → Prop) : Prop := m_tg M a1 = 4 ∧ m_tg M a0 = 4 ∧ ((¬ (m_gi M a0 0) = (m_gi M a1 0) → Q 0 M) ∧ ((m_gi M a0 0) = (m_gi M a1 0) → ((¬ (m_gi M a0 1) = (m_gi M a1 1) → Q 0 M) ∧ ((m_gi M a0 1) = (m_gi M a1 1) → Q 1 M))))
theorem bk_X3_equals_0 (G : Gp) (C : m_Cx) (n0 s0 : Nat) (M0 : Mem) (Q : Int32 → Mem → Prop) (X : m_in G C RX3 cX3_equals 3 (some .boolean) "equals" 0 0 n0 s0) (M : Mem) (a0 : Nat) (a1 : Nat) (hw : wp_X3_equals G.2 M a0 a1 Q) : pW G C 3 n0 s0 M0 (m_Q G C n0 s0 (va_Qi (m_q1 M0 Q) (m_W G) (m_A G))) M 0 [(0, vR (some a0)), (1, vR (some a1))] [] := by
  refine pw_aload_n X dX3_equals_0 rfl rfl ?_
  obtain ⟨ht1, hw⟩ := hw
  refine pw_inst X 3 (q := (RX3, TX3, tyX3, 2)) rfl ht1 q368 dX3_equals_1 ?_
  refine pw_if_eq X 38 dX3_equals_4 (by decide) (fun c => ?_) (fun c => ?_)
  · exact absurd c (by decide)
  refine pw_aload_n X dX3_equals_7 rfl rfl ?_
  refine pw_cast X 3 (q := (RX3, TX3, tyX3, 2)) rfl (fun _ h => by cases h; exact ht1) q368 dX3_equals_8 ?_
  refine pw_astore_n X [(0, vR (some a0)), (2, vR (some a1))] [1, 0] dX3_equals_11 rfl (by decide) rfl ?_
  refine pw_aload_n X dX3_equals_12 rfl rfl ?_
  obtain ⟨ht2, hw⟩ := hw
  refine pw_get X (q := (RX3, TX3, tyX3, 2)) (ci := 3) (k := 0) (ref := "PatrolDesk$Between") (vI (m_gi M a0 0)) ht2 rfl (by decide) in_X3 q300 (Or.inl rfl) rfl dX3_equals_13 ?_
  refine pw_aload_n X dX3_equals_16 rfl rfl ?_
  refine pw_get X (q := (RX3, TX3, tyX3, 2)) (ci := 3) (k := 0) (ref := "PatrolDesk$Between") (vI (m_gi M a1 0)) ht1 rfl (by decide) in_X3 q300 (Or.inl rfl) rfl dX3_equals_17 ?_
  refine pw_icmp_ne X 38 dX3_equals_20 (by decide) (fun c3 => ?_) (fun c3 => ?_)
  · replace hw := hw.1 c3
    refine pw_iconst X 0 dX3_equals_38 (by decide) ?_
    exact pw_zret X (by decide) hw dX3_equals_39
  · replace hw := hw.2 c3
    refine pw_aload_n X dX3_equals_23 rfl rfl ?_
    refine pw_get X (q := (RX3, TX3, tyX3, 2)) (ci := 3) (k := 1) (ref := "PatrolDesk$Between") (vI (m_gi M a0 1)) ht2 rfl (by decide) in_X3 q301 (Or.inl rfl) rfl dX3_equals_24 ?_
    refine pw_aload_n X dX3_equals_27 rfl rfl ?_
    refine pw_get X (q := (RX3, TX3, tyX3, 2)) (ci := 3) (k := 1) (ref := "PatrolDesk$Between") (vI (m_gi M a1 1)) ht1 rfl (by decide) in_X3 q301 (Or.inl rfl) rfl dX3_equals_28 ?_
    refine pw_icmp_ne X 38 dX3_equals_31 (by decide) (fun c4 => ?_) (fun c4 => ?_)
    · replace hw := hw.1 c4
      refine pw_iconst X 0 dX3_equals_38 (by decide) ?_
      exact pw_zret X (by decide) hw dX3_equals_39
    · replace hw := hw.2 c4
      refine pw_iconst X 1 dX3_equals_34 (by decide) ?_
      refine pw_goto X 39 dX3_equals_35 (by decide) ?_
      exact pw_zret X (by decide) hw dX3_equals_39
theorem met_X3_equals (G : Gp) (l : Launch) (M : Mem) (a0 : Nat) (a1 : Nat) (Q : Int32 → Mem → Prop) (hw : wp_X3_equals G.2 M a0 a1 Q) : m_K G l yX3_equals cX3_equals 3 (some .boolean) 0 0 [vR (some a0), vR (some a1)] M (va_Qi (m_q1 M Q) (m_W G) (m_A G)) := by
  refine m_met (by decide) (Nat.le_of_ble_eq_true rfl) (fun C e X => ?_)
  exact bk_X3_equals_0 G C _ _ M Q X M a0 a1 hw
theorem nh_X3_equals : m_nMH yX3_equals 1 := by decide +kernel

def wp_X10_init (g : Nat → Nat) (M : Mem) (a0 : Nat) (x1 : Int32) (Q : Mem → Prop) : Prop := m_tg M a0 = 11 ∧ ∀ M2 : Mem, M2 = (m_pi M a0 0 x1) → Q M2
theorem bk_X10_init_0 (G : Gp) (C : m_Cx) (n0 s0 : Nat) (M0 : Mem) (Q : Mem → Prop) (X : m_in G C RX10 cX10_init 2 none "<init>" 1 12 n0 s0) (M : Mem) (a0 : Nat) (x1 : Int32) (hw : wp_X10_init G.2 M a0 x1 Q) : pW G C 2 n0 s0 M0 (m_Q G C n0 s0 (va_Qv (m_q0 M0 Q) (m_W G) (m_A G))) M 0 [(0, vR (some a0)), (1, vI x1)] [] := by
  refine pw_aload_n X dX10_init_0 rfl rfl ?_
  refine pw_objInit X rfl q1522 q127 q128 dX10_init_1 (Nat.le_of_ble_eq_true rfl) (Nat.le_of_ble_eq_true rfl) ?_
  refine pw_aload_n X dX10_init_4 rfl rfl ?_
  refine pw_iload_n X dX10_init_5 rfl rfl ?_
  obtain ⟨ht1, hw⟩ := hw
  obtain ⟨M2, hM3⟩ : ∃ z : Mem, z = (m_pi M a0 0 x1) := ⟨_, rfl⟩
  replace hw := hw M2 hM3
  refine pw_putF X (q := (RX10, TX10, tyX10, 1)) (ci := 10) (k := 0) (ref := "PatrolDesk$Spot") M2 hM3.symm ht1 rfl (by decide) in_X10 tyX10_ok nmX10 q1523 (Or.inl rfl) rfl rfl rfl (m_kd_i (fun _ _ => rfl)) rfl rfl dX10_init_6 ?_
  have hle4 : m_le M M2 := by rw [hM3]; exact m_le_pi
  have ht5 : m_tg M2 a0 = 11 := m_le_tg hle4 ht1
  exact pw_vret X hw dX10_init_9
theorem met_X10_init (G : Gp) (l : Launch) (M : Mem) (a0 : Nat) (x1 : Int32) (Q : Mem → Prop) (hw : wp_X10_init G.2 M a0 x1 Q) : m_K G l yX10_init cX10_init 2 none 1 12 [vR (some a0), vI x1] M (va_Qv (m_q0 M Q) (m_W G) (m_A G)) := by
  refine m_met (by decide) (Nat.le_of_ble_eq_true rfl) (fun C e X => ?_)
  exact bk_X10_init_0 G C _ _ M Q X M a0 x1 hw
theorem nh_X10_init : m_nMH yX10_init 1 := by decide +kernel

def wp_X10_hashCode (g : Nat → Nat) (M : Mem) (a0 : Nat) (Q : Int32 → Mem → Prop) : Prop := m_tg M a0 = 11 ∧ Q (m_gi M a0 0) M
theorem bk_X10_hashCode_0 (G : Gp) (C : m_Cx) (n0 s0 : Nat) (M0 : Mem) (Q : Int32 → Mem → Prop) (X : m_in G C RX10 cX10_hashCode 1 (some .int) "hashCode" 0 0 n0 s0) (M : Mem) (a0 : Nat) (hw : wp_X10_hashCode G.2 M a0 Q) : pW G C 1 n0 s0 M0 (m_Q G C n0 s0 (va_Qi (m_q1 M0 Q) (m_W G) (m_A G))) M 0 [(0, vR (some a0))] [] := by
  refine pw_aload_n X dX10_hashCode_0 rfl rfl ?_
  obtain ⟨ht1, hw⟩ := hw
  refine pw_get X (q := (RX10, TX10, tyX10, 1)) (ci := 10) (k := 0) (ref := "PatrolDesk$Spot") (vI (m_gi M a0 0)) ht1 rfl (by decide) in_X10 q1523 (Or.inl rfl) rfl dX10_hashCode_1 ?_
  exact pw_iret X hw dX10_hashCode_4
theorem met_X10_hashCode (G : Gp) (l : Launch) (M : Mem) (a0 : Nat) (Q : Int32 → Mem → Prop) (hw : wp_X10_hashCode G.2 M a0 Q) : m_K G l yX10_hashCode cX10_hashCode 1 (some .int) 0 0 [vR (some a0)] M (va_Qi (m_q1 M Q) (m_W G) (m_A G)) := by
  refine m_met (by decide) (Nat.le_of_ble_eq_true rfl) (fun C e X => ?_)
  exact bk_X10_hashCode_0 G C _ _ M Q X M a0 hw
theorem nh_X10_hashCode : m_nMH yX10_hashCode 0 := by decide +kernel

def wp_X10_equals (g : Nat → Nat) (M : Mem) (a0 : Nat) (a1 : Nat) (Q : Int32 → Mem → Prop) : Prop := m_tg M a1 = 11 ∧ m_tg M a0 = 11 ∧ ((¬ (m_gi M a0 0) = (m_gi M a1 0) → Q 0 M) ∧ ((m_gi M a0 0) = (m_gi M a1 0) → Q 1 M))
theorem bk_X10_equals_0 (G : Gp) (C : m_Cx) (n0 s0 : Nat) (M0 : Mem) (Q : Int32 → Mem → Prop) (X : m_in G C RX10 cX10_equals 3 (some .boolean) "equals" 0 0 n0 s0) (M : Mem) (a0 : Nat) (a1 : Nat) (hw : wp_X10_equals G.2 M a0 a1 Q) : pW G C 3 n0 s0 M0 (m_Q G C n0 s0 (va_Qi (m_q1 M0 Q) (m_W G) (m_A G))) M 0 [(0, vR (some a0)), (1, vR (some a1))] [] := by
  refine pw_aload_n X dX10_equals_0 rfl rfl ?_
  obtain ⟨ht1, hw⟩ := hw
  refine pw_inst X 10 (q := (RX10, TX10, tyX10, 1)) rfl ht1 q379 dX10_equals_1 ?_
  refine pw_if_eq X 27 dX10_equals_4 (by decide) (fun c => ?_) (fun c => ?_)
  · exact absurd c (by decide)
  refine pw_aload_n X dX10_equals_7 rfl rfl ?_
  refine pw_cast X 10 (q := (RX10, TX10, tyX10, 1)) rfl (fun _ h => by cases h; exact ht1) q379 dX10_equals_8 ?_
  refine pw_astore_n X [(0, vR (some a0)), (2, vR (some a1))] [1, 0] dX10_equals_11 rfl (by decide) rfl ?_
  refine pw_aload_n X dX10_equals_12 rfl rfl ?_
  obtain ⟨ht2, hw⟩ := hw
  refine pw_get X (q := (RX10, TX10, tyX10, 1)) (ci := 10) (k := 0) (ref := "PatrolDesk$Spot") (vI (m_gi M a0 0)) ht2 rfl (by decide) in_X10 q1523 (Or.inl rfl) rfl dX10_equals_13 ?_
  refine pw_aload_n X dX10_equals_16 rfl rfl ?_
  refine pw_get X (q := (RX10, TX10, tyX10, 1)) (ci := 10) (k := 0) (ref := "PatrolDesk$Spot") (vI (m_gi M a1 0)) ht1 rfl (by decide) in_X10 q1523 (Or.inl rfl) rfl dX10_equals_17 ?_
  refine pw_icmp_ne X 27 dX10_equals_20 (by decide) (fun c3 => ?_) (fun c3 => ?_)
  · replace hw := hw.1 c3
    refine pw_iconst X 0 dX10_equals_27 (by decide) ?_
    exact pw_zret X (by decide) hw dX10_equals_28
  · replace hw := hw.2 c3
    refine pw_iconst X 1 dX10_equals_23 (by decide) ?_
    refine pw_goto X 28 dX10_equals_24 (by decide) ?_
    exact pw_zret X (by decide) hw dX10_equals_28
theorem met_X10_equals (G : Gp) (l : Launch) (M : Mem) (a0 : Nat) (a1 : Nat) (Q : Int32 → Mem → Prop) (hw : wp_X10_equals G.2 M a0 a1 Q) : m_K G l yX10_equals cX10_equals 3 (some .boolean) 0 0 [vR (some a0), vR (some a1)] M (va_Qi (m_q1 M Q) (m_W G) (m_A G)) := by
  refine m_met (by decide) (Nat.le_of_ble_eq_true rfl) (fun C e X => ?_)
  exact bk_X10_equals_0 G C _ _ M Q X M a0 a1 hw
theorem nh_X10_equals : m_nMH yX10_equals 1 := by decide +kernel

def wp_J7_initL (g : Nat → Nat) (M : Mem) (a0 : Nat) (Q : Mem → Prop) : Prop := Q M
theorem bk_J7_initL_0 (G : Gp) (C : m_Cx) (n0 s0 : Nat) (M0 : Mem) (Q : Mem → Prop) (X : m_in G C RJ7 cJ7_init 1 none "<init>" 1 12 n0 s0) (M : Mem) (a0 : Nat) (hw : wp_J7_initL G.2 M a0 Q) : pW G C 1 n0 s0 M0 (m_Q G C n0 s0 (va_Qv (m_q0 M0 Q) (m_W G) (m_A G))) M 0 [(0, vR (some a0))] [] := by
  refine pw_aload_n X dJ7_init_0 rfl rfl ?_
  refine pw_objInit X rfl q246 q127 q128 dJ7_init_1 (Nat.le_of_ble_eq_true rfl) (Nat.le_of_ble_eq_true rfl) ?_
  exact pw_vret X hw dJ7_init_4
theorem met_J7_initL (G : Gp) (l : Launch) (M : Mem) (a0 : Nat) (Q : Mem → Prop) (hw : wp_J7_initL G.2 M a0 Q) : m_K G l yJ7_init cJ7_init 1 none 1 12 [vR (some a0)] M (va_Qv (m_q0 M Q) (m_W G) (m_A G)) := by
  refine m_met (by decide) (Nat.le_of_ble_eq_true rfl) (fun C e X => ?_)
  exact bk_J7_initL_0 G C _ _ M Q X M a0 hw
theorem nh_J7_initL : m_nMH yJ7_init 0 := by decide +kernel

def wp_J8_initL (g : Nat → Nat) (M : Mem) (a0 : Nat) (Q : Mem → Prop) : Prop := wp_J7_initL g M a0 (fun (M1 : Mem) => m_le M M1 → m_tg M1 a0 = 17 ∧ ∀ M4 : Mem, M4 = (m_pi M1 a0 7 (UInt32.toInt32 1061158912)) → Q M4)
theorem bk_J8_initL_0 (G : Gp) (C : m_Cx) (n0 s0 : Nat) (M0 : Mem) (Q : Mem → Prop) (X : m_in G C RJ8 cJ8_init 1 none "<init>" 2 32 n0 s0) (M : Mem) (a0 : Nat) (hw : wp_J8_initL G.2 M a0 Q) : pW G C 1 n0 s0 M0 (m_Q G C n0 s0 (va_Qv (m_q0 M0 Q) (m_W G) (m_A G))) M 0 [(0, vR (some a0))] [] := by
  refine pw_aload_n X dJ8_init_0 rfl rfl ?_
  refine pw_runv X (m_cI X (b := a0) (met_J7_initL G C.2.1 M a0 _ hw) q245 q88 q243 q244 rfl nh_J7_initL ⟨Nat.le_of_ble_eq_true rfl, Nat.le_of_ble_eq_true rfl⟩ rfl (Nat.le_of_ble_eq_true rfl) dJ8_init_1) (fun M1 hle2 hx => ?_)
  replace hw := hx hle2
  clear hx
  refine pw_aload_n X dJ8_init_4 rfl rfl ?_
  refine pw_ldcf X 1061158912 q247 dJ8_init_5 ?_
  obtain ⟨ht3, hw⟩ := hw
  obtain ⟨M4, hM5⟩ : ∃ z : Mem, z = (m_pi M1 a0 7 (UInt32.toInt32 1061158912)) := ⟨_, rfl⟩
  replace hw := hw M4 hM5
  refine pw_putF X (q := (RJ9, TJ9, tyJ9, 12)) (ci := 16) (k := 7) (ref := "java/util/HashMap") M4 hM5.symm ht3 rfl (by decide) in_J9 tyJ9_ok nmJ9 q258 (Or.inl rfl) rfl rfl rfl m_kd_f rfl rfl dJ8_init_7 ?_
  have hle6 : m_le M1 M4 := by rw [hM5]; exact m_le_pi
  have ht7 : m_tg M4 a0 = 17 := m_le_tg hle6 ht3
  exact pw_vret X hw dJ8_init_10
theorem met_J8_initL (G : Gp) (l : Launch) (M : Mem) (a0 : Nat) (Q : Mem → Prop) (hw : wp_J8_initL G.2 M a0 Q) : m_K G l yJ8_init cJ8_init 1 none 2 32 [vR (some a0)] M (va_Qv (m_q0 M Q) (m_W G) (m_A G)) := by
  refine m_met (by decide) (Nat.le_of_ble_eq_true rfl) (fun C e X => ?_)
  exact bk_J8_initL_0 G C _ _ M Q X M a0 hw
theorem nh_J8_initL : m_nMH yJ8_init 0 := by decide +kernel

def wp_J8_hashL (g : Nat → Nat) (M : Mem) (a0 : Nat) (Q : Int32 → Mem → Prop) : Prop := m_tg M a0 = 4 ∧ wp_X3_hashCode g M a0 (fun (r5 : Int32) (M3 : Mem) => m_le M M3 → Q (r5 ^^^ ((Int32.toUInt32 r5 >>> (Int32.toUInt32 16 &&& Int32.toUInt32 31)).toInt32)) M3)
theorem bk_J8_hashL_0 (G : Gp) (C : m_Cx) (n0 s0 : Nat) (M0 : Mem) (Q : Int32 → Mem → Prop) (X : m_in G C RJ8 cJ8_hash 2 (some .int) "hash" 1 20 n0 s0) (M : Mem) (a0 : Nat) (hw : wp_J8_hashL G.2 M a0 Q) : pW G C 2 n0 s0 M0 (m_Q G C n0 s0 (va_Qi (m_q1 M0 Q) (m_W G) (m_A G))) M 0 [(0, vR (some a0))] [] := by
  refine pw_aload_n X dJ8_hash_0 rfl rfl ?_
  refine pw_ifnonnull X 8 dJ8_hash_1 (by decide) (fun _ _ => ?_) (fun c => by cases c)
  refine pw_aload_n X dJ8_hash_8 rfl rfl ?_
  obtain ⟨ht2, hw⟩ := hw
  refine pw_runi X (m_cA X (owner := "java/lang/Object") (b := a0) (ci := 3) (q := (RX3, TX3, tyX3, 2)) (met_X3_hashCode G C.2.1 M a0 _ hw) ht2 rfl (lw_app (lw_U q331 q333 q335 q336 q91) (lw_meth q337)) q330 (by decide +kernel : m_nMHo "java/lang/Object" ⟨"java/lang/Object", "hashCode", "()I"⟩ 0) ⟨Nat.le_of_ble_eq_true rfl, Nat.le_of_ble_eq_true rfl⟩ rfl (Nat.le_of_ble_eq_true rfl) dJ8_hash_9) (fun r5 M3 hle4 hx => ?_)
  replace hw := hx hle4
  clear hx
  have ht6 : m_tg M3 a0 = 4 := m_le_tg hle4 ht2
  refine pw_dup X dJ8_hash_12 ?_
  refine pw_istore_n X [(1, vI r5)] [0] dJ8_hash_13 rfl (by decide) rfl ?_
  refine pw_iload_n X dJ8_hash_14 rfl rfl ?_
  refine pw_bipush X 16 dJ8_hash_15 (by decide) ?_
  refine pw_iushr X dJ8_hash_17 ?_
  refine pw_ixor X dJ8_hash_18 ?_
  exact pw_iret X hw dJ8_hash_19
theorem met_J8_hashL (G : Gp) (l : Launch) (M : Mem) (a0 : Nat) (Q : Int32 → Mem → Prop) (hw : wp_J8_hashL G.2 M a0 Q) : m_K G l yJ8_hash cJ8_hash 2 (some .int) 1 20 [vR (some a0)] M (va_Qi (m_q1 M Q) (m_W G) (m_A G)) := by
  refine m_met (by decide) (Nat.le_of_ble_eq_true rfl) (fun C e X => ?_)
  exact bk_J8_hashL_0 G C _ _ M Q X M a0 hw
theorem nh_J8_hashL : m_nMH yJ8_hash 1 := by decide +kernel

def wp_J18_initL (g : Nat → Nat) (M : Mem) (a0 : Nat) (x1 : Int32) (a2 : Nat) (a3 : Nat) (r4 : Option Nat) (Q : Mem → Prop) : Prop := m_tg M a0 = 19 ∧ ∀ M2 : Mem, M2 = (m_pi M a0 0 x1) → ∀ M6 : Mem, M6 = (m_pr M2 a0 1 (some a2)) → ∀ M10 : Mem, M10 = (m_pr M6 a0 2 (some a3)) → ∀ M14 : Mem, M14 = (m_pr M10 a0 3 r4) → Q M14
theorem bk_J18_initL_0 (G : Gp) (C : m_Cx) (n0 s0 : Nat) (M0 : Mem) (Q : Mem → Prop) (X : m_in G C RJ18 cJ18_init 5 none "<init>" 1 12 n0 s0) (M : Mem) (a0 : Nat) (x1 : Int32) (a2 : Nat) (a3 : Nat) (r4 : Option Nat) (hw : wp_J18_initL G.2 M a0 x1 a2 a3 r4 Q) : pW G C 5 n0 s0 M0 (m_Q G C n0 s0 (va_Qv (m_q0 M0 Q) (m_W G) (m_A G))) M 0 [(0, vR (some a0)), (1, vI x1), (2, vR (some a2)), (3, vR (some a3)), (4, vR r4)] [] := by
  refine pw_aload_n X dJ18_init_0 rfl rfl ?_
  refine pw_objInit X rfl q701 q127 q128 dJ18_init_1 (Nat.le_of_ble_eq_true rfl) (Nat.le_of_ble_eq_true rfl) ?_
  refine pw_aload_n X dJ18_init_4 rfl rfl ?_
  refine pw_iload_n X dJ18_init_5 rfl rfl ?_
  obtain ⟨ht1, hw⟩ := hw
  obtain ⟨M2, hM3⟩ : ∃ z : Mem, z = (m_pi M a0 0 x1) := ⟨_, rfl⟩
  replace hw := hw M2 hM3
  refine pw_putF X (q := (RJ19, TJ19, tyJ19, 6)) (ci := 18) (k := 0) (ref := "java/util/HashMap$Node") M2 hM3.symm ht1 rfl (by decide) in_J19 tyJ19_ok nmJ19 q704 (Or.inl rfl) rfl rfl rfl (m_kd_i (fun _ _ => rfl)) rfl rfl dJ18_init_6 ?_
  have hle4 : m_le M M2 := by rw [hM3]; exact m_le_pi
  have ht5 : m_tg M2 a0 = 19 := m_le_tg hle4 ht1
  refine pw_aload_n X dJ18_init_9 rfl rfl ?_
  refine pw_aload_n X dJ18_init_10 rfl rfl ?_
  obtain ⟨M6, hM7⟩ : ∃ z : Mem, z = (m_pr M2 a0 1 (some a2)) := ⟨_, rfl⟩
  replace hw := hw M6 hM7
  refine pw_putF X (q := (RJ19, TJ19, tyJ19, 6)) (ci := 18) (k := 1) (ref := "java/util/HashMap$Node") M6 hM7.symm ht5 rfl (by decide) in_J19 tyJ19_ok nmJ19 q710 (Or.inl rfl) rfl rfl rfl (m_kd_r (fun _ _ => rfl)) m_no m_fo dJ18_init_11 ?_
  have hle8 : m_le M2 M6 := by rw [hM7]; exact m_le_pr
  have ht9 : m_tg M6 a0 = 19 := m_le_tg hle8 ht5
  refine pw_aload_n X dJ18_init_14 rfl rfl ?_
  refine pw_aload_n X dJ18_init_15 rfl rfl ?_
  obtain ⟨M10, hM11⟩ : ∃ z : Mem, z = (m_pr M6 a0 2 (some a3)) := ⟨_, rfl⟩
  replace hw := hw M10 hM11
  refine pw_put X (q := (RJ19, TJ19, tyJ19, 6)) (ci := 18) (k := 2) (ref := "java/util/HashMap$Node") M10 hM11.symm ht9 rfl (by decide) in_J19 tyJ19_ok nmJ19 q716 (Or.inl rfl) rfl (m_kd_r (fun _ _ => rfl)) m_no m_fo dJ18_init_16 ?_
  have hle12 : m_le M6 M10 := by rw [hM11]; exact m_le_pr
  have ht13 : m_tg M10 a0 = 19 := m_le_tg hle12 ht9
  refine pw_aload_n X dJ18_init_19 rfl rfl ?_
  refine pw_aload X dJ18_init_20 rfl ?_
  obtain ⟨M14, hM15⟩ : ∃ z : Mem, z = (m_pr M10 a0 3 r4) := ⟨_, rfl⟩
  replace hw := hw M14 hM15
  refine pw_put X (q := (RJ19, TJ19, tyJ19, 6)) (ci := 18) (k := 3) (ref := "java/util/HashMap$Node") M14 hM15.symm ht13 rfl (by decide) in_J19 tyJ19_ok nmJ19 q721 (Or.inl rfl) rfl (m_kd_r (fun _ _ => rfl)) m_no m_fo dJ18_init_22 ?_
  have hle16 : m_le M10 M14 := by rw [hM15]; exact m_le_pr
  have ht17 : m_tg M14 a0 = 19 := m_le_tg hle16 ht13
  exact pw_vret X hw dJ18_init_25
theorem met_J18_initL (G : Gp) (l : Launch) (M : Mem) (a0 : Nat) (x1 : Int32) (a2 : Nat) (a3 : Nat) (r4 : Option Nat) (Q : Mem → Prop) (hw : wp_J18_initL G.2 M a0 x1 a2 a3 r4 Q) : m_K G l yJ18_init cJ18_init 5 none 1 12 [vR (some a0), vI x1, vR (some a2), vR (some a3), vR r4] M (va_Qv (m_q0 M Q) (m_W G) (m_A G)) := by
  refine m_met (by decide) (Nat.le_of_ble_eq_true rfl) (fun C e X => ?_)
  exact bk_J18_initL_0 G C _ _ M Q X M a0 x1 a2 a3 r4 hw
theorem nh_J18_initL : m_nMH yJ18_init 4 := by decide +kernel

def wp_J19_initL (g : Nat → Nat) (M : Mem) (a0 : Nat) (x1 : Int32) (a2 : Nat) (a3 : Nat) (r4 : Option Nat) (Q : Mem → Prop) : Prop := wp_J18_initL g M a0 x1 a2 a3 r4 (fun (M1 : Mem) => m_le M M1 → Q M1)
theorem bk_J19_initL_0 (G : Gp) (C : m_Cx) (n0 s0 : Nat) (M0 : Mem) (Q : Mem → Prop) (X : m_in G C RJ19 cJ19_init 5 none "<init>" 2 36 n0 s0) (M : Mem) (a0 : Nat) (x1 : Int32) (a2 : Nat) (a3 : Nat) (r4 : Option Nat) (hw : wp_J19_initL G.2 M a0 x1 a2 a3 r4 Q) : pW G C 5 n0 s0 M0 (m_Q G C n0 s0 (va_Qv (m_q0 M0 Q) (m_W G) (m_A G))) M 0 [(0, vR (some a0)), (1, vI x1), (2, vR (some a2)), (3, vR (some a3)), (4, vR r4)] [] := by
  refine pw_aload_n X dJ19_init_0 rfl rfl ?_
  refine pw_iload_n X dJ19_init_1 rfl rfl ?_
  refine pw_aload_n X dJ19_init_2 rfl rfl ?_
  refine pw_aload_n X dJ19_init_3 rfl rfl ?_
  refine pw_aload X dJ19_init_4 rfl ?_
  refine pw_runv X (m_cI X (b := a0) (met_J18_initL G C.2.1 M a0 x1 a2 a3 r4 _ hw) q700 q101 q698 q699 rfl nh_J18_initL ⟨Nat.le_of_ble_eq_true rfl, Nat.le_of_ble_eq_true rfl⟩ rfl (Nat.le_of_ble_eq_true rfl) dJ19_init_6) (fun M1 hle2 hx => ?_)
  replace hw := hx hle2
  clear hx
  exact pw_vret X hw dJ19_init_9
theorem met_J19_initL (G : Gp) (l : Launch) (M : Mem) (a0 : Nat) (x1 : Int32) (a2 : Nat) (a3 : Nat) (r4 : Option Nat) (Q : Mem → Prop) (hw : wp_J19_initL G.2 M a0 x1 a2 a3 r4 Q) : m_K G l yJ19_init cJ19_init 5 none 2 36 [vR (some a0), vI x1, vR (some a2), vR (some a3), vR r4] M (va_Qv (m_q0 M Q) (m_W G) (m_A G)) := by
  refine m_met (by decide) (Nat.le_of_ble_eq_true rfl) (fun C e X => ?_)
  exact bk_J19_initL_0 G C _ _ M Q X M a0 x1 a2 a3 r4 hw
theorem nh_J19_initL : m_nMH yJ19_init 4 := by decide +kernel

def wp_J9_initL (g : Nat → Nat) (M : Mem) (a0 : Nat) (Q : Mem → Prop) : Prop := wp_J8_initL g M a0 (fun (M1 : Mem) => m_le M M1 → m_tg M1 a0 = 17 ∧ ∀ M4 : Mem, M4 = (m_pi M1 a0 11 0) → ∀ M8 : Mem, M8 = (m_pi M4 a0 10 0) → Q M8)
theorem bk_J9_initL_0 (G : Gp) (C : m_Cx) (n0 s0 : Nat) (M0 : Mem) (Q : Mem → Prop) (X : m_in G C RJ9 cJ9_init 1 none "<init>" 3 52 n0 s0) (M : Mem) (a0 : Nat) (hw : wp_J9_initL G.2 M a0 Q) : pW G C 1 n0 s0 M0 (m_Q G C n0 s0 (va_Qv (m_q0 M0 Q) (m_W G) (m_A G))) M 0 [(0, vR (some a0))] [] := by
  refine pw_aload_n X dJ9_init_0 rfl rfl ?_
  refine pw_runv X (m_cI X (b := a0) (met_J8_initL G C.2.1 M a0 _ hw) q242 q89 q240 q241 rfl nh_J8_initL ⟨Nat.le_of_ble_eq_true rfl, Nat.le_of_ble_eq_true rfl⟩ rfl (Nat.le_of_ble_eq_true rfl) dJ9_init_1) (fun M1 hle2 hx => ?_)
  replace hw := hx hle2
  clear hx
  refine pw_aload_n X dJ9_init_4 rfl rfl ?_
  refine pw_iconst X 0 dJ9_init_5 (by decide) ?_
  obtain ⟨ht3, hw⟩ := hw
  obtain ⟨M4, hM5⟩ : ∃ z : Mem, z = (m_pi M1 a0 11 0) := ⟨_, rfl⟩
  replace hw := hw M4 hM5
  refine pw_put X (q := (RJ9, TJ9, tyJ9, 12)) (ci := 16) (k := 11) (ref := "java/util/LinkedHashMap") M4 hM5.symm ht3 rfl (by decide) in_J9 tyJ9_ok nmJ9 q251 (Or.inl rfl) rfl (m_kd_i (fun _ _ => rfl)) rfl rfl dJ9_init_6 ?_
  have hle6 : m_le M1 M4 := by rw [hM5]; exact m_le_pi
  have ht7 : m_tg M4 a0 = 17 := m_le_tg hle6 ht3
  refine pw_aload_n X dJ9_init_9 rfl rfl ?_
  refine pw_iconst X 0 dJ9_init_10 (by decide) ?_
  obtain ⟨M8, hM9⟩ : ∃ z : Mem, z = (m_pi M4 a0 10 0) := ⟨_, rfl⟩
  replace hw := hw M8 hM9
  refine pw_putF X (q := (RJ9, TJ9, tyJ9, 12)) (ci := 16) (k := 10) (ref := "java/util/LinkedHashMap") M8 hM9.symm ht7 rfl (by decide) in_J9 tyJ9_ok nmJ9 q250 (Or.inl rfl) rfl rfl rfl (m_kd_i (fun _ _ => rfl)) (by decide) (by decide) dJ9_init_11 ?_
  have hle10 : m_le M4 M8 := by rw [hM9]; exact m_le_pi
  have ht11 : m_tg M8 a0 = 17 := m_le_tg hle10 ht7
  exact pw_vret X hw dJ9_init_14
theorem met_J9_initL (G : Gp) (l : Launch) (M : Mem) (a0 : Nat) (Q : Mem → Prop) (hw : wp_J9_initL G.2 M a0 Q) : m_K G l yJ9_init cJ9_init 1 none 3 52 [vR (some a0)] M (va_Qv (m_q0 M Q) (m_W G) (m_A G)) := by
  refine m_met (by decide) (Nat.le_of_ble_eq_true rfl) (fun C e X => ?_)
  exact bk_J9_initL_0 G C _ _ M Q X M a0 hw
theorem nh_J9_initL : m_nMH yJ9_init 0 := by decide +kernel

def wp_J9_linkNodeAtEndL (g : Nat → Nat) (M : Mem) (a0 : Nat) (a1 : Nat) (Q : Mem → Prop) : Prop := m_tg M a0 = 17 ∧ ((¬ (m_gi M a0 11) = 1 → ∀ r3 : Option Nat, r3 = (m_gr M a0 9) → ∀ M5 : Mem, M5 = (m_pr M a0 9 (some a1)) → ((r3 = none → ∀ M24 : Mem, M24 = (m_pr M5 a0 8 (some a1)) → Q M24) ∧ (∀ u9 : Nat, r3 = some u9 → m_tg M5 a1 = 19 ∧ ∀ M12 : Mem, M12 = (m_pr M5 a1 4 (some u9)) → m_tg M12 u9 = 19 ∧ ∀ M18 : Mem, M18 = (m_pr M12 u9 5 (some a1)) → Q M18))) ∧ ((m_gi M a0 11) = 1 → ∀ r28 : Option Nat, r28 = (m_gr M a0 8) → ∀ M30 : Mem, M30 = (m_pr M a0 8 (some a1)) → ((r28 = none → ∀ M49 : Mem, M49 = (m_pr M30 a0 9 (some a1)) → Q M49) ∧ (∀ u34 : Nat, r28 = some u34 → m_tg M30 a1 = 19 ∧ ∀ M37 : Mem, M37 = (m_pr M30 a1 5 (some u34)) → m_tg M37 u34 = 19 ∧ ∀ M43 : Mem, M43 = (m_pr M37 u34 4 (some a1)) → Q M43))))
theorem bk_J9_linkNodeAtEndL_0 (G : Gp) (C : m_Cx) (n0 s0 : Nat) (M0 : Mem) (Q : Mem → Prop) (X : m_in G C RJ9 cJ9_linkNodeAtEnd 3 none "linkNodeAtEnd" 0 0 n0 s0) (M : Mem) (a0 : Nat) (a1 : Nat) (hw : wp_J9_linkNodeAtEndL G.2 M a0 a1 Q) : pW G C 3 n0 s0 M0 (m_Q G C n0 s0 (va_Qv (m_q0 M0 Q) (m_W G) (m_A G))) M 0 [(0, vR (some a0)), (1, vR (some a1))] [] := by
  refine pw_aload_n X dJ9_linkNodeAtEnd_0 rfl rfl ?_
  obtain ⟨ht1, hw⟩ := hw
  refine pw_get X (q := (RJ9, TJ9, tyJ9, 12)) (ci := 16) (k := 11) (ref := "java/util/LinkedHashMap") (vI (m_gi M a0 11)) ht1 rfl (by decide) in_J9 q251 (Or.inl rfl) rfl dJ9_linkNodeAtEnd_1 ?_
  refine pw_iconst X 1 dJ9_linkNodeAtEnd_4 (by decide) ?_
  refine pw_icmp_ne X 43 dJ9_linkNodeAtEnd_5 (by decide) (fun c2 => ?_) (fun c2 => ?_)
  · replace hw := hw.1 c2
    refine pw_aload_n X dJ9_linkNodeAtEnd_43 rfl rfl ?_
    obtain ⟨r3, hr4⟩ : ∃ z : Option Nat, z = (m_gr M a0 9) := ⟨_, rfl⟩
    replace hw := hw r3 hr4
    refine pw_get X (q := (RJ9, TJ9, tyJ9, 12)) (ci := 16) (k := 9) (ref := "java/util/LinkedHashMap") (vR r3) ht1 rfl (by decide) in_J9 q249 (Or.inl rfl) (by rw [hr4]; rfl) dJ9_linkNodeAtEnd_44 ?_
    refine pw_astore_n X [(0, vR (some a0)), (1, vR (some a1)), (2, vR r3)] [1, 2, 0] dJ9_linkNodeAtEnd_47 rfl (by decide) rfl ?_
    refine pw_aload_n X dJ9_linkNodeAtEnd_48 rfl rfl ?_
    refine pw_aload_n X dJ9_linkNodeAtEnd_49 rfl rfl ?_
    obtain ⟨M5, hM6⟩ : ∃ z : Mem, z = (m_pr M a0 9 (some a1)) := ⟨_, rfl⟩
    replace hw := hw M5 hM6
    refine pw_put X (q := (RJ9, TJ9, tyJ9, 12)) (ci := 16) (k := 9) (ref := "java/util/LinkedHashMap") M5 hM6.symm ht1 rfl (by decide) in_J9 tyJ9_ok nmJ9 q249 (Or.inl rfl) rfl (m_kd_r (fun _ _ => rfl)) m_no m_fo dJ9_linkNodeAtEnd_50 ?_
    have hle7 : m_le M M5 := by rw [hM6]; exact m_le_pr
    have ht8 : m_tg M5 a0 = 17 := m_le_tg hle7 ht1
    refine pw_aload_n X dJ9_linkNodeAtEnd_53 rfl rfl ?_
    refine pw_ifnonnull X 65 dJ9_linkNodeAtEnd_54 (by decide) (fun u9 he10 => ?_) (fun he10 => ?_)
    · replace hw := hw.2 u9 he10
      subst he10
      refine pw_aload_n X dJ9_linkNodeAtEnd_65 rfl rfl ?_
      refine pw_aload_n X dJ9_linkNodeAtEnd_66 rfl rfl ?_
      obtain ⟨ht11, hw⟩ := hw
      obtain ⟨M12, hM13⟩ : ∃ z : Mem, z = (m_pr M5 a1 4 (some u9)) := ⟨_, rfl⟩
      replace hw := hw M12 hM13
      refine pw_put X (q := (RJ19, TJ19, tyJ19, 6)) (ci := 18) (k := 4) (ref := "java/util/LinkedHashMap$Entry") M12 hM13.symm ht11 rfl (by decide) in_J19 tyJ19_ok nmJ19 q702 (Or.inl rfl) rfl (m_kd_r (fun _ _ => rfl)) m_no m_fo dJ9_linkNodeAtEnd_67 ?_
      have hle14 : m_le M5 M12 := by rw [hM13]; exact m_le_pr
      have ht15 : m_tg M12 a0 = 17 := m_le_tg hle14 ht8
      have ht16 : m_tg M12 a1 = 19 := m_le_tg hle14 ht11
      refine pw_aload_n X dJ9_linkNodeAtEnd_70 rfl rfl ?_
      refine pw_aload_n X dJ9_linkNodeAtEnd_71 rfl rfl ?_
      obtain ⟨ht17, hw⟩ := hw
      obtain ⟨M18, hM19⟩ : ∃ z : Mem, z = (m_pr M12 u9 5 (some a1)) := ⟨_, rfl⟩
      replace hw := hw M18 hM19
      refine pw_put X (q := (RJ19, TJ19, tyJ19, 6)) (ci := 18) (k := 5) (ref := "java/util/LinkedHashMap$Entry") M18 hM19.symm ht17 rfl (by decide) in_J19 tyJ19_ok nmJ19 q703 (Or.inl rfl) rfl (m_kd_r (fun _ _ => rfl)) m_no m_fo dJ9_linkNodeAtEnd_72 ?_
      have hle20 : m_le M12 M18 := by rw [hM19]; exact m_le_pr
      have ht21 : m_tg M18 a0 = 17 := m_le_tg hle20 ht15
      have ht22 : m_tg M18 a1 = 19 := m_le_tg hle20 ht16
      have ht23 : m_tg M18 u9 = 19 := m_le_tg hle20 ht17
      exact pw_vret X hw dJ9_linkNodeAtEnd_75
    · replace hw := hw.1 he10
      subst he10
      refine pw_aload_n X dJ9_linkNodeAtEnd_57 rfl rfl ?_
      refine pw_aload_n X dJ9_linkNodeAtEnd_58 rfl rfl ?_
      obtain ⟨M24, hM25⟩ : ∃ z : Mem, z = (m_pr M5 a0 8 (some a1)) := ⟨_, rfl⟩
      replace hw := hw M24 hM25
      refine pw_put X (q := (RJ9, TJ9, tyJ9, 12)) (ci := 16) (k := 8) (ref := "java/util/LinkedHashMap") M24 hM25.symm ht8 rfl (by decide) in_J9 tyJ9_ok nmJ9 q248 (Or.inl rfl) rfl (m_kd_r (fun _ _ => rfl)) m_no m_fo dJ9_linkNodeAtEnd_59 ?_
      have hle26 : m_le M5 M24 := by rw [hM25]; exact m_le_pr
      have ht27 : m_tg M24 a0 = 17 := m_le_tg hle26 ht8
      refine pw_goto X 75 dJ9_linkNodeAtEnd_62 (by decide) ?_
      exact pw_vret X hw dJ9_linkNodeAtEnd_75
  · replace hw := hw.2 c2
    refine pw_aload_n X dJ9_linkNodeAtEnd_8 rfl rfl ?_
    obtain ⟨r28, hr29⟩ : ∃ z : Option Nat, z = (m_gr M a0 8) := ⟨_, rfl⟩
    replace hw := hw r28 hr29
    refine pw_get X (q := (RJ9, TJ9, tyJ9, 12)) (ci := 16) (k := 8) (ref := "java/util/LinkedHashMap") (vR r28) ht1 rfl (by decide) in_J9 q248 (Or.inl rfl) (by rw [hr29]; rfl) dJ9_linkNodeAtEnd_9 ?_
    refine pw_astore_n X [(0, vR (some a0)), (1, vR (some a1)), (2, vR r28)] [1, 2, 0] dJ9_linkNodeAtEnd_12 rfl (by decide) rfl ?_
    refine pw_aload_n X dJ9_linkNodeAtEnd_13 rfl rfl ?_
    refine pw_aload_n X dJ9_linkNodeAtEnd_14 rfl rfl ?_
    obtain ⟨M30, hM31⟩ : ∃ z : Mem, z = (m_pr M a0 8 (some a1)) := ⟨_, rfl⟩
    replace hw := hw M30 hM31
    refine pw_put X (q := (RJ9, TJ9, tyJ9, 12)) (ci := 16) (k := 8) (ref := "java/util/LinkedHashMap") M30 hM31.symm ht1 rfl (by decide) in_J9 tyJ9_ok nmJ9 q248 (Or.inl rfl) rfl (m_kd_r (fun _ _ => rfl)) m_no m_fo dJ9_linkNodeAtEnd_15 ?_
    have hle32 : m_le M M30 := by rw [hM31]; exact m_le_pr
    have ht33 : m_tg M30 a0 = 17 := m_le_tg hle32 ht1
    refine pw_aload_n X dJ9_linkNodeAtEnd_18 rfl rfl ?_
    refine pw_ifnonnull X 30 dJ9_linkNodeAtEnd_19 (by decide) (fun u34 he35 => ?_) (fun he35 => ?_)
    · replace hw := hw.2 u34 he35
      subst he35
      refine pw_aload_n X dJ9_linkNodeAtEnd_30 rfl rfl ?_
      refine pw_aload_n X dJ9_linkNodeAtEnd_31 rfl rfl ?_
      obtain ⟨ht36, hw⟩ := hw
      obtain ⟨M37, hM38⟩ : ∃ z : Mem, z = (m_pr M30 a1 5 (some u34)) := ⟨_, rfl⟩
      replace hw := hw M37 hM38
      refine pw_put X (q := (RJ19, TJ19, tyJ19, 6)) (ci := 18) (k := 5) (ref := "java/util/LinkedHashMap$Entry") M37 hM38.symm ht36 rfl (by decide) in_J19 tyJ19_ok nmJ19 q703 (Or.inl rfl) rfl (m_kd_r (fun _ _ => rfl)) m_no m_fo dJ9_linkNodeAtEnd_32 ?_
      have hle39 : m_le M30 M37 := by rw [hM38]; exact m_le_pr
      have ht40 : m_tg M37 a0 = 17 := m_le_tg hle39 ht33
      have ht41 : m_tg M37 a1 = 19 := m_le_tg hle39 ht36
      refine pw_aload_n X dJ9_linkNodeAtEnd_35 rfl rfl ?_
      refine pw_aload_n X dJ9_linkNodeAtEnd_36 rfl rfl ?_
      obtain ⟨ht42, hw⟩ := hw
      obtain ⟨M43, hM44⟩ : ∃ z : Mem, z = (m_pr M37 u34 4 (some a1)) := ⟨_, rfl⟩
      replace hw := hw M43 hM44
      refine pw_put X (q := (RJ19, TJ19, tyJ19, 6)) (ci := 18) (k := 4) (ref := "java/util/LinkedHashMap$Entry") M43 hM44.symm ht42 rfl (by decide) in_J19 tyJ19_ok nmJ19 q702 (Or.inl rfl) rfl (m_kd_r (fun _ _ => rfl)) m_no m_fo dJ9_linkNodeAtEnd_37 ?_
      have hle45 : m_le M37 M43 := by rw [hM44]; exact m_le_pr
      have ht46 : m_tg M43 a0 = 17 := m_le_tg hle45 ht40
      have ht47 : m_tg M43 a1 = 19 := m_le_tg hle45 ht41
      have ht48 : m_tg M43 u34 = 19 := m_le_tg hle45 ht42
      refine pw_goto X 75 dJ9_linkNodeAtEnd_40 (by decide) ?_
      exact pw_vret X hw dJ9_linkNodeAtEnd_75
    · replace hw := hw.1 he35
      subst he35
      refine pw_aload_n X dJ9_linkNodeAtEnd_22 rfl rfl ?_
      refine pw_aload_n X dJ9_linkNodeAtEnd_23 rfl rfl ?_
      obtain ⟨M49, hM50⟩ : ∃ z : Mem, z = (m_pr M30 a0 9 (some a1)) := ⟨_, rfl⟩
      replace hw := hw M49 hM50
      refine pw_put X (q := (RJ9, TJ9, tyJ9, 12)) (ci := 16) (k := 9) (ref := "java/util/LinkedHashMap") M49 hM50.symm ht33 rfl (by decide) in_J9 tyJ9_ok nmJ9 q249 (Or.inl rfl) rfl (m_kd_r (fun _ _ => rfl)) m_no m_fo dJ9_linkNodeAtEnd_24 ?_
      have hle51 : m_le M30 M49 := by rw [hM50]; exact m_le_pr
      have ht52 : m_tg M49 a0 = 17 := m_le_tg hle51 ht33
      refine pw_goto X 40 dJ9_linkNodeAtEnd_27 (by decide) ?_
      refine pw_goto X 75 dJ9_linkNodeAtEnd_40 (by decide) ?_
      exact pw_vret X hw dJ9_linkNodeAtEnd_75
theorem met_J9_linkNodeAtEndL (G : Gp) (l : Launch) (M : Mem) (a0 : Nat) (a1 : Nat) (Q : Mem → Prop) (hw : wp_J9_linkNodeAtEndL G.2 M a0 a1 Q) : m_K G l yJ9_linkNodeAtEnd cJ9_linkNodeAtEnd 3 none 0 0 [vR (some a0), vR (some a1)] M (va_Qv (m_q0 M Q) (m_W G) (m_A G)) := by
  refine m_met (by decide) (Nat.le_of_ble_eq_true rfl) (fun C e X => ?_)
  exact bk_J9_linkNodeAtEndL_0 G C _ _ M Q X M a0 a1 hw
theorem nh_J9_linkNodeAtEndL : m_nMH yJ9_linkNodeAtEnd 1 := by decide +kernel

def wp_J9_newNodeL (g : Nat → Nat) (M : Mem) (a0 : Nat) (x1 : Int32) (a2 : Nat) (a3 : Nat) (r4 : Option Nat) (Q : Option Nat → Mem → Prop) : Prop := m_fits M 6 ∧ ∀ u2 : Nat, m_tg M u2 = 0 → ∀ M4 : Mem, M4 = (m_al M u2 19 0 6) → wp_J19_initL g M4 u2 x1 a2 a3 r4 (fun (M8 : Mem) => m_le M4 M8 → m_tg M8 a0 = 17 ∧ wp_J9_linkNodeAtEndL g M8 a0 u2 (fun (M12 : Mem) => m_le M8 M12 → Q (some u2) M12))
theorem bk_J9_newNodeL_0 (G : Gp) (C : m_Cx) (n0 s0 : Nat) (M0 : Mem) (Q : Option Nat → Mem → Prop) (X : m_in G C RJ9 cJ9_newNode 6 (some (.object "java/util/HashMap$Node")) "newNode" 3 60 n0 s0) (M : Mem) (a0 : Nat) (x1 : Int32) (a2 : Nat) (a3 : Nat) (r4 : Option Nat) (hw : wp_J9_newNodeL G.2 M a0 x1 a2 a3 r4 Q) : pW G C 6 n0 s0 M0 (m_Q G C n0 s0 (va_Qq (m_q1 M0 Q) (m_W G) (m_A G))) M 0 [(0, vR (some a0)), (1, vI x1), (2, vR (some a2)), (3, vR (some a3)), (4, vR r4)] [] := by
  obtain ⟨hf1, hw⟩ := hw
  refine pw_new X (ci := 18) (q := (RJ19, TJ19, tyJ19, 6)) hf1 rfl in_J19 tyJ19_ok q650 q694 q102 dJ9_newNode_0 (fun u2 h03 => ?_)
  obtain ⟨M4, hM5⟩ : ∃ z : Mem, z = (m_al M u2 19 0 6) := ⟨_, rfl⟩
  replace hw := hw u2 h03 M4 hM5
  have hle6 : m_le M M4 := by rw [hM5]; exact m_le_al h03
  change pW _ _ _ _ _ _ _ (m_al M u2 19 0 6) _ _ _
  rw [← hM5]
  have ht7 : m_tg M4 u2 = 19 := by rw [hM5, m_tg_al, if_pos rfl]
  refine pw_dup X dJ9_newNode_3 ?_
  refine pw_iload_n X dJ9_newNode_4 rfl rfl ?_
  refine pw_aload_n X dJ9_newNode_5 rfl rfl ?_
  refine pw_aload_n X dJ9_newNode_6 rfl rfl ?_
  refine pw_aload X dJ9_newNode_7 rfl ?_
  refine pw_runv X (m_cI X (b := u2) (met_J19_initL G C.2.1 M4 u2 x1 a2 a3 r4 _ hw) q697 q102 q695 q696 rfl nh_J19_initL ⟨Nat.le_of_ble_eq_true rfl, Nat.le_of_ble_eq_true rfl⟩ rfl (Nat.le_of_ble_eq_true rfl) dJ9_newNode_9) (fun M8 hle9 hx => ?_)
  replace hw := hx hle9
  clear hx
  have ht10 : m_tg M8 u2 = 19 := m_le_tg hle9 ht7
  refine pw_astore X [(0, vR (some a0)), (5, vR (some u2))] [1, 0] dJ9_newNode_12 (by decide) rfl ?_
  refine pw_aload_n X dJ9_newNode_14 rfl rfl ?_
  refine pw_aload X dJ9_newNode_15 rfl ?_
  obtain ⟨ht11, hw⟩ := hw
  refine pw_runv X (m_cV X (b := a0) (ci := 16) (q := (RJ9, TJ9, tyJ9, 12)) (met_J9_linkNodeAtEndL G C.2.1 M8 a0 u2 _ hw) ht11 rfl (lw_V q777 q779 qs2 q90 q780) ⟨rfl, nh_J9_linkNodeAtEndL⟩ ⟨Nat.le_of_ble_eq_true rfl, Nat.le_of_ble_eq_true rfl⟩ rfl (Nat.le_of_ble_eq_true rfl) dJ9_newNode_17) (fun M12 hle13 hx => ?_)
  replace hw := hx hle13
  clear hx
  have ht14 : m_tg M12 u2 = 19 := m_le_tg hle13 ht10
  have ht15 : m_tg M12 a0 = 17 := m_le_tg hle13 ht11
  refine pw_aload X dJ9_newNode_20 rfl ?_
  exact pw_aret X (Or.inl ⟨_, rfl⟩) hw dJ9_newNode_22
theorem met_J9_newNodeL (G : Gp) (l : Launch) (M : Mem) (a0 : Nat) (x1 : Int32) (a2 : Nat) (a3 : Nat) (r4 : Option Nat) (Q : Option Nat → Mem → Prop) (hw : wp_J9_newNodeL G.2 M a0 x1 a2 a3 r4 Q) : m_K G l yJ9_newNode cJ9_newNode 6 (some (.object "java/util/HashMap$Node")) 3 60 [vR (some a0), vI x1, vR (some a2), vR (some a3), vR r4] M (va_Qq (m_q1 M Q) (m_W G) (m_A G)) := by
  refine m_met (by decide) (Nat.le_of_ble_eq_true rfl) (fun C e X => ?_)
  exact bk_J9_newNodeL_0 G C _ _ M Q X M a0 x1 a2 a3 r4 hw
theorem nh_J9_newNodeL : m_nMH yJ9_newNode 4 := by decide +kernel

def wp_J9_removeEldestEntryL (g : Nat → Nat) (M : Mem) (a0 : Nat) (a1 : Nat) (Q : Int32 → Mem → Prop) : Prop := Q 0 M
theorem bk_J9_removeEldestEntryL_0 (G : Gp) (C : m_Cx) (n0 s0 : Nat) (M0 : Mem) (Q : Int32 → Mem → Prop) (X : m_in G C RJ9 cJ9_removeEldestEntry 2 (some .boolean) "removeEldestEntry" 0 0 n0 s0) (M : Mem) (a0 : Nat) (a1 : Nat) (hw : wp_J9_removeEldestEntryL G.2 M a0 a1 Q) : pW G C 2 n0 s0 M0 (m_Q G C n0 s0 (va_Qi (m_q1 M0 Q) (m_W G) (m_A G))) M 0 [(0, vR (some a0)), (1, vR (some a1))] [] := by
  refine pw_iconst X 0 dJ9_removeEldestEntry_0 (by decide) ?_
  exact pw_zret X (by decide) hw dJ9_removeEldestEntry_1
theorem met_J9_removeEldestEntryL (G : Gp) (l : Launch) (M : Mem) (a0 : Nat) (a1 : Nat) (Q : Int32 → Mem → Prop) (hw : wp_J9_removeEldestEntryL G.2 M a0 a1 Q) : m_K G l yJ9_removeEldestEntry cJ9_removeEldestEntry 2 (some .boolean) 0 0 [vR (some a0), vR (some a1)] M (va_Qi (m_q1 M Q) (m_W G) (m_A G)) := by
  refine m_met (by decide) (Nat.le_of_ble_eq_true rfl) (fun C e X => ?_)
  exact bk_J9_removeEldestEntryL_0 G C _ _ M Q X M a0 a1 hw
theorem nh_J9_removeEldestEntryL : m_nMH yJ9_removeEldestEntry 1 := by decide +kernel

def wp_J9_afterNodeInsertionL (g : Nat → Nat) (M : Mem) (a0 : Nat) (x1 : Int32) (Q : Mem → Prop) : Prop := ((x1 = 0 → Q M) ∧ (¬ x1 = 0 → m_tg M a0 = 17 ∧ ∀ r3 : Option Nat, r3 = (m_gr M a0 8) → ((r3 = none → Q M) ∧ (∀ u5 : Nat, r3 = some u5 → wp_J9_removeEldestEntryL g M a0 u5 (fun (r9 : Int32) (M7 : Mem) => m_le M M7 → ((r9 = 0 → Q M7) ∧ (¬ r9 = 0 → m_tg M7 u5 = 19 ∧ ∀ r13 : Option Nat, r13 = (m_gr M7 u5 1) → False)))))))
theorem bk_J9_afterNodeInsertionL_0 (G : Gp) (C : m_Cx) (n0 s0 : Nat) (M0 : Mem) (Q : Mem → Prop) (X : m_in G C RJ9 cJ9_afterNodeInsertion 4 none "afterNodeInsertion" 1 21 n0 s0) (M : Mem) (a0 : Nat) (x1 : Int32) (hw : wp_J9_afterNodeInsertionL G.2 M a0 x1 Q) : pW G C 4 n0 s0 M0 (m_Q G C n0 s0 (va_Qv (m_q0 M0 Q) (m_W G) (m_A G))) M 0 [(0, vR (some a0)), (1, vI x1)] [] := by
  refine pw_iload_n X dJ9_afterNodeInsertion_0 rfl rfl ?_
  refine pw_if_eq X 39 dJ9_afterNodeInsertion_1 (by decide) (fun c1 => ?_) (fun c1 => ?_)
  · replace hw := hw.1 c1
    exact pw_vret X hw dJ9_afterNodeInsertion_39
  · replace hw := hw.2 c1
    refine pw_aload_n X dJ9_afterNodeInsertion_4 rfl rfl ?_
    obtain ⟨ht2, hw⟩ := hw
    obtain ⟨r3, hr4⟩ : ∃ z : Option Nat, z = (m_gr M a0 8) := ⟨_, rfl⟩
    replace hw := hw r3 hr4
    refine pw_get X (q := (RJ9, TJ9, tyJ9, 12)) (ci := 16) (k := 8) (ref := "java/util/LinkedHashMap") (vR r3) ht2 rfl (by decide) in_J9 q248 (Or.inl rfl) (by rw [hr4]; rfl) dJ9_afterNodeInsertion_5 ?_
    refine pw_dup X dJ9_afterNodeInsertion_8 ?_
    refine pw_astore_n X [(0, vR (some a0)), (2, vR r3)] [1, 0] dJ9_afterNodeInsertion_9 rfl (by decide) rfl ?_
    refine pw_ifnull X 39 dJ9_afterNodeInsertion_10 (by decide) (fun he6 => ?_) (fun u5 he6 => ?_)
    · replace hw := hw.1 he6
      subst he6
      exact pw_vret X hw dJ9_afterNodeInsertion_39
    · replace hw := hw.2 u5 he6
      subst he6
      refine pw_aload_n X dJ9_afterNodeInsertion_13 rfl rfl ?_
      refine pw_aload_n X dJ9_afterNodeInsertion_14 rfl rfl ?_
      refine pw_runi X (m_cV X (b := a0) (ci := 16) (q := (RJ9, TJ9, tyJ9, 12)) (met_J9_removeEldestEntryL G C.2.1 M a0 u5 _ hw) ht2 rfl (lw_V q852 q853 q854 q90 q855) ⟨rfl, nh_J9_removeEldestEntryL⟩ ⟨Nat.le_of_ble_eq_true rfl, Nat.le_of_ble_eq_true rfl⟩ rfl (Nat.le_of_ble_eq_true rfl) dJ9_afterNodeInsertion_15) (fun r9 M7 hle8 hx => ?_)
      replace hw := hx hle8
      clear hx
      have ht10 : m_tg M7 a0 = 17 := m_le_tg hle8 ht2
      refine pw_if_eq X 39 dJ9_afterNodeInsertion_18 (by decide) (fun c11 => ?_) (fun c11 => ?_)
      · replace hw := hw.1 c11
        exact pw_vret X hw dJ9_afterNodeInsertion_39
      · replace hw := hw.2 c11
        refine pw_aload_n X dJ9_afterNodeInsertion_21 rfl rfl ?_
        obtain ⟨ht12, hw⟩ := hw
        obtain ⟨r13, hr14⟩ : ∃ z : Option Nat, z = (m_gr M7 u5 1) := ⟨_, rfl⟩
        replace hw := hw r13 hr14
        refine pw_get X (q := (RJ19, TJ19, tyJ19, 6)) (ci := 18) (k := 1) (ref := "java/util/LinkedHashMap$Entry") (vR r13) ht12 rfl (by decide) in_J19 q713 (Or.inr q714) (by rw [hr14]; rfl) dJ9_afterNodeInsertion_22 ?_
        refine pw_astore_n X [(0, vR (some a0)), (3, vR r13)] [1, 0] dJ9_afterNodeInsertion_25 rfl (by decide) rfl ?_
        refine pw_aload_n X dJ9_afterNodeInsertion_26 rfl rfl ?_
        refine pw_aload_n X dJ9_afterNodeInsertion_27 rfl rfl ?_
        exact hw.elim
theorem met_J9_afterNodeInsertionL (G : Gp) (l : Launch) (M : Mem) (a0 : Nat) (x1 : Int32) (Q : Mem → Prop) (hw : wp_J9_afterNodeInsertionL G.2 M a0 x1 Q) : m_K G l yJ9_afterNodeInsertion cJ9_afterNodeInsertion 4 none 1 21 [vR (some a0), vI x1] M (va_Qv (m_q0 M Q) (m_W G) (m_A G)) := by
  refine m_met (by decide) (Nat.le_of_ble_eq_true rfl) (fun C e X => ?_)
  exact bk_J9_afterNodeInsertionL_0 G C _ _ M Q X M a0 x1 hw
theorem nh_J9_afterNodeInsertionL : m_nMH yJ9_afterNodeInsertion 1 := by decide +kernel

def wp_J9_afterNodeAccessL_b122 (g : Nat → Nat) (M : Mem) (la0 : Nat) (la4 : Nat) (Q : Mem → Prop) : Prop := m_tg M la0 = 17 ∧ ∀ M2 : Mem, M2 = (m_pr M la0 9 (some la4)) → ∀ M6 : Mem, M6 = (m_pi M2 la0 5 ((m_gi M2 la0 5) + 1)) → Q M6
def wp_J9_afterNodeAccessL_b97 (g : Nat → Nat) (M : Mem) (la0 : Nat) (lr2 : Option Nat) (la4 : Nat) (Q : Mem → Prop) : Prop := ((lr2 = none → m_tg M la0 = 17 ∧ ∀ M15 : Mem, M15 = (m_pr M la0 8 (some la4)) → wp_J9_afterNodeAccessL_b122 g M15 la0 la4 Q) ∧ (∀ u1 : Nat, lr2 = some u1 → m_tg M la4 = 19 ∧ ∀ M4 : Mem, M4 = (m_pr M la4 4 (some u1)) → m_tg M4 u1 = 19 ∧ ∀ M9 : Mem, M9 = (m_pr M4 u1 5 (some la4)) → wp_J9_afterNodeAccessL_b122 g M9 la0 la4 Q))
def wp_J9_afterNodeAccessL_b79 (g : Nat → Nat) (M : Mem) (la0 : Nat) (lr2 : Option Nat) (la4 : Nat) (lr5 : Option Nat) (lr6 : Option Nat) (Q : Mem → Prop) : Prop := ((lr6 = none → wp_J9_afterNodeAccessL_b97 g M la0 lr5 la4 Q) ∧ (∀ u1 : Nat, lr6 = some u1 → m_tg M u1 = 19 ∧ ∀ M4 : Mem, M4 = (m_pr M u1 4 lr5) → wp_J9_afterNodeAccessL_b97 g M4 la0 lr2 la4 Q))
def wp_J9_afterNodeAccessL_b249 (g : Nat → Nat) (M : Mem) (la0 : Nat) (la4 : Nat) (Q : Mem → Prop) : Prop := m_tg M la0 = 17 ∧ ∀ M2 : Mem, M2 = (m_pr M la0 8 (some la4)) → ∀ M6 : Mem, M6 = (m_pi M2 la0 5 ((m_gi M2 la0 5) + 1)) → Q M6
def wp_J9_afterNodeAccessL_b224 (g : Nat → Nat) (M : Mem) (la0 : Nat) (lr3 : Option Nat) (la4 : Nat) (Q : Mem → Prop) : Prop := ((lr3 = none → m_tg M la0 = 17 ∧ ∀ M15 : Mem, M15 = (m_pr M la0 9 (some la4)) → wp_J9_afterNodeAccessL_b249 g M15 la0 la4 Q) ∧ (∀ u1 : Nat, lr3 = some u1 → m_tg M la4 = 19 ∧ ∀ M4 : Mem, M4 = (m_pr M la4 5 (some u1)) → m_tg M4 u1 = 19 ∧ ∀ M9 : Mem, M9 = (m_pr M4 u1 4 (some la4)) → wp_J9_afterNodeAccessL_b249 g M9 la0 la4 Q))
def wp_J9_afterNodeAccessL_b206 (g : Nat → Nat) (M : Mem) (la0 : Nat) (lr3 : Option Nat) (la4 : Nat) (lr5 : Option Nat) (lr6 : Option Nat) (Q : Mem → Prop) : Prop := ((lr5 = none → wp_J9_afterNodeAccessL_b224 g M la0 lr6 la4 Q) ∧ (∀ u1 : Nat, lr5 = some u1 → m_tg M u1 = 19 ∧ ∀ M4 : Mem, M4 = (m_pr M u1 5 lr6) → wp_J9_afterNodeAccessL_b224 g M4 la0 lr3 la4 Q))
def wp_J9_afterNodeAccessL_b141 (g : Nat → Nat) (M : Mem) (la0 : Nat) (la1 : Nat) (Q : Mem → Prop) : Prop := m_tg M la0 = 17 ∧ ((¬ (m_gi M la0 11) = 1 → Q M) ∧ ((m_gi M la0 11) = 1 → ∀ r3 : Option Nat, r3 = (m_gr M la0 8) → ((r3 = (some la1) → Q M) ∧ (¬ r3 = (some la1) → m_tg M la1 = 19 ∧ ∀ r7 : Option Nat, r7 = (m_gr M la1 4) → ∀ r9 : Option Nat, r9 = (m_gr M la1 5) → ∀ M11 : Mem, M11 = (m_pr M la1 4 none) → ((r9 = none → ∀ M25 : Mem, M25 = (m_pr M11 la0 9 r7) → wp_J9_afterNodeAccessL_b206 g M25 la0 r3 la1 r7 none Q) ∧ (∀ u16 : Nat, r9 = some u16 → m_tg M11 u16 = 19 ∧ ∀ M19 : Mem, M19 = (m_pr M11 u16 4 r7) → wp_J9_afterNodeAccessL_b206 g M19 la0 r3 la1 r7 (some u16) Q))))))
def wp_J9_afterNodeAccessL_b22 (g : Nat → Nat) (M : Mem) (la0 : Nat) (la1 : Nat) (Q : Mem → Prop) : Prop := m_tg M la0 = 17 ∧ ∀ r2 : Option Nat, r2 = (m_gr M la0 9) → ((r2 = (some la1) → wp_J9_afterNodeAccessL_b141 g M la0 la1 Q) ∧ (¬ r2 = (some la1) → m_tg M la1 = 19 ∧ ∀ r6 : Option Nat, r6 = (m_gr M la1 4) → ∀ r8 : Option Nat, r8 = (m_gr M la1 5) → ∀ M10 : Mem, M10 = (m_pr M la1 5 none) → ((r6 = none → ∀ M24 : Mem, M24 = (m_pr M10 la0 8 r8) → wp_J9_afterNodeAccessL_b79 g M24 la0 r2 la1 none r8 Q) ∧ (∀ u15 : Nat, r6 = some u15 → m_tg M10 u15 = 19 ∧ ∀ M18 : Mem, M18 = (m_pr M10 u15 5 r8) → wp_J9_afterNodeAccessL_b79 g M18 la0 r2 la1 (some u15) r8 Q))))
def wp_J9_afterNodeAccessL (g : Nat → Nat) (M : Mem) (a0 : Nat) (a1 : Nat) (Q : Mem → Prop) : Prop := m_tg M a0 = 17 ∧ (((m_gi M a0 11) = 2 → wp_J9_afterNodeAccessL_b22 g M a0 a1 Q) ∧ (¬ (m_gi M a0 11) = 2 → ((¬ (m_gi M a0 11) = 0 → wp_J9_afterNodeAccessL_b141 g M a0 a1 Q) ∧ ((m_gi M a0 11) = 0 → (((m_gi M a0 10) = 0 → wp_J9_afterNodeAccessL_b141 g M a0 a1 Q) ∧ (¬ (m_gi M a0 10) = 0 → wp_J9_afterNodeAccessL_b22 g M a0 a1 Q))))))
theorem bk_J9_afterNodeAccessL_122 (G : Gp) (C : m_Cx) (n0 s0 : Nat) (M0 : Mem) (Q : Mem → Prop) (X : m_in G C RJ9 cJ9_afterNodeAccess 7 none "afterNodeAccess" 0 0 n0 s0) (M : Mem) (la0 : Nat) (la4 : Nat) (hw : wp_J9_afterNodeAccessL_b122 G.2 M la0 la4 Q) : pW G C 7 n0 s0 M0 (m_Q G C n0 s0 (va_Qv (m_q0 M0 Q) (m_W G) (m_A G))) M 122 [(0, vR (some la0)), (4, vR (some la4))] [] := by
  refine pw_aload_n X dJ9_afterNodeAccess_122 rfl rfl ?_
  refine pw_aload X dJ9_afterNodeAccess_123 rfl ?_
  obtain ⟨ht1, hw⟩ := hw
  obtain ⟨M2, hM3⟩ : ∃ z : Mem, z = (m_pr M la0 9 (some la4)) := ⟨_, rfl⟩
  replace hw := hw M2 hM3
  refine pw_put X (q := (RJ9, TJ9, tyJ9, 12)) (ci := 16) (k := 9) (ref := "java/util/LinkedHashMap") M2 hM3.symm ht1 rfl (by decide) in_J9 tyJ9_ok nmJ9 q249 (Or.inl rfl) rfl (m_kd_r (fun _ _ => rfl)) m_no m_fo dJ9_afterNodeAccess_125 ?_
  have hle4 : m_le M M2 := by rw [hM3]; exact m_le_pr
  have ht5 : m_tg M2 la0 = 17 := m_le_tg hle4 ht1
  refine pw_aload_n X dJ9_afterNodeAccess_128 rfl rfl ?_
  refine pw_dup X dJ9_afterNodeAccess_129 ?_
  refine pw_get X (q := (RJ9, TJ9, tyJ9, 12)) (ci := 16) (k := 5) (ref := "java/util/LinkedHashMap") (vI (m_gi M2 la0 5)) ht5 rfl (by decide) in_J9 q254 (Or.inr q255) rfl dJ9_afterNodeAccess_130 ?_
  refine pw_iconst X 1 dJ9_afterNodeAccess_133 (by decide) ?_
  refine pw_iadd X dJ9_afterNodeAccess_134 ?_
  obtain ⟨M6, hM7⟩ : ∃ z : Mem, z = (m_pi M2 la0 5 ((m_gi M2 la0 5) + 1)) := ⟨_, rfl⟩
  replace hw := hw M6 hM7
  refine pw_put X (q := (RJ9, TJ9, tyJ9, 12)) (ci := 16) (k := 5) (ref := "java/util/LinkedHashMap") M6 hM7.symm ht5 rfl (by decide) in_J9 tyJ9_ok nmJ9 q254 (Or.inr q255) rfl (m_kd_i (fun _ _ => rfl)) rfl rfl dJ9_afterNodeAccess_135 ?_
  have hle8 : m_le M2 M6 := by rw [hM7]; exact m_le_pi
  have ht9 : m_tg M6 la0 = 17 := m_le_tg hle8 ht5
  refine pw_goto X 265 dJ9_afterNodeAccess_138 (by decide) ?_
  exact pw_vret X hw dJ9_afterNodeAccess_265
theorem bk_J9_afterNodeAccessL_97 (G : Gp) (C : m_Cx) (n0 s0 : Nat) (M0 : Mem) (Q : Mem → Prop) (X : m_in G C RJ9 cJ9_afterNodeAccess 7 none "afterNodeAccess" 0 0 n0 s0) (M : Mem) (la0 : Nat) (lr2 : Option Nat) (la4 : Nat) (hw : wp_J9_afterNodeAccessL_b97 G.2 M la0 lr2 la4 Q) : pW G C 7 n0 s0 M0 (m_Q G C n0 s0 (va_Qv (m_q0 M0 Q) (m_W G) (m_A G))) M 97 [(0, vR (some la0)), (2, vR lr2), (4, vR (some la4))] [] := by
  refine pw_aload_n X dJ9_afterNodeAccess_97 rfl rfl ?_
  refine pw_ifnonnull X 110 dJ9_afterNodeAccess_98 (by decide) (fun u1 he2 => ?_) (fun he2 => ?_)
  · replace hw := hw.2 u1 he2
    subst he2
    refine pw_aload X dJ9_afterNodeAccess_110 rfl ?_
    refine pw_aload_n X dJ9_afterNodeAccess_112 rfl rfl ?_
    obtain ⟨ht3, hw⟩ := hw
    obtain ⟨M4, hM5⟩ : ∃ z : Mem, z = (m_pr M la4 4 (some u1)) := ⟨_, rfl⟩
    replace hw := hw M4 hM5
    refine pw_put X (q := (RJ19, TJ19, tyJ19, 6)) (ci := 18) (k := 4) (ref := "java/util/LinkedHashMap$Entry") M4 hM5.symm ht3 rfl (by decide) in_J19 tyJ19_ok nmJ19 q702 (Or.inl rfl) rfl (m_kd_r (fun _ _ => rfl)) m_no m_fo dJ9_afterNodeAccess_113 ?_
    have hle6 : m_le M M4 := by rw [hM5]; exact m_le_pr
    have ht7 : m_tg M4 la4 = 19 := m_le_tg hle6 ht3
    refine pw_aload_n X dJ9_afterNodeAccess_116 rfl rfl ?_
    refine pw_aload X dJ9_afterNodeAccess_117 rfl ?_
    obtain ⟨ht8, hw⟩ := hw
    obtain ⟨M9, hM10⟩ : ∃ z : Mem, z = (m_pr M4 u1 5 (some la4)) := ⟨_, rfl⟩
    replace hw := hw M9 hM10
    refine pw_put X (q := (RJ19, TJ19, tyJ19, 6)) (ci := 18) (k := 5) (ref := "java/util/LinkedHashMap$Entry") M9 hM10.symm ht8 rfl (by decide) in_J19 tyJ19_ok nmJ19 q703 (Or.inl rfl) rfl (m_kd_r (fun _ _ => rfl)) m_no m_fo dJ9_afterNodeAccess_119 ?_
    have hle11 : m_le M4 M9 := by rw [hM10]; exact m_le_pr
    have ht12 : m_tg M9 la4 = 19 := m_le_tg hle11 ht7
    have ht13 : m_tg M9 u1 = 19 := m_le_tg hle11 ht8
    refine pw_lo [0, 2] rfl ?_
    exact bk_J9_afterNodeAccessL_122 G C n0 s0 M0 Q X _ la0 la4 hw
  · replace hw := hw.1 he2
    subst he2
    refine pw_aload_n X dJ9_afterNodeAccess_101 rfl rfl ?_
    refine pw_aload X dJ9_afterNodeAccess_102 rfl ?_
    obtain ⟨ht14, hw⟩ := hw
    obtain ⟨M15, hM16⟩ : ∃ z : Mem, z = (m_pr M la0 8 (some la4)) := ⟨_, rfl⟩
    replace hw := hw M15 hM16
    refine pw_put X (q := (RJ9, TJ9, tyJ9, 12)) (ci := 16) (k := 8) (ref := "java/util/LinkedHashMap") M15 hM16.symm ht14 rfl (by decide) in_J9 tyJ9_ok nmJ9 q248 (Or.inl rfl) rfl (m_kd_r (fun _ _ => rfl)) m_no m_fo dJ9_afterNodeAccess_104 ?_
    have hle17 : m_le M M15 := by rw [hM16]; exact m_le_pr
    have ht18 : m_tg M15 la0 = 17 := m_le_tg hle17 ht14
    refine pw_goto X 122 dJ9_afterNodeAccess_107 (by decide) ?_
    refine pw_lo [0, 2] rfl ?_
    exact bk_J9_afterNodeAccessL_122 G C n0 s0 M0 Q X _ la0 la4 hw
theorem bk_J9_afterNodeAccessL_79 (G : Gp) (C : m_Cx) (n0 s0 : Nat) (M0 : Mem) (Q : Mem → Prop) (X : m_in G C RJ9 cJ9_afterNodeAccess 7 none "afterNodeAccess" 0 0 n0 s0) (M : Mem) (la0 : Nat) (lr2 : Option Nat) (la4 : Nat) (lr5 : Option Nat) (lr6 : Option Nat) (hw : wp_J9_afterNodeAccessL_b79 G.2 M la0 lr2 la4 lr5 lr6 Q) : pW G C 7 n0 s0 M0 (m_Q G C n0 s0 (va_Qv (m_q0 M0 Q) (m_W G) (m_A G))) M 79 [(0, vR (some la0)), (2, vR lr2), (4, vR (some la4)), (5, vR lr5), (6, vR lr6)] [] := by
  refine pw_aload X dJ9_afterNodeAccess_79 rfl ?_
  refine pw_ifnull X 94 dJ9_afterNodeAccess_81 (by decide) (fun he2 => ?_) (fun u1 he2 => ?_)
  · replace hw := hw.1 he2
    subst he2
    refine pw_aload X dJ9_afterNodeAccess_94 rfl ?_
    refine pw_astore_n X [(0, vR (some la0)), (2, vR lr5), (4, vR (some la4))] [1, 0, 2] dJ9_afterNodeAccess_96 rfl (by decide) rfl ?_
    exact bk_J9_afterNodeAccessL_97 G C n0 s0 M0 Q X _ la0 lr5 la4 hw
  · replace hw := hw.2 u1 he2
    subst he2
    refine pw_aload X dJ9_afterNodeAccess_84 rfl ?_
    refine pw_aload X dJ9_afterNodeAccess_86 rfl ?_
    obtain ⟨ht3, hw⟩ := hw
    obtain ⟨M4, hM5⟩ : ∃ z : Mem, z = (m_pr M u1 4 lr5) := ⟨_, rfl⟩
    replace hw := hw M4 hM5
    refine pw_put X (q := (RJ19, TJ19, tyJ19, 6)) (ci := 18) (k := 4) (ref := "java/util/LinkedHashMap$Entry") M4 hM5.symm ht3 rfl (by decide) in_J19 tyJ19_ok nmJ19 q702 (Or.inl rfl) rfl (m_kd_r (fun _ _ => rfl)) m_no m_fo dJ9_afterNodeAccess_88 ?_
    have hle6 : m_le M M4 := by rw [hM5]; exact m_le_pr
    have ht7 : m_tg M4 u1 = 19 := m_le_tg hle6 ht3
    refine pw_goto X 97 dJ9_afterNodeAccess_91 (by decide) ?_
    refine pw_lo [0, 1, 2] rfl ?_
    exact bk_J9_afterNodeAccessL_97 G C n0 s0 M0 Q X _ la0 lr2 la4 hw
theorem bk_J9_afterNodeAccessL_249 (G : Gp) (C : m_Cx) (n0 s0 : Nat) (M0 : Mem) (Q : Mem → Prop) (X : m_in G C RJ9 cJ9_afterNodeAccess 7 none "afterNodeAccess" 0 0 n0 s0) (M : Mem) (la0 : Nat) (la4 : Nat) (hw : wp_J9_afterNodeAccessL_b249 G.2 M la0 la4 Q) : pW G C 7 n0 s0 M0 (m_Q G C n0 s0 (va_Qv (m_q0 M0 Q) (m_W G) (m_A G))) M 249 [(0, vR (some la0)), (4, vR (some la4))] [] := by
  refine pw_aload_n X dJ9_afterNodeAccess_249 rfl rfl ?_
  refine pw_aload X dJ9_afterNodeAccess_250 rfl ?_
  obtain ⟨ht1, hw⟩ := hw
  obtain ⟨M2, hM3⟩ : ∃ z : Mem, z = (m_pr M la0 8 (some la4)) := ⟨_, rfl⟩
  replace hw := hw M2 hM3
  refine pw_put X (q := (RJ9, TJ9, tyJ9, 12)) (ci := 16) (k := 8) (ref := "java/util/LinkedHashMap") M2 hM3.symm ht1 rfl (by decide) in_J9 tyJ9_ok nmJ9 q248 (Or.inl rfl) rfl (m_kd_r (fun _ _ => rfl)) m_no m_fo dJ9_afterNodeAccess_252 ?_
  have hle4 : m_le M M2 := by rw [hM3]; exact m_le_pr
  have ht5 : m_tg M2 la0 = 17 := m_le_tg hle4 ht1
  refine pw_aload_n X dJ9_afterNodeAccess_255 rfl rfl ?_
  refine pw_dup X dJ9_afterNodeAccess_256 ?_
  refine pw_get X (q := (RJ9, TJ9, tyJ9, 12)) (ci := 16) (k := 5) (ref := "java/util/LinkedHashMap") (vI (m_gi M2 la0 5)) ht5 rfl (by decide) in_J9 q254 (Or.inr q255) rfl dJ9_afterNodeAccess_257 ?_
  refine pw_iconst X 1 dJ9_afterNodeAccess_260 (by decide) ?_
  refine pw_iadd X dJ9_afterNodeAccess_261 ?_
  obtain ⟨M6, hM7⟩ : ∃ z : Mem, z = (m_pi M2 la0 5 ((m_gi M2 la0 5) + 1)) := ⟨_, rfl⟩
  replace hw := hw M6 hM7
  refine pw_put X (q := (RJ9, TJ9, tyJ9, 12)) (ci := 16) (k := 5) (ref := "java/util/LinkedHashMap") M6 hM7.symm ht5 rfl (by decide) in_J9 tyJ9_ok nmJ9 q254 (Or.inr q255) rfl (m_kd_i (fun _ _ => rfl)) rfl rfl dJ9_afterNodeAccess_262 ?_
  have hle8 : m_le M2 M6 := by rw [hM7]; exact m_le_pi
  have ht9 : m_tg M6 la0 = 17 := m_le_tg hle8 ht5
  exact pw_vret X hw dJ9_afterNodeAccess_265
theorem bk_J9_afterNodeAccessL_224 (G : Gp) (C : m_Cx) (n0 s0 : Nat) (M0 : Mem) (Q : Mem → Prop) (X : m_in G C RJ9 cJ9_afterNodeAccess 7 none "afterNodeAccess" 0 0 n0 s0) (M : Mem) (la0 : Nat) (lr3 : Option Nat) (la4 : Nat) (hw : wp_J9_afterNodeAccessL_b224 G.2 M la0 lr3 la4 Q) : pW G C 7 n0 s0 M0 (m_Q G C n0 s0 (va_Qv (m_q0 M0 Q) (m_W G) (m_A G))) M 224 [(0, vR (some la0)), (3, vR lr3), (4, vR (some la4))] [] := by
  refine pw_aload_n X dJ9_afterNodeAccess_224 rfl rfl ?_
  refine pw_ifnonnull X 237 dJ9_afterNodeAccess_225 (by decide) (fun u1 he2 => ?_) (fun he2 => ?_)
  · replace hw := hw.2 u1 he2
    subst he2
    refine pw_aload X dJ9_afterNodeAccess_237 rfl ?_
    refine pw_aload_n X dJ9_afterNodeAccess_239 rfl rfl ?_
    obtain ⟨ht3, hw⟩ := hw
    obtain ⟨M4, hM5⟩ : ∃ z : Mem, z = (m_pr M la4 5 (some u1)) := ⟨_, rfl⟩
    replace hw := hw M4 hM5
    refine pw_put X (q := (RJ19, TJ19, tyJ19, 6)) (ci := 18) (k := 5) (ref := "java/util/LinkedHashMap$Entry") M4 hM5.symm ht3 rfl (by decide) in_J19 tyJ19_ok nmJ19 q703 (Or.inl rfl) rfl (m_kd_r (fun _ _ => rfl)) m_no m_fo dJ9_afterNodeAccess_240 ?_
    have hle6 : m_le M M4 := by rw [hM5]; exact m_le_pr
    have ht7 : m_tg M4 la4 = 19 := m_le_tg hle6 ht3
    refine pw_aload_n X dJ9_afterNodeAccess_243 rfl rfl ?_
    refine pw_aload X dJ9_afterNodeAccess_244 rfl ?_
    obtain ⟨ht8, hw⟩ := hw
    obtain ⟨M9, hM10⟩ : ∃ z : Mem, z = (m_pr M4 u1 4 (some la4)) := ⟨_, rfl⟩
    replace hw := hw M9 hM10
    refine pw_put X (q := (RJ19, TJ19, tyJ19, 6)) (ci := 18) (k := 4) (ref := "java/util/LinkedHashMap$Entry") M9 hM10.symm ht8 rfl (by decide) in_J19 tyJ19_ok nmJ19 q702 (Or.inl rfl) rfl (m_kd_r (fun _ _ => rfl)) m_no m_fo dJ9_afterNodeAccess_246 ?_
    have hle11 : m_le M4 M9 := by rw [hM10]; exact m_le_pr
    have ht12 : m_tg M9 la4 = 19 := m_le_tg hle11 ht7
    have ht13 : m_tg M9 u1 = 19 := m_le_tg hle11 ht8
    refine pw_lo [0, 2] rfl ?_
    exact bk_J9_afterNodeAccessL_249 G C n0 s0 M0 Q X _ la0 la4 hw
  · replace hw := hw.1 he2
    subst he2
    refine pw_aload_n X dJ9_afterNodeAccess_228 rfl rfl ?_
    refine pw_aload X dJ9_afterNodeAccess_229 rfl ?_
    obtain ⟨ht14, hw⟩ := hw
    obtain ⟨M15, hM16⟩ : ∃ z : Mem, z = (m_pr M la0 9 (some la4)) := ⟨_, rfl⟩
    replace hw := hw M15 hM16
    refine pw_put X (q := (RJ9, TJ9, tyJ9, 12)) (ci := 16) (k := 9) (ref := "java/util/LinkedHashMap") M15 hM16.symm ht14 rfl (by decide) in_J9 tyJ9_ok nmJ9 q249 (Or.inl rfl) rfl (m_kd_r (fun _ _ => rfl)) m_no m_fo dJ9_afterNodeAccess_231 ?_
    have hle17 : m_le M M15 := by rw [hM16]; exact m_le_pr
    have ht18 : m_tg M15 la0 = 17 := m_le_tg hle17 ht14
    refine pw_goto X 249 dJ9_afterNodeAccess_234 (by decide) ?_
    refine pw_lo [0, 2] rfl ?_
    exact bk_J9_afterNodeAccessL_249 G C n0 s0 M0 Q X _ la0 la4 hw
theorem bk_J9_afterNodeAccessL_206 (G : Gp) (C : m_Cx) (n0 s0 : Nat) (M0 : Mem) (Q : Mem → Prop) (X : m_in G C RJ9 cJ9_afterNodeAccess 7 none "afterNodeAccess" 0 0 n0 s0) (M : Mem) (la0 : Nat) (lr3 : Option Nat) (la4 : Nat) (lr5 : Option Nat) (lr6 : Option Nat) (hw : wp_J9_afterNodeAccessL_b206 G.2 M la0 lr3 la4 lr5 lr6 Q) : pW G C 7 n0 s0 M0 (m_Q G C n0 s0 (va_Qv (m_q0 M0 Q) (m_W G) (m_A G))) M 206 [(0, vR (some la0)), (3, vR lr3), (4, vR (some la4)), (5, vR lr5), (6, vR lr6)] [] := by
  refine pw_aload X dJ9_afterNodeAccess_206 rfl ?_
  refine pw_ifnull X 221 dJ9_afterNodeAccess_208 (by decide) (fun he2 => ?_) (fun u1 he2 => ?_)
  · replace hw := hw.1 he2
    subst he2
    refine pw_aload X dJ9_afterNodeAccess_221 rfl ?_
    refine pw_astore_n X [(0, vR (some la0)), (3, vR lr6), (4, vR (some la4))] [1, 0, 2] dJ9_afterNodeAccess_223 rfl (by decide) rfl ?_
    exact bk_J9_afterNodeAccessL_224 G C n0 s0 M0 Q X _ la0 lr6 la4 hw
  · replace hw := hw.2 u1 he2
    subst he2
    refine pw_aload X dJ9_afterNodeAccess_211 rfl ?_
    refine pw_aload X dJ9_afterNodeAccess_213 rfl ?_
    obtain ⟨ht3, hw⟩ := hw
    obtain ⟨M4, hM5⟩ : ∃ z : Mem, z = (m_pr M u1 5 lr6) := ⟨_, rfl⟩
    replace hw := hw M4 hM5
    refine pw_put X (q := (RJ19, TJ19, tyJ19, 6)) (ci := 18) (k := 5) (ref := "java/util/LinkedHashMap$Entry") M4 hM5.symm ht3 rfl (by decide) in_J19 tyJ19_ok nmJ19 q703 (Or.inl rfl) rfl (m_kd_r (fun _ _ => rfl)) m_no m_fo dJ9_afterNodeAccess_215 ?_
    have hle6 : m_le M M4 := by rw [hM5]; exact m_le_pr
    have ht7 : m_tg M4 u1 = 19 := m_le_tg hle6 ht3
    refine pw_goto X 224 dJ9_afterNodeAccess_218 (by decide) ?_
    refine pw_lo [0, 1, 2] rfl ?_
    exact bk_J9_afterNodeAccessL_224 G C n0 s0 M0 Q X _ la0 lr3 la4 hw
theorem bk_J9_afterNodeAccessL_141 (G : Gp) (C : m_Cx) (n0 s0 : Nat) (M0 : Mem) (Q : Mem → Prop) (X : m_in G C RJ9 cJ9_afterNodeAccess 7 none "afterNodeAccess" 0 0 n0 s0) (M : Mem) (la0 : Nat) (la1 : Nat) (hw : wp_J9_afterNodeAccessL_b141 G.2 M la0 la1 Q) : pW G C 7 n0 s0 M0 (m_Q G C n0 s0 (va_Qv (m_q0 M0 Q) (m_W G) (m_A G))) M 141 [(0, vR (some la0)), (1, vR (some la1))] [] := by
  refine pw_aload_n X dJ9_afterNodeAccess_141 rfl rfl ?_
  obtain ⟨ht1, hw⟩ := hw
  refine pw_get X (q := (RJ9, TJ9, tyJ9, 12)) (ci := 16) (k := 11) (ref := "java/util/LinkedHashMap") (vI (m_gi M la0 11)) ht1 rfl (by decide) in_J9 q251 (Or.inl rfl) rfl dJ9_afterNodeAccess_142 ?_
  refine pw_iconst X 1 dJ9_afterNodeAccess_145 (by decide) ?_
  refine pw_icmp_ne X 265 dJ9_afterNodeAccess_146 (by decide) (fun c2 => ?_) (fun c2 => ?_)
  · replace hw := hw.1 c2
    exact pw_vret X hw dJ9_afterNodeAccess_265
  · replace hw := hw.2 c2
    refine pw_aload_n X dJ9_afterNodeAccess_149 rfl rfl ?_
    obtain ⟨r3, hr4⟩ : ∃ z : Option Nat, z = (m_gr M la0 8) := ⟨_, rfl⟩
    replace hw := hw r3 hr4
    refine pw_get X (q := (RJ9, TJ9, tyJ9, 12)) (ci := 16) (k := 8) (ref := "java/util/LinkedHashMap") (vR r3) ht1 rfl (by decide) in_J9 q248 (Or.inl rfl) (by rw [hr4]; rfl) dJ9_afterNodeAccess_150 ?_
    refine pw_dup X dJ9_afterNodeAccess_153 ?_
    refine pw_astore_n X [(0, vR (some la0)), (1, vR (some la1)), (3, vR r3)] [1, 2, 0] dJ9_afterNodeAccess_154 rfl (by decide) rfl ?_
    refine pw_aload_n X dJ9_afterNodeAccess_155 rfl rfl ?_
    refine pw_acmp_eq X 265 dJ9_afterNodeAccess_156 (by decide) (fun c5 => ?_) (fun c5 => ?_)
    · replace hw := hw.1 c5
      exact pw_vret X hw dJ9_afterNodeAccess_265
    · replace hw := hw.2 c5
      refine pw_aload_n X dJ9_afterNodeAccess_159 rfl rfl ?_
      obtain ⟨ht6, hw⟩ := hw
      refine pw_cast X 18 (q := (RJ19, TJ19, tyJ19, 6)) rfl (fun _ h => by cases h; exact ht6) q650 dJ9_afterNodeAccess_160 ?_
      refine pw_astore X [(0, vR (some la0)), (3, vR r3), (4, vR (some la1))] [1, 3, 0] dJ9_afterNodeAccess_163 (by decide) rfl ?_
      refine pw_aload X dJ9_afterNodeAccess_165 rfl ?_
      obtain ⟨r7, hr8⟩ : ∃ z : Option Nat, z = (m_gr M la1 4) := ⟨_, rfl⟩
      replace hw := hw r7 hr8
      refine pw_get X (q := (RJ19, TJ19, tyJ19, 6)) (ci := 18) (k := 4) (ref := "java/util/LinkedHashMap$Entry") (vR r7) ht6 rfl (by decide) in_J19 q702 (Or.inl rfl) (by rw [hr8]; rfl) dJ9_afterNodeAccess_167 ?_
      refine pw_astore X [(0, vR (some la0)), (3, vR r3), (4, vR (some la1)), (5, vR r7)] [1, 2, 3, 0] dJ9_afterNodeAccess_170 (by decide) rfl ?_
      refine pw_aload X dJ9_afterNodeAccess_172 rfl ?_
      obtain ⟨r9, hr10⟩ : ∃ z : Option Nat, z = (m_gr M la1 5) := ⟨_, rfl⟩
      replace hw := hw r9 hr10
      refine pw_get X (q := (RJ19, TJ19, tyJ19, 6)) (ci := 18) (k := 5) (ref := "java/util/LinkedHashMap$Entry") (vR r9) ht6 rfl (by decide) in_J19 q703 (Or.inl rfl) (by rw [hr10]; rfl) dJ9_afterNodeAccess_174 ?_
      refine pw_astore X [(0, vR (some la0)), (3, vR r3), (4, vR (some la1)), (5, vR r7), (6, vR r9)] [1, 2, 3, 4, 0] dJ9_afterNodeAccess_177 (by decide) rfl ?_
      refine pw_aload X dJ9_afterNodeAccess_179 rfl ?_
      refine pw_null X dJ9_afterNodeAccess_181 ?_
      obtain ⟨M11, hM12⟩ : ∃ z : Mem, z = (m_pr M la1 4 none) := ⟨_, rfl⟩
      replace hw := hw M11 hM12
      refine pw_put X (q := (RJ19, TJ19, tyJ19, 6)) (ci := 18) (k := 4) (ref := "java/util/LinkedHashMap$Entry") M11 hM12.symm ht6 rfl (by decide) in_J19 tyJ19_ok nmJ19 q702 (Or.inl rfl) rfl (m_kd_r (fun _ _ => rfl)) m_no m_fo dJ9_afterNodeAccess_182 ?_
      have hle13 : m_le M M11 := by rw [hM12]; exact m_le_pr
      have ht14 : m_tg M11 la0 = 17 := m_le_tg hle13 ht1
      have ht15 : m_tg M11 la1 = 19 := m_le_tg hle13 ht6
      refine pw_aload X dJ9_afterNodeAccess_185 rfl ?_
      refine pw_ifnonnull X 199 dJ9_afterNodeAccess_187 (by decide) (fun u16 he17 => ?_) (fun he17 => ?_)
      · replace hw := hw.2 u16 he17
        subst he17
        refine pw_aload X dJ9_afterNodeAccess_199 rfl ?_
        refine pw_aload X dJ9_afterNodeAccess_201 rfl ?_
        obtain ⟨ht18, hw⟩ := hw
        obtain ⟨M19, hM20⟩ : ∃ z : Mem, z = (m_pr M11 u16 4 r7) := ⟨_, rfl⟩
        replace hw := hw M19 hM20
        refine pw_put X (q := (RJ19, TJ19, tyJ19, 6)) (ci := 18) (k := 4) (ref := "java/util/LinkedHashMap$Entry") M19 hM20.symm ht18 rfl (by decide) in_J19 tyJ19_ok nmJ19 q702 (Or.inl rfl) rfl (m_kd_r (fun _ _ => rfl)) m_no m_fo dJ9_afterNodeAccess_203 ?_
        have hle21 : m_le M11 M19 := by rw [hM20]; exact m_le_pr
        have ht22 : m_tg M19 la0 = 17 := m_le_tg hle21 ht14
        have ht23 : m_tg M19 la1 = 19 := m_le_tg hle21 ht15
        have ht24 : m_tg M19 u16 = 19 := m_le_tg hle21 ht18
        exact bk_J9_afterNodeAccessL_206 G C n0 s0 M0 Q X _ la0 r3 la1 r7 (some u16) hw
      · replace hw := hw.1 he17
        subst he17
        refine pw_aload_n X dJ9_afterNodeAccess_190 rfl rfl ?_
        refine pw_aload X dJ9_afterNodeAccess_191 rfl ?_
        obtain ⟨M25, hM26⟩ : ∃ z : Mem, z = (m_pr M11 la0 9 r7) := ⟨_, rfl⟩
        replace hw := hw M25 hM26
        refine pw_put X (q := (RJ9, TJ9, tyJ9, 12)) (ci := 16) (k := 9) (ref := "java/util/LinkedHashMap") M25 hM26.symm ht14 rfl (by decide) in_J9 tyJ9_ok nmJ9 q249 (Or.inl rfl) rfl (m_kd_r (fun _ _ => rfl)) m_no m_fo dJ9_afterNodeAccess_193 ?_
        have hle27 : m_le M11 M25 := by rw [hM26]; exact m_le_pr
        have ht28 : m_tg M25 la0 = 17 := m_le_tg hle27 ht14
        have ht29 : m_tg M25 la1 = 19 := m_le_tg hle27 ht15
        refine pw_goto X 206 dJ9_afterNodeAccess_196 (by decide) ?_
        exact bk_J9_afterNodeAccessL_206 G C n0 s0 M0 Q X _ la0 r3 la1 r7 none hw
theorem bk_J9_afterNodeAccessL_22 (G : Gp) (C : m_Cx) (n0 s0 : Nat) (M0 : Mem) (Q : Mem → Prop) (X : m_in G C RJ9 cJ9_afterNodeAccess 7 none "afterNodeAccess" 0 0 n0 s0) (M : Mem) (la0 : Nat) (la1 : Nat) (hw : wp_J9_afterNodeAccessL_b22 G.2 M la0 la1 Q) : pW G C 7 n0 s0 M0 (m_Q G C n0 s0 (va_Qv (m_q0 M0 Q) (m_W G) (m_A G))) M 22 [(0, vR (some la0)), (1, vR (some la1))] [] := by
  refine pw_aload_n X dJ9_afterNodeAccess_22 rfl rfl ?_
  obtain ⟨ht1, hw⟩ := hw
  obtain ⟨r2, hr3⟩ : ∃ z : Option Nat, z = (m_gr M la0 9) := ⟨_, rfl⟩
  replace hw := hw r2 hr3
  refine pw_get X (q := (RJ9, TJ9, tyJ9, 12)) (ci := 16) (k := 9) (ref := "java/util/LinkedHashMap") (vR r2) ht1 rfl (by decide) in_J9 q249 (Or.inl rfl) (by rw [hr3]; rfl) dJ9_afterNodeAccess_23 ?_
  refine pw_dup X dJ9_afterNodeAccess_26 ?_
  refine pw_astore_n X [(0, vR (some la0)), (1, vR (some la1)), (2, vR r2)] [1, 2, 0] dJ9_afterNodeAccess_27 rfl (by decide) rfl ?_
  refine pw_aload_n X dJ9_afterNodeAccess_28 rfl rfl ?_
  refine pw_acmp_eq X 141 dJ9_afterNodeAccess_29 (by decide) (fun c4 => ?_) (fun c4 => ?_)
  · replace hw := hw.1 c4
    refine pw_lo [0, 1] rfl ?_
    exact bk_J9_afterNodeAccessL_141 G C n0 s0 M0 Q X _ la0 la1 hw
  · replace hw := hw.2 c4
    refine pw_aload_n X dJ9_afterNodeAccess_32 rfl rfl ?_
    obtain ⟨ht5, hw⟩ := hw
    refine pw_cast X 18 (q := (RJ19, TJ19, tyJ19, 6)) rfl (fun _ h => by cases h; exact ht5) q650 dJ9_afterNodeAccess_33 ?_
    refine pw_astore X [(0, vR (some la0)), (2, vR r2), (4, vR (some la1))] [1, 3, 0] dJ9_afterNodeAccess_36 (by decide) rfl ?_
    refine pw_aload X dJ9_afterNodeAccess_38 rfl ?_
    obtain ⟨r6, hr7⟩ : ∃ z : Option Nat, z = (m_gr M la1 4) := ⟨_, rfl⟩
    replace hw := hw r6 hr7
    refine pw_get X (q := (RJ19, TJ19, tyJ19, 6)) (ci := 18) (k := 4) (ref := "java/util/LinkedHashMap$Entry") (vR r6) ht5 rfl (by decide) in_J19 q702 (Or.inl rfl) (by rw [hr7]; rfl) dJ9_afterNodeAccess_40 ?_
    refine pw_astore X [(0, vR (some la0)), (2, vR r2), (4, vR (some la1)), (5, vR r6)] [1, 2, 3, 0] dJ9_afterNodeAccess_43 (by decide) rfl ?_
    refine pw_aload X dJ9_afterNodeAccess_45 rfl ?_
    obtain ⟨r8, hr9⟩ : ∃ z : Option Nat, z = (m_gr M la1 5) := ⟨_, rfl⟩
    replace hw := hw r8 hr9
    refine pw_get X (q := (RJ19, TJ19, tyJ19, 6)) (ci := 18) (k := 5) (ref := "java/util/LinkedHashMap$Entry") (vR r8) ht5 rfl (by decide) in_J19 q703 (Or.inl rfl) (by rw [hr9]; rfl) dJ9_afterNodeAccess_47 ?_
    refine pw_astore X [(0, vR (some la0)), (2, vR r2), (4, vR (some la1)), (5, vR r6), (6, vR r8)] [1, 2, 3, 4, 0] dJ9_afterNodeAccess_50 (by decide) rfl ?_
    refine pw_aload X dJ9_afterNodeAccess_52 rfl ?_
    refine pw_null X dJ9_afterNodeAccess_54 ?_
    obtain ⟨M10, hM11⟩ : ∃ z : Mem, z = (m_pr M la1 5 none) := ⟨_, rfl⟩
    replace hw := hw M10 hM11
    refine pw_put X (q := (RJ19, TJ19, tyJ19, 6)) (ci := 18) (k := 5) (ref := "java/util/LinkedHashMap$Entry") M10 hM11.symm ht5 rfl (by decide) in_J19 tyJ19_ok nmJ19 q703 (Or.inl rfl) rfl (m_kd_r (fun _ _ => rfl)) m_no m_fo dJ9_afterNodeAccess_55 ?_
    have hle12 : m_le M M10 := by rw [hM11]; exact m_le_pr
    have ht13 : m_tg M10 la0 = 17 := m_le_tg hle12 ht1
    have ht14 : m_tg M10 la1 = 19 := m_le_tg hle12 ht5
    refine pw_aload X dJ9_afterNodeAccess_58 rfl ?_
    refine pw_ifnonnull X 72 dJ9_afterNodeAccess_60 (by decide) (fun u15 he16 => ?_) (fun he16 => ?_)
    · replace hw := hw.2 u15 he16
      subst he16
      refine pw_aload X dJ9_afterNodeAccess_72 rfl ?_
      refine pw_aload X dJ9_afterNodeAccess_74 rfl ?_
      obtain ⟨ht17, hw⟩ := hw
      obtain ⟨M18, hM19⟩ : ∃ z : Mem, z = (m_pr M10 u15 5 r8) := ⟨_, rfl⟩
      replace hw := hw M18 hM19
      refine pw_put X (q := (RJ19, TJ19, tyJ19, 6)) (ci := 18) (k := 5) (ref := "java/util/LinkedHashMap$Entry") M18 hM19.symm ht17 rfl (by decide) in_J19 tyJ19_ok nmJ19 q703 (Or.inl rfl) rfl (m_kd_r (fun _ _ => rfl)) m_no m_fo dJ9_afterNodeAccess_76 ?_
      have hle20 : m_le M10 M18 := by rw [hM19]; exact m_le_pr
      have ht21 : m_tg M18 la0 = 17 := m_le_tg hle20 ht13
      have ht22 : m_tg M18 la1 = 19 := m_le_tg hle20 ht14
      have ht23 : m_tg M18 u15 = 19 := m_le_tg hle20 ht17
      exact bk_J9_afterNodeAccessL_79 G C n0 s0 M0 Q X _ la0 r2 la1 (some u15) r8 hw
    · replace hw := hw.1 he16
      subst he16
      refine pw_aload_n X dJ9_afterNodeAccess_63 rfl rfl ?_
      refine pw_aload X dJ9_afterNodeAccess_64 rfl ?_
      obtain ⟨M24, hM25⟩ : ∃ z : Mem, z = (m_pr M10 la0 8 r8) := ⟨_, rfl⟩
      replace hw := hw M24 hM25
      refine pw_put X (q := (RJ9, TJ9, tyJ9, 12)) (ci := 16) (k := 8) (ref := "java/util/LinkedHashMap") M24 hM25.symm ht13 rfl (by decide) in_J9 tyJ9_ok nmJ9 q248 (Or.inl rfl) rfl (m_kd_r (fun _ _ => rfl)) m_no m_fo dJ9_afterNodeAccess_66 ?_
      have hle26 : m_le M10 M24 := by rw [hM25]; exact m_le_pr
      have ht27 : m_tg M24 la0 = 17 := m_le_tg hle26 ht13
      have ht28 : m_tg M24 la1 = 19 := m_le_tg hle26 ht14
      refine pw_goto X 79 dJ9_afterNodeAccess_69 (by decide) ?_
      exact bk_J9_afterNodeAccessL_79 G C n0 s0 M0 Q X _ la0 r2 la1 none r8 hw
theorem bk_J9_afterNodeAccessL_0 (G : Gp) (C : m_Cx) (n0 s0 : Nat) (M0 : Mem) (Q : Mem → Prop) (X : m_in G C RJ9 cJ9_afterNodeAccess 7 none "afterNodeAccess" 0 0 n0 s0) (M : Mem) (a0 : Nat) (a1 : Nat) (hw : wp_J9_afterNodeAccessL G.2 M a0 a1 Q) : pW G C 7 n0 s0 M0 (m_Q G C n0 s0 (va_Qv (m_q0 M0 Q) (m_W G) (m_A G))) M 0 [(0, vR (some a0)), (1, vR (some a1))] [] := by
  refine pw_aload_n X dJ9_afterNodeAccess_0 rfl rfl ?_
  obtain ⟨ht1, hw⟩ := hw
  refine pw_get X (q := (RJ9, TJ9, tyJ9, 12)) (ci := 16) (k := 11) (ref := "java/util/LinkedHashMap") (vI (m_gi M a0 11)) ht1 rfl (by decide) in_J9 q251 (Or.inl rfl) rfl dJ9_afterNodeAccess_1 ?_
  refine pw_iconst X 2 dJ9_afterNodeAccess_4 (by decide) ?_
  refine pw_icmp_eq X 22 dJ9_afterNodeAccess_5 (by decide) (fun c2 => ?_) (fun c2 => ?_)
  · replace hw := hw.1 c2
    exact bk_J9_afterNodeAccessL_22 G C n0 s0 M0 Q X _ a0 a1 hw
  · replace hw := hw.2 c2
    refine pw_aload_n X dJ9_afterNodeAccess_8 rfl rfl ?_
    refine pw_get X (q := (RJ9, TJ9, tyJ9, 12)) (ci := 16) (k := 11) (ref := "java/util/LinkedHashMap") (vI (m_gi M a0 11)) ht1 rfl (by decide) in_J9 q251 (Or.inl rfl) rfl dJ9_afterNodeAccess_9 ?_
    refine pw_if_ne X 141 dJ9_afterNodeAccess_12 (by decide) (fun c3 => ?_) (fun c3 => ?_)
    · replace hw := hw.1 c3
      exact bk_J9_afterNodeAccessL_141 G C n0 s0 M0 Q X _ a0 a1 hw
    · replace hw := hw.2 c3
      refine pw_aload_n X dJ9_afterNodeAccess_15 rfl rfl ?_
      refine pw_get X (q := (RJ9, TJ9, tyJ9, 12)) (ci := 16) (k := 10) (ref := "java/util/LinkedHashMap") (vI (m_gi M a0 10)) ht1 rfl (by decide) in_J9 q250 (Or.inl rfl) rfl dJ9_afterNodeAccess_16 ?_
      refine pw_if_eq X 141 dJ9_afterNodeAccess_19 (by decide) (fun c4 => ?_) (fun c4 => ?_)
      · replace hw := hw.1 c4
        exact bk_J9_afterNodeAccessL_141 G C n0 s0 M0 Q X _ a0 a1 hw
      · replace hw := hw.2 c4
        exact bk_J9_afterNodeAccessL_22 G C n0 s0 M0 Q X _ a0 a1 hw
theorem met_J9_afterNodeAccessL (G : Gp) (l : Launch) (M : Mem) (a0 : Nat) (a1 : Nat) (Q : Mem → Prop) (hw : wp_J9_afterNodeAccessL G.2 M a0 a1 Q) : m_K G l yJ9_afterNodeAccess cJ9_afterNodeAccess 7 none 0 0 [vR (some a0), vR (some a1)] M (va_Qv (m_q0 M Q) (m_W G) (m_A G)) := by
  refine m_met (by decide) (Nat.le_of_ble_eq_true rfl) (fun C e X => ?_)
  exact bk_J9_afterNodeAccessL_0 G C _ _ M Q X M a0 a1 hw
theorem nh_J9_afterNodeAccessL : m_nMH yJ9_afterNodeAccess 1 := by decide +kernel

def wp_J8_resizeL_b327 (g : Nat → Nat) (k151 : Mem → Nat → Nat → Int32 → Int32 → Nat → Int32 → Prop) (M : Mem) (la0 : Nat) (la1 : Nat) (lx2 : Int32) (lx4 : Int32) (la6 : Nat) (lx7 : Int32) (lr11 : Option Nat) (lr12 : Option Nat) (Q : Option Nat → Mem → Prop) : Prop := ((lr12 = none → k151 M la0 la1 lx2 lx4 la6 (lx7 + 1)) ∧ (∀ u1 : Nat, lr12 = some u1 → m_tg M u1 = 19 ∧ ∀ M4 : Mem, M4 = (m_pr M u1 3 none) → m_tg M4 la6 = 104 ∧ vp_in (lx7 + lx2) (m_ln M4 la6) ∧ (∀ y : Nat, lr11 = some y → m_asg M4 y "java/util/HashMap$Node") ∧ ∀ M10 : Mem, M10 = (m_pr M4 la6 (Int32.toNatClampNeg (lx7 + lx2)) lr11) → k151 M10 la0 la1 lx2 lx4 la6 (lx7 + 1)))
def wp_J8_resizeL_b301 (g : Nat → Nat) (k151 : Mem → Nat → Nat → Int32 → Int32 → Nat → Int32 → Prop) (k235 : Mem → Nat → Nat → Int32 → Int32 → Nat → Int32 → Nat → Option Nat → Option Nat → Option Nat → Option Nat → Prop) (M : Mem) (la0 : Nat) (la1 : Nat) (lx2 : Int32) (lx4 : Int32) (la6 : Nat) (lx7 : Int32) (lr9 : Option Nat) (lr10 : Option Nat) (lr11 : Option Nat) (lr12 : Option Nat) (lr13 : Option Nat) (Q : Option Nat → Mem → Prop) : Prop := ((lr13 = none → ((lr10 = none → wp_J8_resizeL_b327 g k151 M la0 la1 lx2 lx4 la6 lx7 lr11 lr12 Q) ∧ (∀ u3 : Nat, lr10 = some u3 → m_tg M u3 = 19 ∧ ∀ M6 : Mem, M6 = (m_pr M u3 3 none) → m_tg M6 la6 = 104 ∧ vp_in lx7 (m_ln M6 la6) ∧ (∀ y : Nat, lr9 = some y → m_asg M6 y "java/util/HashMap$Node") ∧ ∀ M12 : Mem, M12 = (m_pr M6 la6 (Int32.toNatClampNeg lx7) lr9) → wp_J8_resizeL_b327 g k151 M12 la0 la1 lx2 lx4 la6 lx7 lr11 lr12 Q))) ∧ (∀ u1 : Nat, lr13 = some u1 → k235 M la0 la1 lx2 lx4 la6 lx7 u1 lr9 lr10 lr11 lr12))
def wp_J8_resizeL_b271 (g : Nat → Nat) (k151 : Mem → Nat → Nat → Int32 → Int32 → Nat → Int32 → Prop) (k235 : Mem → Nat → Nat → Int32 → Int32 → Nat → Int32 → Nat → Option Nat → Option Nat → Option Nat → Option Nat → Prop) (M : Mem) (la0 : Nat) (la1 : Nat) (lx2 : Int32) (lx4 : Int32) (la6 : Nat) (lx7 : Int32) (la8 : Nat) (lr9 : Option Nat) (lr11 : Option Nat) (lr12 : Option Nat) (lr13 : Option Nat) (Q : Option Nat → Mem → Prop) : Prop := wp_J8_resizeL_b301 g k151 k235 M la0 la1 lx2 lx4 la6 lx7 lr9 (some la8) lr11 lr12 lr13 Q
def wp_J8_resizeL_b297 (g : Nat → Nat) (k151 : Mem → Nat → Nat → Int32 → Int32 → Nat → Int32 → Prop) (k235 : Mem → Nat → Nat → Int32 → Int32 → Nat → Int32 → Nat → Option Nat → Option Nat → Option Nat → Option Nat → Prop) (M : Mem) (la0 : Nat) (la1 : Nat) (lx2 : Int32) (lx4 : Int32) (la6 : Nat) (lx7 : Int32) (la8 : Nat) (lr9 : Option Nat) (lr10 : Option Nat) (lr11 : Option Nat) (lr13 : Option Nat) (Q : Option Nat → Mem → Prop) : Prop := wp_J8_resizeL_b301 g k151 k235 M la0 la1 lx2 lx4 la6 lx7 lr9 lr10 lr11 (some la8) lr13 Q
def wp_J8_resizeL_b235 (g : Nat → Nat) (k151 : Mem → Nat → Nat → Int32 → Int32 → Nat → Int32 → Prop) (Q : Option Nat → Mem → Prop) : Nat → Mem → Nat → Nat → Int32 → Int32 → Nat → Int32 → Nat → Option Nat → Option Nat → Option Nat → Option Nat → Prop
  | 0 => fun _ _ _ _ _ _ _ _ _ _ _ _ => False
  | n + 1 => fun M la0 la1 lx2 lx4 la6 lx7 la8 lr9 lr10 lr11 lr12 => m_tg M la8 = 19 ∧ ∀ r2 : Option Nat, r2 = (m_gr M la8 3) → ((¬ ((m_gi M la8 0) &&& lx2) = 0 → ((lr12 = none → wp_J8_resizeL_b297 g k151 (wp_J8_resizeL_b235 g k151 Q n) M la0 la1 lx2 lx4 la6 lx7 la8 lr9 lr10 (some la8) r2 Q) ∧ (∀ u5 : Nat, lr12 = some u5 → m_tg M u5 = 19 ∧ ∀ M8 : Mem, M8 = (m_pr M u5 3 (some la8)) → wp_J8_resizeL_b297 g k151 (wp_J8_resizeL_b235 g k151 Q n) M8 la0 la1 lx2 lx4 la6 lx7 la8 lr9 lr10 lr11 r2 Q))) ∧ (((m_gi M la8 0) &&& lx2) = 0 → ((lr10 = none → wp_J8_resizeL_b271 g k151 (wp_J8_resizeL_b235 g k151 Q n) M la0 la1 lx2 lx4 la6 lx7 la8 (some la8) lr11 lr12 r2 Q) ∧ (∀ u13 : Nat, lr10 = some u13 → m_tg M u13 = 19 ∧ ∀ M16 : Mem, M16 = (m_pr M u13 3 (some la8)) → wp_J8_resizeL_b271 g k151 (wp_J8_resizeL_b235 g k151 Q n) M16 la0 la1 lx2 lx4 la6 lx7 la8 lr9 lr11 lr12 r2 Q))))
def wp_J8_resizeL_b151 (g : Nat → Nat) (Q : Option Nat → Mem → Prop) : Nat → Mem → Nat → Nat → Int32 → Int32 → Nat → Int32 → Prop
  | 0 => fun _ _ _ _ _ _ _ => False
  | n + 1 => fun M la0 la1 lx2 lx4 la6 lx7 => ((lx2 ≤ lx7 → Q (some la6) M) ∧ (¬ lx2 ≤ lx7 → m_tg M la1 = 104 ∧ vp_in lx7 (m_ln M la1) ∧ ∀ r4 : Option Nat, r4 = (m_gr M la1 (Int32.toNatClampNeg lx7)) → ((r4 = none → wp_J8_resizeL_b151 g Q n M la0 la1 lx2 lx4 la6 (lx7 + 1)) ∧ (∀ u6 : Nat, r4 = some u6 → vp_in lx7 (m_ln M la1) ∧ ∀ M9 : Mem, M9 = (m_pr M la1 (Int32.toNatClampNeg lx7) none) → m_tg M9 u6 = 19 ∧ ∀ r14 : Option Nat, r14 = (m_gr M9 u6 3) → ((r14 = none → m_tg M9 la6 = 104 ∧ vp_in ((m_gi M9 u6 0) &&& (lx4 - 1)) (m_ln M9 la6) ∧ (∀ y : Nat, (some u6) = some y → m_asg M9 y "java/util/HashMap$Node") ∧ ∀ M20 : Mem, M20 = (m_pr M9 la6 (Int32.toNatClampNeg ((m_gi M9 u6 0) &&& (lx4 - 1))) (some u6)) → wp_J8_resizeL_b151 g Q n M20 la0 la1 lx2 lx4 la6 (lx7 + 1)) ∧ (∀ u16 : Nat, r14 = some u16 → ∃ j235 : Nat, wp_J8_resizeL_b235 g (wp_J8_resizeL_b151 g Q n) Q j235 M9 la0 la1 lx2 lx4 la6 lx7 u6 none none none none))))))
def wp_J8_resizeL_b85 (g : Nat → Nat) (M : Mem) (la0 : Nat) (lr1 : Option Nat) (lx2 : Int32) (lx4 : Int32) (lx5 : Int32) (Q : Option Nat → Mem → Prop) : Prop := ((¬ lx5 = 0 → m_tg M la0 = 17 ∧ ∀ M3 : Mem, M3 = (m_pi M la0 6 lx5) → ¬ (lx4 : Int32) < 0 ∧ m_fits M3 (Int32.toNatClampNeg lx4) ∧ ∀ u9 : Nat, m_tg M3 u9 = 0 → ∀ M11 : Mem, M11 = (m_al M3 u9 104 (Int32.toNatClampNeg lx4) (Int32.toNatClampNeg lx4)) → ∀ M16 : Mem, M16 = (m_pr M11 la0 2 (some u9)) → ((lr1 = none → Q (some u9) M16) ∧ (∀ u21 : Nat, lr1 = some u21 → ∃ j151 : Nat, wp_J8_resizeL_b151 g Q j151 M16 la0 u21 lx2 lx4 u9 0))) ∧ (lx5 = 0 → False))
def wp_J8_resizeL_b15 (g : Nat → Nat) (M : Mem) (la0 : Nat) (lr1 : Option Nat) (sx0 : Int32) (Q : Option Nat → Mem → Prop) : Prop := m_tg M la0 = 17 ∧ ((sx0 ≤ 0 → (((m_gi M la0 6) ≤ 0 → wp_J8_resizeL_b85 g M la0 lr1 sx0 16 12 Q) ∧ (¬ (m_gi M la0 6) ≤ 0 → wp_J8_resizeL_b85 g M la0 lr1 sx0 (m_gi M la0 6) 0 Q))) ∧ (¬ sx0 ≤ 0 → ((sx0 < 1073741824 → ((1073741824 ≤ ((sx0 : Int32) <<< ((1 : Int32) &&& 31)) → wp_J8_resizeL_b85 g M la0 lr1 sx0 ((sx0 : Int32) <<< ((1 : Int32) &&& 31)) 0 Q) ∧ (¬ 1073741824 ≤ ((sx0 : Int32) <<< ((1 : Int32) &&& 31)) → ((sx0 < 16 → wp_J8_resizeL_b85 g M la0 lr1 sx0 ((sx0 : Int32) <<< ((1 : Int32) &&& 31)) 0 Q) ∧ (¬ sx0 < 16 → wp_J8_resizeL_b85 g M la0 lr1 sx0 ((sx0 : Int32) <<< ((1 : Int32) &&& 31)) (((m_gi M la0 6) : Int32) <<< ((1 : Int32) &&& 31)) Q))))) ∧ (¬ sx0 < 1073741824 → ∀ M7 : Mem, M7 = (m_pi M la0 6 2147483647) → Q lr1 M7))))
def wp_J8_resizeL (g : Nat → Nat) (M : Mem) (a0 : Nat) (Q : Option Nat → Mem → Prop) : Prop := m_tg M a0 = 17 ∧ ∀ r2 : Option Nat, r2 = (m_gr M a0 2) → ((r2 = none → wp_J8_resizeL_b15 g M a0 none 0 Q) ∧ (∀ u4 : Nat, r2 = some u4 → m_isA M u4 ∧ wp_J8_resizeL_b15 g M a0 (some u4) (nI (m_ln M u4)) Q))
theorem bk_J8_resizeL_327 (G : Gp) (C : m_Cx) (n0 s0 : Nat) (M0 : Mem) (Q : Option Nat → Mem → Prop) (X : m_in G C RJ8 cJ8_resize 14 (some (.array (.object "java/util/HashMap$Node"))) "resize" 0 0 n0 s0) (k151 : Mem → Nat → Nat → Int32 → Int32 → Nat → Int32 → Prop) (hk151 : ∀ (M : Mem) (la0 : Nat) (la1 : Nat) (lx2 : Int32) (lx4 : Int32) (la6 : Nat) (lx7 : Int32), k151 M la0 la1 lx2 lx4 la6 lx7 → pW G C 14 n0 s0 M0 (m_Q G C n0 s0 (va_Qq (m_q1 M0 Q) (m_W G) (m_A G))) M 151 [(0, vR (some la0)), (1, vR (some la1)), (2, vI lx2), (4, vI lx4), (6, vR (some la6)), (7, vI lx7)] []) (M : Mem) (la0 : Nat) (la1 : Nat) (lx2 : Int32) (lx4 : Int32) (la6 : Nat) (lx7 : Int32) (lr11 : Option Nat) (lr12 : Option Nat) (hw : wp_J8_resizeL_b327 G.2 k151 M la0 la1 lx2 lx4 la6 lx7 lr11 lr12 Q) : pW G C 14 n0 s0 M0 (m_Q G C n0 s0 (va_Qq (m_q1 M0 Q) (m_W G) (m_A G))) M 327 [(0, vR (some la0)), (1, vR (some la1)), (2, vI lx2), (4, vI lx4), (6, vR (some la6)), (7, vI lx7), (11, vR lr11), (12, vR lr12)] [] := by
  refine pw_aload X dJ8_resize_327 rfl ?_
  refine pw_ifnull X 347 dJ8_resize_329 (by decide) (fun he2 => ?_) (fun u1 he2 => ?_)
  · replace hw := hw.1 he2
    subst he2
    refine pw_iinc X (lx7 + 1) [(0, vR (some la0)), (1, vR (some la1)), (2, vI lx2), (4, vI lx4), (6, vR (some la6)), (7, vI (lx7 + 1))] [1, 2, 3, 4, 5, 0] dJ8_resize_347 rfl (by first | rfl | decide) (by decide) rfl ?_
    refine pw_goto X 151 dJ8_resize_350 (by decide) ?_
    exact hk151 _ la0 la1 lx2 lx4 la6 (lx7 + 1) hw
  · replace hw := hw.2 u1 he2
    subst he2
    refine pw_aload X dJ8_resize_332 rfl ?_
    refine pw_null X dJ8_resize_334 ?_
    obtain ⟨ht3, hw⟩ := hw
    obtain ⟨M4, hM5⟩ : ∃ z : Mem, z = (m_pr M u1 3 none) := ⟨_, rfl⟩
    replace hw := hw M4 hM5
    refine pw_put X (q := (RJ19, TJ19, tyJ19, 6)) (ci := 18) (k := 3) (ref := "java/util/HashMap$Node") M4 hM5.symm ht3 rfl (by decide) in_J19 tyJ19_ok nmJ19 q725 (Or.inl rfl) rfl (m_kd_r (fun _ _ => rfl)) m_no m_fo dJ8_resize_335 ?_
    have hle6 : m_le M M4 := by rw [hM5]; exact m_le_pr
    have ht7 : m_tg M4 u1 = 19 := m_le_tg hle6 ht3
    refine pw_aload X dJ8_resize_338 rfl ?_
    refine pw_iload X dJ8_resize_340 rfl ?_
    refine pw_iload_n X dJ8_resize_342 rfl rfl ?_
    refine pw_iadd X dJ8_resize_343 ?_
    refine pw_aload X dJ8_resize_344 rfl ?_
    obtain ⟨ht8, hw⟩ := hw
    obtain ⟨hi9, hw⟩ := hw
    obtain ⟨hg13, hw⟩ := hw
    obtain ⟨M10, hM11⟩ : ∃ z : Mem, z = (m_pr M4 la6 (Int32.toNatClampNeg (lx7 + lx2)) lr11) := ⟨_, rfl⟩
    replace hw := hw M10 hM11
    have hle12 : m_le M4 M10 := by rw [hM11]; exact m_le_pr
    refine pw_aast X (E := "java/util/HashMap$Node") 3 (by decide) rfl ht8 hi9 hg13 dJ8_resize_346 ?_
    rw [← hM11]
    have ht14 : m_tg M10 u1 = 19 := m_le_tg hle12 ht7
    have ht15 : m_tg M10 la6 = 104 := m_le_tg hle12 ht8
    refine pw_iinc X (lx7 + 1) [(0, vR (some la0)), (1, vR (some la1)), (2, vI lx2), (4, vI lx4), (6, vR (some la6)), (7, vI (lx7 + 1))] [1, 2, 3, 4, 5, 0] dJ8_resize_347 rfl (by first | rfl | decide) (by decide) rfl ?_
    refine pw_goto X 151 dJ8_resize_350 (by decide) ?_
    exact hk151 _ la0 la1 lx2 lx4 la6 (lx7 + 1) hw
theorem bk_J8_resizeL_301 (G : Gp) (C : m_Cx) (n0 s0 : Nat) (M0 : Mem) (Q : Option Nat → Mem → Prop) (X : m_in G C RJ8 cJ8_resize 14 (some (.array (.object "java/util/HashMap$Node"))) "resize" 0 0 n0 s0) (k151 : Mem → Nat → Nat → Int32 → Int32 → Nat → Int32 → Prop) (k235 : Mem → Nat → Nat → Int32 → Int32 → Nat → Int32 → Nat → Option Nat → Option Nat → Option Nat → Option Nat → Prop) (hk151 : ∀ (M : Mem) (la0 : Nat) (la1 : Nat) (lx2 : Int32) (lx4 : Int32) (la6 : Nat) (lx7 : Int32), k151 M la0 la1 lx2 lx4 la6 lx7 → pW G C 14 n0 s0 M0 (m_Q G C n0 s0 (va_Qq (m_q1 M0 Q) (m_W G) (m_A G))) M 151 [(0, vR (some la0)), (1, vR (some la1)), (2, vI lx2), (4, vI lx4), (6, vR (some la6)), (7, vI lx7)] []) (hk235 : ∀ (M : Mem) (la0 : Nat) (la1 : Nat) (lx2 : Int32) (lx4 : Int32) (la6 : Nat) (lx7 : Int32) (la8 : Nat) (lr9 : Option Nat) (lr10 : Option Nat) (lr11 : Option Nat) (lr12 : Option Nat), k235 M la0 la1 lx2 lx4 la6 lx7 la8 lr9 lr10 lr11 lr12 → pW G C 14 n0 s0 M0 (m_Q G C n0 s0 (va_Qq (m_q1 M0 Q) (m_W G) (m_A G))) M 235 [(0, vR (some la0)), (1, vR (some la1)), (2, vI lx2), (4, vI lx4), (6, vR (some la6)), (7, vI lx7), (8, vR (some la8)), (9, vR lr9), (10, vR lr10), (11, vR lr11), (12, vR lr12)] []) (M : Mem) (la0 : Nat) (la1 : Nat) (lx2 : Int32) (lx4 : Int32) (la6 : Nat) (lx7 : Int32) (lr9 : Option Nat) (lr10 : Option Nat) (lr11 : Option Nat) (lr12 : Option Nat) (lr13 : Option Nat) (hw : wp_J8_resizeL_b301 G.2 k151 k235 M la0 la1 lx2 lx4 la6 lx7 lr9 lr10 lr11 lr12 lr13 Q) : pW G C 14 n0 s0 M0 (m_Q G C n0 s0 (va_Qq (m_q1 M0 Q) (m_W G) (m_A G))) M 301 [(0, vR (some la0)), (1, vR (some la1)), (2, vI lx2), (4, vI lx4), (6, vR (some la6)), (7, vI lx7), (9, vR lr9), (10, vR lr10), (11, vR lr11), (12, vR lr12), (13, vR lr13)] [] := by
  refine pw_aload X dJ8_resize_301 rfl ?_
  refine pw_dup X dJ8_resize_303 ?_
  refine pw_astore X [(0, vR (some la0)), (1, vR (some la1)), (2, vI lx2), (4, vI lx4), (6, vR (some la6)), (7, vI lx7), (8, vR lr13), (9, vR lr9), (10, vR lr10), (11, vR lr11), (12, vR lr12)] [1, 2, 3, 4, 5, 6, 0, 7, 8, 9, 10] dJ8_resize_304 (by decide) rfl ?_
  refine pw_ifnonnull X 235 dJ8_resize_306 (by decide) (fun u1 he2 => ?_) (fun he2 => ?_)
  · replace hw := hw.2 u1 he2
    subst he2
    exact hk235 _ la0 la1 lx2 lx4 la6 lx7 u1 lr9 lr10 lr11 lr12 hw
  · replace hw := hw.1 he2
    subst he2
    refine pw_aload X dJ8_resize_309 rfl ?_
    refine pw_ifnull X 327 dJ8_resize_311 (by decide) (fun he4 => ?_) (fun u3 he4 => ?_)
    · replace hw := hw.1 he4
      subst he4
      refine pw_lo [0, 1, 2, 3, 4, 5, 9, 10] rfl ?_
      exact bk_J8_resizeL_327 G C n0 s0 M0 Q X k151 hk151 _ la0 la1 lx2 lx4 la6 lx7 lr11 lr12 hw
    · replace hw := hw.2 u3 he4
      subst he4
      refine pw_aload X dJ8_resize_314 rfl ?_
      refine pw_null X dJ8_resize_316 ?_
      obtain ⟨ht5, hw⟩ := hw
      obtain ⟨M6, hM7⟩ : ∃ z : Mem, z = (m_pr M u3 3 none) := ⟨_, rfl⟩
      replace hw := hw M6 hM7
      refine pw_put X (q := (RJ19, TJ19, tyJ19, 6)) (ci := 18) (k := 3) (ref := "java/util/HashMap$Node") M6 hM7.symm ht5 rfl (by decide) in_J19 tyJ19_ok nmJ19 q725 (Or.inl rfl) rfl (m_kd_r (fun _ _ => rfl)) m_no m_fo dJ8_resize_317 ?_
      have hle8 : m_le M M6 := by rw [hM7]; exact m_le_pr
      have ht9 : m_tg M6 u3 = 19 := m_le_tg hle8 ht5
      refine pw_aload X dJ8_resize_320 rfl ?_
      refine pw_iload X dJ8_resize_322 rfl ?_
      refine pw_aload X dJ8_resize_324 rfl ?_
      obtain ⟨ht10, hw⟩ := hw
      obtain ⟨hi11, hw⟩ := hw
      obtain ⟨hg15, hw⟩ := hw
      obtain ⟨M12, hM13⟩ : ∃ z : Mem, z = (m_pr M6 la6 (Int32.toNatClampNeg lx7) lr9) := ⟨_, rfl⟩
      replace hw := hw M12 hM13
      have hle14 : m_le M6 M12 := by rw [hM13]; exact m_le_pr
      refine pw_aast X (E := "java/util/HashMap$Node") 3 (by decide) rfl ht10 hi11 hg15 dJ8_resize_326 ?_
      rw [← hM13]
      have ht16 : m_tg M12 u3 = 19 := m_le_tg hle14 ht9
      have ht17 : m_tg M12 la6 = 104 := m_le_tg hle14 ht10
      refine pw_lo [0, 1, 2, 3, 4, 5, 9, 10] rfl ?_
      exact bk_J8_resizeL_327 G C n0 s0 M0 Q X k151 hk151 _ la0 la1 lx2 lx4 la6 lx7 lr11 lr12 hw
theorem bk_J8_resizeL_271 (G : Gp) (C : m_Cx) (n0 s0 : Nat) (M0 : Mem) (Q : Option Nat → Mem → Prop) (X : m_in G C RJ8 cJ8_resize 14 (some (.array (.object "java/util/HashMap$Node"))) "resize" 0 0 n0 s0) (k151 : Mem → Nat → Nat → Int32 → Int32 → Nat → Int32 → Prop) (k235 : Mem → Nat → Nat → Int32 → Int32 → Nat → Int32 → Nat → Option Nat → Option Nat → Option Nat → Option Nat → Prop) (hk151 : ∀ (M : Mem) (la0 : Nat) (la1 : Nat) (lx2 : Int32) (lx4 : Int32) (la6 : Nat) (lx7 : Int32), k151 M la0 la1 lx2 lx4 la6 lx7 → pW G C 14 n0 s0 M0 (m_Q G C n0 s0 (va_Qq (m_q1 M0 Q) (m_W G) (m_A G))) M 151 [(0, vR (some la0)), (1, vR (some la1)), (2, vI lx2), (4, vI lx4), (6, vR (some la6)), (7, vI lx7)] []) (hk235 : ∀ (M : Mem) (la0 : Nat) (la1 : Nat) (lx2 : Int32) (lx4 : Int32) (la6 : Nat) (lx7 : Int32) (la8 : Nat) (lr9 : Option Nat) (lr10 : Option Nat) (lr11 : Option Nat) (lr12 : Option Nat), k235 M la0 la1 lx2 lx4 la6 lx7 la8 lr9 lr10 lr11 lr12 → pW G C 14 n0 s0 M0 (m_Q G C n0 s0 (va_Qq (m_q1 M0 Q) (m_W G) (m_A G))) M 235 [(0, vR (some la0)), (1, vR (some la1)), (2, vI lx2), (4, vI lx4), (6, vR (some la6)), (7, vI lx7), (8, vR (some la8)), (9, vR lr9), (10, vR lr10), (11, vR lr11), (12, vR lr12)] []) (M : Mem) (la0 : Nat) (la1 : Nat) (lx2 : Int32) (lx4 : Int32) (la6 : Nat) (lx7 : Int32) (la8 : Nat) (lr9 : Option Nat) (lr11 : Option Nat) (lr12 : Option Nat) (lr13 : Option Nat) (hw : wp_J8_resizeL_b271 G.2 k151 k235 M la0 la1 lx2 lx4 la6 lx7 la8 lr9 lr11 lr12 lr13 Q) : pW G C 14 n0 s0 M0 (m_Q G C n0 s0 (va_Qq (m_q1 M0 Q) (m_W G) (m_A G))) M 271 [(0, vR (some la0)), (1, vR (some la1)), (2, vI lx2), (4, vI lx4), (6, vR (some la6)), (7, vI lx7), (8, vR (some la8)), (9, vR lr9), (11, vR lr11), (12, vR lr12), (13, vR lr13)] [] := by
  refine pw_aload X dJ8_resize_271 rfl ?_
  refine pw_astore X [(0, vR (some la0)), (1, vR (some la1)), (2, vI lx2), (4, vI lx4), (6, vR (some la6)), (7, vI lx7), (9, vR lr9), (10, vR (some la8)), (11, vR lr11), (12, vR lr12), (13, vR lr13)] [1, 2, 3, 4, 5, 6, 8, 0, 9, 10, 11] dJ8_resize_273 (by decide) rfl ?_
  refine pw_goto X 301 dJ8_resize_275 (by decide) ?_
  exact bk_J8_resizeL_301 G C n0 s0 M0 Q X k151 k235 hk151 hk235 _ la0 la1 lx2 lx4 la6 lx7 lr9 (some la8) lr11 lr12 lr13 hw
theorem bk_J8_resizeL_297 (G : Gp) (C : m_Cx) (n0 s0 : Nat) (M0 : Mem) (Q : Option Nat → Mem → Prop) (X : m_in G C RJ8 cJ8_resize 14 (some (.array (.object "java/util/HashMap$Node"))) "resize" 0 0 n0 s0) (k151 : Mem → Nat → Nat → Int32 → Int32 → Nat → Int32 → Prop) (k235 : Mem → Nat → Nat → Int32 → Int32 → Nat → Int32 → Nat → Option Nat → Option Nat → Option Nat → Option Nat → Prop) (hk151 : ∀ (M : Mem) (la0 : Nat) (la1 : Nat) (lx2 : Int32) (lx4 : Int32) (la6 : Nat) (lx7 : Int32), k151 M la0 la1 lx2 lx4 la6 lx7 → pW G C 14 n0 s0 M0 (m_Q G C n0 s0 (va_Qq (m_q1 M0 Q) (m_W G) (m_A G))) M 151 [(0, vR (some la0)), (1, vR (some la1)), (2, vI lx2), (4, vI lx4), (6, vR (some la6)), (7, vI lx7)] []) (hk235 : ∀ (M : Mem) (la0 : Nat) (la1 : Nat) (lx2 : Int32) (lx4 : Int32) (la6 : Nat) (lx7 : Int32) (la8 : Nat) (lr9 : Option Nat) (lr10 : Option Nat) (lr11 : Option Nat) (lr12 : Option Nat), k235 M la0 la1 lx2 lx4 la6 lx7 la8 lr9 lr10 lr11 lr12 → pW G C 14 n0 s0 M0 (m_Q G C n0 s0 (va_Qq (m_q1 M0 Q) (m_W G) (m_A G))) M 235 [(0, vR (some la0)), (1, vR (some la1)), (2, vI lx2), (4, vI lx4), (6, vR (some la6)), (7, vI lx7), (8, vR (some la8)), (9, vR lr9), (10, vR lr10), (11, vR lr11), (12, vR lr12)] []) (M : Mem) (la0 : Nat) (la1 : Nat) (lx2 : Int32) (lx4 : Int32) (la6 : Nat) (lx7 : Int32) (la8 : Nat) (lr9 : Option Nat) (lr10 : Option Nat) (lr11 : Option Nat) (lr13 : Option Nat) (hw : wp_J8_resizeL_b297 G.2 k151 k235 M la0 la1 lx2 lx4 la6 lx7 la8 lr9 lr10 lr11 lr13 Q) : pW G C 14 n0 s0 M0 (m_Q G C n0 s0 (va_Qq (m_q1 M0 Q) (m_W G) (m_A G))) M 297 [(0, vR (some la0)), (1, vR (some la1)), (2, vI lx2), (4, vI lx4), (6, vR (some la6)), (7, vI lx7), (8, vR (some la8)), (9, vR lr9), (10, vR lr10), (11, vR lr11), (13, vR lr13)] [] := by
  refine pw_aload X dJ8_resize_297 rfl ?_
  refine pw_astore X [(0, vR (some la0)), (1, vR (some la1)), (2, vI lx2), (4, vI lx4), (6, vR (some la6)), (7, vI lx7), (9, vR lr9), (10, vR lr10), (11, vR lr11), (12, vR (some la8)), (13, vR lr13)] [1, 2, 3, 4, 5, 6, 8, 9, 10, 0, 11] dJ8_resize_299 (by decide) rfl ?_
  exact bk_J8_resizeL_301 G C n0 s0 M0 Q X k151 k235 hk151 hk235 _ la0 la1 lx2 lx4 la6 lx7 lr9 lr10 lr11 (some la8) lr13 hw
theorem bk_J8_resizeL_235 (G : Gp) (C : m_Cx) (n0 s0 : Nat) (M0 : Mem) (Q : Option Nat → Mem → Prop) (X : m_in G C RJ8 cJ8_resize 14 (some (.array (.object "java/util/HashMap$Node"))) "resize" 0 0 n0 s0) (k151 : Mem → Nat → Nat → Int32 → Int32 → Nat → Int32 → Prop) (hk151 : ∀ (M : Mem) (la0 : Nat) (la1 : Nat) (lx2 : Int32) (lx4 : Int32) (la6 : Nat) (lx7 : Int32), k151 M la0 la1 lx2 lx4 la6 lx7 → pW G C 14 n0 s0 M0 (m_Q G C n0 s0 (va_Qq (m_q1 M0 Q) (m_W G) (m_A G))) M 151 [(0, vR (some la0)), (1, vR (some la1)), (2, vI lx2), (4, vI lx4), (6, vR (some la6)), (7, vI lx7)] []) : ∀ (n : Nat) (M : Mem) (la0 : Nat) (la1 : Nat) (lx2 : Int32) (lx4 : Int32) (la6 : Nat) (lx7 : Int32) (la8 : Nat) (lr9 : Option Nat) (lr10 : Option Nat) (lr11 : Option Nat) (lr12 : Option Nat) (hw : wp_J8_resizeL_b235 G.2 k151 Q n M la0 la1 lx2 lx4 la6 lx7 la8 lr9 lr10 lr11 lr12), pW G C 14 n0 s0 M0 (m_Q G C n0 s0 (va_Qq (m_q1 M0 Q) (m_W G) (m_A G))) M 235 [(0, vR (some la0)), (1, vR (some la1)), (2, vI lx2), (4, vI lx4), (6, vR (some la6)), (7, vI lx7), (8, vR (some la8)), (9, vR lr9), (10, vR lr10), (11, vR lr11), (12, vR lr12)] [] := by
  intro n
  induction n with
  | zero => intro M la0 la1 lx2 lx4 la6 lx7 la8 lr9 lr10 lr11 lr12 hw; exact hw.elim
  | succ n ih =>
    intro M la0 la1 lx2 lx4 la6 lx7 la8 lr9 lr10 lr11 lr12 hw
    refine pw_aload X dJ8_resize_235 rfl ?_
    obtain ⟨ht1, hw⟩ := hw
    obtain ⟨r2, hr3⟩ : ∃ z : Option Nat, z = (m_gr M la8 3) := ⟨_, rfl⟩
    replace hw := hw r2 hr3
    refine pw_get X (q := (RJ19, TJ19, tyJ19, 6)) (ci := 18) (k := 3) (ref := "java/util/HashMap$Node") (vR r2) ht1 rfl (by decide) in_J19 q725 (Or.inl rfl) (by rw [hr3]; rfl) dJ8_resize_237 ?_
    refine pw_astore X [(0, vR (some la0)), (1, vR (some la1)), (2, vI lx2), (4, vI lx4), (6, vR (some la6)), (7, vI lx7), (8, vR (some la8)), (9, vR lr9), (10, vR lr10), (11, vR lr11), (12, vR lr12), (13, vR r2)] [1, 2, 3, 4, 5, 6, 7, 8, 9, 10, 11, 0] dJ8_resize_240 (by decide) rfl ?_
    refine pw_aload X dJ8_resize_242 rfl ?_
    refine pw_get X (q := (RJ19, TJ19, tyJ19, 6)) (ci := 18) (k := 0) (ref := "java/util/HashMap$Node") (vI (m_gi M la8 0)) ht1 rfl (by decide) in_J19 q709 (Or.inl rfl) rfl dJ8_resize_244 ?_
    refine pw_iload_n X dJ8_resize_247 rfl rfl ?_
    refine pw_iand X dJ8_resize_248 ?_
    refine pw_if_ne X 278 dJ8_resize_249 (by decide) (fun c4 => ?_) (fun c4 => ?_)
    · replace hw := hw.1 c4
      refine pw_aload X dJ8_resize_278 rfl ?_
      refine pw_ifnonnull X 290 dJ8_resize_280 (by decide) (fun u5 he6 => ?_) (fun he6 => ?_)
      · replace hw := hw.2 u5 he6
        subst he6
        refine pw_aload X dJ8_resize_290 rfl ?_
        refine pw_aload X dJ8_resize_292 rfl ?_
        obtain ⟨ht7, hw⟩ := hw
        obtain ⟨M8, hM9⟩ : ∃ z : Mem, z = (m_pr M u5 3 (some la8)) := ⟨_, rfl⟩
        replace hw := hw M8 hM9
        refine pw_put X (q := (RJ19, TJ19, tyJ19, 6)) (ci := 18) (k := 3) (ref := "java/util/HashMap$Node") M8 hM9.symm ht7 rfl (by decide) in_J19 tyJ19_ok nmJ19 q725 (Or.inl rfl) rfl (m_kd_r (fun _ _ => rfl)) m_no m_fo dJ8_resize_294 ?_
        have hle10 : m_le M M8 := by rw [hM9]; exact m_le_pr
        have ht11 : m_tg M8 la8 = 19 := m_le_tg hle10 ht1
        have ht12 : m_tg M8 u5 = 19 := m_le_tg hle10 ht7
        refine pw_lo [0, 1, 2, 3, 4, 5, 6, 7, 8, 9, 11] rfl ?_
        exact bk_J8_resizeL_297 G C n0 s0 M0 Q X k151 (wp_J8_resizeL_b235 G.2 k151 Q n) hk151 ih _ la0 la1 lx2 lx4 la6 lx7 la8 lr9 lr10 lr11 r2 hw
      · replace hw := hw.1 he6
        subst he6
        refine pw_aload X dJ8_resize_283 rfl ?_
        refine pw_astore X [(0, vR (some la0)), (1, vR (some la1)), (2, vI lx2), (4, vI lx4), (6, vR (some la6)), (7, vI lx7), (8, vR (some la8)), (9, vR lr9), (10, vR lr10), (11, vR (some la8)), (13, vR r2)] [1, 2, 3, 4, 5, 6, 7, 8, 9, 0, 11] dJ8_resize_285 (by decide) rfl ?_
        refine pw_goto X 297 dJ8_resize_287 (by decide) ?_
        exact bk_J8_resizeL_297 G C n0 s0 M0 Q X k151 (wp_J8_resizeL_b235 G.2 k151 Q n) hk151 ih _ la0 la1 lx2 lx4 la6 lx7 la8 lr9 lr10 (some la8) r2 hw
    · replace hw := hw.2 c4
      refine pw_aload X dJ8_resize_252 rfl ?_
      refine pw_ifnonnull X 264 dJ8_resize_254 (by decide) (fun u13 he14 => ?_) (fun he14 => ?_)
      · replace hw := hw.2 u13 he14
        subst he14
        refine pw_aload X dJ8_resize_264 rfl ?_
        refine pw_aload X dJ8_resize_266 rfl ?_
        obtain ⟨ht15, hw⟩ := hw
        obtain ⟨M16, hM17⟩ : ∃ z : Mem, z = (m_pr M u13 3 (some la8)) := ⟨_, rfl⟩
        replace hw := hw M16 hM17
        refine pw_put X (q := (RJ19, TJ19, tyJ19, 6)) (ci := 18) (k := 3) (ref := "java/util/HashMap$Node") M16 hM17.symm ht15 rfl (by decide) in_J19 tyJ19_ok nmJ19 q725 (Or.inl rfl) rfl (m_kd_r (fun _ _ => rfl)) m_no m_fo dJ8_resize_268 ?_
        have hle18 : m_le M M16 := by rw [hM17]; exact m_le_pr
        have ht19 : m_tg M16 la8 = 19 := m_le_tg hle18 ht1
        have ht20 : m_tg M16 u13 = 19 := m_le_tg hle18 ht15
        refine pw_lo [0, 1, 2, 3, 4, 5, 6, 7, 9, 10, 11] rfl ?_
        exact bk_J8_resizeL_271 G C n0 s0 M0 Q X k151 (wp_J8_resizeL_b235 G.2 k151 Q n) hk151 ih _ la0 la1 lx2 lx4 la6 lx7 la8 lr9 lr11 lr12 r2 hw
      · replace hw := hw.1 he14
        subst he14
        refine pw_aload X dJ8_resize_257 rfl ?_
        refine pw_astore X [(0, vR (some la0)), (1, vR (some la1)), (2, vI lx2), (4, vI lx4), (6, vR (some la6)), (7, vI lx7), (8, vR (some la8)), (9, vR (some la8)), (11, vR lr11), (12, vR lr12), (13, vR r2)] [1, 2, 3, 4, 5, 6, 7, 0, 9, 10, 11] dJ8_resize_259 (by decide) rfl ?_
        refine pw_goto X 271 dJ8_resize_261 (by decide) ?_
        exact bk_J8_resizeL_271 G C n0 s0 M0 Q X k151 (wp_J8_resizeL_b235 G.2 k151 Q n) hk151 ih _ la0 la1 lx2 lx4 la6 lx7 la8 (some la8) lr11 lr12 r2 hw
theorem bk_J8_resizeL_151 (G : Gp) (C : m_Cx) (n0 s0 : Nat) (M0 : Mem) (Q : Option Nat → Mem → Prop) (X : m_in G C RJ8 cJ8_resize 14 (some (.array (.object "java/util/HashMap$Node"))) "resize" 0 0 n0 s0) : ∀ (n : Nat) (M : Mem) (la0 : Nat) (la1 : Nat) (lx2 : Int32) (lx4 : Int32) (la6 : Nat) (lx7 : Int32) (hw : wp_J8_resizeL_b151 G.2 Q n M la0 la1 lx2 lx4 la6 lx7), pW G C 14 n0 s0 M0 (m_Q G C n0 s0 (va_Qq (m_q1 M0 Q) (m_W G) (m_A G))) M 151 [(0, vR (some la0)), (1, vR (some la1)), (2, vI lx2), (4, vI lx4), (6, vR (some la6)), (7, vI lx7)] [] := by
  intro n
  induction n with
  | zero => intro M la0 la1 lx2 lx4 la6 lx7 hw; exact hw.elim
  | succ n ih =>
    intro M la0 la1 lx2 lx4 la6 lx7 hw
    refine pw_iload X dJ8_resize_151 rfl ?_
    refine pw_iload_n X dJ8_resize_153 rfl rfl ?_
    refine pw_icmp_ge X 353 dJ8_resize_154 (by decide) (fun c1 => ?_) (fun c1 => ?_)
    · replace hw := hw.1 c1
      refine pw_aload X dJ8_resize_353 rfl ?_
      exact pw_aret X (Or.inr ⟨_, rfl⟩) hw dJ8_resize_355
    · replace hw := hw.2 c1
      refine pw_aload_n X dJ8_resize_157 rfl rfl ?_
      refine pw_iload X dJ8_resize_158 rfl ?_
      obtain ⟨ht2, hw⟩ := hw
      obtain ⟨hi3, hw⟩ := hw
      obtain ⟨r4, hr5⟩ : ∃ z : Option Nat, z = (m_gr M la1 (Int32.toNatClampNeg lx7)) := ⟨_, rfl⟩
      replace hw := hw r4 hr5
      refine pw_aald X (Or.inr (Or.inl ht2)) hi3 dJ8_resize_160 ?_
      rw [← hr5]
      refine pw_dup X dJ8_resize_161 ?_
      refine pw_astore X [(0, vR (some la0)), (1, vR (some la1)), (2, vI lx2), (4, vI lx4), (6, vR (some la6)), (7, vI lx7), (8, vR r4)] [1, 2, 3, 4, 5, 6, 0] dJ8_resize_162 (by decide) rfl ?_
      refine pw_ifnull X 347 dJ8_resize_164 (by decide) (fun he7 => ?_) (fun u6 he7 => ?_)
      · replace hw := hw.1 he7
        subst he7
        refine pw_iinc X (lx7 + 1) [(0, vR (some la0)), (1, vR (some la1)), (2, vI lx2), (4, vI lx4), (6, vR (some la6)), (7, vI (lx7 + 1))] [1, 2, 3, 4, 5, 0] dJ8_resize_347 rfl (by first | rfl | decide) (by decide) rfl ?_
        refine pw_goto X 151 dJ8_resize_350 (by decide) ?_
        exact ih _ la0 la1 lx2 lx4 la6 (lx7 + 1) hw
      · replace hw := hw.2 u6 he7
        subst he7
        refine pw_aload_n X dJ8_resize_167 rfl rfl ?_
        refine pw_iload X dJ8_resize_168 rfl ?_
        refine pw_null X dJ8_resize_170 ?_
        obtain ⟨hi8, hw⟩ := hw
        obtain ⟨M9, hM10⟩ : ∃ z : Mem, z = (m_pr M la1 (Int32.toNatClampNeg lx7) none) := ⟨_, rfl⟩
        replace hw := hw M9 hM10
        have hle11 : m_le M M9 := by rw [hM10]; exact m_le_pr
        refine pw_aast X (E := "java/util/HashMap$Node") 3 (by decide) rfl ht2 hi8 (fun _ h => by cases h) dJ8_resize_171 ?_
        rw [← hM10]
        have ht12 : m_tg M9 la1 = 104 := m_le_tg hle11 ht2
        refine pw_aload X dJ8_resize_172 rfl ?_
        obtain ⟨ht13, hw⟩ := hw
        obtain ⟨r14, hr15⟩ : ∃ z : Option Nat, z = (m_gr M9 u6 3) := ⟨_, rfl⟩
        replace hw := hw r14 hr15
        refine pw_get X (q := (RJ19, TJ19, tyJ19, 6)) (ci := 18) (k := 3) (ref := "java/util/HashMap$Node") (vR r14) ht13 rfl (by decide) in_J19 q725 (Or.inl rfl) (by rw [hr15]; rfl) dJ8_resize_174 ?_
        refine pw_ifnonnull X 198 dJ8_resize_177 (by decide) (fun u16 he17 => ?_) (fun he17 => ?_)
        · replace hw := hw.2 u16 he17
          subst he17
          refine pw_aload X dJ8_resize_198 rfl ?_
          refine pw_instNo X 18 (q := (RJ19, TJ19, tyJ19, 6)) (by decide) rfl ht13 q394 dJ8_resize_200 ?_
          refine pw_if_eq X 223 dJ8_resize_203 (by decide) (fun c => ?_) (fun c => ?_)
          rotate_left
          · exact absurd c (by decide)
          refine pw_null X dJ8_resize_223 ?_
          refine pw_astore X [(0, vR (some la0)), (1, vR (some la1)), (2, vI lx2), (4, vI lx4), (6, vR (some la6)), (7, vI lx7), (8, vR (some u6)), (9, vR none)] [1, 2, 3, 4, 5, 6, 7, 0] dJ8_resize_224 (by decide) rfl ?_
          refine pw_null X dJ8_resize_226 ?_
          refine pw_astore X [(0, vR (some la0)), (1, vR (some la1)), (2, vI lx2), (4, vI lx4), (6, vR (some la6)), (7, vI lx7), (8, vR (some u6)), (9, vR none), (10, vR none)] [1, 2, 3, 4, 5, 6, 7, 8, 0] dJ8_resize_227 (by decide) rfl ?_
          refine pw_null X dJ8_resize_229 ?_
          refine pw_astore X [(0, vR (some la0)), (1, vR (some la1)), (2, vI lx2), (4, vI lx4), (6, vR (some la6)), (7, vI lx7), (8, vR (some u6)), (9, vR none), (10, vR none), (11, vR none)] [1, 2, 3, 4, 5, 6, 7, 8, 9, 0] dJ8_resize_230 (by decide) rfl ?_
          refine pw_null X dJ8_resize_232 ?_
          refine pw_astore X [(0, vR (some la0)), (1, vR (some la1)), (2, vI lx2), (4, vI lx4), (6, vR (some la6)), (7, vI lx7), (8, vR (some u6)), (9, vR none), (10, vR none), (11, vR none), (12, vR none)] [1, 2, 3, 4, 5, 6, 7, 8, 9, 10, 0] dJ8_resize_233 (by decide) rfl ?_
          obtain ⟨n235, hw⟩ := hw
          exact bk_J8_resizeL_235 G C n0 s0 M0 Q X (wp_J8_resizeL_b151 G.2 Q n) ih n235 _ la0 la1 lx2 lx4 la6 lx7 u6 none none none none hw
        · replace hw := hw.1 he17
          subst he17
          refine pw_aload X dJ8_resize_180 rfl ?_
          refine pw_aload X dJ8_resize_182 rfl ?_
          refine pw_get X (q := (RJ19, TJ19, tyJ19, 6)) (ci := 18) (k := 0) (ref := "java/util/HashMap$Node") (vI (m_gi M9 u6 0)) ht13 rfl (by decide) in_J19 q709 (Or.inl rfl) rfl dJ8_resize_184 ?_
          refine pw_iload X dJ8_resize_187 rfl ?_
          refine pw_iconst X 1 dJ8_resize_189 (by decide) ?_
          refine pw_isub X dJ8_resize_190 ?_
          refine pw_iand X dJ8_resize_191 ?_
          refine pw_aload X dJ8_resize_192 rfl ?_
          obtain ⟨ht18, hw⟩ := hw
          obtain ⟨hi19, hw⟩ := hw
          obtain ⟨hg23, hw⟩ := hw
          obtain ⟨M20, hM21⟩ : ∃ z : Mem, z = (m_pr M9 la6 (Int32.toNatClampNeg ((m_gi M9 u6 0) &&& (lx4 - 1))) (some u6)) := ⟨_, rfl⟩
          replace hw := hw M20 hM21
          have hle22 : m_le M9 M20 := by rw [hM21]; exact m_le_pr
          refine pw_aast X (E := "java/util/HashMap$Node") 3 (by decide) rfl ht18 hi19 hg23 dJ8_resize_194 ?_
          rw [← hM21]
          have ht24 : m_tg M20 la1 = 104 := m_le_tg hle22 ht12
          have ht25 : m_tg M20 u6 = 19 := m_le_tg hle22 ht13
          have ht26 : m_tg M20 la6 = 104 := m_le_tg hle22 ht18
          refine pw_goto X 347 dJ8_resize_195 (by decide) ?_
          refine pw_iinc X (lx7 + 1) [(0, vR (some la0)), (1, vR (some la1)), (2, vI lx2), (4, vI lx4), (6, vR (some la6)), (7, vI (lx7 + 1))] [1, 2, 3, 4, 5, 0] dJ8_resize_347 rfl (by first | rfl | decide) (by decide) rfl ?_
          refine pw_goto X 151 dJ8_resize_350 (by decide) ?_
          exact ih _ la0 la1 lx2 lx4 la6 (lx7 + 1) hw
theorem bk_J8_resizeL_85 (G : Gp) (C : m_Cx) (n0 s0 : Nat) (M0 : Mem) (Q : Option Nat → Mem → Prop) (X : m_in G C RJ8 cJ8_resize 14 (some (.array (.object "java/util/HashMap$Node"))) "resize" 0 0 n0 s0) (M : Mem) (la0 : Nat) (lr1 : Option Nat) (lx2 : Int32) (lx4 : Int32) (lx5 : Int32) (hw : wp_J8_resizeL_b85 G.2 M la0 lr1 lx2 lx4 lx5 Q) : pW G C 14 n0 s0 M0 (m_Q G C n0 s0 (va_Qq (m_q1 M0 Q) (m_W G) (m_A G))) M 85 [(0, vR (some la0)), (1, vR lr1), (2, vI lx2), (4, vI lx4), (5, vI lx5)] [] := by
  refine pw_iload X dJ8_resize_85 rfl ?_
  refine pw_if_ne X 125 dJ8_resize_87 (by decide) (fun c1 => ?_) (fun c1 => ?_)
  · replace hw := hw.1 c1
    refine pw_aload_n X dJ8_resize_125 rfl rfl ?_
    refine pw_iload X dJ8_resize_126 rfl ?_
    obtain ⟨ht2, hw⟩ := hw
    obtain ⟨M3, hM4⟩ : ∃ z : Mem, z = (m_pi M la0 6 lx5) := ⟨_, rfl⟩
    replace hw := hw M3 hM4
    refine pw_put X (q := (RJ9, TJ9, tyJ9, 12)) (ci := 16) (k := 6) (ref := "java/util/HashMap") M3 hM4.symm ht2 rfl (by decide) in_J9 tyJ9_ok nmJ9 q257 (Or.inl rfl) rfl (m_kd_i (fun _ _ => rfl)) rfl rfl dJ8_resize_128 ?_
    have hle5 : m_le M M3 := by rw [hM4]; exact m_le_pi
    have ht6 : m_tg M3 la0 = 17 := m_le_tg hle5 ht2
    refine pw_iload X dJ8_resize_131 rfl ?_
    obtain ⟨hn8, hf7, hw⟩ := hw
    refine pw_newq X 3 (E := "java/util/HashMap$Node") (by decide) hf7 hn8 rfl q676 q677 dJ8_resize_133 (fun u9 h010 => ?_)
    obtain ⟨M11, hM12⟩ : ∃ z : Mem, z = (m_al M3 u9 104 (Int32.toNatClampNeg lx4) (Int32.toNatClampNeg lx4)) := ⟨_, rfl⟩
    replace hw := hw u9 h010 M11 hM12
    have hle13 : m_le M3 M11 := by rw [hM12]; exact m_le_al h010
    change pW _ _ _ _ _ _ _ (m_al M3 u9 104 (Int32.toNatClampNeg lx4) (Int32.toNatClampNeg lx4)) _ _ _
    rw [← hM12]
    have ht14 : m_tg M11 la0 = 17 := m_le_tg hle13 ht6
    have ht15 : m_tg M11 u9 = 104 := by rw [hM12, m_tg_al, if_pos rfl]
    refine pw_astore X [(0, vR (some la0)), (1, vR lr1), (2, vI lx2), (4, vI lx4), (6, vR (some u9))] [1, 2, 3, 4, 0] dJ8_resize_136 (by decide) rfl ?_
    refine pw_aload_n X dJ8_resize_138 rfl rfl ?_
    refine pw_aload X dJ8_resize_139 rfl ?_
    obtain ⟨M16, hM17⟩ : ∃ z : Mem, z = (m_pr M11 la0 2 (some u9)) := ⟨_, rfl⟩
    replace hw := hw M16 hM17
    refine pw_put X (q := (RJ9, TJ9, tyJ9, 12)) (ci := 16) (k := 2) (ref := "java/util/HashMap") M16 hM17.symm ht14 rfl (by decide) in_J9 tyJ9_ok nmJ9 q252 (Or.inl rfl) rfl (m_kd_r (fun _ _ => rfl)) m_na m_fa dJ8_resize_141 ?_
    have hle18 : m_le M11 M16 := by rw [hM17]; exact m_le_pr
    have ht19 : m_tg M16 la0 = 17 := m_le_tg hle18 ht14
    have ht20 : m_tg M16 u9 = 104 := m_le_tg hle18 ht15
    refine pw_aload_n X dJ8_resize_144 rfl rfl ?_
    refine pw_ifnull X 353 dJ8_resize_145 (by decide) (fun he22 => ?_) (fun u21 he22 => ?_)
    · replace hw := hw.1 he22
      subst he22
      refine pw_aload X dJ8_resize_353 rfl ?_
      exact pw_aret X (Or.inr ⟨_, rfl⟩) hw dJ8_resize_355
    · replace hw := hw.2 u21 he22
      subst he22
      refine pw_iconst X 0 dJ8_resize_148 (by decide) ?_
      refine pw_istore X [(0, vR (some la0)), (1, vR (some u21)), (2, vI lx2), (4, vI lx4), (6, vR (some u9)), (7, vI 0)] [1, 2, 3, 4, 5, 0] dJ8_resize_149 (by decide) rfl ?_
      obtain ⟨n151, hw⟩ := hw
      exact bk_J8_resizeL_151 G C n0 s0 M0 Q X n151 _ la0 u21 lx2 lx4 u9 0 hw
  · replace hw := hw.2 c1
    refine pw_iload X dJ8_resize_90 rfl ?_
    exact hw.elim
theorem bk_J8_resizeL_15 (G : Gp) (C : m_Cx) (n0 s0 : Nat) (M0 : Mem) (Q : Option Nat → Mem → Prop) (X : m_in G C RJ8 cJ8_resize 14 (some (.array (.object "java/util/HashMap$Node"))) "resize" 0 0 n0 s0) (M : Mem) (la0 : Nat) (lr1 : Option Nat) (sx0 : Int32) (hw : wp_J8_resizeL_b15 G.2 M la0 lr1 sx0 Q) : pW G C 14 n0 s0 M0 (m_Q G C n0 s0 (va_Qq (m_q1 M0 Q) (m_W G) (m_A G))) M 15 [(0, vR (some la0)), (1, vR lr1)] [vI sx0] := by
  refine pw_istore_n X [(0, vR (some la0)), (1, vR lr1), (2, vI sx0)] [1, 2, 0] dJ8_resize_15 rfl (by decide) rfl ?_
  refine pw_aload_n X dJ8_resize_16 rfl rfl ?_
  obtain ⟨ht1, hw⟩ := hw
  refine pw_get X (q := (RJ9, TJ9, tyJ9, 12)) (ci := 16) (k := 6) (ref := "java/util/HashMap") (vI (m_gi M la0 6)) ht1 rfl (by decide) in_J9 q257 (Or.inl rfl) rfl dJ8_resize_17 ?_
  refine pw_istore_n X [(0, vR (some la0)), (1, vR lr1), (2, vI sx0), (3, vI (m_gi M la0 6))] [1, 2, 3, 0] dJ8_resize_20 rfl (by decide) rfl ?_
  refine pw_iconst X 0 dJ8_resize_21 (by decide) ?_
  refine pw_istore X [(0, vR (some la0)), (1, vR lr1), (2, vI sx0), (3, vI (m_gi M la0 6)), (5, vI 0)] [1, 2, 3, 4, 0] dJ8_resize_22 (by decide) rfl ?_
  refine pw_iload_n X dJ8_resize_24 rfl rfl ?_
  refine pw_if_le X 67 dJ8_resize_25 (by decide) (fun c2 => ?_) (fun c2 => ?_)
  · replace hw := hw.1 c2
    refine pw_iload_n X dJ8_resize_67 rfl rfl ?_
    refine pw_if_le X 77 dJ8_resize_68 (by decide) (fun c3 => ?_) (fun c3 => ?_)
    · replace hw := hw.1 c3
      refine pw_bipush X 16 dJ8_resize_77 (by decide) ?_
      refine pw_istore X [(0, vR (some la0)), (1, vR lr1), (2, vI sx0), (4, vI 16)] [1, 2, 3, 0] dJ8_resize_79 (by decide) rfl ?_
      refine pw_bipush X 12 dJ8_resize_81 (by decide) ?_
      refine pw_istore X [(0, vR (some la0)), (1, vR lr1), (2, vI sx0), (4, vI 16), (5, vI 12)] [1, 2, 3, 4, 0] dJ8_resize_83 (by decide) rfl ?_
      exact bk_J8_resizeL_85 G C n0 s0 M0 Q X _ la0 lr1 sx0 16 12 hw
    · replace hw := hw.2 c3
      refine pw_iload_n X dJ8_resize_71 rfl rfl ?_
      refine pw_istore X [(0, vR (some la0)), (1, vR lr1), (2, vI sx0), (4, vI (m_gi M la0 6)), (5, vI 0)] [1, 2, 3, 0, 5] dJ8_resize_72 (by decide) rfl ?_
      refine pw_goto X 85 dJ8_resize_74 (by decide) ?_
      exact bk_J8_resizeL_85 G C n0 s0 M0 Q X _ la0 lr1 sx0 (m_gi M la0 6) 0 hw
  · replace hw := hw.2 c2
    refine pw_iload_n X dJ8_resize_28 rfl rfl ?_
    refine pw_ldc X 1073741824 q673 dJ8_resize_29 ?_
    refine pw_icmp_lt X 42 dJ8_resize_31 (by decide) (fun c4 => ?_) (fun c4 => ?_)
    · replace hw := hw.1 c4
      refine pw_iload_n X dJ8_resize_42 rfl rfl ?_
      refine pw_iconst X 1 dJ8_resize_43 (by decide) ?_
      refine pw_ishl X dJ8_resize_44 ?_
      refine pw_dup X dJ8_resize_45 ?_
      refine pw_istore X [(0, vR (some la0)), (1, vR lr1), (2, vI sx0), (3, vI (m_gi M la0 6)), (4, vI ((sx0 : Int32) <<< ((1 : Int32) &&& 31))), (5, vI 0)] [1, 2, 3, 4, 0, 5] dJ8_resize_46 (by decide) rfl ?_
      refine pw_ldc X 1073741824 q673 dJ8_resize_48 ?_
      refine pw_icmp_ge X 85 dJ8_resize_50 (by decide) (fun c5 => ?_) (fun c5 => ?_)
      · replace hw := hw.1 c5
        refine pw_lo [0, 1, 2, 4, 5] rfl ?_
        exact bk_J8_resizeL_85 G C n0 s0 M0 Q X _ la0 lr1 sx0 ((sx0 : Int32) <<< ((1 : Int32) &&& 31)) 0 hw
      · replace hw := hw.2 c5
        refine pw_iload_n X dJ8_resize_53 rfl rfl ?_
        refine pw_bipush X 16 dJ8_resize_54 (by decide) ?_
        refine pw_icmp_lt X 85 dJ8_resize_56 (by decide) (fun c6 => ?_) (fun c6 => ?_)
        · replace hw := hw.1 c6
          refine pw_lo [0, 1, 2, 4, 5] rfl ?_
          exact bk_J8_resizeL_85 G C n0 s0 M0 Q X _ la0 lr1 sx0 ((sx0 : Int32) <<< ((1 : Int32) &&& 31)) 0 hw
        · replace hw := hw.2 c6
          refine pw_iload_n X dJ8_resize_59 rfl rfl ?_
          refine pw_iconst X 1 dJ8_resize_60 (by decide) ?_
          refine pw_ishl X dJ8_resize_61 ?_
          refine pw_istore X [(0, vR (some la0)), (1, vR lr1), (2, vI sx0), (4, vI ((sx0 : Int32) <<< ((1 : Int32) &&& 31))), (5, vI (((m_gi M la0 6) : Int32) <<< ((1 : Int32) &&& 31)))] [1, 2, 3, 5, 0] dJ8_resize_62 (by decide) rfl ?_
          refine pw_goto X 85 dJ8_resize_64 (by decide) ?_
          exact bk_J8_resizeL_85 G C n0 s0 M0 Q X _ la0 lr1 sx0 ((sx0 : Int32) <<< ((1 : Int32) &&& 31)) (((m_gi M la0 6) : Int32) <<< ((1 : Int32) &&& 31)) hw
    · replace hw := hw.2 c4
      refine pw_aload_n X dJ8_resize_34 rfl rfl ?_
      refine pw_ldc X 2147483647 q674 dJ8_resize_35 ?_
      obtain ⟨M7, hM8⟩ : ∃ z : Mem, z = (m_pi M la0 6 2147483647) := ⟨_, rfl⟩
      replace hw := hw M7 hM8
      refine pw_put X (q := (RJ9, TJ9, tyJ9, 12)) (ci := 16) (k := 6) (ref := "java/util/HashMap") M7 hM8.symm ht1 rfl (by decide) in_J9 tyJ9_ok nmJ9 q257 (Or.inl rfl) rfl (m_kd_i (fun _ _ => rfl)) rfl rfl dJ8_resize_37 ?_
      have hle9 : m_le M M7 := by rw [hM8]; exact m_le_pi
      have ht10 : m_tg M7 la0 = 17 := m_le_tg hle9 ht1
      refine pw_aload_n X dJ8_resize_40 rfl rfl ?_
      exact pw_aret X (Or.inr ⟨_, rfl⟩) hw dJ8_resize_41
theorem bk_J8_resizeL_0 (G : Gp) (C : m_Cx) (n0 s0 : Nat) (M0 : Mem) (Q : Option Nat → Mem → Prop) (X : m_in G C RJ8 cJ8_resize 14 (some (.array (.object "java/util/HashMap$Node"))) "resize" 0 0 n0 s0) (M : Mem) (a0 : Nat) (hw : wp_J8_resizeL G.2 M a0 Q) : pW G C 14 n0 s0 M0 (m_Q G C n0 s0 (va_Qq (m_q1 M0 Q) (m_W G) (m_A G))) M 0 [(0, vR (some a0))] [] := by
  refine pw_aload_n X dJ8_resize_0 rfl rfl ?_
  obtain ⟨ht1, hw⟩ := hw
  obtain ⟨r2, hr3⟩ : ∃ z : Option Nat, z = (m_gr M a0 2) := ⟨_, rfl⟩
  replace hw := hw r2 hr3
  refine pw_get X (q := (RJ9, TJ9, tyJ9, 12)) (ci := 16) (k := 2) (ref := "java/util/HashMap") (vR r2) ht1 rfl (by decide) in_J9 q252 (Or.inl rfl) (by rw [hr3]; rfl) dJ8_resize_1 ?_
  refine pw_astore_n X [(0, vR (some a0)), (1, vR r2)] [1, 0] dJ8_resize_4 rfl (by decide) rfl ?_
  refine pw_aload_n X dJ8_resize_5 rfl rfl ?_
  refine pw_ifnonnull X 13 dJ8_resize_6 (by decide) (fun u4 he5 => ?_) (fun he5 => ?_)
  · replace hw := hw.2 u4 he5
    subst he5
    refine pw_aload_n X dJ8_resize_13 rfl rfl ?_
    obtain ⟨hA6, hw⟩ := hw
    refine pw_alen X hA6 dJ8_resize_14 ?_
    exact bk_J8_resizeL_15 G C n0 s0 M0 Q X _ a0 (some u4) (nI (m_ln M u4)) hw
  · replace hw := hw.1 he5
    subst he5
    refine pw_iconst X 0 dJ8_resize_9 (by decide) ?_
    refine pw_goto X 15 dJ8_resize_10 (by decide) ?_
    exact bk_J8_resizeL_15 G C n0 s0 M0 Q X _ a0 none 0 hw
theorem met_J8_resizeL (G : Gp) (l : Launch) (M : Mem) (a0 : Nat) (Q : Option Nat → Mem → Prop) (hw : wp_J8_resizeL G.2 M a0 Q) : m_K G l yJ8_resize cJ8_resize 14 (some (.array (.object "java/util/HashMap$Node"))) 0 0 [vR (some a0)] M (va_Qq (m_q1 M Q) (m_W G) (m_A G)) := by
  refine m_met (by decide) (Nat.le_of_ble_eq_true rfl) (fun C e X => ?_)
  exact bk_J8_resizeL_0 G C _ _ M Q X M a0 hw
theorem nh_J8_resizeL : m_nMH yJ8_resize 0 := by decide +kernel

def wp_J8_putValL_b292 (g : Nat → Nat) (M : Mem) (la0 : Nat) (lx5 : Int32) (Q : Option Nat → Mem → Prop) : Prop := m_tg M la0 = 17 ∧ wp_J9_afterNodeInsertionL g M la0 lx5 (fun (M2 : Mem) => m_le M M2 → Q none M2)
def wp_J8_putValL_b259 (g : Nat → Nat) (M : Mem) (la0 : Nat) (lx5 : Int32) (Q : Option Nat → Mem → Prop) : Prop := m_tg M la0 = 17 ∧ ∀ M2 : Mem, M2 = (m_pi M la0 5 ((m_gi M la0 5) + 1)) → ∀ M6 : Mem, M6 = (m_pi M2 la0 4 ((m_gi M2 la0 4) + 1)) → ((((m_gi M2 la0 4) + 1) ≤ (m_gi M6 la0 6) → wp_J8_putValL_b292 g M6 la0 lx5 Q) ∧ (¬ ((m_gi M2 la0 4) + 1) ≤ (m_gi M6 la0 6) → wp_J8_resizeL g M6 la0 (fun (r13 : Option Nat) (M11 : Mem) => m_le M6 M11 → wp_J8_putValL_b292 g M11 la0 lx5 Q)))
def wp_J8_putValL_b250 (g : Nat → Nat) (M : Mem) (la0 : Nat) (la10 : Nat) (lr12 : Option Nat) (Q : Option Nat → Mem → Prop) : Prop := m_tg M la0 = 17 ∧ wp_J9_afterNodeAccessL g M la0 la10 (fun (M2 : Mem) => m_le M M2 → Q lr12 M2)
def wp_J8_putValL_b244 (g : Nat → Nat) (M : Mem) (la0 : Nat) (la3 : Nat) (la10 : Nat) (lr12 : Option Nat) (Q : Option Nat → Mem → Prop) : Prop := m_tg M la10 = 19 ∧ ∀ M2 : Mem, M2 = (m_pr M la10 2 (some la3)) → wp_J8_putValL_b250 g M2 la0 la10 lr12 Q
def wp_J8_putValL_b222 (g : Nat → Nat) (M : Mem) (la0 : Nat) (la3 : Nat) (lx4 : Int32) (lx5 : Int32) (lr10 : Option Nat) (Q : Option Nat → Mem → Prop) : Prop := ((lr10 = none → wp_J8_putValL_b259 g M la0 lx5 Q) ∧ (∀ u1 : Nat, lr10 = some u1 → m_tg M u1 = 19 ∧ ∀ r4 : Option Nat, r4 = (m_gr M u1 2) → ((lx4 = 0 → wp_J8_putValL_b244 g M la0 la3 u1 r4 Q) ∧ (¬ lx4 = 0 → ((r4 = none → wp_J8_putValL_b244 g M la0 la3 u1 none Q) ∧ (∀ u7 : Nat, r4 = some u7 → wp_J8_putValL_b250 g M la0 u1 (some u7) Q))))))
def wp_J8_putValL_b97 (g : Nat → Nat) (M : Mem) (la0 : Nat) (la3 : Nat) (lx4 : Int32) (lx5 : Int32) (la7 : Nat) (Q : Option Nat → Mem → Prop) : Prop := wp_J8_putValL_b222 g M la0 la3 lx4 lx5 (some la7) Q
def wp_J8_putValL_b134 (g : Nat → Nat) (Q : Option Nat → Mem → Prop) : Nat → Mem → Nat → Int32 → Nat → Nat → Int32 → Int32 → Option Nat → Nat → Int32 → Prop
  | 0 => fun _ _ _ _ _ _ _ _ _ _ => False
  | n + 1 => fun M la0 lx1 la2 la3 lx4 lx5 lr6 la7 lx12 => m_tg M la7 = 19 ∧ ∀ r2 : Option Nat, r2 = (m_gr M la7 3) → ((r2 = none → m_tg M la0 = 17 ∧ wp_J9_newNodeL g M la0 lx1 la2 la3 none (fun (r25 : Option Nat) (M23 : Mem) => m_le M M23 → ∀ M28 : Mem, M28 = (m_pr M23 la7 3 r25) → ((lx12 < 7 → wp_J8_putValL_b222 g M28 la0 la3 lx4 lx5 none Q) ∧ (¬ lx12 < 7 → False)))) ∧ (∀ u4 : Nat, r2 = some u4 → m_tg M u4 = 19 ∧ ((¬ (m_gi M u4 0) = lx1 → wp_J8_putValL_b134 g Q n M la0 lx1 la2 la3 lx4 lx5 lr6 u4 (lx12 + 1)) ∧ ((m_gi M u4 0) = lx1 → ∀ r8 : Option Nat, r8 = (m_gr M u4 1) → ((r8 = (some la2) → wp_J8_putValL_b222 g M la0 la3 lx4 lx5 (some u4) Q) ∧ (¬ r8 = (some la2) → ∃ u12 : Nat, r8 = some u12 ∧ m_tg M la2 = 4 ∧ wp_X3_equals g M la2 u12 (fun (r17 : Int32) (M15 : Mem) => m_le M M15 → ((r17 = 0 → wp_J8_putValL_b134 g Q n M15 la0 lx1 la2 la3 lx4 lx5 lr6 u4 (lx12 + 1)) ∧ (¬ r17 = 0 → wp_J8_putValL_b222 g M15 la0 la3 lx4 lx5 (some u4) Q)))))))))
def wp_J8_putValL_b104 (g : Nat → Nat) (M : Mem) (la0 : Nat) (lx1 : Int32) (la2 : Nat) (la3 : Nat) (lx4 : Int32) (lx5 : Int32) (lr6 : Option Nat) (la7 : Nat) (Q : Option Nat → Mem → Prop) : Prop := m_tg M la7 = 19 ∧ ∃ j134 : Nat, wp_J8_putValL_b134 g Q j134 M la0 lx1 la2 la3 lx4 lx5 lr6 la7 0
def wp_J8_putValL_b29 (g : Nat → Nat) (M : Mem) (la0 : Nat) (lx1 : Int32) (la2 : Nat) (la3 : Nat) (lx4 : Int32) (lx5 : Int32) (lr6 : Option Nat) (lx8 : Int32) (Q : Option Nat → Mem → Prop) : Prop := ∃ u1 : Nat, lr6 = some u1 ∧ m_tg M u1 = 104 ∧ vp_in ((lx8 - 1) &&& lx1) (m_ln M u1) ∧ ∀ r5 : Option Nat, r5 = (m_gr M u1 (Int32.toNatClampNeg ((lx8 - 1) &&& lx1))) → ((r5 = none → m_tg M la0 = 17 ∧ wp_J9_newNodeL g M la0 lx1 la2 la3 none (fun (r28 : Option Nat) (M26 : Mem) => m_le M M26 → vp_in ((lx8 - 1) &&& lx1) (m_ln M26 u1) ∧ (∀ y : Nat, r28 = some y → m_asg M26 y "java/util/HashMap$Node") ∧ ∀ M32 : Mem, M32 = (m_pr M26 u1 (Int32.toNatClampNeg ((lx8 - 1) &&& lx1)) r28) → wp_J8_putValL_b259 g M32 la0 lx5 Q)) ∧ (∀ u7 : Nat, r5 = some u7 → m_tg M u7 = 19 ∧ ((¬ (m_gi M u7 0) = lx1 → wp_J8_putValL_b104 g M la0 lx1 la2 la3 lx4 lx5 (some u1) u7 Q) ∧ ((m_gi M u7 0) = lx1 → ∀ r11 : Option Nat, r11 = (m_gr M u7 1) → ((r11 = (some la2) → wp_J8_putValL_b97 g M la0 la3 lx4 lx5 u7 Q) ∧ (¬ r11 = (some la2) → ∃ u15 : Nat, r11 = some u15 ∧ m_tg M la2 = 4 ∧ wp_X3_equals g M la2 u15 (fun (r20 : Int32) (M18 : Mem) => m_le M M18 → ((r20 = 0 → wp_J8_putValL_b104 g M18 la0 lx1 la2 la3 lx4 lx5 (some u1) u7 Q) ∧ (¬ r20 = 0 → wp_J8_putValL_b97 g M18 la0 la3 lx4 lx5 u7 Q)))))))))
def wp_J8_putValL_b19 (g : Nat → Nat) (M : Mem) (la0 : Nat) (lx1 : Int32) (la2 : Nat) (la3 : Nat) (lx4 : Int32) (lx5 : Int32) (Q : Option Nat → Mem → Prop) : Prop := m_tg M la0 = 17 ∧ wp_J8_resizeL g M la0 (fun (r4 : Option Nat) (M2 : Mem) => m_le M M2 → ∃ u6 : Nat, r4 = some u6 ∧ m_isA M2 u6 ∧ wp_J8_putValL_b29 g M2 la0 lx1 la2 la3 lx4 lx5 (some u6) (nI (m_ln M2 u6)) Q)
def wp_J8_putValL (g : Nat → Nat) (M : Mem) (a0 : Nat) (x1 : Int32) (a2 : Nat) (a3 : Nat) (x4 : Int32) (x5 : Int32) (Q : Option Nat → Mem → Prop) : Prop := m_tg M a0 = 17 ∧ ∀ r2 : Option Nat, r2 = (m_gr M a0 2) → ((r2 = none → wp_J8_putValL_b19 g M a0 x1 a2 a3 x4 x5 Q) ∧ (∀ u4 : Nat, r2 = some u4 → m_isA M u4 ∧ ((¬ (nI (m_ln M u4)) = 0 → wp_J8_putValL_b29 g M a0 x1 a2 a3 x4 x5 (some u4) (nI (m_ln M u4)) Q) ∧ ((nI (m_ln M u4)) = 0 → wp_J8_putValL_b19 g M a0 x1 a2 a3 x4 x5 Q))))
theorem bk_J8_putValL_292 (G : Gp) (C : m_Cx) (n0 s0 : Nat) (M0 : Mem) (Q : Option Nat → Mem → Prop) (X : m_in G C RJ8 cJ8_putVal 13 (some (.object "java/lang/Object")) "putVal" 4 85 n0 s0) (M : Mem) (la0 : Nat) (lx5 : Int32) (hw : wp_J8_putValL_b292 G.2 M la0 lx5 Q) : pW G C 13 n0 s0 M0 (m_Q G C n0 s0 (va_Qq (m_q1 M0 Q) (m_W G) (m_A G))) M 292 [(0, vR (some la0)), (5, vI lx5)] [] := by
  refine pw_aload_n X dJ8_putVal_292 rfl rfl ?_
  refine pw_iload X dJ8_putVal_293 rfl ?_
  obtain ⟨ht1, hw⟩ := hw
  refine pw_runv X (m_cO X (owner := "java/util/HashMap") (b := la0) (ci := 16) (q := (RJ9, TJ9, tyJ9, 12)) (met_J9_afterNodeInsertionL G C.2.1 M la0 lx5 _ hw) ht1 rfl (lw_app (lw_O q845 q848 q846 q849 q850 q90) (lw_meth q851)) q856 (by decide +kernel : m_nMHo "java/util/HashMap" ⟨"java/util/HashMap", "afterNodeInsertion", "(Z)V"⟩ 1) ⟨Nat.le_of_ble_eq_true rfl, Nat.le_of_ble_eq_true rfl⟩ rfl (Nat.le_of_ble_eq_true rfl) dJ8_putVal_295) (fun M2 hle3 hx => ?_)
  replace hw := hx hle3
  clear hx
  have ht4 : m_tg M2 la0 = 17 := m_le_tg hle3 ht1
  refine pw_null X dJ8_putVal_298 ?_
  exact pw_aret X (Or.inl ⟨_, rfl⟩) hw dJ8_putVal_299
theorem bk_J8_putValL_259 (G : Gp) (C : m_Cx) (n0 s0 : Nat) (M0 : Mem) (Q : Option Nat → Mem → Prop) (X : m_in G C RJ8 cJ8_putVal 13 (some (.object "java/lang/Object")) "putVal" 4 85 n0 s0) (M : Mem) (la0 : Nat) (lx5 : Int32) (hw : wp_J8_putValL_b259 G.2 M la0 lx5 Q) : pW G C 13 n0 s0 M0 (m_Q G C n0 s0 (va_Qq (m_q1 M0 Q) (m_W G) (m_A G))) M 259 [(0, vR (some la0)), (5, vI lx5)] [] := by
  refine pw_aload_n X dJ8_putVal_259 rfl rfl ?_
  refine pw_dup X dJ8_putVal_260 ?_
  obtain ⟨ht1, hw⟩ := hw
  refine pw_get X (q := (RJ9, TJ9, tyJ9, 12)) (ci := 16) (k := 5) (ref := "java/util/HashMap") (vI (m_gi M la0 5)) ht1 rfl (by decide) in_J9 q256 (Or.inl rfl) rfl dJ8_putVal_261 ?_
  refine pw_iconst X 1 dJ8_putVal_264 (by decide) ?_
  refine pw_iadd X dJ8_putVal_265 ?_
  obtain ⟨M2, hM3⟩ : ∃ z : Mem, z = (m_pi M la0 5 ((m_gi M la0 5) + 1)) := ⟨_, rfl⟩
  replace hw := hw M2 hM3
  refine pw_put X (q := (RJ9, TJ9, tyJ9, 12)) (ci := 16) (k := 5) (ref := "java/util/HashMap") M2 hM3.symm ht1 rfl (by decide) in_J9 tyJ9_ok nmJ9 q256 (Or.inl rfl) rfl (m_kd_i (fun _ _ => rfl)) rfl rfl dJ8_putVal_266 ?_
  have hle4 : m_le M M2 := by rw [hM3]; exact m_le_pi
  have ht5 : m_tg M2 la0 = 17 := m_le_tg hle4 ht1
  refine pw_aload_n X dJ8_putVal_269 rfl rfl ?_
  refine pw_dup X dJ8_putVal_270 ?_
  refine pw_get X (q := (RJ9, TJ9, tyJ9, 12)) (ci := 16) (k := 4) (ref := "java/util/HashMap") (vI (m_gi M2 la0 4)) ht5 rfl (by decide) in_J9 q253 (Or.inl rfl) rfl dJ8_putVal_271 ?_
  refine pw_iconst X 1 dJ8_putVal_274 (by decide) ?_
  refine pw_iadd X dJ8_putVal_275 ?_
  refine pw_dup_x1 X dJ8_putVal_276 ?_
  obtain ⟨M6, hM7⟩ : ∃ z : Mem, z = (m_pi M2 la0 4 ((m_gi M2 la0 4) + 1)) := ⟨_, rfl⟩
  replace hw := hw M6 hM7
  refine pw_put X (q := (RJ9, TJ9, tyJ9, 12)) (ci := 16) (k := 4) (ref := "java/util/HashMap") M6 hM7.symm ht5 rfl (by decide) in_J9 tyJ9_ok nmJ9 q253 (Or.inl rfl) rfl (m_kd_i (fun _ _ => rfl)) rfl rfl dJ8_putVal_277 ?_
  have hle8 : m_le M2 M6 := by rw [hM7]; exact m_le_pi
  have ht9 : m_tg M6 la0 = 17 := m_le_tg hle8 ht5
  refine pw_aload_n X dJ8_putVal_280 rfl rfl ?_
  refine pw_get X (q := (RJ9, TJ9, tyJ9, 12)) (ci := 16) (k := 6) (ref := "java/util/HashMap") (vI (m_gi M6 la0 6)) ht9 rfl (by decide) in_J9 q257 (Or.inl rfl) rfl dJ8_putVal_281 ?_
  refine pw_icmp_le X 292 dJ8_putVal_284 (by decide) (fun c10 => ?_) (fun c10 => ?_)
  · replace hw := hw.1 c10
    exact bk_J8_putValL_292 G C n0 s0 M0 Q X _ la0 lx5 hw
  · replace hw := hw.2 c10
    refine pw_aload_n X dJ8_putVal_287 rfl rfl ?_
    refine pw_runq X (m_cU X (owner := "java/util/HashMap") (b := la0) (ci := 16) (q := (RJ9, TJ9, tyJ9, 12)) (met_J8_resizeL G C.2.1 M6 la0 _ hw) ht9 rfl (lw_app (lw_U q667 q670 q671 q668 q89) (lw_meth q672)) rfl (by decide +kernel : m_nMHo "java/util/HashMap" ⟨"java/util/HashMap", "resize", "()[Ljava/util/HashMap$Node;"⟩ 0) ⟨Nat.le_of_ble_eq_true rfl, Nat.le_of_ble_eq_true rfl⟩ rfl (Nat.le_of_ble_eq_true rfl) dJ8_putVal_288) (fun r13 M11 hle12 hx => ?_)
    replace hw := hx hle12
    clear hx
    have ht14 : m_tg M11 la0 = 17 := m_le_tg hle12 ht9
    refine pw_pop X dJ8_putVal_291 ?_
    exact bk_J8_putValL_292 G C n0 s0 M0 Q X _ la0 lx5 hw
theorem bk_J8_putValL_250 (G : Gp) (C : m_Cx) (n0 s0 : Nat) (M0 : Mem) (Q : Option Nat → Mem → Prop) (X : m_in G C RJ8 cJ8_putVal 13 (some (.object "java/lang/Object")) "putVal" 4 85 n0 s0) (M : Mem) (la0 : Nat) (la10 : Nat) (lr12 : Option Nat) (hw : wp_J8_putValL_b250 G.2 M la0 la10 lr12 Q) : pW G C 13 n0 s0 M0 (m_Q G C n0 s0 (va_Qq (m_q1 M0 Q) (m_W G) (m_A G))) M 250 [(0, vR (some la0)), (10, vR (some la10)), (12, vR lr12)] [] := by
  refine pw_aload_n X dJ8_putVal_250 rfl rfl ?_
  refine pw_aload X dJ8_putVal_251 rfl ?_
  obtain ⟨ht1, hw⟩ := hw
  refine pw_runv X (m_cO X (owner := "java/util/HashMap") (b := la0) (ci := 16) (q := (RJ9, TJ9, tyJ9, 12)) (met_J9_afterNodeAccessL G C.2.1 M la0 la10 _ hw) ht1 rfl (lw_app (lw_O q839 q842 q840 q843 q647 q90) (lw_meth q649)) q844 (by decide +kernel : m_nMHo "java/util/HashMap" ⟨"java/util/HashMap", "afterNodeAccess", "(Ljava/util/HashMap$Node;)V"⟩ 1) ⟨Nat.le_of_ble_eq_true rfl, Nat.le_of_ble_eq_true rfl⟩ rfl (Nat.le_of_ble_eq_true rfl) dJ8_putVal_253) (fun M2 hle3 hx => ?_)
  replace hw := hx hle3
  clear hx
  have ht4 : m_tg M2 la0 = 17 := m_le_tg hle3 ht1
  refine pw_aload X dJ8_putVal_256 rfl ?_
  exact pw_aret X (Or.inl ⟨_, rfl⟩) hw dJ8_putVal_258
theorem bk_J8_putValL_244 (G : Gp) (C : m_Cx) (n0 s0 : Nat) (M0 : Mem) (Q : Option Nat → Mem → Prop) (X : m_in G C RJ8 cJ8_putVal 13 (some (.object "java/lang/Object")) "putVal" 4 85 n0 s0) (M : Mem) (la0 : Nat) (la3 : Nat) (la10 : Nat) (lr12 : Option Nat) (hw : wp_J8_putValL_b244 G.2 M la0 la3 la10 lr12 Q) : pW G C 13 n0 s0 M0 (m_Q G C n0 s0 (va_Qq (m_q1 M0 Q) (m_W G) (m_A G))) M 244 [(0, vR (some la0)), (3, vR (some la3)), (10, vR (some la10)), (12, vR lr12)] [] := by
  refine pw_aload X dJ8_putVal_244 rfl ?_
  refine pw_aload_n X dJ8_putVal_246 rfl rfl ?_
  obtain ⟨ht1, hw⟩ := hw
  obtain ⟨M2, hM3⟩ : ∃ z : Mem, z = (m_pr M la10 2 (some la3)) := ⟨_, rfl⟩
  replace hw := hw M2 hM3
  refine pw_put X (q := (RJ19, TJ19, tyJ19, 6)) (ci := 18) (k := 2) (ref := "java/util/HashMap$Node") M2 hM3.symm ht1 rfl (by decide) in_J19 tyJ19_ok nmJ19 q719 (Or.inl rfl) rfl (m_kd_r (fun _ _ => rfl)) m_no m_fo dJ8_putVal_247 ?_
  have hle4 : m_le M M2 := by rw [hM3]; exact m_le_pr
  have ht5 : m_tg M2 la10 = 19 := m_le_tg hle4 ht1
  refine pw_lo [0, 2, 3] rfl ?_
  exact bk_J8_putValL_250 G C n0 s0 M0 Q X _ la0 la10 lr12 hw
theorem bk_J8_putValL_222 (G : Gp) (C : m_Cx) (n0 s0 : Nat) (M0 : Mem) (Q : Option Nat → Mem → Prop) (X : m_in G C RJ8 cJ8_putVal 13 (some (.object "java/lang/Object")) "putVal" 4 85 n0 s0) (M : Mem) (la0 : Nat) (la3 : Nat) (lx4 : Int32) (lx5 : Int32) (lr10 : Option Nat) (hw : wp_J8_putValL_b222 G.2 M la0 la3 lx4 lx5 lr10 Q) : pW G C 13 n0 s0 M0 (m_Q G C n0 s0 (va_Qq (m_q1 M0 Q) (m_W G) (m_A G))) M 222 [(0, vR (some la0)), (3, vR (some la3)), (4, vI lx4), (5, vI lx5), (10, vR lr10)] [] := by
  refine pw_aload X dJ8_putVal_222 rfl ?_
  refine pw_ifnull X 259 dJ8_putVal_224 (by decide) (fun he2 => ?_) (fun u1 he2 => ?_)
  · replace hw := hw.1 he2
    subst he2
    refine pw_lo [0, 3] rfl ?_
    exact bk_J8_putValL_259 G C n0 s0 M0 Q X _ la0 lx5 hw
  · replace hw := hw.2 u1 he2
    subst he2
    refine pw_aload X dJ8_putVal_227 rfl ?_
    obtain ⟨ht3, hw⟩ := hw
    obtain ⟨r4, hr5⟩ : ∃ z : Option Nat, z = (m_gr M u1 2) := ⟨_, rfl⟩
    replace hw := hw r4 hr5
    refine pw_get X (q := (RJ19, TJ19, tyJ19, 6)) (ci := 18) (k := 2) (ref := "java/util/HashMap$Node") (vR r4) ht3 rfl (by decide) in_J19 q719 (Or.inl rfl) (by rw [hr5]; rfl) dJ8_putVal_229 ?_
    refine pw_astore X [(0, vR (some la0)), (3, vR (some la3)), (4, vI lx4), (10, vR (some u1)), (12, vR r4)] [1, 2, 3, 5, 0] dJ8_putVal_232 (by decide) rfl ?_
    refine pw_iload X dJ8_putVal_234 rfl ?_
    refine pw_if_eq X 244 dJ8_putVal_236 (by decide) (fun c6 => ?_) (fun c6 => ?_)
    · replace hw := hw.1 c6
      refine pw_lo [0, 1, 3, 4] rfl ?_
      exact bk_J8_putValL_244 G C n0 s0 M0 Q X _ la0 la3 u1 r4 hw
    · replace hw := hw.2 c6
      refine pw_aload X dJ8_putVal_239 rfl ?_
      refine pw_ifnonnull X 250 dJ8_putVal_241 (by decide) (fun u7 he8 => ?_) (fun he8 => ?_)
      · replace hw := hw.2 u7 he8
        subst he8
        refine pw_lo [0, 3, 4] rfl ?_
        exact bk_J8_putValL_250 G C n0 s0 M0 Q X _ la0 u1 (some u7) hw
      · replace hw := hw.1 he8
        subst he8
        refine pw_lo [0, 1, 3, 4] rfl ?_
        exact bk_J8_putValL_244 G C n0 s0 M0 Q X _ la0 la3 u1 none hw
theorem bk_J8_putValL_97 (G : Gp) (C : m_Cx) (n0 s0 : Nat) (M0 : Mem) (Q : Option Nat → Mem → Prop) (X : m_in G C RJ8 cJ8_putVal 13 (some (.object "java/lang/Object")) "putVal" 4 85 n0 s0) (M : Mem) (la0 : Nat) (la3 : Nat) (lx4 : Int32) (lx5 : Int32) (la7 : Nat) (hw : wp_J8_putValL_b97 G.2 M la0 la3 lx4 lx5 la7 Q) : pW G C 13 n0 s0 M0 (m_Q G C n0 s0 (va_Qq (m_q1 M0 Q) (m_W G) (m_A G))) M 97 [(0, vR (some la0)), (3, vR (some la3)), (4, vI lx4), (5, vI lx5), (7, vR (some la7))] [] := by
  refine pw_aload X dJ8_putVal_97 rfl ?_
  refine pw_astore X [(0, vR (some la0)), (3, vR (some la3)), (4, vI lx4), (5, vI lx5), (10, vR (some la7))] [1, 2, 3, 4, 0] dJ8_putVal_99 (by decide) rfl ?_
  refine pw_goto X 222 dJ8_putVal_101 (by decide) ?_
  exact bk_J8_putValL_222 G C n0 s0 M0 Q X _ la0 la3 lx4 lx5 (some la7) hw
theorem bk_J8_putValL_134 (G : Gp) (C : m_Cx) (n0 s0 : Nat) (M0 : Mem) (Q : Option Nat → Mem → Prop) (X : m_in G C RJ8 cJ8_putVal 13 (some (.object "java/lang/Object")) "putVal" 4 85 n0 s0) : ∀ (n : Nat) (M : Mem) (la0 : Nat) (lx1 : Int32) (la2 : Nat) (la3 : Nat) (lx4 : Int32) (lx5 : Int32) (lr6 : Option Nat) (la7 : Nat) (lx12 : Int32) (hw : wp_J8_putValL_b134 G.2 Q n M la0 lx1 la2 la3 lx4 lx5 lr6 la7 lx12), pW G C 13 n0 s0 M0 (m_Q G C n0 s0 (va_Qq (m_q1 M0 Q) (m_W G) (m_A G))) M 134 [(0, vR (some la0)), (1, vI lx1), (2, vR (some la2)), (3, vR (some la3)), (4, vI lx4), (5, vI lx5), (6, vR lr6), (7, vR (some la7)), (12, vI lx12)] [] := by
  intro n
  induction n with
  | zero => intro M la0 lx1 la2 la3 lx4 lx5 lr6 la7 lx12 hw; exact hw.elim
  | succ n ih =>
    intro M la0 lx1 la2 la3 lx4 lx5 lr6 la7 lx12 hw
    refine pw_aload X dJ8_putVal_134 rfl ?_
    obtain ⟨ht1, hw⟩ := hw
    obtain ⟨r2, hr3⟩ : ∃ z : Option Nat, z = (m_gr M la7 3) := ⟨_, rfl⟩
    replace hw := hw r2 hr3
    refine pw_get X (q := (RJ19, TJ19, tyJ19, 6)) (ci := 18) (k := 3) (ref := "java/util/HashMap$Node") (vR r2) ht1 rfl (by decide) in_J19 q725 (Or.inl rfl) (by rw [hr3]; rfl) dJ8_putVal_136 ?_
    refine pw_dup X dJ8_putVal_139 ?_
    refine pw_astore X [(0, vR (some la0)), (1, vI lx1), (2, vR (some la2)), (3, vR (some la3)), (4, vI lx4), (5, vI lx5), (6, vR lr6), (7, vR (some la7)), (10, vR r2), (12, vI lx12)] [1, 2, 3, 4, 5, 6, 7, 8, 0, 9] dJ8_putVal_140 (by decide) rfl ?_
    refine pw_ifnonnull X 175 dJ8_putVal_142 (by decide) (fun u4 he5 => ?_) (fun he5 => ?_)
    · replace hw := hw.2 u4 he5
      subst he5
      refine pw_aload X dJ8_putVal_175 rfl ?_
      obtain ⟨ht6, hw⟩ := hw
      refine pw_get X (q := (RJ19, TJ19, tyJ19, 6)) (ci := 18) (k := 0) (ref := "java/util/HashMap$Node") (vI (m_gi M u4 0)) ht6 rfl (by decide) in_J19 q709 (Or.inl rfl) rfl dJ8_putVal_177 ?_
      refine pw_iload_n X dJ8_putVal_180 rfl rfl ?_
      refine pw_icmp_ne X 212 dJ8_putVal_181 (by decide) (fun c7 => ?_) (fun c7 => ?_)
      · replace hw := hw.1 c7
        refine pw_aload X dJ8_putVal_212 rfl ?_
        refine pw_astore X [(0, vR (some la0)), (1, vI lx1), (2, vR (some la2)), (3, vR (some la3)), (4, vI lx4), (5, vI lx5), (6, vR lr6), (7, vR (some u4)), (12, vI lx12)] [1, 2, 3, 4, 5, 6, 7, 0, 9] dJ8_putVal_214 (by decide) rfl ?_
        refine pw_iinc X (lx12 + 1) [(0, vR (some la0)), (1, vI lx1), (2, vR (some la2)), (3, vR (some la3)), (4, vI lx4), (5, vI lx5), (6, vR lr6), (7, vR (some u4)), (12, vI (lx12 + 1))] [1, 2, 3, 4, 5, 6, 7, 8, 0] dJ8_putVal_216 rfl (by first | rfl | decide) (by decide) rfl ?_
        refine pw_goto X 134 dJ8_putVal_219 (by decide) ?_
        exact ih _ la0 lx1 la2 la3 lx4 lx5 lr6 u4 (lx12 + 1) hw
      · replace hw := hw.2 c7
        refine pw_aload X dJ8_putVal_184 rfl ?_
        obtain ⟨r8, hr9⟩ : ∃ z : Option Nat, z = (m_gr M u4 1) := ⟨_, rfl⟩
        replace hw := hw r8 hr9
        refine pw_get X (q := (RJ19, TJ19, tyJ19, 6)) (ci := 18) (k := 1) (ref := "java/util/HashMap$Node") (vR r8) ht6 rfl (by decide) in_J19 q715 (Or.inl rfl) (by rw [hr9]; rfl) dJ8_putVal_186 ?_
        refine pw_dup X dJ8_putVal_189 ?_
        refine pw_astore X [(0, vR (some la0)), (1, vI lx1), (2, vR (some la2)), (3, vR (some la3)), (4, vI lx4), (5, vI lx5), (6, vR lr6), (10, vR (some u4)), (11, vR r8), (12, vI lx12)] [1, 2, 3, 4, 5, 6, 7, 9, 0, 10] dJ8_putVal_190 (by decide) rfl ?_
        refine pw_aload_n X dJ8_putVal_192 rfl rfl ?_
        refine pw_acmp_eq X 222 dJ8_putVal_193 (by decide) (fun c10 => ?_) (fun c10 => ?_)
        · replace hw := hw.1 c10
          refine pw_lo [0, 3, 4, 5, 7] rfl ?_
          exact bk_J8_putValL_222 G C n0 s0 M0 Q X _ la0 la3 lx4 lx5 (some u4) hw
        · replace hw := hw.2 c10
          refine pw_aload_n X dJ8_putVal_196 rfl rfl ?_
          refine pw_ifnull X 212 dJ8_putVal_197 (by decide) (fun c => by cases c) (fun _ _ => ?_)
          refine pw_aload_n X dJ8_putVal_200 rfl rfl ?_
          refine pw_aload X dJ8_putVal_201 rfl ?_
          obtain ⟨u12, he13, hw⟩ := hw
          subst he13
          obtain ⟨ht14, hw⟩ := hw
          refine pw_runi X (m_cO X (owner := "java/lang/Object") (b := la2) (ci := 3) (q := (RX3, TX3, tyX3, 2)) (met_X3_equals G C.2.1 M la2 u12 _ hw) ht14 rfl (lw_app (lw_O q361 q363 q362 q365 q366 q91) (lw_meth q367)) q393 (by decide +kernel : m_nMHo "java/lang/Object" ⟨"java/lang/Object", "equals", "(Ljava/lang/Object;)Z"⟩ 1) ⟨Nat.le_of_ble_eq_true rfl, Nat.le_of_ble_eq_true rfl⟩ rfl (Nat.le_of_ble_eq_true rfl) dJ8_putVal_203) (fun r17 M15 hle16 hx => ?_)
          replace hw := hx hle16
          clear hx
          have ht18 : m_tg M15 la7 = 19 := m_le_tg hle16 ht1
          have ht19 : m_tg M15 u4 = 19 := m_le_tg hle16 ht6
          have ht20 : m_tg M15 la2 = 4 := m_le_tg hle16 ht14
          refine pw_if_eq X 212 dJ8_putVal_206 (by decide) (fun c21 => ?_) (fun c21 => ?_)
          · replace hw := hw.1 c21
            refine pw_aload X dJ8_putVal_212 rfl ?_
            refine pw_astore X [(0, vR (some la0)), (1, vI lx1), (2, vR (some la2)), (3, vR (some la3)), (4, vI lx4), (5, vI lx5), (6, vR lr6), (7, vR (some u4)), (12, vI lx12)] [1, 2, 3, 4, 5, 6, 7, 0, 10] dJ8_putVal_214 (by decide) rfl ?_
            refine pw_iinc X (lx12 + 1) [(0, vR (some la0)), (1, vI lx1), (2, vR (some la2)), (3, vR (some la3)), (4, vI lx4), (5, vI lx5), (6, vR lr6), (7, vR (some u4)), (12, vI (lx12 + 1))] [1, 2, 3, 4, 5, 6, 7, 8, 0] dJ8_putVal_216 rfl (by first | rfl | decide) (by decide) rfl ?_
            refine pw_goto X 134 dJ8_putVal_219 (by decide) ?_
            exact ih _ la0 lx1 la2 la3 lx4 lx5 lr6 u4 (lx12 + 1) hw
          · replace hw := hw.2 c21
            refine pw_goto X 222 dJ8_putVal_209 (by decide) ?_
            refine pw_lo [0, 3, 4, 5, 7] rfl ?_
            exact bk_J8_putValL_222 G C n0 s0 M0 Q X _ la0 la3 lx4 lx5 (some u4) hw
    · replace hw := hw.1 he5
      subst he5
      refine pw_aload X dJ8_putVal_145 rfl ?_
      refine pw_aload_n X dJ8_putVal_147 rfl rfl ?_
      refine pw_iload_n X dJ8_putVal_148 rfl rfl ?_
      refine pw_aload_n X dJ8_putVal_149 rfl rfl ?_
      refine pw_aload_n X dJ8_putVal_150 rfl rfl ?_
      refine pw_null X dJ8_putVal_151 ?_
      obtain ⟨ht22, hw⟩ := hw
      refine pw_runq X (m_cO X (owner := "java/util/HashMap") (b := la0) (ci := 16) (q := (RJ9, TJ9, tyJ9, 12)) (met_J9_newNodeL G C.2.1 M la0 lx1 la2 la3 none _ hw) ht22 rfl (lw_app (lw_O q770 q773 q771 q774 q775 q90) (lw_meth q776)) q781 (by decide +kernel : m_nMHo "java/util/HashMap" ⟨"java/util/HashMap", "newNode", "(ILjava/lang/Object;Ljava/lang/Object;Ljava/util/HashMap$Node;)Ljava/util/HashMap$Node;"⟩ 4) ⟨Nat.le_of_ble_eq_true rfl, Nat.le_of_ble_eq_true rfl⟩ rfl (Nat.le_of_ble_eq_true rfl) dJ8_putVal_152) (fun r25 M23 hle24 hx => ?_)
      replace hw := hx hle24
      clear hx
      have ht26 : m_tg M23 la7 = 19 := m_le_tg hle24 ht1
      have ht27 : m_tg M23 la0 = 17 := m_le_tg hle24 ht22
      obtain ⟨M28, hM29⟩ : ∃ z : Mem, z = (m_pr M23 la7 3 r25) := ⟨_, rfl⟩
      replace hw := hw M28 hM29
      refine pw_put X (q := (RJ19, TJ19, tyJ19, 6)) (ci := 18) (k := 3) (ref := "java/util/HashMap$Node") M28 hM29.symm ht26 rfl (by decide) in_J19 tyJ19_ok nmJ19 q725 (Or.inl rfl) rfl (m_kd_r (fun _ _ => rfl)) m_no m_fo dJ8_putVal_155 ?_
      have hle30 : m_le M23 M28 := by rw [hM29]; exact m_le_pr
      have ht31 : m_tg M28 la7 = 19 := m_le_tg hle30 ht26
      have ht32 : m_tg M28 la0 = 17 := m_le_tg hle30 ht27
      refine pw_iload X dJ8_putVal_158 rfl ?_
      refine pw_bipush X 7 dJ8_putVal_160 (by decide) ?_
      refine pw_icmp_lt X 222 dJ8_putVal_162 (by decide) (fun c33 => ?_) (fun c33 => ?_)
      · replace hw := hw.1 c33
        refine pw_lo [0, 3, 4, 5, 8] rfl ?_
        exact bk_J8_putValL_222 G C n0 s0 M0 Q X _ la0 la3 lx4 lx5 none hw
      · replace hw := hw.2 c33
        refine pw_aload_n X dJ8_putVal_165 rfl rfl ?_
        refine pw_aload X dJ8_putVal_166 rfl ?_
        refine pw_iload_n X dJ8_putVal_168 rfl rfl ?_
        exact hw.elim
theorem bk_J8_putValL_104 (G : Gp) (C : m_Cx) (n0 s0 : Nat) (M0 : Mem) (Q : Option Nat → Mem → Prop) (X : m_in G C RJ8 cJ8_putVal 13 (some (.object "java/lang/Object")) "putVal" 4 85 n0 s0) (M : Mem) (la0 : Nat) (lx1 : Int32) (la2 : Nat) (la3 : Nat) (lx4 : Int32) (lx5 : Int32) (lr6 : Option Nat) (la7 : Nat) (hw : wp_J8_putValL_b104 G.2 M la0 lx1 la2 la3 lx4 lx5 lr6 la7 Q) : pW G C 13 n0 s0 M0 (m_Q G C n0 s0 (va_Qq (m_q1 M0 Q) (m_W G) (m_A G))) M 104 [(0, vR (some la0)), (1, vI lx1), (2, vR (some la2)), (3, vR (some la3)), (4, vI lx4), (5, vI lx5), (6, vR lr6), (7, vR (some la7))] [] := by
  refine pw_aload X dJ8_putVal_104 rfl ?_
  obtain ⟨ht1, hw⟩ := hw
  refine pw_instNo X 18 (q := (RJ19, TJ19, tyJ19, 6)) (by decide) rfl ht1 q394 dJ8_putVal_106 ?_
  refine pw_if_eq X 131 dJ8_putVal_109 (by decide) (fun c => ?_) (fun c => ?_)
  rotate_left
  · exact absurd c (by decide)
  refine pw_iconst X 0 dJ8_putVal_131 (by decide) ?_
  refine pw_istore X [(0, vR (some la0)), (1, vI lx1), (2, vR (some la2)), (3, vR (some la3)), (4, vI lx4), (5, vI lx5), (6, vR lr6), (7, vR (some la7)), (12, vI 0)] [1, 2, 3, 4, 5, 6, 7, 8, 0] dJ8_putVal_132 (by decide) rfl ?_
  obtain ⟨n134, hw⟩ := hw
  exact bk_J8_putValL_134 G C n0 s0 M0 Q X n134 _ la0 lx1 la2 la3 lx4 lx5 lr6 la7 0 hw
theorem bk_J8_putValL_29 (G : Gp) (C : m_Cx) (n0 s0 : Nat) (M0 : Mem) (Q : Option Nat → Mem → Prop) (X : m_in G C RJ8 cJ8_putVal 13 (some (.object "java/lang/Object")) "putVal" 4 85 n0 s0) (M : Mem) (la0 : Nat) (lx1 : Int32) (la2 : Nat) (la3 : Nat) (lx4 : Int32) (lx5 : Int32) (lr6 : Option Nat) (lx8 : Int32) (hw : wp_J8_putValL_b29 G.2 M la0 lx1 la2 la3 lx4 lx5 lr6 lx8 Q) : pW G C 13 n0 s0 M0 (m_Q G C n0 s0 (va_Qq (m_q1 M0 Q) (m_W G) (m_A G))) M 29 [(0, vR (some la0)), (1, vI lx1), (2, vR (some la2)), (3, vR (some la3)), (4, vI lx4), (5, vI lx5), (6, vR lr6), (8, vI lx8)] [] := by
  refine pw_aload X dJ8_putVal_29 rfl ?_
  refine pw_iload X dJ8_putVal_31 rfl ?_
  refine pw_iconst X 1 dJ8_putVal_33 (by decide) ?_
  refine pw_isub X dJ8_putVal_34 ?_
  refine pw_iload_n X dJ8_putVal_35 rfl rfl ?_
  refine pw_iand X dJ8_putVal_36 ?_
  refine pw_dup X dJ8_putVal_37 ?_
  refine pw_istore X [(0, vR (some la0)), (1, vI lx1), (2, vR (some la2)), (3, vR (some la3)), (4, vI lx4), (5, vI lx5), (6, vR lr6), (9, vI ((lx8 - 1) &&& lx1))] [1, 2, 3, 4, 5, 6, 7, 0] dJ8_putVal_38 (by decide) rfl ?_
  obtain ⟨u1, he2, hw⟩ := hw
  subst he2
  obtain ⟨ht3, hw⟩ := hw
  obtain ⟨hi4, hw⟩ := hw
  obtain ⟨r5, hr6⟩ : ∃ z : Option Nat, z = (m_gr M u1 (Int32.toNatClampNeg ((lx8 - 1) &&& lx1))) := ⟨_, rfl⟩
  replace hw := hw r5 hr6
  refine pw_aald X (Or.inr (Or.inl ht3)) hi4 dJ8_putVal_40 ?_
  rw [← hr6]
  refine pw_dup X dJ8_putVal_41 ?_
  refine pw_astore X [(0, vR (some la0)), (1, vI lx1), (2, vR (some la2)), (3, vR (some la3)), (4, vI lx4), (5, vI lx5), (6, vR (some u1)), (7, vR r5), (9, vI ((lx8 - 1) &&& lx1))] [1, 2, 3, 4, 5, 6, 7, 0, 8] dJ8_putVal_42 (by decide) rfl ?_
  refine pw_ifnonnull X 63 dJ8_putVal_44 (by decide) (fun u7 he8 => ?_) (fun he8 => ?_)
  · replace hw := hw.2 u7 he8
    subst he8
    refine pw_aload X dJ8_putVal_63 rfl ?_
    obtain ⟨ht9, hw⟩ := hw
    refine pw_get X (q := (RJ19, TJ19, tyJ19, 6)) (ci := 18) (k := 0) (ref := "java/util/HashMap$Node") (vI (m_gi M u7 0)) ht9 rfl (by decide) in_J19 q709 (Or.inl rfl) rfl dJ8_putVal_65 ?_
    refine pw_iload_n X dJ8_putVal_68 rfl rfl ?_
    refine pw_icmp_ne X 104 dJ8_putVal_69 (by decide) (fun c10 => ?_) (fun c10 => ?_)
    · replace hw := hw.1 c10
      refine pw_lo [0, 1, 2, 3, 4, 5, 6, 7] rfl ?_
      exact bk_J8_putValL_104 G C n0 s0 M0 Q X _ la0 lx1 la2 la3 lx4 lx5 (some u1) u7 hw
    · replace hw := hw.2 c10
      refine pw_aload X dJ8_putVal_72 rfl ?_
      obtain ⟨r11, hr12⟩ : ∃ z : Option Nat, z = (m_gr M u7 1) := ⟨_, rfl⟩
      replace hw := hw r11 hr12
      refine pw_get X (q := (RJ19, TJ19, tyJ19, 6)) (ci := 18) (k := 1) (ref := "java/util/HashMap$Node") (vR r11) ht9 rfl (by decide) in_J19 q715 (Or.inl rfl) (by rw [hr12]; rfl) dJ8_putVal_74 ?_
      refine pw_dup X dJ8_putVal_77 ?_
      refine pw_astore X [(0, vR (some la0)), (1, vI lx1), (2, vR (some la2)), (3, vR (some la3)), (4, vI lx4), (5, vI lx5), (6, vR (some u1)), (7, vR (some u7)), (11, vR r11)] [1, 2, 3, 4, 5, 6, 7, 8, 0] dJ8_putVal_78 (by decide) rfl ?_
      refine pw_aload_n X dJ8_putVal_80 rfl rfl ?_
      refine pw_acmp_eq X 97 dJ8_putVal_81 (by decide) (fun c13 => ?_) (fun c13 => ?_)
      · replace hw := hw.1 c13
        refine pw_lo [0, 3, 4, 5, 7] rfl ?_
        exact bk_J8_putValL_97 G C n0 s0 M0 Q X _ la0 la3 lx4 lx5 u7 hw
      · replace hw := hw.2 c13
        refine pw_aload_n X dJ8_putVal_84 rfl rfl ?_
        refine pw_ifnull X 104 dJ8_putVal_85 (by decide) (fun c => by cases c) (fun _ _ => ?_)
        refine pw_aload_n X dJ8_putVal_88 rfl rfl ?_
        refine pw_aload X dJ8_putVal_89 rfl ?_
        obtain ⟨u15, he16, hw⟩ := hw
        subst he16
        obtain ⟨ht17, hw⟩ := hw
        refine pw_runi X (m_cO X (owner := "java/lang/Object") (b := la2) (ci := 3) (q := (RX3, TX3, tyX3, 2)) (met_X3_equals G C.2.1 M la2 u15 _ hw) ht17 rfl (lw_app (lw_O q361 q363 q362 q365 q366 q91) (lw_meth q367)) q393 (by decide +kernel : m_nMHo "java/lang/Object" ⟨"java/lang/Object", "equals", "(Ljava/lang/Object;)Z"⟩ 1) ⟨Nat.le_of_ble_eq_true rfl, Nat.le_of_ble_eq_true rfl⟩ rfl (Nat.le_of_ble_eq_true rfl) dJ8_putVal_91) (fun r20 M18 hle19 hx => ?_)
        replace hw := hx hle19
        clear hx
        have ht21 : m_tg M18 u1 = 104 := m_le_tg hle19 ht3
        have ht22 : m_tg M18 u7 = 19 := m_le_tg hle19 ht9
        have ht23 : m_tg M18 la2 = 4 := m_le_tg hle19 ht17
        refine pw_if_eq X 104 dJ8_putVal_94 (by decide) (fun c24 => ?_) (fun c24 => ?_)
        · replace hw := hw.1 c24
          refine pw_lo [0, 1, 2, 3, 4, 5, 6, 7] rfl ?_
          exact bk_J8_putValL_104 G C n0 s0 M0 Q X _ la0 lx1 la2 la3 lx4 lx5 (some u1) u7 hw
        · replace hw := hw.2 c24
          refine pw_lo [0, 3, 4, 5, 7] rfl ?_
          exact bk_J8_putValL_97 G C n0 s0 M0 Q X _ la0 la3 lx4 lx5 u7 hw
  · replace hw := hw.1 he8
    subst he8
    refine pw_aload X dJ8_putVal_47 rfl ?_
    refine pw_iload X dJ8_putVal_49 rfl ?_
    refine pw_aload_n X dJ8_putVal_51 rfl rfl ?_
    refine pw_iload_n X dJ8_putVal_52 rfl rfl ?_
    refine pw_aload_n X dJ8_putVal_53 rfl rfl ?_
    refine pw_aload_n X dJ8_putVal_54 rfl rfl ?_
    refine pw_null X dJ8_putVal_55 ?_
    obtain ⟨ht25, hw⟩ := hw
    refine pw_runq X (m_cO X (owner := "java/util/HashMap") (b := la0) (ci := 16) (q := (RJ9, TJ9, tyJ9, 12)) (met_J9_newNodeL G C.2.1 M la0 lx1 la2 la3 none _ hw) ht25 rfl (lw_app (lw_O q770 q773 q771 q774 q775 q90) (lw_meth q776)) q781 (by decide +kernel : m_nMHo "java/util/HashMap" ⟨"java/util/HashMap", "newNode", "(ILjava/lang/Object;Ljava/lang/Object;Ljava/util/HashMap$Node;)Ljava/util/HashMap$Node;"⟩ 4) ⟨Nat.le_of_ble_eq_true rfl, Nat.le_of_ble_eq_true rfl⟩ rfl (Nat.le_of_ble_eq_true rfl) dJ8_putVal_56) (fun r28 M26 hle27 hx => ?_)
    replace hw := hx hle27
    clear hx
    have ht29 : m_tg M26 u1 = 104 := m_le_tg hle27 ht3
    have ht30 : m_tg M26 la0 = 17 := m_le_tg hle27 ht25
    obtain ⟨hi31, hw⟩ := hw
    obtain ⟨hg35, hw⟩ := hw
    obtain ⟨M32, hM33⟩ : ∃ z : Mem, z = (m_pr M26 u1 (Int32.toNatClampNeg ((lx8 - 1) &&& lx1)) r28) := ⟨_, rfl⟩
    replace hw := hw M32 hM33
    have hle34 : m_le M26 M32 := by rw [hM33]; exact m_le_pr
    refine pw_aast X (E := "java/util/HashMap$Node") 3 (by decide) rfl ht29 hi31 hg35 dJ8_putVal_59 ?_
    rw [← hM33]
    have ht36 : m_tg M32 u1 = 104 := m_le_tg hle34 ht29
    have ht37 : m_tg M32 la0 = 17 := m_le_tg hle34 ht30
    refine pw_goto X 259 dJ8_putVal_60 (by decide) ?_
    refine pw_lo [0, 5] rfl ?_
    exact bk_J8_putValL_259 G C n0 s0 M0 Q X _ la0 lx5 hw
theorem bk_J8_putValL_19 (G : Gp) (C : m_Cx) (n0 s0 : Nat) (M0 : Mem) (Q : Option Nat → Mem → Prop) (X : m_in G C RJ8 cJ8_putVal 13 (some (.object "java/lang/Object")) "putVal" 4 85 n0 s0) (M : Mem) (la0 : Nat) (lx1 : Int32) (la2 : Nat) (la3 : Nat) (lx4 : Int32) (lx5 : Int32) (hw : wp_J8_putValL_b19 G.2 M la0 lx1 la2 la3 lx4 lx5 Q) : pW G C 13 n0 s0 M0 (m_Q G C n0 s0 (va_Qq (m_q1 M0 Q) (m_W G) (m_A G))) M 19 [(0, vR (some la0)), (1, vI lx1), (2, vR (some la2)), (3, vR (some la3)), (4, vI lx4), (5, vI lx5)] [] := by
  refine pw_aload_n X dJ8_putVal_19 rfl rfl ?_
  obtain ⟨ht1, hw⟩ := hw
  refine pw_runq X (m_cU X (owner := "java/util/HashMap") (b := la0) (ci := 16) (q := (RJ9, TJ9, tyJ9, 12)) (met_J8_resizeL G C.2.1 M la0 _ hw) ht1 rfl (lw_app (lw_U q667 q670 q671 q668 q89) (lw_meth q672)) rfl (by decide +kernel : m_nMHo "java/util/HashMap" ⟨"java/util/HashMap", "resize", "()[Ljava/util/HashMap$Node;"⟩ 0) ⟨Nat.le_of_ble_eq_true rfl, Nat.le_of_ble_eq_true rfl⟩ rfl (Nat.le_of_ble_eq_true rfl) dJ8_putVal_20) (fun r4 M2 hle3 hx => ?_)
  replace hw := hx hle3
  clear hx
  have ht5 : m_tg M2 la0 = 17 := m_le_tg hle3 ht1
  refine pw_dup X dJ8_putVal_23 ?_
  refine pw_astore X [(0, vR (some la0)), (1, vI lx1), (2, vR (some la2)), (3, vR (some la3)), (4, vI lx4), (5, vI lx5), (6, vR r4)] [1, 2, 3, 4, 5, 6, 0] dJ8_putVal_24 (by decide) rfl ?_
  obtain ⟨u6, he7, hw⟩ := hw
  subst he7
  obtain ⟨hA8, hw⟩ := hw
  refine pw_alen X hA8 dJ8_putVal_26 ?_
  refine pw_istore X [(0, vR (some la0)), (1, vI lx1), (2, vR (some la2)), (3, vR (some la3)), (4, vI lx4), (5, vI lx5), (6, vR (some u6)), (8, vI (nI (m_ln M2 u6)))] [1, 2, 3, 4, 5, 6, 7, 0] dJ8_putVal_27 (by decide) rfl ?_
  exact bk_J8_putValL_29 G C n0 s0 M0 Q X _ la0 lx1 la2 la3 lx4 lx5 (some u6) (nI (m_ln M2 u6)) hw
theorem bk_J8_putValL_0 (G : Gp) (C : m_Cx) (n0 s0 : Nat) (M0 : Mem) (Q : Option Nat → Mem → Prop) (X : m_in G C RJ8 cJ8_putVal 13 (some (.object "java/lang/Object")) "putVal" 4 85 n0 s0) (M : Mem) (a0 : Nat) (x1 : Int32) (a2 : Nat) (a3 : Nat) (x4 : Int32) (x5 : Int32) (hw : wp_J8_putValL G.2 M a0 x1 a2 a3 x4 x5 Q) : pW G C 13 n0 s0 M0 (m_Q G C n0 s0 (va_Qq (m_q1 M0 Q) (m_W G) (m_A G))) M 0 [(0, vR (some a0)), (1, vI x1), (2, vR (some a2)), (3, vR (some a3)), (4, vI x4), (5, vI x5)] [] := by
  refine pw_aload_n X dJ8_putVal_0 rfl rfl ?_
  obtain ⟨ht1, hw⟩ := hw
  obtain ⟨r2, hr3⟩ : ∃ z : Option Nat, z = (m_gr M a0 2) := ⟨_, rfl⟩
  replace hw := hw r2 hr3
  refine pw_get X (q := (RJ9, TJ9, tyJ9, 12)) (ci := 16) (k := 2) (ref := "java/util/HashMap") (vR r2) ht1 rfl (by decide) in_J9 q252 (Or.inl rfl) (by rw [hr3]; rfl) dJ8_putVal_1 ?_
  refine pw_dup X dJ8_putVal_4 ?_
  refine pw_astore X [(0, vR (some a0)), (1, vI x1), (2, vR (some a2)), (3, vR (some a3)), (4, vI x4), (5, vI x5), (6, vR r2)] [1, 2, 3, 4, 5, 6, 0] dJ8_putVal_5 (by decide) rfl ?_
  refine pw_ifnull X 19 dJ8_putVal_7 (by decide) (fun he5 => ?_) (fun u4 he5 => ?_)
  · replace hw := hw.1 he5
    subst he5
    refine pw_lo [0, 1, 2, 3, 4, 5] rfl ?_
    exact bk_J8_putValL_19 G C n0 s0 M0 Q X _ a0 x1 a2 a3 x4 x5 hw
  · replace hw := hw.2 u4 he5
    subst he5
    refine pw_aload X dJ8_putVal_10 rfl ?_
    obtain ⟨hA6, hw⟩ := hw
    refine pw_alen X hA6 dJ8_putVal_12 ?_
    refine pw_dup X dJ8_putVal_13 ?_
    refine pw_istore X [(0, vR (some a0)), (1, vI x1), (2, vR (some a2)), (3, vR (some a3)), (4, vI x4), (5, vI x5), (6, vR (some u4)), (8, vI (nI (m_ln M u4)))] [1, 2, 3, 4, 5, 6, 7, 0] dJ8_putVal_14 (by decide) rfl ?_
    refine pw_if_ne X 29 dJ8_putVal_16 (by decide) (fun c7 => ?_) (fun c7 => ?_)
    · replace hw := hw.1 c7
      exact bk_J8_putValL_29 G C n0 s0 M0 Q X _ a0 x1 a2 a3 x4 x5 (some u4) (nI (m_ln M u4)) hw
    · replace hw := hw.2 c7
      refine pw_lo [0, 1, 2, 3, 4, 5] rfl ?_
      exact bk_J8_putValL_19 G C n0 s0 M0 Q X _ a0 x1 a2 a3 x4 x5 hw
theorem met_J8_putValL (G : Gp) (l : Launch) (M : Mem) (a0 : Nat) (x1 : Int32) (a2 : Nat) (a3 : Nat) (x4 : Int32) (x5 : Int32) (Q : Option Nat → Mem → Prop) (hw : wp_J8_putValL G.2 M a0 x1 a2 a3 x4 x5 Q) : m_K G l yJ8_putVal cJ8_putVal 13 (some (.object "java/lang/Object")) 4 85 [vR (some a0), vI x1, vR (some a2), vR (some a3), vI x4, vI x5] M (va_Qq (m_q1 M Q) (m_W G) (m_A G)) := by
  refine m_met (by decide) (Nat.le_of_ble_eq_true rfl) (fun C e X => ?_)
  exact bk_J8_putValL_0 G C _ _ M Q X M a0 x1 a2 a3 x4 x5 hw
theorem nh_J8_putValL : m_nMH yJ8_putVal 5 := by decide +kernel

def wp_J8_putL (g : Nat → Nat) (M : Mem) (a0 : Nat) (a1 : Nat) (a2 : Nat) (Q : Option Nat → Mem → Prop) : Prop := wp_J8_hashL g M a1 (fun (r3 : Int32) (M1 : Mem) => m_le M M1 → m_tg M1 a0 = 17 ∧ wp_J8_putValL g M1 a0 r3 a1 a2 0 1 (fun (r7 : Option Nat) (M5 : Mem) => m_le M1 M5 → Q r7 M5))
theorem bk_J8_putL_0 (G : Gp) (C : m_Cx) (n0 s0 : Nat) (M0 : Mem) (Q : Option Nat → Mem → Prop) (X : m_in G C RJ8 cJ8_put 3 (some (.object "java/lang/Object")) "put" 5 117 n0 s0) (M : Mem) (a0 : Nat) (a1 : Nat) (a2 : Nat) (hw : wp_J8_putL G.2 M a0 a1 a2 Q) : pW G C 3 n0 s0 M0 (m_Q G C n0 s0 (va_Qq (m_q1 M0 Q) (m_W G) (m_A G))) M 0 [(0, vR (some a0)), (1, vR (some a1)), (2, vR (some a2))] [] := by
  refine pw_aload_n X dJ8_put_0 rfl rfl ?_
  refine pw_aload_n X dJ8_put_1 rfl rfl ?_
  refine pw_runi X (m_cS X (met_J8_hashL G C.2.1 M a1 _ hw) (lw_S q327 q328 q89 q329) nh_J8_hashL ⟨Nat.le_of_ble_eq_true rfl, Nat.le_of_ble_eq_true rfl⟩ rfl (Nat.le_of_ble_eq_true rfl) dJ8_put_2) (fun r3 M1 hle2 hx => ?_)
  replace hw := hx hle2
  clear hx
  refine pw_aload_n X dJ8_put_5 rfl rfl ?_
  refine pw_aload_n X dJ8_put_6 rfl rfl ?_
  refine pw_iconst X 0 dJ8_put_7 (by decide) ?_
  refine pw_iconst X 1 dJ8_put_8 (by decide) ?_
  obtain ⟨ht4, hw⟩ := hw
  refine pw_runq X (m_cU X (owner := "java/util/HashMap") (b := a0) (ci := 16) (q := (RJ9, TJ9, tyJ9, 12)) (met_J8_putValL G C.2.1 M1 a0 r3 a1 a2 0 1 _ hw) ht4 rfl (lw_app (lw_U q661 q664 q665 q662 q89) (lw_meth q666)) rfl (by decide +kernel : m_nMHo "java/util/HashMap" ⟨"java/util/HashMap", "putVal", "(ILjava/lang/Object;Ljava/lang/Object;ZZ)Ljava/lang/Object;"⟩ 5) ⟨Nat.le_of_ble_eq_true rfl, Nat.le_of_ble_eq_true rfl⟩ rfl (Nat.le_of_ble_eq_true rfl) dJ8_put_9) (fun r7 M5 hle6 hx => ?_)
  replace hw := hx hle6
  clear hx
  have ht8 : m_tg M5 a0 = 17 := m_le_tg hle6 ht4
  exact pw_aret X (Or.inl ⟨_, rfl⟩) hw dJ8_put_12
theorem met_J8_putL (G : Gp) (l : Launch) (M : Mem) (a0 : Nat) (a1 : Nat) (a2 : Nat) (Q : Option Nat → Mem → Prop) (hw : wp_J8_putL G.2 M a0 a1 a2 Q) : m_K G l yJ8_put cJ8_put 3 (some (.object "java/lang/Object")) 5 117 [vR (some a0), vR (some a1), vR (some a2)] M (va_Qq (m_q1 M Q) (m_W G) (m_A G)) := by
  refine m_met (by decide) (Nat.le_of_ble_eq_true rfl) (fun C e X => ?_)
  exact bk_J8_putL_0 G C _ _ M Q X M a0 a1 a2 hw
theorem nh_J8_putL : m_nMH yJ8_put 2 := by decide +kernel

def wp_J8_getNodeL_b137 (g : Nat → Nat) (k99 : Mem → Nat → Nat → Int32 → Prop) (M : Mem) (la1 : Nat) (la4 : Nat) (lx6 : Int32) (Q : Option Nat → Mem → Prop) : Prop := m_tg M la4 = 19 ∧ ∀ r2 : Option Nat, r2 = (m_gr M la4 3) → ((r2 = none → Q none M) ∧ (∀ u4 : Nat, r2 = some u4 → k99 M la1 u4 lx6))
def wp_J8_getNodeL_b99 (g : Nat → Nat) (Q : Option Nat → Mem → Prop) : Nat → Mem → Nat → Nat → Int32 → Prop
  | 0 => fun _ _ _ _ => False
  | n + 1 => fun M la1 la4 lx6 => m_tg M la4 = 19 ∧ ((¬ (m_gi M la4 0) = lx6 → wp_J8_getNodeL_b137 g (wp_J8_getNodeL_b99 g Q n) M la1 la4 lx6 Q) ∧ ((m_gi M la4 0) = lx6 → ∀ r3 : Option Nat, r3 = (m_gr M la4 1) → ((r3 = (some la1) → Q (some la4) M) ∧ (¬ r3 = (some la1) → ∃ u7 : Nat, r3 = some u7 ∧ m_tg M la1 = 4 ∧ wp_X3_equals g M la1 u7 (fun (r12 : Int32) (M10 : Mem) => m_le M M10 → ((r12 = 0 → wp_J8_getNodeL_b137 g (wp_J8_getNodeL_b99 g Q n) M10 la1 la4 lx6 Q) ∧ (¬ r12 = 0 → Q (some la4) M10)))))))
def wp_J8_getNodeL_b71 (g : Nat → Nat) (M : Mem) (la1 : Nat) (la3 : Nat) (lx6 : Int32) (Q : Option Nat → Mem → Prop) : Prop := m_tg M la3 = 19 ∧ ∀ r2 : Option Nat, r2 = (m_gr M la3 3) → ((r2 = none → Q none M) ∧ (∀ u4 : Nat, r2 = some u4 → ∃ j99 : Nat, wp_J8_getNodeL_b99 g Q j99 M la1 u4 lx6))
def wp_J8_getNodeL (g : Nat → Nat) (M : Mem) (a0 : Nat) (a1 : Nat) (Q : Option Nat → Mem → Prop) : Prop := m_tg M a0 = 17 ∧ ∀ r2 : Option Nat, r2 = (m_gr M a0 2) → ((r2 = none → Q none M) ∧ (∀ u4 : Nat, r2 = some u4 → m_isA M u4 ∧ (((nI (m_ln M u4)) ≤ 0 → Q none M) ∧ (¬ (nI (m_ln M u4)) ≤ 0 → wp_J8_hashL g M a1 (fun (r10 : Int32) (M8 : Mem) => m_le M M8 → m_tg M8 u4 = 104 ∧ vp_in (((nI (m_ln M u4)) - 1) &&& r10) (m_ln M8 u4) ∧ ∀ r14 : Option Nat, r14 = (m_gr M8 u4 (Int32.toNatClampNeg (((nI (m_ln M u4)) - 1) &&& r10))) → ((r14 = none → Q none M8) ∧ (∀ u16 : Nat, r14 = some u16 → m_tg M8 u16 = 19 ∧ ((¬ (m_gi M8 u16 0) = r10 → wp_J8_getNodeL_b71 g M8 a1 u16 r10 Q) ∧ ((m_gi M8 u16 0) = r10 → ∀ r20 : Option Nat, r20 = (m_gr M8 u16 1) → ((r20 = (some a1) → Q (some u16) M8) ∧ (¬ r20 = (some a1) → ∃ u24 : Nat, r20 = some u24 ∧ m_tg M8 a1 = 4 ∧ wp_X3_equals g M8 a1 u24 (fun (r29 : Int32) (M27 : Mem) => m_le M8 M27 → ((r29 = 0 → wp_J8_getNodeL_b71 g M27 a1 u16 r10 Q) ∧ (¬ r29 = 0 → Q (some u16) M27))))))))))))))
theorem bk_J8_getNodeL_137 (G : Gp) (C : m_Cx) (n0 s0 : Nat) (M0 : Mem) (Q : Option Nat → Mem → Prop) (X : m_in G C RJ8 cJ8_getNode 8 (some (.object "java/util/HashMap$Node")) "getNode" 2 41 n0 s0) (k99 : Mem → Nat → Nat → Int32 → Prop) (hk99 : ∀ (M : Mem) (la1 : Nat) (la4 : Nat) (lx6 : Int32), k99 M la1 la4 lx6 → pW G C 8 n0 s0 M0 (m_Q G C n0 s0 (va_Qq (m_q1 M0 Q) (m_W G) (m_A G))) M 99 [(1, vR (some la1)), (4, vR (some la4)), (6, vI lx6)] []) (M : Mem) (la1 : Nat) (la4 : Nat) (lx6 : Int32) (hw : wp_J8_getNodeL_b137 G.2 k99 M la1 la4 lx6 Q) : pW G C 8 n0 s0 M0 (m_Q G C n0 s0 (va_Qq (m_q1 M0 Q) (m_W G) (m_A G))) M 137 [(1, vR (some la1)), (4, vR (some la4)), (6, vI lx6)] [] := by
  refine pw_aload X dJ8_getNode_137 rfl ?_
  obtain ⟨ht1, hw⟩ := hw
  obtain ⟨r2, hr3⟩ : ∃ z : Option Nat, z = (m_gr M la4 3) := ⟨_, rfl⟩
  replace hw := hw r2 hr3
  refine pw_get X (q := (RJ19, TJ19, tyJ19, 6)) (ci := 18) (k := 3) (ref := "java/util/HashMap$Node") (vR r2) ht1 rfl (by decide) in_J19 q725 (Or.inl rfl) (by rw [hr3]; rfl) dJ8_getNode_139 ?_
  refine pw_dup X dJ8_getNode_142 ?_
  refine pw_astore X [(1, vR (some la1)), (4, vR r2), (6, vI lx6)] [1, 0, 2] dJ8_getNode_143 (by decide) rfl ?_
  refine pw_ifnonnull X 99 dJ8_getNode_145 (by decide) (fun u4 he5 => ?_) (fun he5 => ?_)
  · replace hw := hw.2 u4 he5
    subst he5
    exact hk99 _ la1 u4 lx6 hw
  · replace hw := hw.1 he5
    subst he5
    refine pw_null X dJ8_getNode_148 ?_
    exact pw_aret X (Or.inl ⟨_, rfl⟩) hw dJ8_getNode_149
theorem bk_J8_getNodeL_99 (G : Gp) (C : m_Cx) (n0 s0 : Nat) (M0 : Mem) (Q : Option Nat → Mem → Prop) (X : m_in G C RJ8 cJ8_getNode 8 (some (.object "java/util/HashMap$Node")) "getNode" 2 41 n0 s0) : ∀ (n : Nat) (M : Mem) (la1 : Nat) (la4 : Nat) (lx6 : Int32) (hw : wp_J8_getNodeL_b99 G.2 Q n M la1 la4 lx6), pW G C 8 n0 s0 M0 (m_Q G C n0 s0 (va_Qq (m_q1 M0 Q) (m_W G) (m_A G))) M 99 [(1, vR (some la1)), (4, vR (some la4)), (6, vI lx6)] [] := by
  intro n
  induction n with
  | zero => intro M la1 la4 lx6 hw; exact hw.elim
  | succ n ih =>
    intro M la1 la4 lx6 hw
    refine pw_aload X dJ8_getNode_99 rfl ?_
    obtain ⟨ht1, hw⟩ := hw
    refine pw_get X (q := (RJ19, TJ19, tyJ19, 6)) (ci := 18) (k := 0) (ref := "java/util/HashMap$Node") (vI (m_gi M la4 0)) ht1 rfl (by decide) in_J19 q709 (Or.inl rfl) rfl dJ8_getNode_101 ?_
    refine pw_iload X dJ8_getNode_104 rfl ?_
    refine pw_icmp_ne X 137 dJ8_getNode_106 (by decide) (fun c2 => ?_) (fun c2 => ?_)
    · replace hw := hw.1 c2
      exact bk_J8_getNodeL_137 G C n0 s0 M0 Q X (wp_J8_getNodeL_b99 G.2 Q n) ih _ la1 la4 lx6 hw
    · replace hw := hw.2 c2
      refine pw_aload X dJ8_getNode_109 rfl ?_
      obtain ⟨r3, hr4⟩ : ∃ z : Option Nat, z = (m_gr M la4 1) := ⟨_, rfl⟩
      replace hw := hw r3 hr4
      refine pw_get X (q := (RJ19, TJ19, tyJ19, 6)) (ci := 18) (k := 1) (ref := "java/util/HashMap$Node") (vR r3) ht1 rfl (by decide) in_J19 q715 (Or.inl rfl) (by rw [hr4]; rfl) dJ8_getNode_111 ?_
      refine pw_dup X dJ8_getNode_114 ?_
      refine pw_astore X [(1, vR (some la1)), (4, vR (some la4)), (6, vI lx6), (7, vR r3)] [1, 2, 3, 0] dJ8_getNode_115 (by decide) rfl ?_
      refine pw_aload_n X dJ8_getNode_117 rfl rfl ?_
      refine pw_acmp_eq X 134 dJ8_getNode_118 (by decide) (fun c5 => ?_) (fun c5 => ?_)
      · replace hw := hw.1 c5
        refine pw_aload X dJ8_getNode_134 rfl ?_
        exact pw_aret X (Or.inl ⟨_, rfl⟩) hw dJ8_getNode_136
      · replace hw := hw.2 c5
        refine pw_aload_n X dJ8_getNode_121 rfl rfl ?_
        refine pw_ifnull X 137 dJ8_getNode_122 (by decide) (fun c => by cases c) (fun _ _ => ?_)
        refine pw_aload_n X dJ8_getNode_125 rfl rfl ?_
        refine pw_aload X dJ8_getNode_126 rfl ?_
        obtain ⟨u7, he8, hw⟩ := hw
        subst he8
        obtain ⟨ht9, hw⟩ := hw
        refine pw_runi X (m_cO X (owner := "java/lang/Object") (b := la1) (ci := 3) (q := (RX3, TX3, tyX3, 2)) (met_X3_equals G C.2.1 M la1 u7 _ hw) ht9 rfl (lw_app (lw_O q361 q363 q362 q365 q366 q91) (lw_meth q367)) q393 (by decide +kernel : m_nMHo "java/lang/Object" ⟨"java/lang/Object", "equals", "(Ljava/lang/Object;)Z"⟩ 1) ⟨Nat.le_of_ble_eq_true rfl, Nat.le_of_ble_eq_true rfl⟩ rfl (Nat.le_of_ble_eq_true rfl) dJ8_getNode_128) (fun r12 M10 hle11 hx => ?_)
        replace hw := hx hle11
        clear hx
        have ht13 : m_tg M10 la4 = 19 := m_le_tg hle11 ht1
        have ht14 : m_tg M10 la1 = 4 := m_le_tg hle11 ht9
        refine pw_if_eq X 137 dJ8_getNode_131 (by decide) (fun c15 => ?_) (fun c15 => ?_)
        · replace hw := hw.1 c15
          refine pw_lo [0, 1, 2] rfl ?_
          exact bk_J8_getNodeL_137 G C n0 s0 M0 Q X (wp_J8_getNodeL_b99 G.2 Q n) ih _ la1 la4 lx6 hw
        · replace hw := hw.2 c15
          refine pw_aload X dJ8_getNode_134 rfl ?_
          exact pw_aret X (Or.inl ⟨_, rfl⟩) hw dJ8_getNode_136
theorem bk_J8_getNodeL_71 (G : Gp) (C : m_Cx) (n0 s0 : Nat) (M0 : Mem) (Q : Option Nat → Mem → Prop) (X : m_in G C RJ8 cJ8_getNode 8 (some (.object "java/util/HashMap$Node")) "getNode" 2 41 n0 s0) (M : Mem) (la1 : Nat) (la3 : Nat) (lx6 : Int32) (hw : wp_J8_getNodeL_b71 G.2 M la1 la3 lx6 Q) : pW G C 8 n0 s0 M0 (m_Q G C n0 s0 (va_Qq (m_q1 M0 Q) (m_W G) (m_A G))) M 71 [(1, vR (some la1)), (3, vR (some la3)), (6, vI lx6)] [] := by
  refine pw_aload_n X dJ8_getNode_71 rfl rfl ?_
  obtain ⟨ht1, hw⟩ := hw
  obtain ⟨r2, hr3⟩ : ∃ z : Option Nat, z = (m_gr M la3 3) := ⟨_, rfl⟩
  replace hw := hw r2 hr3
  refine pw_get X (q := (RJ19, TJ19, tyJ19, 6)) (ci := 18) (k := 3) (ref := "java/util/HashMap$Node") (vR r2) ht1 rfl (by decide) in_J19 q725 (Or.inl rfl) (by rw [hr3]; rfl) dJ8_getNode_72 ?_
  refine pw_dup X dJ8_getNode_75 ?_
  refine pw_astore X [(1, vR (some la1)), (3, vR (some la3)), (4, vR r2), (6, vI lx6)] [1, 2, 0, 3] dJ8_getNode_76 (by decide) rfl ?_
  refine pw_ifnull X 148 dJ8_getNode_78 (by decide) (fun he5 => ?_) (fun u4 he5 => ?_)
  · replace hw := hw.1 he5
    subst he5
    refine pw_null X dJ8_getNode_148 ?_
    exact pw_aret X (Or.inl ⟨_, rfl⟩) hw dJ8_getNode_149
  · replace hw := hw.2 u4 he5
    subst he5
    refine pw_aload_n X dJ8_getNode_81 rfl rfl ?_
    refine pw_instNo X 18 (q := (RJ19, TJ19, tyJ19, 6)) (by decide) rfl ht1 q394 dJ8_getNode_82 ?_
    refine pw_if_eq X 99 dJ8_getNode_85 (by decide) (fun c => ?_) (fun c => ?_)
    rotate_left
    · exact absurd c (by decide)
    refine pw_lo [0, 2, 3] rfl ?_
    obtain ⟨n99, hw⟩ := hw
    exact bk_J8_getNodeL_99 G C n0 s0 M0 Q X n99 _ la1 u4 lx6 hw
theorem bk_J8_getNodeL_0 (G : Gp) (C : m_Cx) (n0 s0 : Nat) (M0 : Mem) (Q : Option Nat → Mem → Prop) (X : m_in G C RJ8 cJ8_getNode 8 (some (.object "java/util/HashMap$Node")) "getNode" 2 41 n0 s0) (M : Mem) (a0 : Nat) (a1 : Nat) (hw : wp_J8_getNodeL G.2 M a0 a1 Q) : pW G C 8 n0 s0 M0 (m_Q G C n0 s0 (va_Qq (m_q1 M0 Q) (m_W G) (m_A G))) M 0 [(0, vR (some a0)), (1, vR (some a1))] [] := by
  refine pw_aload_n X dJ8_getNode_0 rfl rfl ?_
  obtain ⟨ht1, hw⟩ := hw
  obtain ⟨r2, hr3⟩ : ∃ z : Option Nat, z = (m_gr M a0 2) := ⟨_, rfl⟩
  replace hw := hw r2 hr3
  refine pw_get X (q := (RJ9, TJ9, tyJ9, 12)) (ci := 16) (k := 2) (ref := "java/util/HashMap") (vR r2) ht1 rfl (by decide) in_J9 q252 (Or.inl rfl) (by rw [hr3]; rfl) dJ8_getNode_1 ?_
  refine pw_dup X dJ8_getNode_4 ?_
  refine pw_astore_n X [(1, vR (some a1)), (2, vR r2)] [2, 0] dJ8_getNode_5 rfl (by decide) rfl ?_
  refine pw_ifnull X 148 dJ8_getNode_6 (by decide) (fun he5 => ?_) (fun u4 he5 => ?_)
  · replace hw := hw.1 he5
    subst he5
    refine pw_null X dJ8_getNode_148 ?_
    exact pw_aret X (Or.inl ⟨_, rfl⟩) hw dJ8_getNode_149
  · replace hw := hw.2 u4 he5
    subst he5
    refine pw_aload_n X dJ8_getNode_9 rfl rfl ?_
    obtain ⟨hA6, hw⟩ := hw
    refine pw_alen X hA6 dJ8_getNode_10 ?_
    refine pw_dup X dJ8_getNode_11 ?_
    refine pw_istore X [(1, vR (some a1)), (2, vR (some u4)), (5, vI (nI (m_ln M u4)))] [1, 2, 0] dJ8_getNode_12 (by decide) rfl ?_
    refine pw_if_le X 148 dJ8_getNode_14 (by decide) (fun c7 => ?_) (fun c7 => ?_)
    · replace hw := hw.1 c7
      refine pw_null X dJ8_getNode_148 ?_
      exact pw_aret X (Or.inl ⟨_, rfl⟩) hw dJ8_getNode_149
    · replace hw := hw.2 c7
      refine pw_aload_n X dJ8_getNode_17 rfl rfl ?_
      refine pw_iload X dJ8_getNode_18 rfl ?_
      refine pw_iconst X 1 dJ8_getNode_20 (by decide) ?_
      refine pw_isub X dJ8_getNode_21 ?_
      refine pw_aload_n X dJ8_getNode_22 rfl rfl ?_
      refine pw_runi X (m_cS X (met_J8_hashL G C.2.1 M a1 _ hw) (lw_S q327 q328 q89 q329) nh_J8_hashL ⟨Nat.le_of_ble_eq_true rfl, Nat.le_of_ble_eq_true rfl⟩ rfl (Nat.le_of_ble_eq_true rfl) dJ8_getNode_23) (fun r10 M8 hle9 hx => ?_)
      replace hw := hx hle9
      clear hx
      have ht11 : m_tg M8 a0 = 17 := m_le_tg hle9 ht1
      refine pw_dup X dJ8_getNode_26 ?_
      refine pw_istore X [(1, vR (some a1)), (6, vI r10)] [1, 0] dJ8_getNode_27 (by decide) rfl ?_
      refine pw_iand X dJ8_getNode_29 ?_
      obtain ⟨ht12, hw⟩ := hw
      obtain ⟨hi13, hw⟩ := hw
      obtain ⟨r14, hr15⟩ : ∃ z : Option Nat, z = (m_gr M8 u4 (Int32.toNatClampNeg (((nI (m_ln M u4)) - 1) &&& r10))) := ⟨_, rfl⟩
      replace hw := hw r14 hr15
      refine pw_aald X (Or.inr (Or.inl ht12)) hi13 dJ8_getNode_30 ?_
      rw [← hr15]
      refine pw_dup X dJ8_getNode_31 ?_
      refine pw_astore_n X [(1, vR (some a1)), (3, vR r14), (6, vI r10)] [1, 0, 2] dJ8_getNode_32 rfl (by decide) rfl ?_
      refine pw_ifnull X 148 dJ8_getNode_33 (by decide) (fun he17 => ?_) (fun u16 he17 => ?_)
      · replace hw := hw.1 he17
        subst he17
        refine pw_null X dJ8_getNode_148 ?_
        exact pw_aret X (Or.inl ⟨_, rfl⟩) hw dJ8_getNode_149
      · replace hw := hw.2 u16 he17
        subst he17
        refine pw_aload_n X dJ8_getNode_36 rfl rfl ?_
        obtain ⟨ht18, hw⟩ := hw
        refine pw_get X (q := (RJ19, TJ19, tyJ19, 6)) (ci := 18) (k := 0) (ref := "java/util/HashMap$Node") (vI (m_gi M8 u16 0)) ht18 rfl (by decide) in_J19 q709 (Or.inl rfl) rfl dJ8_getNode_37 ?_
        refine pw_iload X dJ8_getNode_40 rfl ?_
        refine pw_icmp_ne X 71 dJ8_getNode_42 (by decide) (fun c19 => ?_) (fun c19 => ?_)
        · replace hw := hw.1 c19
          exact bk_J8_getNodeL_71 G C n0 s0 M0 Q X _ a1 u16 r10 hw
        · replace hw := hw.2 c19
          refine pw_aload_n X dJ8_getNode_45 rfl rfl ?_
          obtain ⟨r20, hr21⟩ : ∃ z : Option Nat, z = (m_gr M8 u16 1) := ⟨_, rfl⟩
          replace hw := hw r20 hr21
          refine pw_get X (q := (RJ19, TJ19, tyJ19, 6)) (ci := 18) (k := 1) (ref := "java/util/HashMap$Node") (vR r20) ht18 rfl (by decide) in_J19 q715 (Or.inl rfl) (by rw [hr21]; rfl) dJ8_getNode_46 ?_
          refine pw_dup X dJ8_getNode_49 ?_
          refine pw_astore X [(1, vR (some a1)), (3, vR (some u16)), (6, vI r10), (7, vR r20)] [1, 2, 3, 0] dJ8_getNode_50 (by decide) rfl ?_
          refine pw_aload_n X dJ8_getNode_52 rfl rfl ?_
          refine pw_acmp_eq X 69 dJ8_getNode_53 (by decide) (fun c22 => ?_) (fun c22 => ?_)
          · replace hw := hw.1 c22
            refine pw_aload_n X dJ8_getNode_69 rfl rfl ?_
            exact pw_aret X (Or.inl ⟨_, rfl⟩) hw dJ8_getNode_70
          · replace hw := hw.2 c22
            refine pw_aload_n X dJ8_getNode_56 rfl rfl ?_
            refine pw_ifnull X 71 dJ8_getNode_57 (by decide) (fun c => by cases c) (fun _ _ => ?_)
            refine pw_aload_n X dJ8_getNode_60 rfl rfl ?_
            refine pw_aload X dJ8_getNode_61 rfl ?_
            obtain ⟨u24, he25, hw⟩ := hw
            subst he25
            obtain ⟨ht26, hw⟩ := hw
            refine pw_runi X (m_cO X (owner := "java/lang/Object") (b := a1) (ci := 3) (q := (RX3, TX3, tyX3, 2)) (met_X3_equals G C.2.1 M8 a1 u24 _ hw) ht26 rfl (lw_app (lw_O q361 q363 q362 q365 q366 q91) (lw_meth q367)) q393 (by decide +kernel : m_nMHo "java/lang/Object" ⟨"java/lang/Object", "equals", "(Ljava/lang/Object;)Z"⟩ 1) ⟨Nat.le_of_ble_eq_true rfl, Nat.le_of_ble_eq_true rfl⟩ rfl (Nat.le_of_ble_eq_true rfl) dJ8_getNode_63) (fun r29 M27 hle28 hx => ?_)
            replace hw := hx hle28
            clear hx
            have ht30 : m_tg M27 a0 = 17 := m_le_tg hle28 ht11
            have ht31 : m_tg M27 u4 = 104 := m_le_tg hle28 ht12
            have ht32 : m_tg M27 u16 = 19 := m_le_tg hle28 ht18
            have ht33 : m_tg M27 a1 = 4 := m_le_tg hle28 ht26
            refine pw_if_eq X 71 dJ8_getNode_66 (by decide) (fun c34 => ?_) (fun c34 => ?_)
            · replace hw := hw.1 c34
              refine pw_lo [0, 1, 2] rfl ?_
              exact bk_J8_getNodeL_71 G C n0 s0 M0 Q X _ a1 u16 r10 hw
            · replace hw := hw.2 c34
              refine pw_aload_n X dJ8_getNode_69 rfl rfl ?_
              exact pw_aret X (Or.inl ⟨_, rfl⟩) hw dJ8_getNode_70
theorem met_J8_getNodeL (G : Gp) (l : Launch) (M : Mem) (a0 : Nat) (a1 : Nat) (Q : Option Nat → Mem → Prop) (hw : wp_J8_getNodeL G.2 M a0 a1 Q) : m_K G l yJ8_getNode cJ8_getNode 8 (some (.object "java/util/HashMap$Node")) 2 41 [vR (some a0), vR (some a1)] M (va_Qq (m_q1 M Q) (m_W G) (m_A G)) := by
  refine m_met (by decide) (Nat.le_of_ble_eq_true rfl) (fun C e X => ?_)
  exact bk_J8_getNodeL_0 G C _ _ M Q X M a0 a1 hw
theorem nh_J8_getNodeL : m_nMH yJ8_getNode 1 := by decide +kernel

def wp_J8_sizeL (g : Nat → Nat) (M : Mem) (a0 : Nat) (Q : Int32 → Mem → Prop) : Prop := m_tg M a0 = 17 ∧ Q (m_gi M a0 4) M
theorem bk_J8_sizeL_0 (G : Gp) (C : m_Cx) (n0 s0 : Nat) (M0 : Mem) (Q : Int32 → Mem → Prop) (X : m_in G C RJ8 cJ8_size 1 (some .int) "size" 0 0 n0 s0) (M : Mem) (a0 : Nat) (hw : wp_J8_sizeL G.2 M a0 Q) : pW G C 1 n0 s0 M0 (m_Q G C n0 s0 (va_Qi (m_q1 M0 Q) (m_W G) (m_A G))) M 0 [(0, vR (some a0))] [] := by
  refine pw_aload_n X dJ8_size_0 rfl rfl ?_
  obtain ⟨ht1, hw⟩ := hw
  refine pw_get X (q := (RJ9, TJ9, tyJ9, 12)) (ci := 16) (k := 4) (ref := "java/util/HashMap") (vI (m_gi M a0 4)) ht1 rfl (by decide) in_J9 q253 (Or.inl rfl) rfl dJ8_size_1 ?_
  exact pw_iret X hw dJ8_size_4
theorem met_J8_sizeL (G : Gp) (l : Launch) (M : Mem) (a0 : Nat) (Q : Int32 → Mem → Prop) (hw : wp_J8_sizeL G.2 M a0 Q) : m_K G l yJ8_size cJ8_size 1 (some .int) 0 0 [vR (some a0)] M (va_Qi (m_q1 M Q) (m_W G) (m_A G)) := by
  refine m_met (by decide) (Nat.le_of_ble_eq_true rfl) (fun C e X => ?_)
  exact bk_J8_sizeL_0 G C _ _ M Q X M a0 hw
theorem nh_J8_sizeL : m_nMH yJ8_size 0 := by decide +kernel

def wp_J9_getL (g : Nat → Nat) (M : Mem) (a0 : Nat) (a1 : Nat) (Q : Option Nat → Mem → Prop) : Prop := m_tg M a0 = 17 ∧ wp_J8_getNodeL g M a0 a1 (fun (r4 : Option Nat) (M2 : Mem) => m_le M M2 → ((r4 = none → Q none M2) ∧ (∀ u6 : Nat, r4 = some u6 → (((m_gi M2 a0 10) = 0 → m_tg M2 u6 = 19 ∧ ∀ r10 : Option Nat, r10 = (m_gr M2 u6 2) → Q r10 M2) ∧ (¬ (m_gi M2 a0 10) = 0 → wp_J9_afterNodeAccessL g M2 a0 u6 (fun (M12 : Mem) => m_le M2 M12 → m_tg M12 u6 = 19 ∧ ∀ r16 : Option Nat, r16 = (m_gr M12 u6 2) → Q r16 M12))))))
theorem bk_J9_getL_0 (G : Gp) (C : m_Cx) (n0 s0 : Nat) (M0 : Mem) (Q : Option Nat → Mem → Prop) (X : m_in G C RJ9 cJ9_get 3 (some (.object "java/lang/Object")) "get" 3 68 n0 s0) (M : Mem) (a0 : Nat) (a1 : Nat) (hw : wp_J9_getL G.2 M a0 a1 Q) : pW G C 3 n0 s0 M0 (m_Q G C n0 s0 (va_Qq (m_q1 M0 Q) (m_W G) (m_A G))) M 0 [(0, vR (some a0)), (1, vR (some a1))] [] := by
  refine pw_aload_n X dJ9_get_0 rfl rfl ?_
  refine pw_aload_n X dJ9_get_1 rfl rfl ?_
  obtain ⟨ht1, hw⟩ := hw
  refine pw_runq X (m_cU X (owner := "java/util/HashMap") (b := a0) (ci := 16) (q := (RJ9, TJ9, tyJ9, 12)) (met_J8_getNodeL G C.2.1 M a0 a1 _ hw) ht1 rfl (lw_app (lw_U q642 q643 q645 q322 q89) (lw_meth q326)) rfl (by decide +kernel : m_nMHo "java/util/HashMap" ⟨"java/util/LinkedHashMap", "getNode", "(Ljava/lang/Object;)Ljava/util/HashMap$Node;"⟩ 1) ⟨Nat.le_of_ble_eq_true rfl, Nat.le_of_ble_eq_true rfl⟩ rfl (Nat.le_of_ble_eq_true rfl) dJ9_get_2) (fun r4 M2 hle3 hx => ?_)
  replace hw := hx hle3
  clear hx
  have ht5 : m_tg M2 a0 = 17 := m_le_tg hle3 ht1
  refine pw_dup X dJ9_get_5 ?_
  refine pw_astore_n X [(0, vR (some a0)), (2, vR r4)] [1, 0] dJ9_get_6 rfl (by decide) rfl ?_
  refine pw_ifnonnull X 12 dJ9_get_7 (by decide) (fun u6 he7 => ?_) (fun he7 => ?_)
  · replace hw := hw.2 u6 he7
    subst he7
    refine pw_aload_n X dJ9_get_12 rfl rfl ?_
    refine pw_get X (q := (RJ9, TJ9, tyJ9, 12)) (ci := 16) (k := 10) (ref := "java/util/LinkedHashMap") (vI (m_gi M2 a0 10)) ht5 rfl (by decide) in_J9 q250 (Or.inl rfl) rfl dJ9_get_13 ?_
    refine pw_if_eq X 24 dJ9_get_16 (by decide) (fun c8 => ?_) (fun c8 => ?_)
    · replace hw := hw.1 c8
      refine pw_aload_n X dJ9_get_24 rfl rfl ?_
      obtain ⟨ht9, hw⟩ := hw
      obtain ⟨r10, hr11⟩ : ∃ z : Option Nat, z = (m_gr M2 u6 2) := ⟨_, rfl⟩
      replace hw := hw r10 hr11
      refine pw_get X (q := (RJ19, TJ19, tyJ19, 6)) (ci := 18) (k := 2) (ref := "java/util/HashMap$Node") (vR r10) ht9 rfl (by decide) in_J19 q720 (Or.inl rfl) (by rw [hr11]; rfl) dJ9_get_25 ?_
      exact pw_aret X (Or.inl ⟨_, rfl⟩) hw dJ9_get_28
    · replace hw := hw.2 c8
      refine pw_aload_n X dJ9_get_19 rfl rfl ?_
      refine pw_aload_n X dJ9_get_20 rfl rfl ?_
      refine pw_runv X (m_cV X (b := a0) (ci := 16) (q := (RJ9, TJ9, tyJ9, 12)) (met_J9_afterNodeAccessL G C.2.1 M2 a0 u6 _ hw) ht5 rfl (lw_V q646 q647 q648 q90 q649) ⟨rfl, nh_J9_afterNodeAccessL⟩ ⟨Nat.le_of_ble_eq_true rfl, Nat.le_of_ble_eq_true rfl⟩ rfl (Nat.le_of_ble_eq_true rfl) dJ9_get_21) (fun M12 hle13 hx => ?_)
      replace hw := hx hle13
      clear hx
      have ht14 : m_tg M12 a0 = 17 := m_le_tg hle13 ht5
      refine pw_aload_n X dJ9_get_24 rfl rfl ?_
      obtain ⟨ht15, hw⟩ := hw
      obtain ⟨r16, hr17⟩ : ∃ z : Option Nat, z = (m_gr M12 u6 2) := ⟨_, rfl⟩
      replace hw := hw r16 hr17
      refine pw_get X (q := (RJ19, TJ19, tyJ19, 6)) (ci := 18) (k := 2) (ref := "java/util/HashMap$Node") (vR r16) ht15 rfl (by decide) in_J19 q720 (Or.inl rfl) (by rw [hr17]; rfl) dJ9_get_25 ?_
      exact pw_aret X (Or.inl ⟨_, rfl⟩) hw dJ9_get_28
  · replace hw := hw.1 he7
    subst he7
    refine pw_null X dJ9_get_10 ?_
    exact pw_aret X (Or.inl ⟨_, rfl⟩) hw dJ9_get_11
theorem met_J9_getL (G : Gp) (l : Launch) (M : Mem) (a0 : Nat) (a1 : Nat) (Q : Option Nat → Mem → Prop) (hw : wp_J9_getL G.2 M a0 a1 Q) : m_K G l yJ9_get cJ9_get 3 (some (.object "java/lang/Object")) 3 68 [vR (some a0), vR (some a1)] M (va_Qq (m_q1 M Q) (m_W G) (m_A G)) := by
  refine m_met (by decide) (Nat.le_of_ble_eq_true rfl) (fun C e X => ?_)
  exact bk_J9_getL_0 G C _ _ M Q X M a0 a1 hw
theorem nh_J9_getL : m_nMH yJ9_get 1 := by decide +kernel

def wp_J7_initH (g : Nat → Nat) (M : Mem) (a0 : Nat) (Q : Mem → Prop) : Prop := Q M
theorem bk_J7_initH_0 (G : Gp) (C : m_Cx) (n0 s0 : Nat) (M0 : Mem) (Q : Mem → Prop) (X : m_in G C RJ7 cJ7_init 1 none "<init>" 1 12 n0 s0) (M : Mem) (a0 : Nat) (hw : wp_J7_initH G.2 M a0 Q) : pW G C 1 n0 s0 M0 (m_Q G C n0 s0 (va_Qv (m_q0 M0 Q) (m_W G) (m_A G))) M 0 [(0, vR (some a0))] [] := by
  refine pw_aload_n X dJ7_init_0 rfl rfl ?_
  refine pw_objInit X rfl q246 q127 q128 dJ7_init_1 (Nat.le_of_ble_eq_true rfl) (Nat.le_of_ble_eq_true rfl) ?_
  exact pw_vret X hw dJ7_init_4
theorem met_J7_initH (G : Gp) (l : Launch) (M : Mem) (a0 : Nat) (Q : Mem → Prop) (hw : wp_J7_initH G.2 M a0 Q) : m_K G l yJ7_init cJ7_init 1 none 1 12 [vR (some a0)] M (va_Qv (m_q0 M Q) (m_W G) (m_A G)) := by
  refine m_met (by decide) (Nat.le_of_ble_eq_true rfl) (fun C e X => ?_)
  exact bk_J7_initH_0 G C _ _ M Q X M a0 hw
theorem nh_J7_initH : m_nMH yJ7_init 0 := by decide +kernel

def wp_J8_initH (g : Nat → Nat) (M : Mem) (a0 : Nat) (Q : Mem → Prop) : Prop := wp_J7_initH g M a0 (fun (M1 : Mem) => m_le M M1 → m_tg M1 a0 = 16 ∧ ∀ M4 : Mem, M4 = (m_pi M1 a0 7 (UInt32.toInt32 1061158912)) → Q M4)
theorem bk_J8_initH_0 (G : Gp) (C : m_Cx) (n0 s0 : Nat) (M0 : Mem) (Q : Mem → Prop) (X : m_in G C RJ8 cJ8_init 1 none "<init>" 2 32 n0 s0) (M : Mem) (a0 : Nat) (hw : wp_J8_initH G.2 M a0 Q) : pW G C 1 n0 s0 M0 (m_Q G C n0 s0 (va_Qv (m_q0 M0 Q) (m_W G) (m_A G))) M 0 [(0, vR (some a0))] [] := by
  refine pw_aload_n X dJ8_init_0 rfl rfl ?_
  refine pw_runv X (m_cI X (b := a0) (met_J7_initH G C.2.1 M a0 _ hw) q245 q88 q243 q244 rfl nh_J7_initH ⟨Nat.le_of_ble_eq_true rfl, Nat.le_of_ble_eq_true rfl⟩ rfl (Nat.le_of_ble_eq_true rfl) dJ8_init_1) (fun M1 hle2 hx => ?_)
  replace hw := hx hle2
  clear hx
  refine pw_aload_n X dJ8_init_4 rfl rfl ?_
  refine pw_ldcf X 1061158912 q247 dJ8_init_5 ?_
  obtain ⟨ht3, hw⟩ := hw
  obtain ⟨M4, hM5⟩ : ∃ z : Mem, z = (m_pi M1 a0 7 (UInt32.toInt32 1061158912)) := ⟨_, rfl⟩
  replace hw := hw M4 hM5
  refine pw_putF X (q := (RJ8, TJ8, tyJ8, 8)) (ci := 15) (k := 7) (ref := "java/util/HashMap") M4 hM5.symm ht3 rfl (by decide) in_J8 tyJ8_ok nmJ8 q258 (Or.inl rfl) rfl rfl rfl m_kd_f rfl rfl dJ8_init_7 ?_
  have hle6 : m_le M1 M4 := by rw [hM5]; exact m_le_pi
  have ht7 : m_tg M4 a0 = 16 := m_le_tg hle6 ht3
  exact pw_vret X hw dJ8_init_10
theorem met_J8_initH (G : Gp) (l : Launch) (M : Mem) (a0 : Nat) (Q : Mem → Prop) (hw : wp_J8_initH G.2 M a0 Q) : m_K G l yJ8_init cJ8_init 1 none 2 32 [vR (some a0)] M (va_Qv (m_q0 M Q) (m_W G) (m_A G)) := by
  refine m_met (by decide) (Nat.le_of_ble_eq_true rfl) (fun C e X => ?_)
  exact bk_J8_initH_0 G C _ _ M Q X M a0 hw
theorem nh_J8_initH : m_nMH yJ8_init 0 := by decide +kernel

def wp_J8_hashH (g : Nat → Nat) (M : Mem) (a0 : Nat) (Q : Int32 → Mem → Prop) : Prop := m_tg M a0 = 11 ∧ wp_X10_hashCode g M a0 (fun (r5 : Int32) (M3 : Mem) => m_le M M3 → Q (r5 ^^^ ((Int32.toUInt32 r5 >>> (Int32.toUInt32 16 &&& Int32.toUInt32 31)).toInt32)) M3)
theorem bk_J8_hashH_0 (G : Gp) (C : m_Cx) (n0 s0 : Nat) (M0 : Mem) (Q : Int32 → Mem → Prop) (X : m_in G C RJ8 cJ8_hash 2 (some .int) "hash" 1 20 n0 s0) (M : Mem) (a0 : Nat) (hw : wp_J8_hashH G.2 M a0 Q) : pW G C 2 n0 s0 M0 (m_Q G C n0 s0 (va_Qi (m_q1 M0 Q) (m_W G) (m_A G))) M 0 [(0, vR (some a0))] [] := by
  refine pw_aload_n X dJ8_hash_0 rfl rfl ?_
  refine pw_ifnonnull X 8 dJ8_hash_1 (by decide) (fun _ _ => ?_) (fun c => by cases c)
  refine pw_aload_n X dJ8_hash_8 rfl rfl ?_
  obtain ⟨ht2, hw⟩ := hw
  refine pw_runi X (m_cA X (owner := "java/lang/Object") (b := a0) (ci := 10) (q := (RX10, TX10, tyX10, 1)) (met_X10_hashCode G C.2.1 M a0 _ hw) ht2 rfl (lw_app (lw_U q331 q333 q345 q346 q118) (lw_meth q347)) q330 (by decide +kernel : m_nMHo "java/lang/Object" ⟨"java/lang/Object", "hashCode", "()I"⟩ 0) ⟨Nat.le_of_ble_eq_true rfl, Nat.le_of_ble_eq_true rfl⟩ rfl (Nat.le_of_ble_eq_true rfl) dJ8_hash_9) (fun r5 M3 hle4 hx => ?_)
  replace hw := hx hle4
  clear hx
  have ht6 : m_tg M3 a0 = 11 := m_le_tg hle4 ht2
  refine pw_dup X dJ8_hash_12 ?_
  refine pw_istore_n X [(1, vI r5)] [0] dJ8_hash_13 rfl (by decide) rfl ?_
  refine pw_iload_n X dJ8_hash_14 rfl rfl ?_
  refine pw_bipush X 16 dJ8_hash_15 (by decide) ?_
  refine pw_iushr X dJ8_hash_17 ?_
  refine pw_ixor X dJ8_hash_18 ?_
  exact pw_iret X hw dJ8_hash_19
theorem met_J8_hashH (G : Gp) (l : Launch) (M : Mem) (a0 : Nat) (Q : Int32 → Mem → Prop) (hw : wp_J8_hashH G.2 M a0 Q) : m_K G l yJ8_hash cJ8_hash 2 (some .int) 1 20 [vR (some a0)] M (va_Qi (m_q1 M Q) (m_W G) (m_A G)) := by
  refine m_met (by decide) (Nat.le_of_ble_eq_true rfl) (fun C e X => ?_)
  exact bk_J8_hashH_0 G C _ _ M Q X M a0 hw
theorem nh_J8_hashH : m_nMH yJ8_hash 1 := by decide +kernel

def wp_J18_initH (g : Nat → Nat) (M : Mem) (a0 : Nat) (x1 : Int32) (a2 : Nat) (a3 : Nat) (r4 : Option Nat) (Q : Mem → Prop) : Prop := m_tg M a0 = 18 ∧ ∀ M2 : Mem, M2 = (m_pi M a0 0 x1) → ∀ M6 : Mem, M6 = (m_pr M2 a0 1 (some a2)) → ∀ M10 : Mem, M10 = (m_pr M6 a0 2 (some a3)) → ∀ M14 : Mem, M14 = (m_pr M10 a0 3 r4) → Q M14
theorem bk_J18_initH_0 (G : Gp) (C : m_Cx) (n0 s0 : Nat) (M0 : Mem) (Q : Mem → Prop) (X : m_in G C RJ18 cJ18_init 5 none "<init>" 1 12 n0 s0) (M : Mem) (a0 : Nat) (x1 : Int32) (a2 : Nat) (a3 : Nat) (r4 : Option Nat) (hw : wp_J18_initH G.2 M a0 x1 a2 a3 r4 Q) : pW G C 5 n0 s0 M0 (m_Q G C n0 s0 (va_Qv (m_q0 M0 Q) (m_W G) (m_A G))) M 0 [(0, vR (some a0)), (1, vI x1), (2, vR (some a2)), (3, vR (some a3)), (4, vR r4)] [] := by
  refine pw_aload_n X dJ18_init_0 rfl rfl ?_
  refine pw_objInit X rfl q701 q127 q128 dJ18_init_1 (Nat.le_of_ble_eq_true rfl) (Nat.le_of_ble_eq_true rfl) ?_
  refine pw_aload_n X dJ18_init_4 rfl rfl ?_
  refine pw_iload_n X dJ18_init_5 rfl rfl ?_
  obtain ⟨ht1, hw⟩ := hw
  obtain ⟨M2, hM3⟩ : ∃ z : Mem, z = (m_pi M a0 0 x1) := ⟨_, rfl⟩
  replace hw := hw M2 hM3
  refine pw_putF X (q := (RJ18, TJ18, tyJ18, 4)) (ci := 17) (k := 0) (ref := "java/util/HashMap$Node") M2 hM3.symm ht1 rfl (by decide) in_J18 tyJ18_ok nmJ18 q704 (Or.inl rfl) rfl rfl rfl (m_kd_i (fun _ _ => rfl)) rfl rfl dJ18_init_6 ?_
  have hle4 : m_le M M2 := by rw [hM3]; exact m_le_pi
  have ht5 : m_tg M2 a0 = 18 := m_le_tg hle4 ht1
  refine pw_aload_n X dJ18_init_9 rfl rfl ?_
  refine pw_aload_n X dJ18_init_10 rfl rfl ?_
  obtain ⟨M6, hM7⟩ : ∃ z : Mem, z = (m_pr M2 a0 1 (some a2)) := ⟨_, rfl⟩
  replace hw := hw M6 hM7
  refine pw_putF X (q := (RJ18, TJ18, tyJ18, 4)) (ci := 17) (k := 1) (ref := "java/util/HashMap$Node") M6 hM7.symm ht5 rfl (by decide) in_J18 tyJ18_ok nmJ18 q710 (Or.inl rfl) rfl rfl rfl (m_kd_r (fun _ _ => rfl)) m_no m_fo dJ18_init_11 ?_
  have hle8 : m_le M2 M6 := by rw [hM7]; exact m_le_pr
  have ht9 : m_tg M6 a0 = 18 := m_le_tg hle8 ht5
  refine pw_aload_n X dJ18_init_14 rfl rfl ?_
  refine pw_aload_n X dJ18_init_15 rfl rfl ?_
  obtain ⟨M10, hM11⟩ : ∃ z : Mem, z = (m_pr M6 a0 2 (some a3)) := ⟨_, rfl⟩
  replace hw := hw M10 hM11
  refine pw_put X (q := (RJ18, TJ18, tyJ18, 4)) (ci := 17) (k := 2) (ref := "java/util/HashMap$Node") M10 hM11.symm ht9 rfl (by decide) in_J18 tyJ18_ok nmJ18 q716 (Or.inl rfl) rfl (m_kd_r (fun _ _ => rfl)) m_no m_fo dJ18_init_16 ?_
  have hle12 : m_le M6 M10 := by rw [hM11]; exact m_le_pr
  have ht13 : m_tg M10 a0 = 18 := m_le_tg hle12 ht9
  refine pw_aload_n X dJ18_init_19 rfl rfl ?_
  refine pw_aload X dJ18_init_20 rfl ?_
  obtain ⟨M14, hM15⟩ : ∃ z : Mem, z = (m_pr M10 a0 3 r4) := ⟨_, rfl⟩
  replace hw := hw M14 hM15
  refine pw_put X (q := (RJ18, TJ18, tyJ18, 4)) (ci := 17) (k := 3) (ref := "java/util/HashMap$Node") M14 hM15.symm ht13 rfl (by decide) in_J18 tyJ18_ok nmJ18 q721 (Or.inl rfl) rfl (m_kd_r (fun _ _ => rfl)) m_no m_fo dJ18_init_22 ?_
  have hle16 : m_le M10 M14 := by rw [hM15]; exact m_le_pr
  have ht17 : m_tg M14 a0 = 18 := m_le_tg hle16 ht13
  exact pw_vret X hw dJ18_init_25
theorem met_J18_initH (G : Gp) (l : Launch) (M : Mem) (a0 : Nat) (x1 : Int32) (a2 : Nat) (a3 : Nat) (r4 : Option Nat) (Q : Mem → Prop) (hw : wp_J18_initH G.2 M a0 x1 a2 a3 r4 Q) : m_K G l yJ18_init cJ18_init 5 none 1 12 [vR (some a0), vI x1, vR (some a2), vR (some a3), vR r4] M (va_Qv (m_q0 M Q) (m_W G) (m_A G)) := by
  refine m_met (by decide) (Nat.le_of_ble_eq_true rfl) (fun C e X => ?_)
  exact bk_J18_initH_0 G C _ _ M Q X M a0 x1 a2 a3 r4 hw
theorem nh_J18_initH : m_nMH yJ18_init 4 := by decide +kernel

def wp_J8_newNodeH (g : Nat → Nat) (M : Mem) (a0 : Nat) (x1 : Int32) (a2 : Nat) (a3 : Nat) (r4 : Option Nat) (Q : Option Nat → Mem → Prop) : Prop := m_fits M 4 ∧ ∀ u2 : Nat, m_tg M u2 = 0 → ∀ M4 : Mem, M4 = (m_al M u2 18 0 4) → wp_J18_initH g M4 u2 x1 a2 a3 r4 (fun (M8 : Mem) => m_le M4 M8 → Q (some u2) M8)
theorem bk_J8_newNodeH_0 (G : Gp) (C : m_Cx) (n0 s0 : Nat) (M0 : Mem) (Q : Option Nat → Mem → Prop) (X : m_in G C RJ8 cJ8_newNode 5 (some (.object "java/util/HashMap$Node")) "newNode" 2 36 n0 s0) (M : Mem) (a0 : Nat) (x1 : Int32) (a2 : Nat) (a3 : Nat) (r4 : Option Nat) (hw : wp_J8_newNodeH G.2 M a0 x1 a2 a3 r4 Q) : pW G C 5 n0 s0 M0 (m_Q G C n0 s0 (va_Qq (m_q1 M0 Q) (m_W G) (m_A G))) M 0 [(0, vR (some a0)), (1, vI x1), (2, vR (some a2)), (3, vR (some a3)), (4, vR r4)] [] := by
  obtain ⟨hf1, hw⟩ := hw
  refine pw_new X (ci := 17) (q := (RJ18, TJ18, tyJ18, 4)) hf1 rfl in_J18 tyJ18_ok q676 q745 q101 dJ8_newNode_0 (fun u2 h03 => ?_)
  obtain ⟨M4, hM5⟩ : ∃ z : Mem, z = (m_al M u2 18 0 4) := ⟨_, rfl⟩
  replace hw := hw u2 h03 M4 hM5
  have hle6 : m_le M M4 := by rw [hM5]; exact m_le_al h03
  change pW _ _ _ _ _ _ _ (m_al M u2 18 0 4) _ _ _
  rw [← hM5]
  have ht7 : m_tg M4 u2 = 18 := by rw [hM5, m_tg_al, if_pos rfl]
  refine pw_dup X dJ8_newNode_3 ?_
  refine pw_iload_n X dJ8_newNode_4 rfl rfl ?_
  refine pw_aload_n X dJ8_newNode_5 rfl rfl ?_
  refine pw_aload_n X dJ8_newNode_6 rfl rfl ?_
  refine pw_aload X dJ8_newNode_7 rfl ?_
  refine pw_runv X (m_cI X (b := u2) (met_J18_initH G C.2.1 M4 u2 x1 a2 a3 r4 _ hw) q700 q101 q746 q699 rfl nh_J18_initH ⟨Nat.le_of_ble_eq_true rfl, Nat.le_of_ble_eq_true rfl⟩ rfl (Nat.le_of_ble_eq_true rfl) dJ8_newNode_9) (fun M8 hle9 hx => ?_)
  replace hw := hx hle9
  clear hx
  have ht10 : m_tg M8 u2 = 18 := m_le_tg hle9 ht7
  exact pw_aret X (Or.inl ⟨_, rfl⟩) hw dJ8_newNode_12
theorem met_J8_newNodeH (G : Gp) (l : Launch) (M : Mem) (a0 : Nat) (x1 : Int32) (a2 : Nat) (a3 : Nat) (r4 : Option Nat) (Q : Option Nat → Mem → Prop) (hw : wp_J8_newNodeH G.2 M a0 x1 a2 a3 r4 Q) : m_K G l yJ8_newNode cJ8_newNode 5 (some (.object "java/util/HashMap$Node")) 2 36 [vR (some a0), vI x1, vR (some a2), vR (some a3), vR r4] M (va_Qq (m_q1 M Q) (m_W G) (m_A G)) := by
  refine m_met (by decide) (Nat.le_of_ble_eq_true rfl) (fun C e X => ?_)
  exact bk_J8_newNodeH_0 G C _ _ M Q X M a0 x1 a2 a3 r4 hw
theorem nh_J8_newNodeH : m_nMH yJ8_newNode 4 := by decide +kernel

def wp_J8_afterNodeInsertionH (g : Nat → Nat) (M : Mem) (a0 : Nat) (x1 : Int32) (Q : Mem → Prop) : Prop := Q M
theorem bk_J8_afterNodeInsertionH_0 (G : Gp) (C : m_Cx) (n0 s0 : Nat) (M0 : Mem) (Q : Mem → Prop) (X : m_in G C RJ8 cJ8_afterNodeInsertion 2 none "afterNodeInsertion" 0 0 n0 s0) (M : Mem) (a0 : Nat) (x1 : Int32) (hw : wp_J8_afterNodeInsertionH G.2 M a0 x1 Q) : pW G C 2 n0 s0 M0 (m_Q G C n0 s0 (va_Qv (m_q0 M0 Q) (m_W G) (m_A G))) M 0 [(0, vR (some a0)), (1, vI x1)] [] := by
  exact pw_vret X hw dJ8_afterNodeInsertion_0
theorem met_J8_afterNodeInsertionH (G : Gp) (l : Launch) (M : Mem) (a0 : Nat) (x1 : Int32) (Q : Mem → Prop) (hw : wp_J8_afterNodeInsertionH G.2 M a0 x1 Q) : m_K G l yJ8_afterNodeInsertion cJ8_afterNodeInsertion 2 none 0 0 [vR (some a0), vI x1] M (va_Qv (m_q0 M Q) (m_W G) (m_A G)) := by
  refine m_met (by decide) (Nat.le_of_ble_eq_true rfl) (fun C e X => ?_)
  exact bk_J8_afterNodeInsertionH_0 G C _ _ M Q X M a0 x1 hw
theorem nh_J8_afterNodeInsertionH : m_nMH yJ8_afterNodeInsertion 1 := by decide +kernel

def wp_J8_afterNodeAccessH (g : Nat → Nat) (M : Mem) (a0 : Nat) (a1 : Nat) (Q : Mem → Prop) : Prop := Q M
theorem bk_J8_afterNodeAccessH_0 (G : Gp) (C : m_Cx) (n0 s0 : Nat) (M0 : Mem) (Q : Mem → Prop) (X : m_in G C RJ8 cJ8_afterNodeAccess 2 none "afterNodeAccess" 0 0 n0 s0) (M : Mem) (a0 : Nat) (a1 : Nat) (hw : wp_J8_afterNodeAccessH G.2 M a0 a1 Q) : pW G C 2 n0 s0 M0 (m_Q G C n0 s0 (va_Qv (m_q0 M0 Q) (m_W G) (m_A G))) M 0 [(0, vR (some a0)), (1, vR (some a1))] [] := by
  exact pw_vret X hw dJ8_afterNodeAccess_0
theorem met_J8_afterNodeAccessH (G : Gp) (l : Launch) (M : Mem) (a0 : Nat) (a1 : Nat) (Q : Mem → Prop) (hw : wp_J8_afterNodeAccessH G.2 M a0 a1 Q) : m_K G l yJ8_afterNodeAccess cJ8_afterNodeAccess 2 none 0 0 [vR (some a0), vR (some a1)] M (va_Qv (m_q0 M Q) (m_W G) (m_A G)) := by
  refine m_met (by decide) (Nat.le_of_ble_eq_true rfl) (fun C e X => ?_)
  exact bk_J8_afterNodeAccessH_0 G C _ _ M Q X M a0 a1 hw
theorem nh_J8_afterNodeAccessH : m_nMH yJ8_afterNodeAccess 1 := by decide +kernel

def wp_J8_resizeH_b327 (g : Nat → Nat) (k151 : Mem → Nat → Nat → Int32 → Int32 → Nat → Int32 → Prop) (M : Mem) (la0 : Nat) (la1 : Nat) (lx2 : Int32) (lx4 : Int32) (la6 : Nat) (lx7 : Int32) (lr11 : Option Nat) (lr12 : Option Nat) (Q : Option Nat → Mem → Prop) : Prop := ((lr12 = none → k151 M la0 la1 lx2 lx4 la6 (lx7 + 1)) ∧ (∀ u1 : Nat, lr12 = some u1 → m_tg M u1 = 18 ∧ ∀ M4 : Mem, M4 = (m_pr M u1 3 none) → m_tg M4 la6 = 104 ∧ vp_in (lx7 + lx2) (m_ln M4 la6) ∧ (∀ y : Nat, lr11 = some y → m_asg M4 y "java/util/HashMap$Node") ∧ ∀ M10 : Mem, M10 = (m_pr M4 la6 (Int32.toNatClampNeg (lx7 + lx2)) lr11) → k151 M10 la0 la1 lx2 lx4 la6 (lx7 + 1)))
def wp_J8_resizeH_b301 (g : Nat → Nat) (k151 : Mem → Nat → Nat → Int32 → Int32 → Nat → Int32 → Prop) (k235 : Mem → Nat → Nat → Int32 → Int32 → Nat → Int32 → Nat → Option Nat → Option Nat → Option Nat → Option Nat → Prop) (M : Mem) (la0 : Nat) (la1 : Nat) (lx2 : Int32) (lx4 : Int32) (la6 : Nat) (lx7 : Int32) (lr9 : Option Nat) (lr10 : Option Nat) (lr11 : Option Nat) (lr12 : Option Nat) (lr13 : Option Nat) (Q : Option Nat → Mem → Prop) : Prop := ((lr13 = none → ((lr10 = none → wp_J8_resizeH_b327 g k151 M la0 la1 lx2 lx4 la6 lx7 lr11 lr12 Q) ∧ (∀ u3 : Nat, lr10 = some u3 → m_tg M u3 = 18 ∧ ∀ M6 : Mem, M6 = (m_pr M u3 3 none) → m_tg M6 la6 = 104 ∧ vp_in lx7 (m_ln M6 la6) ∧ (∀ y : Nat, lr9 = some y → m_asg M6 y "java/util/HashMap$Node") ∧ ∀ M12 : Mem, M12 = (m_pr M6 la6 (Int32.toNatClampNeg lx7) lr9) → wp_J8_resizeH_b327 g k151 M12 la0 la1 lx2 lx4 la6 lx7 lr11 lr12 Q))) ∧ (∀ u1 : Nat, lr13 = some u1 → k235 M la0 la1 lx2 lx4 la6 lx7 u1 lr9 lr10 lr11 lr12))
def wp_J8_resizeH_b271 (g : Nat → Nat) (k151 : Mem → Nat → Nat → Int32 → Int32 → Nat → Int32 → Prop) (k235 : Mem → Nat → Nat → Int32 → Int32 → Nat → Int32 → Nat → Option Nat → Option Nat → Option Nat → Option Nat → Prop) (M : Mem) (la0 : Nat) (la1 : Nat) (lx2 : Int32) (lx4 : Int32) (la6 : Nat) (lx7 : Int32) (la8 : Nat) (lr9 : Option Nat) (lr11 : Option Nat) (lr12 : Option Nat) (lr13 : Option Nat) (Q : Option Nat → Mem → Prop) : Prop := wp_J8_resizeH_b301 g k151 k235 M la0 la1 lx2 lx4 la6 lx7 lr9 (some la8) lr11 lr12 lr13 Q
def wp_J8_resizeH_b297 (g : Nat → Nat) (k151 : Mem → Nat → Nat → Int32 → Int32 → Nat → Int32 → Prop) (k235 : Mem → Nat → Nat → Int32 → Int32 → Nat → Int32 → Nat → Option Nat → Option Nat → Option Nat → Option Nat → Prop) (M : Mem) (la0 : Nat) (la1 : Nat) (lx2 : Int32) (lx4 : Int32) (la6 : Nat) (lx7 : Int32) (la8 : Nat) (lr9 : Option Nat) (lr10 : Option Nat) (lr11 : Option Nat) (lr13 : Option Nat) (Q : Option Nat → Mem → Prop) : Prop := wp_J8_resizeH_b301 g k151 k235 M la0 la1 lx2 lx4 la6 lx7 lr9 lr10 lr11 (some la8) lr13 Q
def wp_J8_resizeH_b235 (g : Nat → Nat) (k151 : Mem → Nat → Nat → Int32 → Int32 → Nat → Int32 → Prop) (Q : Option Nat → Mem → Prop) : Nat → Mem → Nat → Nat → Int32 → Int32 → Nat → Int32 → Nat → Option Nat → Option Nat → Option Nat → Option Nat → Prop
  | 0 => fun _ _ _ _ _ _ _ _ _ _ _ _ => False
  | n + 1 => fun M la0 la1 lx2 lx4 la6 lx7 la8 lr9 lr10 lr11 lr12 => m_tg M la8 = 18 ∧ ∀ r2 : Option Nat, r2 = (m_gr M la8 3) → ((¬ ((m_gi M la8 0) &&& lx2) = 0 → ((lr12 = none → wp_J8_resizeH_b297 g k151 (wp_J8_resizeH_b235 g k151 Q n) M la0 la1 lx2 lx4 la6 lx7 la8 lr9 lr10 (some la8) r2 Q) ∧ (∀ u5 : Nat, lr12 = some u5 → m_tg M u5 = 18 ∧ ∀ M8 : Mem, M8 = (m_pr M u5 3 (some la8)) → wp_J8_resizeH_b297 g k151 (wp_J8_resizeH_b235 g k151 Q n) M8 la0 la1 lx2 lx4 la6 lx7 la8 lr9 lr10 lr11 r2 Q))) ∧ (((m_gi M la8 0) &&& lx2) = 0 → ((lr10 = none → wp_J8_resizeH_b271 g k151 (wp_J8_resizeH_b235 g k151 Q n) M la0 la1 lx2 lx4 la6 lx7 la8 (some la8) lr11 lr12 r2 Q) ∧ (∀ u13 : Nat, lr10 = some u13 → m_tg M u13 = 18 ∧ ∀ M16 : Mem, M16 = (m_pr M u13 3 (some la8)) → wp_J8_resizeH_b271 g k151 (wp_J8_resizeH_b235 g k151 Q n) M16 la0 la1 lx2 lx4 la6 lx7 la8 lr9 lr11 lr12 r2 Q))))
def wp_J8_resizeH_b151 (g : Nat → Nat) (Q : Option Nat → Mem → Prop) : Nat → Mem → Nat → Nat → Int32 → Int32 → Nat → Int32 → Prop
  | 0 => fun _ _ _ _ _ _ _ => False
  | n + 1 => fun M la0 la1 lx2 lx4 la6 lx7 => ((lx2 ≤ lx7 → Q (some la6) M) ∧ (¬ lx2 ≤ lx7 → m_tg M la1 = 104 ∧ vp_in lx7 (m_ln M la1) ∧ ∀ r4 : Option Nat, r4 = (m_gr M la1 (Int32.toNatClampNeg lx7)) → ((r4 = none → wp_J8_resizeH_b151 g Q n M la0 la1 lx2 lx4 la6 (lx7 + 1)) ∧ (∀ u6 : Nat, r4 = some u6 → vp_in lx7 (m_ln M la1) ∧ ∀ M9 : Mem, M9 = (m_pr M la1 (Int32.toNatClampNeg lx7) none) → m_tg M9 u6 = 18 ∧ ∀ r14 : Option Nat, r14 = (m_gr M9 u6 3) → ((r14 = none → m_tg M9 la6 = 104 ∧ vp_in ((m_gi M9 u6 0) &&& (lx4 - 1)) (m_ln M9 la6) ∧ (∀ y : Nat, (some u6) = some y → m_asg M9 y "java/util/HashMap$Node") ∧ ∀ M20 : Mem, M20 = (m_pr M9 la6 (Int32.toNatClampNeg ((m_gi M9 u6 0) &&& (lx4 - 1))) (some u6)) → wp_J8_resizeH_b151 g Q n M20 la0 la1 lx2 lx4 la6 (lx7 + 1)) ∧ (∀ u16 : Nat, r14 = some u16 → ∃ j235 : Nat, wp_J8_resizeH_b235 g (wp_J8_resizeH_b151 g Q n) Q j235 M9 la0 la1 lx2 lx4 la6 lx7 u6 none none none none))))))
def wp_J8_resizeH_b85 (g : Nat → Nat) (M : Mem) (la0 : Nat) (lr1 : Option Nat) (lx2 : Int32) (lx4 : Int32) (lx5 : Int32) (Q : Option Nat → Mem → Prop) : Prop := ((¬ lx5 = 0 → m_tg M la0 = 16 ∧ ∀ M3 : Mem, M3 = (m_pi M la0 6 lx5) → ¬ (lx4 : Int32) < 0 ∧ m_fits M3 (Int32.toNatClampNeg lx4) ∧ ∀ u9 : Nat, m_tg M3 u9 = 0 → ∀ M11 : Mem, M11 = (m_al M3 u9 104 (Int32.toNatClampNeg lx4) (Int32.toNatClampNeg lx4)) → ∀ M16 : Mem, M16 = (m_pr M11 la0 2 (some u9)) → ((lr1 = none → Q (some u9) M16) ∧ (∀ u21 : Nat, lr1 = some u21 → ∃ j151 : Nat, wp_J8_resizeH_b151 g Q j151 M16 la0 u21 lx2 lx4 u9 0))) ∧ (lx5 = 0 → False))
def wp_J8_resizeH_b15 (g : Nat → Nat) (M : Mem) (la0 : Nat) (lr1 : Option Nat) (sx0 : Int32) (Q : Option Nat → Mem → Prop) : Prop := m_tg M la0 = 16 ∧ ((sx0 ≤ 0 → (((m_gi M la0 6) ≤ 0 → wp_J8_resizeH_b85 g M la0 lr1 sx0 16 12 Q) ∧ (¬ (m_gi M la0 6) ≤ 0 → wp_J8_resizeH_b85 g M la0 lr1 sx0 (m_gi M la0 6) 0 Q))) ∧ (¬ sx0 ≤ 0 → ((sx0 < 1073741824 → ((1073741824 ≤ ((sx0 : Int32) <<< ((1 : Int32) &&& 31)) → wp_J8_resizeH_b85 g M la0 lr1 sx0 ((sx0 : Int32) <<< ((1 : Int32) &&& 31)) 0 Q) ∧ (¬ 1073741824 ≤ ((sx0 : Int32) <<< ((1 : Int32) &&& 31)) → ((sx0 < 16 → wp_J8_resizeH_b85 g M la0 lr1 sx0 ((sx0 : Int32) <<< ((1 : Int32) &&& 31)) 0 Q) ∧ (¬ sx0 < 16 → wp_J8_resizeH_b85 g M la0 lr1 sx0 ((sx0 : Int32) <<< ((1 : Int32) &&& 31)) (((m_gi M la0 6) : Int32) <<< ((1 : Int32) &&& 31)) Q))))) ∧ (¬ sx0 < 1073741824 → ∀ M7 : Mem, M7 = (m_pi M la0 6 2147483647) → Q lr1 M7))))
def wp_J8_resizeH (g : Nat → Nat) (M : Mem) (a0 : Nat) (Q : Option Nat → Mem → Prop) : Prop := m_tg M a0 = 16 ∧ ∀ r2 : Option Nat, r2 = (m_gr M a0 2) → ((r2 = none → wp_J8_resizeH_b15 g M a0 none 0 Q) ∧ (∀ u4 : Nat, r2 = some u4 → m_isA M u4 ∧ wp_J8_resizeH_b15 g M a0 (some u4) (nI (m_ln M u4)) Q))
theorem bk_J8_resizeH_327 (G : Gp) (C : m_Cx) (n0 s0 : Nat) (M0 : Mem) (Q : Option Nat → Mem → Prop) (X : m_in G C RJ8 cJ8_resize 14 (some (.array (.object "java/util/HashMap$Node"))) "resize" 0 0 n0 s0) (k151 : Mem → Nat → Nat → Int32 → Int32 → Nat → Int32 → Prop) (hk151 : ∀ (M : Mem) (la0 : Nat) (la1 : Nat) (lx2 : Int32) (lx4 : Int32) (la6 : Nat) (lx7 : Int32), k151 M la0 la1 lx2 lx4 la6 lx7 → pW G C 14 n0 s0 M0 (m_Q G C n0 s0 (va_Qq (m_q1 M0 Q) (m_W G) (m_A G))) M 151 [(0, vR (some la0)), (1, vR (some la1)), (2, vI lx2), (4, vI lx4), (6, vR (some la6)), (7, vI lx7)] []) (M : Mem) (la0 : Nat) (la1 : Nat) (lx2 : Int32) (lx4 : Int32) (la6 : Nat) (lx7 : Int32) (lr11 : Option Nat) (lr12 : Option Nat) (hw : wp_J8_resizeH_b327 G.2 k151 M la0 la1 lx2 lx4 la6 lx7 lr11 lr12 Q) : pW G C 14 n0 s0 M0 (m_Q G C n0 s0 (va_Qq (m_q1 M0 Q) (m_W G) (m_A G))) M 327 [(0, vR (some la0)), (1, vR (some la1)), (2, vI lx2), (4, vI lx4), (6, vR (some la6)), (7, vI lx7), (11, vR lr11), (12, vR lr12)] [] := by
  refine pw_aload X dJ8_resize_327 rfl ?_
  refine pw_ifnull X 347 dJ8_resize_329 (by decide) (fun he2 => ?_) (fun u1 he2 => ?_)
  · replace hw := hw.1 he2
    subst he2
    refine pw_iinc X (lx7 + 1) [(0, vR (some la0)), (1, vR (some la1)), (2, vI lx2), (4, vI lx4), (6, vR (some la6)), (7, vI (lx7 + 1))] [1, 2, 3, 4, 5, 0] dJ8_resize_347 rfl (by first | rfl | decide) (by decide) rfl ?_
    refine pw_goto X 151 dJ8_resize_350 (by decide) ?_
    exact hk151 _ la0 la1 lx2 lx4 la6 (lx7 + 1) hw
  · replace hw := hw.2 u1 he2
    subst he2
    refine pw_aload X dJ8_resize_332 rfl ?_
    refine pw_null X dJ8_resize_334 ?_
    obtain ⟨ht3, hw⟩ := hw
    obtain ⟨M4, hM5⟩ : ∃ z : Mem, z = (m_pr M u1 3 none) := ⟨_, rfl⟩
    replace hw := hw M4 hM5
    refine pw_put X (q := (RJ18, TJ18, tyJ18, 4)) (ci := 17) (k := 3) (ref := "java/util/HashMap$Node") M4 hM5.symm ht3 rfl (by decide) in_J18 tyJ18_ok nmJ18 q725 (Or.inl rfl) rfl (m_kd_r (fun _ _ => rfl)) m_no m_fo dJ8_resize_335 ?_
    have hle6 : m_le M M4 := by rw [hM5]; exact m_le_pr
    have ht7 : m_tg M4 u1 = 18 := m_le_tg hle6 ht3
    refine pw_aload X dJ8_resize_338 rfl ?_
    refine pw_iload X dJ8_resize_340 rfl ?_
    refine pw_iload_n X dJ8_resize_342 rfl rfl ?_
    refine pw_iadd X dJ8_resize_343 ?_
    refine pw_aload X dJ8_resize_344 rfl ?_
    obtain ⟨ht8, hw⟩ := hw
    obtain ⟨hi9, hw⟩ := hw
    obtain ⟨hg13, hw⟩ := hw
    obtain ⟨M10, hM11⟩ : ∃ z : Mem, z = (m_pr M4 la6 (Int32.toNatClampNeg (lx7 + lx2)) lr11) := ⟨_, rfl⟩
    replace hw := hw M10 hM11
    have hle12 : m_le M4 M10 := by rw [hM11]; exact m_le_pr
    refine pw_aast X (E := "java/util/HashMap$Node") 3 (by decide) rfl ht8 hi9 hg13 dJ8_resize_346 ?_
    rw [← hM11]
    have ht14 : m_tg M10 u1 = 18 := m_le_tg hle12 ht7
    have ht15 : m_tg M10 la6 = 104 := m_le_tg hle12 ht8
    refine pw_iinc X (lx7 + 1) [(0, vR (some la0)), (1, vR (some la1)), (2, vI lx2), (4, vI lx4), (6, vR (some la6)), (7, vI (lx7 + 1))] [1, 2, 3, 4, 5, 0] dJ8_resize_347 rfl (by first | rfl | decide) (by decide) rfl ?_
    refine pw_goto X 151 dJ8_resize_350 (by decide) ?_
    exact hk151 _ la0 la1 lx2 lx4 la6 (lx7 + 1) hw
theorem bk_J8_resizeH_301 (G : Gp) (C : m_Cx) (n0 s0 : Nat) (M0 : Mem) (Q : Option Nat → Mem → Prop) (X : m_in G C RJ8 cJ8_resize 14 (some (.array (.object "java/util/HashMap$Node"))) "resize" 0 0 n0 s0) (k151 : Mem → Nat → Nat → Int32 → Int32 → Nat → Int32 → Prop) (k235 : Mem → Nat → Nat → Int32 → Int32 → Nat → Int32 → Nat → Option Nat → Option Nat → Option Nat → Option Nat → Prop) (hk151 : ∀ (M : Mem) (la0 : Nat) (la1 : Nat) (lx2 : Int32) (lx4 : Int32) (la6 : Nat) (lx7 : Int32), k151 M la0 la1 lx2 lx4 la6 lx7 → pW G C 14 n0 s0 M0 (m_Q G C n0 s0 (va_Qq (m_q1 M0 Q) (m_W G) (m_A G))) M 151 [(0, vR (some la0)), (1, vR (some la1)), (2, vI lx2), (4, vI lx4), (6, vR (some la6)), (7, vI lx7)] []) (hk235 : ∀ (M : Mem) (la0 : Nat) (la1 : Nat) (lx2 : Int32) (lx4 : Int32) (la6 : Nat) (lx7 : Int32) (la8 : Nat) (lr9 : Option Nat) (lr10 : Option Nat) (lr11 : Option Nat) (lr12 : Option Nat), k235 M la0 la1 lx2 lx4 la6 lx7 la8 lr9 lr10 lr11 lr12 → pW G C 14 n0 s0 M0 (m_Q G C n0 s0 (va_Qq (m_q1 M0 Q) (m_W G) (m_A G))) M 235 [(0, vR (some la0)), (1, vR (some la1)), (2, vI lx2), (4, vI lx4), (6, vR (some la6)), (7, vI lx7), (8, vR (some la8)), (9, vR lr9), (10, vR lr10), (11, vR lr11), (12, vR lr12)] []) (M : Mem) (la0 : Nat) (la1 : Nat) (lx2 : Int32) (lx4 : Int32) (la6 : Nat) (lx7 : Int32) (lr9 : Option Nat) (lr10 : Option Nat) (lr11 : Option Nat) (lr12 : Option Nat) (lr13 : Option Nat) (hw : wp_J8_resizeH_b301 G.2 k151 k235 M la0 la1 lx2 lx4 la6 lx7 lr9 lr10 lr11 lr12 lr13 Q) : pW G C 14 n0 s0 M0 (m_Q G C n0 s0 (va_Qq (m_q1 M0 Q) (m_W G) (m_A G))) M 301 [(0, vR (some la0)), (1, vR (some la1)), (2, vI lx2), (4, vI lx4), (6, vR (some la6)), (7, vI lx7), (9, vR lr9), (10, vR lr10), (11, vR lr11), (12, vR lr12), (13, vR lr13)] [] := by
  refine pw_aload X dJ8_resize_301 rfl ?_
  refine pw_dup X dJ8_resize_303 ?_
  refine pw_astore X [(0, vR (some la0)), (1, vR (some la1)), (2, vI lx2), (4, vI lx4), (6, vR (some la6)), (7, vI lx7), (8, vR lr13), (9, vR lr9), (10, vR lr10), (11, vR lr11), (12, vR lr12)] [1, 2, 3, 4, 5, 6, 0, 7, 8, 9, 10] dJ8_resize_304 (by decide) rfl ?_
  refine pw_ifnonnull X 235 dJ8_resize_306 (by decide) (fun u1 he2 => ?_) (fun he2 => ?_)
  · replace hw := hw.2 u1 he2
    subst he2
    exact hk235 _ la0 la1 lx2 lx4 la6 lx7 u1 lr9 lr10 lr11 lr12 hw
  · replace hw := hw.1 he2
    subst he2
    refine pw_aload X dJ8_resize_309 rfl ?_
    refine pw_ifnull X 327 dJ8_resize_311 (by decide) (fun he4 => ?_) (fun u3 he4 => ?_)
    · replace hw := hw.1 he4
      subst he4
      refine pw_lo [0, 1, 2, 3, 4, 5, 9, 10] rfl ?_
      exact bk_J8_resizeH_327 G C n0 s0 M0 Q X k151 hk151 _ la0 la1 lx2 lx4 la6 lx7 lr11 lr12 hw
    · replace hw := hw.2 u3 he4
      subst he4
      refine pw_aload X dJ8_resize_314 rfl ?_
      refine pw_null X dJ8_resize_316 ?_
      obtain ⟨ht5, hw⟩ := hw
      obtain ⟨M6, hM7⟩ : ∃ z : Mem, z = (m_pr M u3 3 none) := ⟨_, rfl⟩
      replace hw := hw M6 hM7
      refine pw_put X (q := (RJ18, TJ18, tyJ18, 4)) (ci := 17) (k := 3) (ref := "java/util/HashMap$Node") M6 hM7.symm ht5 rfl (by decide) in_J18 tyJ18_ok nmJ18 q725 (Or.inl rfl) rfl (m_kd_r (fun _ _ => rfl)) m_no m_fo dJ8_resize_317 ?_
      have hle8 : m_le M M6 := by rw [hM7]; exact m_le_pr
      have ht9 : m_tg M6 u3 = 18 := m_le_tg hle8 ht5
      refine pw_aload X dJ8_resize_320 rfl ?_
      refine pw_iload X dJ8_resize_322 rfl ?_
      refine pw_aload X dJ8_resize_324 rfl ?_
      obtain ⟨ht10, hw⟩ := hw
      obtain ⟨hi11, hw⟩ := hw
      obtain ⟨hg15, hw⟩ := hw
      obtain ⟨M12, hM13⟩ : ∃ z : Mem, z = (m_pr M6 la6 (Int32.toNatClampNeg lx7) lr9) := ⟨_, rfl⟩
      replace hw := hw M12 hM13
      have hle14 : m_le M6 M12 := by rw [hM13]; exact m_le_pr
      refine pw_aast X (E := "java/util/HashMap$Node") 3 (by decide) rfl ht10 hi11 hg15 dJ8_resize_326 ?_
      rw [← hM13]
      have ht16 : m_tg M12 u3 = 18 := m_le_tg hle14 ht9
      have ht17 : m_tg M12 la6 = 104 := m_le_tg hle14 ht10
      refine pw_lo [0, 1, 2, 3, 4, 5, 9, 10] rfl ?_
      exact bk_J8_resizeH_327 G C n0 s0 M0 Q X k151 hk151 _ la0 la1 lx2 lx4 la6 lx7 lr11 lr12 hw
theorem bk_J8_resizeH_271 (G : Gp) (C : m_Cx) (n0 s0 : Nat) (M0 : Mem) (Q : Option Nat → Mem → Prop) (X : m_in G C RJ8 cJ8_resize 14 (some (.array (.object "java/util/HashMap$Node"))) "resize" 0 0 n0 s0) (k151 : Mem → Nat → Nat → Int32 → Int32 → Nat → Int32 → Prop) (k235 : Mem → Nat → Nat → Int32 → Int32 → Nat → Int32 → Nat → Option Nat → Option Nat → Option Nat → Option Nat → Prop) (hk151 : ∀ (M : Mem) (la0 : Nat) (la1 : Nat) (lx2 : Int32) (lx4 : Int32) (la6 : Nat) (lx7 : Int32), k151 M la0 la1 lx2 lx4 la6 lx7 → pW G C 14 n0 s0 M0 (m_Q G C n0 s0 (va_Qq (m_q1 M0 Q) (m_W G) (m_A G))) M 151 [(0, vR (some la0)), (1, vR (some la1)), (2, vI lx2), (4, vI lx4), (6, vR (some la6)), (7, vI lx7)] []) (hk235 : ∀ (M : Mem) (la0 : Nat) (la1 : Nat) (lx2 : Int32) (lx4 : Int32) (la6 : Nat) (lx7 : Int32) (la8 : Nat) (lr9 : Option Nat) (lr10 : Option Nat) (lr11 : Option Nat) (lr12 : Option Nat), k235 M la0 la1 lx2 lx4 la6 lx7 la8 lr9 lr10 lr11 lr12 → pW G C 14 n0 s0 M0 (m_Q G C n0 s0 (va_Qq (m_q1 M0 Q) (m_W G) (m_A G))) M 235 [(0, vR (some la0)), (1, vR (some la1)), (2, vI lx2), (4, vI lx4), (6, vR (some la6)), (7, vI lx7), (8, vR (some la8)), (9, vR lr9), (10, vR lr10), (11, vR lr11), (12, vR lr12)] []) (M : Mem) (la0 : Nat) (la1 : Nat) (lx2 : Int32) (lx4 : Int32) (la6 : Nat) (lx7 : Int32) (la8 : Nat) (lr9 : Option Nat) (lr11 : Option Nat) (lr12 : Option Nat) (lr13 : Option Nat) (hw : wp_J8_resizeH_b271 G.2 k151 k235 M la0 la1 lx2 lx4 la6 lx7 la8 lr9 lr11 lr12 lr13 Q) : pW G C 14 n0 s0 M0 (m_Q G C n0 s0 (va_Qq (m_q1 M0 Q) (m_W G) (m_A G))) M 271 [(0, vR (some la0)), (1, vR (some la1)), (2, vI lx2), (4, vI lx4), (6, vR (some la6)), (7, vI lx7), (8, vR (some la8)), (9, vR lr9), (11, vR lr11), (12, vR lr12), (13, vR lr13)] [] := by
  refine pw_aload X dJ8_resize_271 rfl ?_
  refine pw_astore X [(0, vR (some la0)), (1, vR (some la1)), (2, vI lx2), (4, vI lx4), (6, vR (some la6)), (7, vI lx7), (9, vR lr9), (10, vR (some la8)), (11, vR lr11), (12, vR lr12), (13, vR lr13)] [1, 2, 3, 4, 5, 6, 8, 0, 9, 10, 11] dJ8_resize_273 (by decide) rfl ?_
  refine pw_goto X 301 dJ8_resize_275 (by decide) ?_
  exact bk_J8_resizeH_301 G C n0 s0 M0 Q X k151 k235 hk151 hk235 _ la0 la1 lx2 lx4 la6 lx7 lr9 (some la8) lr11 lr12 lr13 hw
theorem bk_J8_resizeH_297 (G : Gp) (C : m_Cx) (n0 s0 : Nat) (M0 : Mem) (Q : Option Nat → Mem → Prop) (X : m_in G C RJ8 cJ8_resize 14 (some (.array (.object "java/util/HashMap$Node"))) "resize" 0 0 n0 s0) (k151 : Mem → Nat → Nat → Int32 → Int32 → Nat → Int32 → Prop) (k235 : Mem → Nat → Nat → Int32 → Int32 → Nat → Int32 → Nat → Option Nat → Option Nat → Option Nat → Option Nat → Prop) (hk151 : ∀ (M : Mem) (la0 : Nat) (la1 : Nat) (lx2 : Int32) (lx4 : Int32) (la6 : Nat) (lx7 : Int32), k151 M la0 la1 lx2 lx4 la6 lx7 → pW G C 14 n0 s0 M0 (m_Q G C n0 s0 (va_Qq (m_q1 M0 Q) (m_W G) (m_A G))) M 151 [(0, vR (some la0)), (1, vR (some la1)), (2, vI lx2), (4, vI lx4), (6, vR (some la6)), (7, vI lx7)] []) (hk235 : ∀ (M : Mem) (la0 : Nat) (la1 : Nat) (lx2 : Int32) (lx4 : Int32) (la6 : Nat) (lx7 : Int32) (la8 : Nat) (lr9 : Option Nat) (lr10 : Option Nat) (lr11 : Option Nat) (lr12 : Option Nat), k235 M la0 la1 lx2 lx4 la6 lx7 la8 lr9 lr10 lr11 lr12 → pW G C 14 n0 s0 M0 (m_Q G C n0 s0 (va_Qq (m_q1 M0 Q) (m_W G) (m_A G))) M 235 [(0, vR (some la0)), (1, vR (some la1)), (2, vI lx2), (4, vI lx4), (6, vR (some la6)), (7, vI lx7), (8, vR (some la8)), (9, vR lr9), (10, vR lr10), (11, vR lr11), (12, vR lr12)] []) (M : Mem) (la0 : Nat) (la1 : Nat) (lx2 : Int32) (lx4 : Int32) (la6 : Nat) (lx7 : Int32) (la8 : Nat) (lr9 : Option Nat) (lr10 : Option Nat) (lr11 : Option Nat) (lr13 : Option Nat) (hw : wp_J8_resizeH_b297 G.2 k151 k235 M la0 la1 lx2 lx4 la6 lx7 la8 lr9 lr10 lr11 lr13 Q) : pW G C 14 n0 s0 M0 (m_Q G C n0 s0 (va_Qq (m_q1 M0 Q) (m_W G) (m_A G))) M 297 [(0, vR (some la0)), (1, vR (some la1)), (2, vI lx2), (4, vI lx4), (6, vR (some la6)), (7, vI lx7), (8, vR (some la8)), (9, vR lr9), (10, vR lr10), (11, vR lr11), (13, vR lr13)] [] := by
  refine pw_aload X dJ8_resize_297 rfl ?_
  refine pw_astore X [(0, vR (some la0)), (1, vR (some la1)), (2, vI lx2), (4, vI lx4), (6, vR (some la6)), (7, vI lx7), (9, vR lr9), (10, vR lr10), (11, vR lr11), (12, vR (some la8)), (13, vR lr13)] [1, 2, 3, 4, 5, 6, 8, 9, 10, 0, 11] dJ8_resize_299 (by decide) rfl ?_
  exact bk_J8_resizeH_301 G C n0 s0 M0 Q X k151 k235 hk151 hk235 _ la0 la1 lx2 lx4 la6 lx7 lr9 lr10 lr11 (some la8) lr13 hw
theorem bk_J8_resizeH_235 (G : Gp) (C : m_Cx) (n0 s0 : Nat) (M0 : Mem) (Q : Option Nat → Mem → Prop) (X : m_in G C RJ8 cJ8_resize 14 (some (.array (.object "java/util/HashMap$Node"))) "resize" 0 0 n0 s0) (k151 : Mem → Nat → Nat → Int32 → Int32 → Nat → Int32 → Prop) (hk151 : ∀ (M : Mem) (la0 : Nat) (la1 : Nat) (lx2 : Int32) (lx4 : Int32) (la6 : Nat) (lx7 : Int32), k151 M la0 la1 lx2 lx4 la6 lx7 → pW G C 14 n0 s0 M0 (m_Q G C n0 s0 (va_Qq (m_q1 M0 Q) (m_W G) (m_A G))) M 151 [(0, vR (some la0)), (1, vR (some la1)), (2, vI lx2), (4, vI lx4), (6, vR (some la6)), (7, vI lx7)] []) : ∀ (n : Nat) (M : Mem) (la0 : Nat) (la1 : Nat) (lx2 : Int32) (lx4 : Int32) (la6 : Nat) (lx7 : Int32) (la8 : Nat) (lr9 : Option Nat) (lr10 : Option Nat) (lr11 : Option Nat) (lr12 : Option Nat) (hw : wp_J8_resizeH_b235 G.2 k151 Q n M la0 la1 lx2 lx4 la6 lx7 la8 lr9 lr10 lr11 lr12), pW G C 14 n0 s0 M0 (m_Q G C n0 s0 (va_Qq (m_q1 M0 Q) (m_W G) (m_A G))) M 235 [(0, vR (some la0)), (1, vR (some la1)), (2, vI lx2), (4, vI lx4), (6, vR (some la6)), (7, vI lx7), (8, vR (some la8)), (9, vR lr9), (10, vR lr10), (11, vR lr11), (12, vR lr12)] [] := by
  intro n
  induction n with
  | zero => intro M la0 la1 lx2 lx4 la6 lx7 la8 lr9 lr10 lr11 lr12 hw; exact hw.elim
  | succ n ih =>
    intro M la0 la1 lx2 lx4 la6 lx7 la8 lr9 lr10 lr11 lr12 hw
    refine pw_aload X dJ8_resize_235 rfl ?_
    obtain ⟨ht1, hw⟩ := hw
    obtain ⟨r2, hr3⟩ : ∃ z : Option Nat, z = (m_gr M la8 3) := ⟨_, rfl⟩
    replace hw := hw r2 hr3
    refine pw_get X (q := (RJ18, TJ18, tyJ18, 4)) (ci := 17) (k := 3) (ref := "java/util/HashMap$Node") (vR r2) ht1 rfl (by decide) in_J18 q725 (Or.inl rfl) (by rw [hr3]; rfl) dJ8_resize_237 ?_
    refine pw_astore X [(0, vR (some la0)), (1, vR (some la1)), (2, vI lx2), (4, vI lx4), (6, vR (some la6)), (7, vI lx7), (8, vR (some la8)), (9, vR lr9), (10, vR lr10), (11, vR lr11), (12, vR lr12), (13, vR r2)] [1, 2, 3, 4, 5, 6, 7, 8, 9, 10, 11, 0] dJ8_resize_240 (by decide) rfl ?_
    refine pw_aload X dJ8_resize_242 rfl ?_
    refine pw_get X (q := (RJ18, TJ18, tyJ18, 4)) (ci := 17) (k := 0) (ref := "java/util/HashMap$Node") (vI (m_gi M la8 0)) ht1 rfl (by decide) in_J18 q709 (Or.inl rfl) rfl dJ8_resize_244 ?_
    refine pw_iload_n X dJ8_resize_247 rfl rfl ?_
    refine pw_iand X dJ8_resize_248 ?_
    refine pw_if_ne X 278 dJ8_resize_249 (by decide) (fun c4 => ?_) (fun c4 => ?_)
    · replace hw := hw.1 c4
      refine pw_aload X dJ8_resize_278 rfl ?_
      refine pw_ifnonnull X 290 dJ8_resize_280 (by decide) (fun u5 he6 => ?_) (fun he6 => ?_)
      · replace hw := hw.2 u5 he6
        subst he6
        refine pw_aload X dJ8_resize_290 rfl ?_
        refine pw_aload X dJ8_resize_292 rfl ?_
        obtain ⟨ht7, hw⟩ := hw
        obtain ⟨M8, hM9⟩ : ∃ z : Mem, z = (m_pr M u5 3 (some la8)) := ⟨_, rfl⟩
        replace hw := hw M8 hM9
        refine pw_put X (q := (RJ18, TJ18, tyJ18, 4)) (ci := 17) (k := 3) (ref := "java/util/HashMap$Node") M8 hM9.symm ht7 rfl (by decide) in_J18 tyJ18_ok nmJ18 q725 (Or.inl rfl) rfl (m_kd_r (fun _ _ => rfl)) m_no m_fo dJ8_resize_294 ?_
        have hle10 : m_le M M8 := by rw [hM9]; exact m_le_pr
        have ht11 : m_tg M8 la8 = 18 := m_le_tg hle10 ht1
        have ht12 : m_tg M8 u5 = 18 := m_le_tg hle10 ht7
        refine pw_lo [0, 1, 2, 3, 4, 5, 6, 7, 8, 9, 11] rfl ?_
        exact bk_J8_resizeH_297 G C n0 s0 M0 Q X k151 (wp_J8_resizeH_b235 G.2 k151 Q n) hk151 ih _ la0 la1 lx2 lx4 la6 lx7 la8 lr9 lr10 lr11 r2 hw
      · replace hw := hw.1 he6
        subst he6
        refine pw_aload X dJ8_resize_283 rfl ?_
        refine pw_astore X [(0, vR (some la0)), (1, vR (some la1)), (2, vI lx2), (4, vI lx4), (6, vR (some la6)), (7, vI lx7), (8, vR (some la8)), (9, vR lr9), (10, vR lr10), (11, vR (some la8)), (13, vR r2)] [1, 2, 3, 4, 5, 6, 7, 8, 9, 0, 11] dJ8_resize_285 (by decide) rfl ?_
        refine pw_goto X 297 dJ8_resize_287 (by decide) ?_
        exact bk_J8_resizeH_297 G C n0 s0 M0 Q X k151 (wp_J8_resizeH_b235 G.2 k151 Q n) hk151 ih _ la0 la1 lx2 lx4 la6 lx7 la8 lr9 lr10 (some la8) r2 hw
    · replace hw := hw.2 c4
      refine pw_aload X dJ8_resize_252 rfl ?_
      refine pw_ifnonnull X 264 dJ8_resize_254 (by decide) (fun u13 he14 => ?_) (fun he14 => ?_)
      · replace hw := hw.2 u13 he14
        subst he14
        refine pw_aload X dJ8_resize_264 rfl ?_
        refine pw_aload X dJ8_resize_266 rfl ?_
        obtain ⟨ht15, hw⟩ := hw
        obtain ⟨M16, hM17⟩ : ∃ z : Mem, z = (m_pr M u13 3 (some la8)) := ⟨_, rfl⟩
        replace hw := hw M16 hM17
        refine pw_put X (q := (RJ18, TJ18, tyJ18, 4)) (ci := 17) (k := 3) (ref := "java/util/HashMap$Node") M16 hM17.symm ht15 rfl (by decide) in_J18 tyJ18_ok nmJ18 q725 (Or.inl rfl) rfl (m_kd_r (fun _ _ => rfl)) m_no m_fo dJ8_resize_268 ?_
        have hle18 : m_le M M16 := by rw [hM17]; exact m_le_pr
        have ht19 : m_tg M16 la8 = 18 := m_le_tg hle18 ht1
        have ht20 : m_tg M16 u13 = 18 := m_le_tg hle18 ht15
        refine pw_lo [0, 1, 2, 3, 4, 5, 6, 7, 9, 10, 11] rfl ?_
        exact bk_J8_resizeH_271 G C n0 s0 M0 Q X k151 (wp_J8_resizeH_b235 G.2 k151 Q n) hk151 ih _ la0 la1 lx2 lx4 la6 lx7 la8 lr9 lr11 lr12 r2 hw
      · replace hw := hw.1 he14
        subst he14
        refine pw_aload X dJ8_resize_257 rfl ?_
        refine pw_astore X [(0, vR (some la0)), (1, vR (some la1)), (2, vI lx2), (4, vI lx4), (6, vR (some la6)), (7, vI lx7), (8, vR (some la8)), (9, vR (some la8)), (11, vR lr11), (12, vR lr12), (13, vR r2)] [1, 2, 3, 4, 5, 6, 7, 0, 9, 10, 11] dJ8_resize_259 (by decide) rfl ?_
        refine pw_goto X 271 dJ8_resize_261 (by decide) ?_
        exact bk_J8_resizeH_271 G C n0 s0 M0 Q X k151 (wp_J8_resizeH_b235 G.2 k151 Q n) hk151 ih _ la0 la1 lx2 lx4 la6 lx7 la8 (some la8) lr11 lr12 r2 hw
theorem bk_J8_resizeH_151 (G : Gp) (C : m_Cx) (n0 s0 : Nat) (M0 : Mem) (Q : Option Nat → Mem → Prop) (X : m_in G C RJ8 cJ8_resize 14 (some (.array (.object "java/util/HashMap$Node"))) "resize" 0 0 n0 s0) : ∀ (n : Nat) (M : Mem) (la0 : Nat) (la1 : Nat) (lx2 : Int32) (lx4 : Int32) (la6 : Nat) (lx7 : Int32) (hw : wp_J8_resizeH_b151 G.2 Q n M la0 la1 lx2 lx4 la6 lx7), pW G C 14 n0 s0 M0 (m_Q G C n0 s0 (va_Qq (m_q1 M0 Q) (m_W G) (m_A G))) M 151 [(0, vR (some la0)), (1, vR (some la1)), (2, vI lx2), (4, vI lx4), (6, vR (some la6)), (7, vI lx7)] [] := by
  intro n
  induction n with
  | zero => intro M la0 la1 lx2 lx4 la6 lx7 hw; exact hw.elim
  | succ n ih =>
    intro M la0 la1 lx2 lx4 la6 lx7 hw
    refine pw_iload X dJ8_resize_151 rfl ?_
    refine pw_iload_n X dJ8_resize_153 rfl rfl ?_
    refine pw_icmp_ge X 353 dJ8_resize_154 (by decide) (fun c1 => ?_) (fun c1 => ?_)
    · replace hw := hw.1 c1
      refine pw_aload X dJ8_resize_353 rfl ?_
      exact pw_aret X (Or.inr ⟨_, rfl⟩) hw dJ8_resize_355
    · replace hw := hw.2 c1
      refine pw_aload_n X dJ8_resize_157 rfl rfl ?_
      refine pw_iload X dJ8_resize_158 rfl ?_
      obtain ⟨ht2, hw⟩ := hw
      obtain ⟨hi3, hw⟩ := hw
      obtain ⟨r4, hr5⟩ : ∃ z : Option Nat, z = (m_gr M la1 (Int32.toNatClampNeg lx7)) := ⟨_, rfl⟩
      replace hw := hw r4 hr5
      refine pw_aald X (Or.inr (Or.inl ht2)) hi3 dJ8_resize_160 ?_
      rw [← hr5]
      refine pw_dup X dJ8_resize_161 ?_
      refine pw_astore X [(0, vR (some la0)), (1, vR (some la1)), (2, vI lx2), (4, vI lx4), (6, vR (some la6)), (7, vI lx7), (8, vR r4)] [1, 2, 3, 4, 5, 6, 0] dJ8_resize_162 (by decide) rfl ?_
      refine pw_ifnull X 347 dJ8_resize_164 (by decide) (fun he7 => ?_) (fun u6 he7 => ?_)
      · replace hw := hw.1 he7
        subst he7
        refine pw_iinc X (lx7 + 1) [(0, vR (some la0)), (1, vR (some la1)), (2, vI lx2), (4, vI lx4), (6, vR (some la6)), (7, vI (lx7 + 1))] [1, 2, 3, 4, 5, 0] dJ8_resize_347 rfl (by first | rfl | decide) (by decide) rfl ?_
        refine pw_goto X 151 dJ8_resize_350 (by decide) ?_
        exact ih _ la0 la1 lx2 lx4 la6 (lx7 + 1) hw
      · replace hw := hw.2 u6 he7
        subst he7
        refine pw_aload_n X dJ8_resize_167 rfl rfl ?_
        refine pw_iload X dJ8_resize_168 rfl ?_
        refine pw_null X dJ8_resize_170 ?_
        obtain ⟨hi8, hw⟩ := hw
        obtain ⟨M9, hM10⟩ : ∃ z : Mem, z = (m_pr M la1 (Int32.toNatClampNeg lx7) none) := ⟨_, rfl⟩
        replace hw := hw M9 hM10
        have hle11 : m_le M M9 := by rw [hM10]; exact m_le_pr
        refine pw_aast X (E := "java/util/HashMap$Node") 3 (by decide) rfl ht2 hi8 (fun _ h => by cases h) dJ8_resize_171 ?_
        rw [← hM10]
        have ht12 : m_tg M9 la1 = 104 := m_le_tg hle11 ht2
        refine pw_aload X dJ8_resize_172 rfl ?_
        obtain ⟨ht13, hw⟩ := hw
        obtain ⟨r14, hr15⟩ : ∃ z : Option Nat, z = (m_gr M9 u6 3) := ⟨_, rfl⟩
        replace hw := hw r14 hr15
        refine pw_get X (q := (RJ18, TJ18, tyJ18, 4)) (ci := 17) (k := 3) (ref := "java/util/HashMap$Node") (vR r14) ht13 rfl (by decide) in_J18 q725 (Or.inl rfl) (by rw [hr15]; rfl) dJ8_resize_174 ?_
        refine pw_ifnonnull X 198 dJ8_resize_177 (by decide) (fun u16 he17 => ?_) (fun he17 => ?_)
        · replace hw := hw.2 u16 he17
          subst he17
          refine pw_aload X dJ8_resize_198 rfl ?_
          refine pw_instNo X 17 (q := (RJ18, TJ18, tyJ18, 4)) (by decide) rfl ht13 q394 dJ8_resize_200 ?_
          refine pw_if_eq X 223 dJ8_resize_203 (by decide) (fun c => ?_) (fun c => ?_)
          rotate_left
          · exact absurd c (by decide)
          refine pw_null X dJ8_resize_223 ?_
          refine pw_astore X [(0, vR (some la0)), (1, vR (some la1)), (2, vI lx2), (4, vI lx4), (6, vR (some la6)), (7, vI lx7), (8, vR (some u6)), (9, vR none)] [1, 2, 3, 4, 5, 6, 7, 0] dJ8_resize_224 (by decide) rfl ?_
          refine pw_null X dJ8_resize_226 ?_
          refine pw_astore X [(0, vR (some la0)), (1, vR (some la1)), (2, vI lx2), (4, vI lx4), (6, vR (some la6)), (7, vI lx7), (8, vR (some u6)), (9, vR none), (10, vR none)] [1, 2, 3, 4, 5, 6, 7, 8, 0] dJ8_resize_227 (by decide) rfl ?_
          refine pw_null X dJ8_resize_229 ?_
          refine pw_astore X [(0, vR (some la0)), (1, vR (some la1)), (2, vI lx2), (4, vI lx4), (6, vR (some la6)), (7, vI lx7), (8, vR (some u6)), (9, vR none), (10, vR none), (11, vR none)] [1, 2, 3, 4, 5, 6, 7, 8, 9, 0] dJ8_resize_230 (by decide) rfl ?_
          refine pw_null X dJ8_resize_232 ?_
          refine pw_astore X [(0, vR (some la0)), (1, vR (some la1)), (2, vI lx2), (4, vI lx4), (6, vR (some la6)), (7, vI lx7), (8, vR (some u6)), (9, vR none), (10, vR none), (11, vR none), (12, vR none)] [1, 2, 3, 4, 5, 6, 7, 8, 9, 10, 0] dJ8_resize_233 (by decide) rfl ?_
          obtain ⟨n235, hw⟩ := hw
          exact bk_J8_resizeH_235 G C n0 s0 M0 Q X (wp_J8_resizeH_b151 G.2 Q n) ih n235 _ la0 la1 lx2 lx4 la6 lx7 u6 none none none none hw
        · replace hw := hw.1 he17
          subst he17
          refine pw_aload X dJ8_resize_180 rfl ?_
          refine pw_aload X dJ8_resize_182 rfl ?_
          refine pw_get X (q := (RJ18, TJ18, tyJ18, 4)) (ci := 17) (k := 0) (ref := "java/util/HashMap$Node") (vI (m_gi M9 u6 0)) ht13 rfl (by decide) in_J18 q709 (Or.inl rfl) rfl dJ8_resize_184 ?_
          refine pw_iload X dJ8_resize_187 rfl ?_
          refine pw_iconst X 1 dJ8_resize_189 (by decide) ?_
          refine pw_isub X dJ8_resize_190 ?_
          refine pw_iand X dJ8_resize_191 ?_
          refine pw_aload X dJ8_resize_192 rfl ?_
          obtain ⟨ht18, hw⟩ := hw
          obtain ⟨hi19, hw⟩ := hw
          obtain ⟨hg23, hw⟩ := hw
          obtain ⟨M20, hM21⟩ : ∃ z : Mem, z = (m_pr M9 la6 (Int32.toNatClampNeg ((m_gi M9 u6 0) &&& (lx4 - 1))) (some u6)) := ⟨_, rfl⟩
          replace hw := hw M20 hM21
          have hle22 : m_le M9 M20 := by rw [hM21]; exact m_le_pr
          refine pw_aast X (E := "java/util/HashMap$Node") 3 (by decide) rfl ht18 hi19 hg23 dJ8_resize_194 ?_
          rw [← hM21]
          have ht24 : m_tg M20 la1 = 104 := m_le_tg hle22 ht12
          have ht25 : m_tg M20 u6 = 18 := m_le_tg hle22 ht13
          have ht26 : m_tg M20 la6 = 104 := m_le_tg hle22 ht18
          refine pw_goto X 347 dJ8_resize_195 (by decide) ?_
          refine pw_iinc X (lx7 + 1) [(0, vR (some la0)), (1, vR (some la1)), (2, vI lx2), (4, vI lx4), (6, vR (some la6)), (7, vI (lx7 + 1))] [1, 2, 3, 4, 5, 0] dJ8_resize_347 rfl (by first | rfl | decide) (by decide) rfl ?_
          refine pw_goto X 151 dJ8_resize_350 (by decide) ?_
          exact ih _ la0 la1 lx2 lx4 la6 (lx7 + 1) hw
theorem bk_J8_resizeH_85 (G : Gp) (C : m_Cx) (n0 s0 : Nat) (M0 : Mem) (Q : Option Nat → Mem → Prop) (X : m_in G C RJ8 cJ8_resize 14 (some (.array (.object "java/util/HashMap$Node"))) "resize" 0 0 n0 s0) (M : Mem) (la0 : Nat) (lr1 : Option Nat) (lx2 : Int32) (lx4 : Int32) (lx5 : Int32) (hw : wp_J8_resizeH_b85 G.2 M la0 lr1 lx2 lx4 lx5 Q) : pW G C 14 n0 s0 M0 (m_Q G C n0 s0 (va_Qq (m_q1 M0 Q) (m_W G) (m_A G))) M 85 [(0, vR (some la0)), (1, vR lr1), (2, vI lx2), (4, vI lx4), (5, vI lx5)] [] := by
  refine pw_iload X dJ8_resize_85 rfl ?_
  refine pw_if_ne X 125 dJ8_resize_87 (by decide) (fun c1 => ?_) (fun c1 => ?_)
  · replace hw := hw.1 c1
    refine pw_aload_n X dJ8_resize_125 rfl rfl ?_
    refine pw_iload X dJ8_resize_126 rfl ?_
    obtain ⟨ht2, hw⟩ := hw
    obtain ⟨M3, hM4⟩ : ∃ z : Mem, z = (m_pi M la0 6 lx5) := ⟨_, rfl⟩
    replace hw := hw M3 hM4
    refine pw_put X (q := (RJ8, TJ8, tyJ8, 8)) (ci := 15) (k := 6) (ref := "java/util/HashMap") M3 hM4.symm ht2 rfl (by decide) in_J8 tyJ8_ok nmJ8 q257 (Or.inl rfl) rfl (m_kd_i (fun _ _ => rfl)) rfl rfl dJ8_resize_128 ?_
    have hle5 : m_le M M3 := by rw [hM4]; exact m_le_pi
    have ht6 : m_tg M3 la0 = 16 := m_le_tg hle5 ht2
    refine pw_iload X dJ8_resize_131 rfl ?_
    obtain ⟨hn8, hf7, hw⟩ := hw
    refine pw_newq X 3 (E := "java/util/HashMap$Node") (by decide) hf7 hn8 rfl q676 q677 dJ8_resize_133 (fun u9 h010 => ?_)
    obtain ⟨M11, hM12⟩ : ∃ z : Mem, z = (m_al M3 u9 104 (Int32.toNatClampNeg lx4) (Int32.toNatClampNeg lx4)) := ⟨_, rfl⟩
    replace hw := hw u9 h010 M11 hM12
    have hle13 : m_le M3 M11 := by rw [hM12]; exact m_le_al h010
    change pW _ _ _ _ _ _ _ (m_al M3 u9 104 (Int32.toNatClampNeg lx4) (Int32.toNatClampNeg lx4)) _ _ _
    rw [← hM12]
    have ht14 : m_tg M11 la0 = 16 := m_le_tg hle13 ht6
    have ht15 : m_tg M11 u9 = 104 := by rw [hM12, m_tg_al, if_pos rfl]
    refine pw_astore X [(0, vR (some la0)), (1, vR lr1), (2, vI lx2), (4, vI lx4), (6, vR (some u9))] [1, 2, 3, 4, 0] dJ8_resize_136 (by decide) rfl ?_
    refine pw_aload_n X dJ8_resize_138 rfl rfl ?_
    refine pw_aload X dJ8_resize_139 rfl ?_
    obtain ⟨M16, hM17⟩ : ∃ z : Mem, z = (m_pr M11 la0 2 (some u9)) := ⟨_, rfl⟩
    replace hw := hw M16 hM17
    refine pw_put X (q := (RJ8, TJ8, tyJ8, 8)) (ci := 15) (k := 2) (ref := "java/util/HashMap") M16 hM17.symm ht14 rfl (by decide) in_J8 tyJ8_ok nmJ8 q252 (Or.inl rfl) rfl (m_kd_r (fun _ _ => rfl)) m_na m_fa dJ8_resize_141 ?_
    have hle18 : m_le M11 M16 := by rw [hM17]; exact m_le_pr
    have ht19 : m_tg M16 la0 = 16 := m_le_tg hle18 ht14
    have ht20 : m_tg M16 u9 = 104 := m_le_tg hle18 ht15
    refine pw_aload_n X dJ8_resize_144 rfl rfl ?_
    refine pw_ifnull X 353 dJ8_resize_145 (by decide) (fun he22 => ?_) (fun u21 he22 => ?_)
    · replace hw := hw.1 he22
      subst he22
      refine pw_aload X dJ8_resize_353 rfl ?_
      exact pw_aret X (Or.inr ⟨_, rfl⟩) hw dJ8_resize_355
    · replace hw := hw.2 u21 he22
      subst he22
      refine pw_iconst X 0 dJ8_resize_148 (by decide) ?_
      refine pw_istore X [(0, vR (some la0)), (1, vR (some u21)), (2, vI lx2), (4, vI lx4), (6, vR (some u9)), (7, vI 0)] [1, 2, 3, 4, 5, 0] dJ8_resize_149 (by decide) rfl ?_
      obtain ⟨n151, hw⟩ := hw
      exact bk_J8_resizeH_151 G C n0 s0 M0 Q X n151 _ la0 u21 lx2 lx4 u9 0 hw
  · replace hw := hw.2 c1
    refine pw_iload X dJ8_resize_90 rfl ?_
    exact hw.elim
theorem bk_J8_resizeH_15 (G : Gp) (C : m_Cx) (n0 s0 : Nat) (M0 : Mem) (Q : Option Nat → Mem → Prop) (X : m_in G C RJ8 cJ8_resize 14 (some (.array (.object "java/util/HashMap$Node"))) "resize" 0 0 n0 s0) (M : Mem) (la0 : Nat) (lr1 : Option Nat) (sx0 : Int32) (hw : wp_J8_resizeH_b15 G.2 M la0 lr1 sx0 Q) : pW G C 14 n0 s0 M0 (m_Q G C n0 s0 (va_Qq (m_q1 M0 Q) (m_W G) (m_A G))) M 15 [(0, vR (some la0)), (1, vR lr1)] [vI sx0] := by
  refine pw_istore_n X [(0, vR (some la0)), (1, vR lr1), (2, vI sx0)] [1, 2, 0] dJ8_resize_15 rfl (by decide) rfl ?_
  refine pw_aload_n X dJ8_resize_16 rfl rfl ?_
  obtain ⟨ht1, hw⟩ := hw
  refine pw_get X (q := (RJ8, TJ8, tyJ8, 8)) (ci := 15) (k := 6) (ref := "java/util/HashMap") (vI (m_gi M la0 6)) ht1 rfl (by decide) in_J8 q257 (Or.inl rfl) rfl dJ8_resize_17 ?_
  refine pw_istore_n X [(0, vR (some la0)), (1, vR lr1), (2, vI sx0), (3, vI (m_gi M la0 6))] [1, 2, 3, 0] dJ8_resize_20 rfl (by decide) rfl ?_
  refine pw_iconst X 0 dJ8_resize_21 (by decide) ?_
  refine pw_istore X [(0, vR (some la0)), (1, vR lr1), (2, vI sx0), (3, vI (m_gi M la0 6)), (5, vI 0)] [1, 2, 3, 4, 0] dJ8_resize_22 (by decide) rfl ?_
  refine pw_iload_n X dJ8_resize_24 rfl rfl ?_
  refine pw_if_le X 67 dJ8_resize_25 (by decide) (fun c2 => ?_) (fun c2 => ?_)
  · replace hw := hw.1 c2
    refine pw_iload_n X dJ8_resize_67 rfl rfl ?_
    refine pw_if_le X 77 dJ8_resize_68 (by decide) (fun c3 => ?_) (fun c3 => ?_)
    · replace hw := hw.1 c3
      refine pw_bipush X 16 dJ8_resize_77 (by decide) ?_
      refine pw_istore X [(0, vR (some la0)), (1, vR lr1), (2, vI sx0), (4, vI 16)] [1, 2, 3, 0] dJ8_resize_79 (by decide) rfl ?_
      refine pw_bipush X 12 dJ8_resize_81 (by decide) ?_
      refine pw_istore X [(0, vR (some la0)), (1, vR lr1), (2, vI sx0), (4, vI 16), (5, vI 12)] [1, 2, 3, 4, 0] dJ8_resize_83 (by decide) rfl ?_
      exact bk_J8_resizeH_85 G C n0 s0 M0 Q X _ la0 lr1 sx0 16 12 hw
    · replace hw := hw.2 c3
      refine pw_iload_n X dJ8_resize_71 rfl rfl ?_
      refine pw_istore X [(0, vR (some la0)), (1, vR lr1), (2, vI sx0), (4, vI (m_gi M la0 6)), (5, vI 0)] [1, 2, 3, 0, 5] dJ8_resize_72 (by decide) rfl ?_
      refine pw_goto X 85 dJ8_resize_74 (by decide) ?_
      exact bk_J8_resizeH_85 G C n0 s0 M0 Q X _ la0 lr1 sx0 (m_gi M la0 6) 0 hw
  · replace hw := hw.2 c2
    refine pw_iload_n X dJ8_resize_28 rfl rfl ?_
    refine pw_ldc X 1073741824 q673 dJ8_resize_29 ?_
    refine pw_icmp_lt X 42 dJ8_resize_31 (by decide) (fun c4 => ?_) (fun c4 => ?_)
    · replace hw := hw.1 c4
      refine pw_iload_n X dJ8_resize_42 rfl rfl ?_
      refine pw_iconst X 1 dJ8_resize_43 (by decide) ?_
      refine pw_ishl X dJ8_resize_44 ?_
      refine pw_dup X dJ8_resize_45 ?_
      refine pw_istore X [(0, vR (some la0)), (1, vR lr1), (2, vI sx0), (3, vI (m_gi M la0 6)), (4, vI ((sx0 : Int32) <<< ((1 : Int32) &&& 31))), (5, vI 0)] [1, 2, 3, 4, 0, 5] dJ8_resize_46 (by decide) rfl ?_
      refine pw_ldc X 1073741824 q673 dJ8_resize_48 ?_
      refine pw_icmp_ge X 85 dJ8_resize_50 (by decide) (fun c5 => ?_) (fun c5 => ?_)
      · replace hw := hw.1 c5
        refine pw_lo [0, 1, 2, 4, 5] rfl ?_
        exact bk_J8_resizeH_85 G C n0 s0 M0 Q X _ la0 lr1 sx0 ((sx0 : Int32) <<< ((1 : Int32) &&& 31)) 0 hw
      · replace hw := hw.2 c5
        refine pw_iload_n X dJ8_resize_53 rfl rfl ?_
        refine pw_bipush X 16 dJ8_resize_54 (by decide) ?_
        refine pw_icmp_lt X 85 dJ8_resize_56 (by decide) (fun c6 => ?_) (fun c6 => ?_)
        · replace hw := hw.1 c6
          refine pw_lo [0, 1, 2, 4, 5] rfl ?_
          exact bk_J8_resizeH_85 G C n0 s0 M0 Q X _ la0 lr1 sx0 ((sx0 : Int32) <<< ((1 : Int32) &&& 31)) 0 hw
        · replace hw := hw.2 c6
          refine pw_iload_n X dJ8_resize_59 rfl rfl ?_
          refine pw_iconst X 1 dJ8_resize_60 (by decide) ?_
          refine pw_ishl X dJ8_resize_61 ?_
          refine pw_istore X [(0, vR (some la0)), (1, vR lr1), (2, vI sx0), (4, vI ((sx0 : Int32) <<< ((1 : Int32) &&& 31))), (5, vI (((m_gi M la0 6) : Int32) <<< ((1 : Int32) &&& 31)))] [1, 2, 3, 5, 0] dJ8_resize_62 (by decide) rfl ?_
          refine pw_goto X 85 dJ8_resize_64 (by decide) ?_
          exact bk_J8_resizeH_85 G C n0 s0 M0 Q X _ la0 lr1 sx0 ((sx0 : Int32) <<< ((1 : Int32) &&& 31)) (((m_gi M la0 6) : Int32) <<< ((1 : Int32) &&& 31)) hw
    · replace hw := hw.2 c4
      refine pw_aload_n X dJ8_resize_34 rfl rfl ?_
      refine pw_ldc X 2147483647 q674 dJ8_resize_35 ?_
      obtain ⟨M7, hM8⟩ : ∃ z : Mem, z = (m_pi M la0 6 2147483647) := ⟨_, rfl⟩
      replace hw := hw M7 hM8
      refine pw_put X (q := (RJ8, TJ8, tyJ8, 8)) (ci := 15) (k := 6) (ref := "java/util/HashMap") M7 hM8.symm ht1 rfl (by decide) in_J8 tyJ8_ok nmJ8 q257 (Or.inl rfl) rfl (m_kd_i (fun _ _ => rfl)) rfl rfl dJ8_resize_37 ?_
      have hle9 : m_le M M7 := by rw [hM8]; exact m_le_pi
      have ht10 : m_tg M7 la0 = 16 := m_le_tg hle9 ht1
      refine pw_aload_n X dJ8_resize_40 rfl rfl ?_
      exact pw_aret X (Or.inr ⟨_, rfl⟩) hw dJ8_resize_41
theorem bk_J8_resizeH_0 (G : Gp) (C : m_Cx) (n0 s0 : Nat) (M0 : Mem) (Q : Option Nat → Mem → Prop) (X : m_in G C RJ8 cJ8_resize 14 (some (.array (.object "java/util/HashMap$Node"))) "resize" 0 0 n0 s0) (M : Mem) (a0 : Nat) (hw : wp_J8_resizeH G.2 M a0 Q) : pW G C 14 n0 s0 M0 (m_Q G C n0 s0 (va_Qq (m_q1 M0 Q) (m_W G) (m_A G))) M 0 [(0, vR (some a0))] [] := by
  refine pw_aload_n X dJ8_resize_0 rfl rfl ?_
  obtain ⟨ht1, hw⟩ := hw
  obtain ⟨r2, hr3⟩ : ∃ z : Option Nat, z = (m_gr M a0 2) := ⟨_, rfl⟩
  replace hw := hw r2 hr3
  refine pw_get X (q := (RJ8, TJ8, tyJ8, 8)) (ci := 15) (k := 2) (ref := "java/util/HashMap") (vR r2) ht1 rfl (by decide) in_J8 q252 (Or.inl rfl) (by rw [hr3]; rfl) dJ8_resize_1 ?_
  refine pw_astore_n X [(0, vR (some a0)), (1, vR r2)] [1, 0] dJ8_resize_4 rfl (by decide) rfl ?_
  refine pw_aload_n X dJ8_resize_5 rfl rfl ?_
  refine pw_ifnonnull X 13 dJ8_resize_6 (by decide) (fun u4 he5 => ?_) (fun he5 => ?_)
  · replace hw := hw.2 u4 he5
    subst he5
    refine pw_aload_n X dJ8_resize_13 rfl rfl ?_
    obtain ⟨hA6, hw⟩ := hw
    refine pw_alen X hA6 dJ8_resize_14 ?_
    exact bk_J8_resizeH_15 G C n0 s0 M0 Q X _ a0 (some u4) (nI (m_ln M u4)) hw
  · replace hw := hw.1 he5
    subst he5
    refine pw_iconst X 0 dJ8_resize_9 (by decide) ?_
    refine pw_goto X 15 dJ8_resize_10 (by decide) ?_
    exact bk_J8_resizeH_15 G C n0 s0 M0 Q X _ a0 none 0 hw
theorem met_J8_resizeH (G : Gp) (l : Launch) (M : Mem) (a0 : Nat) (Q : Option Nat → Mem → Prop) (hw : wp_J8_resizeH G.2 M a0 Q) : m_K G l yJ8_resize cJ8_resize 14 (some (.array (.object "java/util/HashMap$Node"))) 0 0 [vR (some a0)] M (va_Qq (m_q1 M Q) (m_W G) (m_A G)) := by
  refine m_met (by decide) (Nat.le_of_ble_eq_true rfl) (fun C e X => ?_)
  exact bk_J8_resizeH_0 G C _ _ M Q X M a0 hw
theorem nh_J8_resizeH : m_nMH yJ8_resize 0 := by decide +kernel

def wp_J8_putValH_b292 (g : Nat → Nat) (M : Mem) (la0 : Nat) (lx5 : Int32) (Q : Option Nat → Mem → Prop) : Prop := m_tg M la0 = 16 ∧ wp_J8_afterNodeInsertionH g M la0 lx5 (fun (M2 : Mem) => m_le M M2 → Q none M2)
def wp_J8_putValH_b259 (g : Nat → Nat) (M : Mem) (la0 : Nat) (lx5 : Int32) (Q : Option Nat → Mem → Prop) : Prop := m_tg M la0 = 16 ∧ ∀ M2 : Mem, M2 = (m_pi M la0 5 ((m_gi M la0 5) + 1)) → ∀ M6 : Mem, M6 = (m_pi M2 la0 4 ((m_gi M2 la0 4) + 1)) → ((((m_gi M2 la0 4) + 1) ≤ (m_gi M6 la0 6) → wp_J8_putValH_b292 g M6 la0 lx5 Q) ∧ (¬ ((m_gi M2 la0 4) + 1) ≤ (m_gi M6 la0 6) → wp_J8_resizeH g M6 la0 (fun (r13 : Option Nat) (M11 : Mem) => m_le M6 M11 → wp_J8_putValH_b292 g M11 la0 lx5 Q)))
def wp_J8_putValH_b250 (g : Nat → Nat) (M : Mem) (la0 : Nat) (la10 : Nat) (lr12 : Option Nat) (Q : Option Nat → Mem → Prop) : Prop := m_tg M la0 = 16 ∧ wp_J8_afterNodeAccessH g M la0 la10 (fun (M2 : Mem) => m_le M M2 → Q lr12 M2)
def wp_J8_putValH_b244 (g : Nat → Nat) (M : Mem) (la0 : Nat) (la3 : Nat) (la10 : Nat) (lr12 : Option Nat) (Q : Option Nat → Mem → Prop) : Prop := m_tg M la10 = 18 ∧ ∀ M2 : Mem, M2 = (m_pr M la10 2 (some la3)) → wp_J8_putValH_b250 g M2 la0 la10 lr12 Q
def wp_J8_putValH_b222 (g : Nat → Nat) (M : Mem) (la0 : Nat) (la3 : Nat) (lx4 : Int32) (lx5 : Int32) (lr10 : Option Nat) (Q : Option Nat → Mem → Prop) : Prop := ((lr10 = none → wp_J8_putValH_b259 g M la0 lx5 Q) ∧ (∀ u1 : Nat, lr10 = some u1 → m_tg M u1 = 18 ∧ ∀ r4 : Option Nat, r4 = (m_gr M u1 2) → ((lx4 = 0 → wp_J8_putValH_b244 g M la0 la3 u1 r4 Q) ∧ (¬ lx4 = 0 → ((r4 = none → wp_J8_putValH_b244 g M la0 la3 u1 none Q) ∧ (∀ u7 : Nat, r4 = some u7 → wp_J8_putValH_b250 g M la0 u1 (some u7) Q))))))
def wp_J8_putValH_b97 (g : Nat → Nat) (M : Mem) (la0 : Nat) (la3 : Nat) (lx4 : Int32) (lx5 : Int32) (la7 : Nat) (Q : Option Nat → Mem → Prop) : Prop := wp_J8_putValH_b222 g M la0 la3 lx4 lx5 (some la7) Q
def wp_J8_putValH_b134 (g : Nat → Nat) (Q : Option Nat → Mem → Prop) : Nat → Mem → Nat → Int32 → Nat → Nat → Int32 → Int32 → Option Nat → Nat → Int32 → Prop
  | 0 => fun _ _ _ _ _ _ _ _ _ _ => False
  | n + 1 => fun M la0 lx1 la2 la3 lx4 lx5 lr6 la7 lx12 => m_tg M la7 = 18 ∧ ∀ r2 : Option Nat, r2 = (m_gr M la7 3) → ((r2 = none → m_tg M la0 = 16 ∧ wp_J8_newNodeH g M la0 lx1 la2 la3 none (fun (r25 : Option Nat) (M23 : Mem) => m_le M M23 → ∀ M28 : Mem, M28 = (m_pr M23 la7 3 r25) → ((lx12 < 7 → wp_J8_putValH_b222 g M28 la0 la3 lx4 lx5 none Q) ∧ (¬ lx12 < 7 → False)))) ∧ (∀ u4 : Nat, r2 = some u4 → m_tg M u4 = 18 ∧ ((¬ (m_gi M u4 0) = lx1 → wp_J8_putValH_b134 g Q n M la0 lx1 la2 la3 lx4 lx5 lr6 u4 (lx12 + 1)) ∧ ((m_gi M u4 0) = lx1 → ∀ r8 : Option Nat, r8 = (m_gr M u4 1) → ((r8 = (some la2) → wp_J8_putValH_b222 g M la0 la3 lx4 lx5 (some u4) Q) ∧ (¬ r8 = (some la2) → ∃ u12 : Nat, r8 = some u12 ∧ m_tg M la2 = 11 ∧ wp_X10_equals g M la2 u12 (fun (r17 : Int32) (M15 : Mem) => m_le M M15 → ((r17 = 0 → wp_J8_putValH_b134 g Q n M15 la0 lx1 la2 la3 lx4 lx5 lr6 u4 (lx12 + 1)) ∧ (¬ r17 = 0 → wp_J8_putValH_b222 g M15 la0 la3 lx4 lx5 (some u4) Q)))))))))
def wp_J8_putValH_b104 (g : Nat → Nat) (M : Mem) (la0 : Nat) (lx1 : Int32) (la2 : Nat) (la3 : Nat) (lx4 : Int32) (lx5 : Int32) (lr6 : Option Nat) (la7 : Nat) (Q : Option Nat → Mem → Prop) : Prop := m_tg M la7 = 18 ∧ ∃ j134 : Nat, wp_J8_putValH_b134 g Q j134 M la0 lx1 la2 la3 lx4 lx5 lr6 la7 0
def wp_J8_putValH_b29 (g : Nat → Nat) (M : Mem) (la0 : Nat) (lx1 : Int32) (la2 : Nat) (la3 : Nat) (lx4 : Int32) (lx5 : Int32) (lr6 : Option Nat) (lx8 : Int32) (Q : Option Nat → Mem → Prop) : Prop := ∃ u1 : Nat, lr6 = some u1 ∧ m_tg M u1 = 104 ∧ vp_in ((lx8 - 1) &&& lx1) (m_ln M u1) ∧ ∀ r5 : Option Nat, r5 = (m_gr M u1 (Int32.toNatClampNeg ((lx8 - 1) &&& lx1))) → ((r5 = none → m_tg M la0 = 16 ∧ wp_J8_newNodeH g M la0 lx1 la2 la3 none (fun (r28 : Option Nat) (M26 : Mem) => m_le M M26 → vp_in ((lx8 - 1) &&& lx1) (m_ln M26 u1) ∧ (∀ y : Nat, r28 = some y → m_asg M26 y "java/util/HashMap$Node") ∧ ∀ M32 : Mem, M32 = (m_pr M26 u1 (Int32.toNatClampNeg ((lx8 - 1) &&& lx1)) r28) → wp_J8_putValH_b259 g M32 la0 lx5 Q)) ∧ (∀ u7 : Nat, r5 = some u7 → m_tg M u7 = 18 ∧ ((¬ (m_gi M u7 0) = lx1 → wp_J8_putValH_b104 g M la0 lx1 la2 la3 lx4 lx5 (some u1) u7 Q) ∧ ((m_gi M u7 0) = lx1 → ∀ r11 : Option Nat, r11 = (m_gr M u7 1) → ((r11 = (some la2) → wp_J8_putValH_b97 g M la0 la3 lx4 lx5 u7 Q) ∧ (¬ r11 = (some la2) → ∃ u15 : Nat, r11 = some u15 ∧ m_tg M la2 = 11 ∧ wp_X10_equals g M la2 u15 (fun (r20 : Int32) (M18 : Mem) => m_le M M18 → ((r20 = 0 → wp_J8_putValH_b104 g M18 la0 lx1 la2 la3 lx4 lx5 (some u1) u7 Q) ∧ (¬ r20 = 0 → wp_J8_putValH_b97 g M18 la0 la3 lx4 lx5 u7 Q)))))))))
def wp_J8_putValH_b19 (g : Nat → Nat) (M : Mem) (la0 : Nat) (lx1 : Int32) (la2 : Nat) (la3 : Nat) (lx4 : Int32) (lx5 : Int32) (Q : Option Nat → Mem → Prop) : Prop := m_tg M la0 = 16 ∧ wp_J8_resizeH g M la0 (fun (r4 : Option Nat) (M2 : Mem) => m_le M M2 → ∃ u6 : Nat, r4 = some u6 ∧ m_isA M2 u6 ∧ wp_J8_putValH_b29 g M2 la0 lx1 la2 la3 lx4 lx5 (some u6) (nI (m_ln M2 u6)) Q)
def wp_J8_putValH (g : Nat → Nat) (M : Mem) (a0 : Nat) (x1 : Int32) (a2 : Nat) (a3 : Nat) (x4 : Int32) (x5 : Int32) (Q : Option Nat → Mem → Prop) : Prop := m_tg M a0 = 16 ∧ ∀ r2 : Option Nat, r2 = (m_gr M a0 2) → ((r2 = none → wp_J8_putValH_b19 g M a0 x1 a2 a3 x4 x5 Q) ∧ (∀ u4 : Nat, r2 = some u4 → m_isA M u4 ∧ ((¬ (nI (m_ln M u4)) = 0 → wp_J8_putValH_b29 g M a0 x1 a2 a3 x4 x5 (some u4) (nI (m_ln M u4)) Q) ∧ ((nI (m_ln M u4)) = 0 → wp_J8_putValH_b19 g M a0 x1 a2 a3 x4 x5 Q))))
theorem bk_J8_putValH_292 (G : Gp) (C : m_Cx) (n0 s0 : Nat) (M0 : Mem) (Q : Option Nat → Mem → Prop) (X : m_in G C RJ8 cJ8_putVal 13 (some (.object "java/lang/Object")) "putVal" 3 60 n0 s0) (M : Mem) (la0 : Nat) (lx5 : Int32) (hw : wp_J8_putValH_b292 G.2 M la0 lx5 Q) : pW G C 13 n0 s0 M0 (m_Q G C n0 s0 (va_Qq (m_q1 M0 Q) (m_W G) (m_A G))) M 292 [(0, vR (some la0)), (5, vI lx5)] [] := by
  refine pw_aload_n X dJ8_putVal_292 rfl rfl ?_
  refine pw_iload X dJ8_putVal_293 rfl ?_
  obtain ⟨ht1, hw⟩ := hw
  refine pw_runv X (m_cV X (b := la0) (ci := 15) (q := (RJ8, TJ8, tyJ8, 8)) (met_J8_afterNodeInsertionH G C.2.1 M la0 lx5 _ hw) ht1 rfl (lw_V q845 q846 q847 q89 q856) ⟨rfl, nh_J8_afterNodeInsertionH⟩ ⟨Nat.le_of_ble_eq_true rfl, Nat.le_of_ble_eq_true rfl⟩ rfl (Nat.le_of_ble_eq_true rfl) dJ8_putVal_295) (fun M2 hle3 hx => ?_)
  replace hw := hx hle3
  clear hx
  have ht4 : m_tg M2 la0 = 16 := m_le_tg hle3 ht1
  refine pw_null X dJ8_putVal_298 ?_
  exact pw_aret X (Or.inl ⟨_, rfl⟩) hw dJ8_putVal_299
theorem bk_J8_putValH_259 (G : Gp) (C : m_Cx) (n0 s0 : Nat) (M0 : Mem) (Q : Option Nat → Mem → Prop) (X : m_in G C RJ8 cJ8_putVal 13 (some (.object "java/lang/Object")) "putVal" 3 60 n0 s0) (M : Mem) (la0 : Nat) (lx5 : Int32) (hw : wp_J8_putValH_b259 G.2 M la0 lx5 Q) : pW G C 13 n0 s0 M0 (m_Q G C n0 s0 (va_Qq (m_q1 M0 Q) (m_W G) (m_A G))) M 259 [(0, vR (some la0)), (5, vI lx5)] [] := by
  refine pw_aload_n X dJ8_putVal_259 rfl rfl ?_
  refine pw_dup X dJ8_putVal_260 ?_
  obtain ⟨ht1, hw⟩ := hw
  refine pw_get X (q := (RJ8, TJ8, tyJ8, 8)) (ci := 15) (k := 5) (ref := "java/util/HashMap") (vI (m_gi M la0 5)) ht1 rfl (by decide) in_J8 q256 (Or.inl rfl) rfl dJ8_putVal_261 ?_
  refine pw_iconst X 1 dJ8_putVal_264 (by decide) ?_
  refine pw_iadd X dJ8_putVal_265 ?_
  obtain ⟨M2, hM3⟩ : ∃ z : Mem, z = (m_pi M la0 5 ((m_gi M la0 5) + 1)) := ⟨_, rfl⟩
  replace hw := hw M2 hM3
  refine pw_put X (q := (RJ8, TJ8, tyJ8, 8)) (ci := 15) (k := 5) (ref := "java/util/HashMap") M2 hM3.symm ht1 rfl (by decide) in_J8 tyJ8_ok nmJ8 q256 (Or.inl rfl) rfl (m_kd_i (fun _ _ => rfl)) rfl rfl dJ8_putVal_266 ?_
  have hle4 : m_le M M2 := by rw [hM3]; exact m_le_pi
  have ht5 : m_tg M2 la0 = 16 := m_le_tg hle4 ht1
  refine pw_aload_n X dJ8_putVal_269 rfl rfl ?_
  refine pw_dup X dJ8_putVal_270 ?_
  refine pw_get X (q := (RJ8, TJ8, tyJ8, 8)) (ci := 15) (k := 4) (ref := "java/util/HashMap") (vI (m_gi M2 la0 4)) ht5 rfl (by decide) in_J8 q253 (Or.inl rfl) rfl dJ8_putVal_271 ?_
  refine pw_iconst X 1 dJ8_putVal_274 (by decide) ?_
  refine pw_iadd X dJ8_putVal_275 ?_
  refine pw_dup_x1 X dJ8_putVal_276 ?_
  obtain ⟨M6, hM7⟩ : ∃ z : Mem, z = (m_pi M2 la0 4 ((m_gi M2 la0 4) + 1)) := ⟨_, rfl⟩
  replace hw := hw M6 hM7
  refine pw_put X (q := (RJ8, TJ8, tyJ8, 8)) (ci := 15) (k := 4) (ref := "java/util/HashMap") M6 hM7.symm ht5 rfl (by decide) in_J8 tyJ8_ok nmJ8 q253 (Or.inl rfl) rfl (m_kd_i (fun _ _ => rfl)) rfl rfl dJ8_putVal_277 ?_
  have hle8 : m_le M2 M6 := by rw [hM7]; exact m_le_pi
  have ht9 : m_tg M6 la0 = 16 := m_le_tg hle8 ht5
  refine pw_aload_n X dJ8_putVal_280 rfl rfl ?_
  refine pw_get X (q := (RJ8, TJ8, tyJ8, 8)) (ci := 15) (k := 6) (ref := "java/util/HashMap") (vI (m_gi M6 la0 6)) ht9 rfl (by decide) in_J8 q257 (Or.inl rfl) rfl dJ8_putVal_281 ?_
  refine pw_icmp_le X 292 dJ8_putVal_284 (by decide) (fun c10 => ?_) (fun c10 => ?_)
  · replace hw := hw.1 c10
    exact bk_J8_putValH_292 G C n0 s0 M0 Q X _ la0 lx5 hw
  · replace hw := hw.2 c10
    refine pw_aload_n X dJ8_putVal_287 rfl rfl ?_
    refine pw_runq X (m_cV X (b := la0) (ci := 15) (q := (RJ8, TJ8, tyJ8, 8)) (met_J8_resizeH G C.2.1 M6 la0 _ hw) ht9 rfl (lw_V q667 q668 q669 q89 q672) ⟨rfl, nh_J8_resizeH⟩ ⟨Nat.le_of_ble_eq_true rfl, Nat.le_of_ble_eq_true rfl⟩ rfl (Nat.le_of_ble_eq_true rfl) dJ8_putVal_288) (fun r13 M11 hle12 hx => ?_)
    replace hw := hx hle12
    clear hx
    have ht14 : m_tg M11 la0 = 16 := m_le_tg hle12 ht9
    refine pw_pop X dJ8_putVal_291 ?_
    exact bk_J8_putValH_292 G C n0 s0 M0 Q X _ la0 lx5 hw
theorem bk_J8_putValH_250 (G : Gp) (C : m_Cx) (n0 s0 : Nat) (M0 : Mem) (Q : Option Nat → Mem → Prop) (X : m_in G C RJ8 cJ8_putVal 13 (some (.object "java/lang/Object")) "putVal" 3 60 n0 s0) (M : Mem) (la0 : Nat) (la10 : Nat) (lr12 : Option Nat) (hw : wp_J8_putValH_b250 G.2 M la0 la10 lr12 Q) : pW G C 13 n0 s0 M0 (m_Q G C n0 s0 (va_Qq (m_q1 M0 Q) (m_W G) (m_A G))) M 250 [(0, vR (some la0)), (10, vR (some la10)), (12, vR lr12)] [] := by
  refine pw_aload_n X dJ8_putVal_250 rfl rfl ?_
  refine pw_aload X dJ8_putVal_251 rfl ?_
  obtain ⟨ht1, hw⟩ := hw
  refine pw_runv X (m_cV X (b := la0) (ci := 15) (q := (RJ8, TJ8, tyJ8, 8)) (met_J8_afterNodeAccessH G C.2.1 M la0 la10 _ hw) ht1 rfl (lw_V q839 q840 q841 q89 q844) ⟨rfl, nh_J8_afterNodeAccessH⟩ ⟨Nat.le_of_ble_eq_true rfl, Nat.le_of_ble_eq_true rfl⟩ rfl (Nat.le_of_ble_eq_true rfl) dJ8_putVal_253) (fun M2 hle3 hx => ?_)
  replace hw := hx hle3
  clear hx
  have ht4 : m_tg M2 la0 = 16 := m_le_tg hle3 ht1
  refine pw_aload X dJ8_putVal_256 rfl ?_
  exact pw_aret X (Or.inl ⟨_, rfl⟩) hw dJ8_putVal_258
theorem bk_J8_putValH_244 (G : Gp) (C : m_Cx) (n0 s0 : Nat) (M0 : Mem) (Q : Option Nat → Mem → Prop) (X : m_in G C RJ8 cJ8_putVal 13 (some (.object "java/lang/Object")) "putVal" 3 60 n0 s0) (M : Mem) (la0 : Nat) (la3 : Nat) (la10 : Nat) (lr12 : Option Nat) (hw : wp_J8_putValH_b244 G.2 M la0 la3 la10 lr12 Q) : pW G C 13 n0 s0 M0 (m_Q G C n0 s0 (va_Qq (m_q1 M0 Q) (m_W G) (m_A G))) M 244 [(0, vR (some la0)), (3, vR (some la3)), (10, vR (some la10)), (12, vR lr12)] [] := by
  refine pw_aload X dJ8_putVal_244 rfl ?_
  refine pw_aload_n X dJ8_putVal_246 rfl rfl ?_
  obtain ⟨ht1, hw⟩ := hw
  obtain ⟨M2, hM3⟩ : ∃ z : Mem, z = (m_pr M la10 2 (some la3)) := ⟨_, rfl⟩
  replace hw := hw M2 hM3
  refine pw_put X (q := (RJ18, TJ18, tyJ18, 4)) (ci := 17) (k := 2) (ref := "java/util/HashMap$Node") M2 hM3.symm ht1 rfl (by decide) in_J18 tyJ18_ok nmJ18 q719 (Or.inl rfl) rfl (m_kd_r (fun _ _ => rfl)) m_no m_fo dJ8_putVal_247 ?_
  have hle4 : m_le M M2 := by rw [hM3]; exact m_le_pr
  have ht5 : m_tg M2 la10 = 18 := m_le_tg hle4 ht1
  refine pw_lo [0, 2, 3] rfl ?_
  exact bk_J8_putValH_250 G C n0 s0 M0 Q X _ la0 la10 lr12 hw
theorem bk_J8_putValH_222 (G : Gp) (C : m_Cx) (n0 s0 : Nat) (M0 : Mem) (Q : Option Nat → Mem → Prop) (X : m_in G C RJ8 cJ8_putVal 13 (some (.object "java/lang/Object")) "putVal" 3 60 n0 s0) (M : Mem) (la0 : Nat) (la3 : Nat) (lx4 : Int32) (lx5 : Int32) (lr10 : Option Nat) (hw : wp_J8_putValH_b222 G.2 M la0 la3 lx4 lx5 lr10 Q) : pW G C 13 n0 s0 M0 (m_Q G C n0 s0 (va_Qq (m_q1 M0 Q) (m_W G) (m_A G))) M 222 [(0, vR (some la0)), (3, vR (some la3)), (4, vI lx4), (5, vI lx5), (10, vR lr10)] [] := by
  refine pw_aload X dJ8_putVal_222 rfl ?_
  refine pw_ifnull X 259 dJ8_putVal_224 (by decide) (fun he2 => ?_) (fun u1 he2 => ?_)
  · replace hw := hw.1 he2
    subst he2
    refine pw_lo [0, 3] rfl ?_
    exact bk_J8_putValH_259 G C n0 s0 M0 Q X _ la0 lx5 hw
  · replace hw := hw.2 u1 he2
    subst he2
    refine pw_aload X dJ8_putVal_227 rfl ?_
    obtain ⟨ht3, hw⟩ := hw
    obtain ⟨r4, hr5⟩ : ∃ z : Option Nat, z = (m_gr M u1 2) := ⟨_, rfl⟩
    replace hw := hw r4 hr5
    refine pw_get X (q := (RJ18, TJ18, tyJ18, 4)) (ci := 17) (k := 2) (ref := "java/util/HashMap$Node") (vR r4) ht3 rfl (by decide) in_J18 q719 (Or.inl rfl) (by rw [hr5]; rfl) dJ8_putVal_229 ?_
    refine pw_astore X [(0, vR (some la0)), (3, vR (some la3)), (4, vI lx4), (10, vR (some u1)), (12, vR r4)] [1, 2, 3, 5, 0] dJ8_putVal_232 (by decide) rfl ?_
    refine pw_iload X dJ8_putVal_234 rfl ?_
    refine pw_if_eq X 244 dJ8_putVal_236 (by decide) (fun c6 => ?_) (fun c6 => ?_)
    · replace hw := hw.1 c6
      refine pw_lo [0, 1, 3, 4] rfl ?_
      exact bk_J8_putValH_244 G C n0 s0 M0 Q X _ la0 la3 u1 r4 hw
    · replace hw := hw.2 c6
      refine pw_aload X dJ8_putVal_239 rfl ?_
      refine pw_ifnonnull X 250 dJ8_putVal_241 (by decide) (fun u7 he8 => ?_) (fun he8 => ?_)
      · replace hw := hw.2 u7 he8
        subst he8
        refine pw_lo [0, 3, 4] rfl ?_
        exact bk_J8_putValH_250 G C n0 s0 M0 Q X _ la0 u1 (some u7) hw
      · replace hw := hw.1 he8
        subst he8
        refine pw_lo [0, 1, 3, 4] rfl ?_
        exact bk_J8_putValH_244 G C n0 s0 M0 Q X _ la0 la3 u1 none hw
theorem bk_J8_putValH_97 (G : Gp) (C : m_Cx) (n0 s0 : Nat) (M0 : Mem) (Q : Option Nat → Mem → Prop) (X : m_in G C RJ8 cJ8_putVal 13 (some (.object "java/lang/Object")) "putVal" 3 60 n0 s0) (M : Mem) (la0 : Nat) (la3 : Nat) (lx4 : Int32) (lx5 : Int32) (la7 : Nat) (hw : wp_J8_putValH_b97 G.2 M la0 la3 lx4 lx5 la7 Q) : pW G C 13 n0 s0 M0 (m_Q G C n0 s0 (va_Qq (m_q1 M0 Q) (m_W G) (m_A G))) M 97 [(0, vR (some la0)), (3, vR (some la3)), (4, vI lx4), (5, vI lx5), (7, vR (some la7))] [] := by
  refine pw_aload X dJ8_putVal_97 rfl ?_
  refine pw_astore X [(0, vR (some la0)), (3, vR (some la3)), (4, vI lx4), (5, vI lx5), (10, vR (some la7))] [1, 2, 3, 4, 0] dJ8_putVal_99 (by decide) rfl ?_
  refine pw_goto X 222 dJ8_putVal_101 (by decide) ?_
  exact bk_J8_putValH_222 G C n0 s0 M0 Q X _ la0 la3 lx4 lx5 (some la7) hw
theorem bk_J8_putValH_134 (G : Gp) (C : m_Cx) (n0 s0 : Nat) (M0 : Mem) (Q : Option Nat → Mem → Prop) (X : m_in G C RJ8 cJ8_putVal 13 (some (.object "java/lang/Object")) "putVal" 3 60 n0 s0) : ∀ (n : Nat) (M : Mem) (la0 : Nat) (lx1 : Int32) (la2 : Nat) (la3 : Nat) (lx4 : Int32) (lx5 : Int32) (lr6 : Option Nat) (la7 : Nat) (lx12 : Int32) (hw : wp_J8_putValH_b134 G.2 Q n M la0 lx1 la2 la3 lx4 lx5 lr6 la7 lx12), pW G C 13 n0 s0 M0 (m_Q G C n0 s0 (va_Qq (m_q1 M0 Q) (m_W G) (m_A G))) M 134 [(0, vR (some la0)), (1, vI lx1), (2, vR (some la2)), (3, vR (some la3)), (4, vI lx4), (5, vI lx5), (6, vR lr6), (7, vR (some la7)), (12, vI lx12)] [] := by
  intro n
  induction n with
  | zero => intro M la0 lx1 la2 la3 lx4 lx5 lr6 la7 lx12 hw; exact hw.elim
  | succ n ih =>
    intro M la0 lx1 la2 la3 lx4 lx5 lr6 la7 lx12 hw
    refine pw_aload X dJ8_putVal_134 rfl ?_
    obtain ⟨ht1, hw⟩ := hw
    obtain ⟨r2, hr3⟩ : ∃ z : Option Nat, z = (m_gr M la7 3) := ⟨_, rfl⟩
    replace hw := hw r2 hr3
    refine pw_get X (q := (RJ18, TJ18, tyJ18, 4)) (ci := 17) (k := 3) (ref := "java/util/HashMap$Node") (vR r2) ht1 rfl (by decide) in_J18 q725 (Or.inl rfl) (by rw [hr3]; rfl) dJ8_putVal_136 ?_
    refine pw_dup X dJ8_putVal_139 ?_
    refine pw_astore X [(0, vR (some la0)), (1, vI lx1), (2, vR (some la2)), (3, vR (some la3)), (4, vI lx4), (5, vI lx5), (6, vR lr6), (7, vR (some la7)), (10, vR r2), (12, vI lx12)] [1, 2, 3, 4, 5, 6, 7, 8, 0, 9] dJ8_putVal_140 (by decide) rfl ?_
    refine pw_ifnonnull X 175 dJ8_putVal_142 (by decide) (fun u4 he5 => ?_) (fun he5 => ?_)
    · replace hw := hw.2 u4 he5
      subst he5
      refine pw_aload X dJ8_putVal_175 rfl ?_
      obtain ⟨ht6, hw⟩ := hw
      refine pw_get X (q := (RJ18, TJ18, tyJ18, 4)) (ci := 17) (k := 0) (ref := "java/util/HashMap$Node") (vI (m_gi M u4 0)) ht6 rfl (by decide) in_J18 q709 (Or.inl rfl) rfl dJ8_putVal_177 ?_
      refine pw_iload_n X dJ8_putVal_180 rfl rfl ?_
      refine pw_icmp_ne X 212 dJ8_putVal_181 (by decide) (fun c7 => ?_) (fun c7 => ?_)
      · replace hw := hw.1 c7
        refine pw_aload X dJ8_putVal_212 rfl ?_
        refine pw_astore X [(0, vR (some la0)), (1, vI lx1), (2, vR (some la2)), (3, vR (some la3)), (4, vI lx4), (5, vI lx5), (6, vR lr6), (7, vR (some u4)), (12, vI lx12)] [1, 2, 3, 4, 5, 6, 7, 0, 9] dJ8_putVal_214 (by decide) rfl ?_
        refine pw_iinc X (lx12 + 1) [(0, vR (some la0)), (1, vI lx1), (2, vR (some la2)), (3, vR (some la3)), (4, vI lx4), (5, vI lx5), (6, vR lr6), (7, vR (some u4)), (12, vI (lx12 + 1))] [1, 2, 3, 4, 5, 6, 7, 8, 0] dJ8_putVal_216 rfl (by first | rfl | decide) (by decide) rfl ?_
        refine pw_goto X 134 dJ8_putVal_219 (by decide) ?_
        exact ih _ la0 lx1 la2 la3 lx4 lx5 lr6 u4 (lx12 + 1) hw
      · replace hw := hw.2 c7
        refine pw_aload X dJ8_putVal_184 rfl ?_
        obtain ⟨r8, hr9⟩ : ∃ z : Option Nat, z = (m_gr M u4 1) := ⟨_, rfl⟩
        replace hw := hw r8 hr9
        refine pw_get X (q := (RJ18, TJ18, tyJ18, 4)) (ci := 17) (k := 1) (ref := "java/util/HashMap$Node") (vR r8) ht6 rfl (by decide) in_J18 q715 (Or.inl rfl) (by rw [hr9]; rfl) dJ8_putVal_186 ?_
        refine pw_dup X dJ8_putVal_189 ?_
        refine pw_astore X [(0, vR (some la0)), (1, vI lx1), (2, vR (some la2)), (3, vR (some la3)), (4, vI lx4), (5, vI lx5), (6, vR lr6), (10, vR (some u4)), (11, vR r8), (12, vI lx12)] [1, 2, 3, 4, 5, 6, 7, 9, 0, 10] dJ8_putVal_190 (by decide) rfl ?_
        refine pw_aload_n X dJ8_putVal_192 rfl rfl ?_
        refine pw_acmp_eq X 222 dJ8_putVal_193 (by decide) (fun c10 => ?_) (fun c10 => ?_)
        · replace hw := hw.1 c10
          refine pw_lo [0, 3, 4, 5, 7] rfl ?_
          exact bk_J8_putValH_222 G C n0 s0 M0 Q X _ la0 la3 lx4 lx5 (some u4) hw
        · replace hw := hw.2 c10
          refine pw_aload_n X dJ8_putVal_196 rfl rfl ?_
          refine pw_ifnull X 212 dJ8_putVal_197 (by decide) (fun c => by cases c) (fun _ _ => ?_)
          refine pw_aload_n X dJ8_putVal_200 rfl rfl ?_
          refine pw_aload X dJ8_putVal_201 rfl ?_
          obtain ⟨u12, he13, hw⟩ := hw
          subst he13
          obtain ⟨ht14, hw⟩ := hw
          refine pw_runi X (m_cO X (owner := "java/lang/Object") (b := la2) (ci := 10) (q := (RX10, TX10, tyX10, 1)) (met_X10_equals G C.2.1 M la2 u12 _ hw) ht14 rfl (lw_app (lw_O q361 q363 q362 q376 q377 q118) (lw_meth q378)) q393 (by decide +kernel : m_nMHo "java/lang/Object" ⟨"java/lang/Object", "equals", "(Ljava/lang/Object;)Z"⟩ 1) ⟨Nat.le_of_ble_eq_true rfl, Nat.le_of_ble_eq_true rfl⟩ rfl (Nat.le_of_ble_eq_true rfl) dJ8_putVal_203) (fun r17 M15 hle16 hx => ?_)
          replace hw := hx hle16
          clear hx
          have ht18 : m_tg M15 la7 = 18 := m_le_tg hle16 ht1
          have ht19 : m_tg M15 u4 = 18 := m_le_tg hle16 ht6
          have ht20 : m_tg M15 la2 = 11 := m_le_tg hle16 ht14
          refine pw_if_eq X 212 dJ8_putVal_206 (by decide) (fun c21 => ?_) (fun c21 => ?_)
          · replace hw := hw.1 c21
            refine pw_aload X dJ8_putVal_212 rfl ?_
            refine pw_astore X [(0, vR (some la0)), (1, vI lx1), (2, vR (some la2)), (3, vR (some la3)), (4, vI lx4), (5, vI lx5), (6, vR lr6), (7, vR (some u4)), (12, vI lx12)] [1, 2, 3, 4, 5, 6, 7, 0, 10] dJ8_putVal_214 (by decide) rfl ?_
            refine pw_iinc X (lx12 + 1) [(0, vR (some la0)), (1, vI lx1), (2, vR (some la2)), (3, vR (some la3)), (4, vI lx4), (5, vI lx5), (6, vR lr6), (7, vR (some u4)), (12, vI (lx12 + 1))] [1, 2, 3, 4, 5, 6, 7, 8, 0] dJ8_putVal_216 rfl (by first | rfl | decide) (by decide) rfl ?_
            refine pw_goto X 134 dJ8_putVal_219 (by decide) ?_
            exact ih _ la0 lx1 la2 la3 lx4 lx5 lr6 u4 (lx12 + 1) hw
          · replace hw := hw.2 c21
            refine pw_goto X 222 dJ8_putVal_209 (by decide) ?_
            refine pw_lo [0, 3, 4, 5, 7] rfl ?_
            exact bk_J8_putValH_222 G C n0 s0 M0 Q X _ la0 la3 lx4 lx5 (some u4) hw
    · replace hw := hw.1 he5
      subst he5
      refine pw_aload X dJ8_putVal_145 rfl ?_
      refine pw_aload_n X dJ8_putVal_147 rfl rfl ?_
      refine pw_iload_n X dJ8_putVal_148 rfl rfl ?_
      refine pw_aload_n X dJ8_putVal_149 rfl rfl ?_
      refine pw_aload_n X dJ8_putVal_150 rfl rfl ?_
      refine pw_null X dJ8_putVal_151 ?_
      obtain ⟨ht22, hw⟩ := hw
      refine pw_runq X (m_cV X (b := la0) (ci := 15) (q := (RJ8, TJ8, tyJ8, 8)) (met_J8_newNodeH G C.2.1 M la0 lx1 la2 la3 none _ hw) ht22 rfl (lw_V q770 q771 q772 q89 q781) ⟨rfl, nh_J8_newNodeH⟩ ⟨Nat.le_of_ble_eq_true rfl, Nat.le_of_ble_eq_true rfl⟩ rfl (Nat.le_of_ble_eq_true rfl) dJ8_putVal_152) (fun r25 M23 hle24 hx => ?_)
      replace hw := hx hle24
      clear hx
      have ht26 : m_tg M23 la7 = 18 := m_le_tg hle24 ht1
      have ht27 : m_tg M23 la0 = 16 := m_le_tg hle24 ht22
      obtain ⟨M28, hM29⟩ : ∃ z : Mem, z = (m_pr M23 la7 3 r25) := ⟨_, rfl⟩
      replace hw := hw M28 hM29
      refine pw_put X (q := (RJ18, TJ18, tyJ18, 4)) (ci := 17) (k := 3) (ref := "java/util/HashMap$Node") M28 hM29.symm ht26 rfl (by decide) in_J18 tyJ18_ok nmJ18 q725 (Or.inl rfl) rfl (m_kd_r (fun _ _ => rfl)) m_no m_fo dJ8_putVal_155 ?_
      have hle30 : m_le M23 M28 := by rw [hM29]; exact m_le_pr
      have ht31 : m_tg M28 la7 = 18 := m_le_tg hle30 ht26
      have ht32 : m_tg M28 la0 = 16 := m_le_tg hle30 ht27
      refine pw_iload X dJ8_putVal_158 rfl ?_
      refine pw_bipush X 7 dJ8_putVal_160 (by decide) ?_
      refine pw_icmp_lt X 222 dJ8_putVal_162 (by decide) (fun c33 => ?_) (fun c33 => ?_)
      · replace hw := hw.1 c33
        refine pw_lo [0, 3, 4, 5, 8] rfl ?_
        exact bk_J8_putValH_222 G C n0 s0 M0 Q X _ la0 la3 lx4 lx5 none hw
      · replace hw := hw.2 c33
        refine pw_aload_n X dJ8_putVal_165 rfl rfl ?_
        refine pw_aload X dJ8_putVal_166 rfl ?_
        refine pw_iload_n X dJ8_putVal_168 rfl rfl ?_
        exact hw.elim
theorem bk_J8_putValH_104 (G : Gp) (C : m_Cx) (n0 s0 : Nat) (M0 : Mem) (Q : Option Nat → Mem → Prop) (X : m_in G C RJ8 cJ8_putVal 13 (some (.object "java/lang/Object")) "putVal" 3 60 n0 s0) (M : Mem) (la0 : Nat) (lx1 : Int32) (la2 : Nat) (la3 : Nat) (lx4 : Int32) (lx5 : Int32) (lr6 : Option Nat) (la7 : Nat) (hw : wp_J8_putValH_b104 G.2 M la0 lx1 la2 la3 lx4 lx5 lr6 la7 Q) : pW G C 13 n0 s0 M0 (m_Q G C n0 s0 (va_Qq (m_q1 M0 Q) (m_W G) (m_A G))) M 104 [(0, vR (some la0)), (1, vI lx1), (2, vR (some la2)), (3, vR (some la3)), (4, vI lx4), (5, vI lx5), (6, vR lr6), (7, vR (some la7))] [] := by
  refine pw_aload X dJ8_putVal_104 rfl ?_
  obtain ⟨ht1, hw⟩ := hw
  refine pw_instNo X 17 (q := (RJ18, TJ18, tyJ18, 4)) (by decide) rfl ht1 q394 dJ8_putVal_106 ?_
  refine pw_if_eq X 131 dJ8_putVal_109 (by decide) (fun c => ?_) (fun c => ?_)
  rotate_left
  · exact absurd c (by decide)
  refine pw_iconst X 0 dJ8_putVal_131 (by decide) ?_
  refine pw_istore X [(0, vR (some la0)), (1, vI lx1), (2, vR (some la2)), (3, vR (some la3)), (4, vI lx4), (5, vI lx5), (6, vR lr6), (7, vR (some la7)), (12, vI 0)] [1, 2, 3, 4, 5, 6, 7, 8, 0] dJ8_putVal_132 (by decide) rfl ?_
  obtain ⟨n134, hw⟩ := hw
  exact bk_J8_putValH_134 G C n0 s0 M0 Q X n134 _ la0 lx1 la2 la3 lx4 lx5 lr6 la7 0 hw
theorem bk_J8_putValH_29 (G : Gp) (C : m_Cx) (n0 s0 : Nat) (M0 : Mem) (Q : Option Nat → Mem → Prop) (X : m_in G C RJ8 cJ8_putVal 13 (some (.object "java/lang/Object")) "putVal" 3 60 n0 s0) (M : Mem) (la0 : Nat) (lx1 : Int32) (la2 : Nat) (la3 : Nat) (lx4 : Int32) (lx5 : Int32) (lr6 : Option Nat) (lx8 : Int32) (hw : wp_J8_putValH_b29 G.2 M la0 lx1 la2 la3 lx4 lx5 lr6 lx8 Q) : pW G C 13 n0 s0 M0 (m_Q G C n0 s0 (va_Qq (m_q1 M0 Q) (m_W G) (m_A G))) M 29 [(0, vR (some la0)), (1, vI lx1), (2, vR (some la2)), (3, vR (some la3)), (4, vI lx4), (5, vI lx5), (6, vR lr6), (8, vI lx8)] [] := by
  refine pw_aload X dJ8_putVal_29 rfl ?_
  refine pw_iload X dJ8_putVal_31 rfl ?_
  refine pw_iconst X 1 dJ8_putVal_33 (by decide) ?_
  refine pw_isub X dJ8_putVal_34 ?_
  refine pw_iload_n X dJ8_putVal_35 rfl rfl ?_
  refine pw_iand X dJ8_putVal_36 ?_
  refine pw_dup X dJ8_putVal_37 ?_
  refine pw_istore X [(0, vR (some la0)), (1, vI lx1), (2, vR (some la2)), (3, vR (some la3)), (4, vI lx4), (5, vI lx5), (6, vR lr6), (9, vI ((lx8 - 1) &&& lx1))] [1, 2, 3, 4, 5, 6, 7, 0] dJ8_putVal_38 (by decide) rfl ?_
  obtain ⟨u1, he2, hw⟩ := hw
  subst he2
  obtain ⟨ht3, hw⟩ := hw
  obtain ⟨hi4, hw⟩ := hw
  obtain ⟨r5, hr6⟩ : ∃ z : Option Nat, z = (m_gr M u1 (Int32.toNatClampNeg ((lx8 - 1) &&& lx1))) := ⟨_, rfl⟩
  replace hw := hw r5 hr6
  refine pw_aald X (Or.inr (Or.inl ht3)) hi4 dJ8_putVal_40 ?_
  rw [← hr6]
  refine pw_dup X dJ8_putVal_41 ?_
  refine pw_astore X [(0, vR (some la0)), (1, vI lx1), (2, vR (some la2)), (3, vR (some la3)), (4, vI lx4), (5, vI lx5), (6, vR (some u1)), (7, vR r5), (9, vI ((lx8 - 1) &&& lx1))] [1, 2, 3, 4, 5, 6, 7, 0, 8] dJ8_putVal_42 (by decide) rfl ?_
  refine pw_ifnonnull X 63 dJ8_putVal_44 (by decide) (fun u7 he8 => ?_) (fun he8 => ?_)
  · replace hw := hw.2 u7 he8
    subst he8
    refine pw_aload X dJ8_putVal_63 rfl ?_
    obtain ⟨ht9, hw⟩ := hw
    refine pw_get X (q := (RJ18, TJ18, tyJ18, 4)) (ci := 17) (k := 0) (ref := "java/util/HashMap$Node") (vI (m_gi M u7 0)) ht9 rfl (by decide) in_J18 q709 (Or.inl rfl) rfl dJ8_putVal_65 ?_
    refine pw_iload_n X dJ8_putVal_68 rfl rfl ?_
    refine pw_icmp_ne X 104 dJ8_putVal_69 (by decide) (fun c10 => ?_) (fun c10 => ?_)
    · replace hw := hw.1 c10
      refine pw_lo [0, 1, 2, 3, 4, 5, 6, 7] rfl ?_
      exact bk_J8_putValH_104 G C n0 s0 M0 Q X _ la0 lx1 la2 la3 lx4 lx5 (some u1) u7 hw
    · replace hw := hw.2 c10
      refine pw_aload X dJ8_putVal_72 rfl ?_
      obtain ⟨r11, hr12⟩ : ∃ z : Option Nat, z = (m_gr M u7 1) := ⟨_, rfl⟩
      replace hw := hw r11 hr12
      refine pw_get X (q := (RJ18, TJ18, tyJ18, 4)) (ci := 17) (k := 1) (ref := "java/util/HashMap$Node") (vR r11) ht9 rfl (by decide) in_J18 q715 (Or.inl rfl) (by rw [hr12]; rfl) dJ8_putVal_74 ?_
      refine pw_dup X dJ8_putVal_77 ?_
      refine pw_astore X [(0, vR (some la0)), (1, vI lx1), (2, vR (some la2)), (3, vR (some la3)), (4, vI lx4), (5, vI lx5), (6, vR (some u1)), (7, vR (some u7)), (11, vR r11)] [1, 2, 3, 4, 5, 6, 7, 8, 0] dJ8_putVal_78 (by decide) rfl ?_
      refine pw_aload_n X dJ8_putVal_80 rfl rfl ?_
      refine pw_acmp_eq X 97 dJ8_putVal_81 (by decide) (fun c13 => ?_) (fun c13 => ?_)
      · replace hw := hw.1 c13
        refine pw_lo [0, 3, 4, 5, 7] rfl ?_
        exact bk_J8_putValH_97 G C n0 s0 M0 Q X _ la0 la3 lx4 lx5 u7 hw
      · replace hw := hw.2 c13
        refine pw_aload_n X dJ8_putVal_84 rfl rfl ?_
        refine pw_ifnull X 104 dJ8_putVal_85 (by decide) (fun c => by cases c) (fun _ _ => ?_)
        refine pw_aload_n X dJ8_putVal_88 rfl rfl ?_
        refine pw_aload X dJ8_putVal_89 rfl ?_
        obtain ⟨u15, he16, hw⟩ := hw
        subst he16
        obtain ⟨ht17, hw⟩ := hw
        refine pw_runi X (m_cO X (owner := "java/lang/Object") (b := la2) (ci := 10) (q := (RX10, TX10, tyX10, 1)) (met_X10_equals G C.2.1 M la2 u15 _ hw) ht17 rfl (lw_app (lw_O q361 q363 q362 q376 q377 q118) (lw_meth q378)) q393 (by decide +kernel : m_nMHo "java/lang/Object" ⟨"java/lang/Object", "equals", "(Ljava/lang/Object;)Z"⟩ 1) ⟨Nat.le_of_ble_eq_true rfl, Nat.le_of_ble_eq_true rfl⟩ rfl (Nat.le_of_ble_eq_true rfl) dJ8_putVal_91) (fun r20 M18 hle19 hx => ?_)
        replace hw := hx hle19
        clear hx
        have ht21 : m_tg M18 u1 = 104 := m_le_tg hle19 ht3
        have ht22 : m_tg M18 u7 = 18 := m_le_tg hle19 ht9
        have ht23 : m_tg M18 la2 = 11 := m_le_tg hle19 ht17
        refine pw_if_eq X 104 dJ8_putVal_94 (by decide) (fun c24 => ?_) (fun c24 => ?_)
        · replace hw := hw.1 c24
          refine pw_lo [0, 1, 2, 3, 4, 5, 6, 7] rfl ?_
          exact bk_J8_putValH_104 G C n0 s0 M0 Q X _ la0 lx1 la2 la3 lx4 lx5 (some u1) u7 hw
        · replace hw := hw.2 c24
          refine pw_lo [0, 3, 4, 5, 7] rfl ?_
          exact bk_J8_putValH_97 G C n0 s0 M0 Q X _ la0 la3 lx4 lx5 u7 hw
  · replace hw := hw.1 he8
    subst he8
    refine pw_aload X dJ8_putVal_47 rfl ?_
    refine pw_iload X dJ8_putVal_49 rfl ?_
    refine pw_aload_n X dJ8_putVal_51 rfl rfl ?_
    refine pw_iload_n X dJ8_putVal_52 rfl rfl ?_
    refine pw_aload_n X dJ8_putVal_53 rfl rfl ?_
    refine pw_aload_n X dJ8_putVal_54 rfl rfl ?_
    refine pw_null X dJ8_putVal_55 ?_
    obtain ⟨ht25, hw⟩ := hw
    refine pw_runq X (m_cV X (b := la0) (ci := 15) (q := (RJ8, TJ8, tyJ8, 8)) (met_J8_newNodeH G C.2.1 M la0 lx1 la2 la3 none _ hw) ht25 rfl (lw_V q770 q771 q772 q89 q781) ⟨rfl, nh_J8_newNodeH⟩ ⟨Nat.le_of_ble_eq_true rfl, Nat.le_of_ble_eq_true rfl⟩ rfl (Nat.le_of_ble_eq_true rfl) dJ8_putVal_56) (fun r28 M26 hle27 hx => ?_)
    replace hw := hx hle27
    clear hx
    have ht29 : m_tg M26 u1 = 104 := m_le_tg hle27 ht3
    have ht30 : m_tg M26 la0 = 16 := m_le_tg hle27 ht25
    obtain ⟨hi31, hw⟩ := hw
    obtain ⟨hg35, hw⟩ := hw
    obtain ⟨M32, hM33⟩ : ∃ z : Mem, z = (m_pr M26 u1 (Int32.toNatClampNeg ((lx8 - 1) &&& lx1)) r28) := ⟨_, rfl⟩
    replace hw := hw M32 hM33
    have hle34 : m_le M26 M32 := by rw [hM33]; exact m_le_pr
    refine pw_aast X (E := "java/util/HashMap$Node") 3 (by decide) rfl ht29 hi31 hg35 dJ8_putVal_59 ?_
    rw [← hM33]
    have ht36 : m_tg M32 u1 = 104 := m_le_tg hle34 ht29
    have ht37 : m_tg M32 la0 = 16 := m_le_tg hle34 ht30
    refine pw_goto X 259 dJ8_putVal_60 (by decide) ?_
    refine pw_lo [0, 5] rfl ?_
    exact bk_J8_putValH_259 G C n0 s0 M0 Q X _ la0 lx5 hw
theorem bk_J8_putValH_19 (G : Gp) (C : m_Cx) (n0 s0 : Nat) (M0 : Mem) (Q : Option Nat → Mem → Prop) (X : m_in G C RJ8 cJ8_putVal 13 (some (.object "java/lang/Object")) "putVal" 3 60 n0 s0) (M : Mem) (la0 : Nat) (lx1 : Int32) (la2 : Nat) (la3 : Nat) (lx4 : Int32) (lx5 : Int32) (hw : wp_J8_putValH_b19 G.2 M la0 lx1 la2 la3 lx4 lx5 Q) : pW G C 13 n0 s0 M0 (m_Q G C n0 s0 (va_Qq (m_q1 M0 Q) (m_W G) (m_A G))) M 19 [(0, vR (some la0)), (1, vI lx1), (2, vR (some la2)), (3, vR (some la3)), (4, vI lx4), (5, vI lx5)] [] := by
  refine pw_aload_n X dJ8_putVal_19 rfl rfl ?_
  obtain ⟨ht1, hw⟩ := hw
  refine pw_runq X (m_cV X (b := la0) (ci := 15) (q := (RJ8, TJ8, tyJ8, 8)) (met_J8_resizeH G C.2.1 M la0 _ hw) ht1 rfl (lw_V q667 q668 q669 q89 q672) ⟨rfl, nh_J8_resizeH⟩ ⟨Nat.le_of_ble_eq_true rfl, Nat.le_of_ble_eq_true rfl⟩ rfl (Nat.le_of_ble_eq_true rfl) dJ8_putVal_20) (fun r4 M2 hle3 hx => ?_)
  replace hw := hx hle3
  clear hx
  have ht5 : m_tg M2 la0 = 16 := m_le_tg hle3 ht1
  refine pw_dup X dJ8_putVal_23 ?_
  refine pw_astore X [(0, vR (some la0)), (1, vI lx1), (2, vR (some la2)), (3, vR (some la3)), (4, vI lx4), (5, vI lx5), (6, vR r4)] [1, 2, 3, 4, 5, 6, 0] dJ8_putVal_24 (by decide) rfl ?_
  obtain ⟨u6, he7, hw⟩ := hw
  subst he7
  obtain ⟨hA8, hw⟩ := hw
  refine pw_alen X hA8 dJ8_putVal_26 ?_
  refine pw_istore X [(0, vR (some la0)), (1, vI lx1), (2, vR (some la2)), (3, vR (some la3)), (4, vI lx4), (5, vI lx5), (6, vR (some u6)), (8, vI (nI (m_ln M2 u6)))] [1, 2, 3, 4, 5, 6, 7, 0] dJ8_putVal_27 (by decide) rfl ?_
  exact bk_J8_putValH_29 G C n0 s0 M0 Q X _ la0 lx1 la2 la3 lx4 lx5 (some u6) (nI (m_ln M2 u6)) hw
theorem bk_J8_putValH_0 (G : Gp) (C : m_Cx) (n0 s0 : Nat) (M0 : Mem) (Q : Option Nat → Mem → Prop) (X : m_in G C RJ8 cJ8_putVal 13 (some (.object "java/lang/Object")) "putVal" 3 60 n0 s0) (M : Mem) (a0 : Nat) (x1 : Int32) (a2 : Nat) (a3 : Nat) (x4 : Int32) (x5 : Int32) (hw : wp_J8_putValH G.2 M a0 x1 a2 a3 x4 x5 Q) : pW G C 13 n0 s0 M0 (m_Q G C n0 s0 (va_Qq (m_q1 M0 Q) (m_W G) (m_A G))) M 0 [(0, vR (some a0)), (1, vI x1), (2, vR (some a2)), (3, vR (some a3)), (4, vI x4), (5, vI x5)] [] := by
  refine pw_aload_n X dJ8_putVal_0 rfl rfl ?_
  obtain ⟨ht1, hw⟩ := hw
  obtain ⟨r2, hr3⟩ : ∃ z : Option Nat, z = (m_gr M a0 2) := ⟨_, rfl⟩
  replace hw := hw r2 hr3
  refine pw_get X (q := (RJ8, TJ8, tyJ8, 8)) (ci := 15) (k := 2) (ref := "java/util/HashMap") (vR r2) ht1 rfl (by decide) in_J8 q252 (Or.inl rfl) (by rw [hr3]; rfl) dJ8_putVal_1 ?_
  refine pw_dup X dJ8_putVal_4 ?_
  refine pw_astore X [(0, vR (some a0)), (1, vI x1), (2, vR (some a2)), (3, vR (some a3)), (4, vI x4), (5, vI x5), (6, vR r2)] [1, 2, 3, 4, 5, 6, 0] dJ8_putVal_5 (by decide) rfl ?_
  refine pw_ifnull X 19 dJ8_putVal_7 (by decide) (fun he5 => ?_) (fun u4 he5 => ?_)
  · replace hw := hw.1 he5
    subst he5
    refine pw_lo [0, 1, 2, 3, 4, 5] rfl ?_
    exact bk_J8_putValH_19 G C n0 s0 M0 Q X _ a0 x1 a2 a3 x4 x5 hw
  · replace hw := hw.2 u4 he5
    subst he5
    refine pw_aload X dJ8_putVal_10 rfl ?_
    obtain ⟨hA6, hw⟩ := hw
    refine pw_alen X hA6 dJ8_putVal_12 ?_
    refine pw_dup X dJ8_putVal_13 ?_
    refine pw_istore X [(0, vR (some a0)), (1, vI x1), (2, vR (some a2)), (3, vR (some a3)), (4, vI x4), (5, vI x5), (6, vR (some u4)), (8, vI (nI (m_ln M u4)))] [1, 2, 3, 4, 5, 6, 7, 0] dJ8_putVal_14 (by decide) rfl ?_
    refine pw_if_ne X 29 dJ8_putVal_16 (by decide) (fun c7 => ?_) (fun c7 => ?_)
    · replace hw := hw.1 c7
      exact bk_J8_putValH_29 G C n0 s0 M0 Q X _ a0 x1 a2 a3 x4 x5 (some u4) (nI (m_ln M u4)) hw
    · replace hw := hw.2 c7
      refine pw_lo [0, 1, 2, 3, 4, 5] rfl ?_
      exact bk_J8_putValH_19 G C n0 s0 M0 Q X _ a0 x1 a2 a3 x4 x5 hw
theorem met_J8_putValH (G : Gp) (l : Launch) (M : Mem) (a0 : Nat) (x1 : Int32) (a2 : Nat) (a3 : Nat) (x4 : Int32) (x5 : Int32) (Q : Option Nat → Mem → Prop) (hw : wp_J8_putValH G.2 M a0 x1 a2 a3 x4 x5 Q) : m_K G l yJ8_putVal cJ8_putVal 13 (some (.object "java/lang/Object")) 3 60 [vR (some a0), vI x1, vR (some a2), vR (some a3), vI x4, vI x5] M (va_Qq (m_q1 M Q) (m_W G) (m_A G)) := by
  refine m_met (by decide) (Nat.le_of_ble_eq_true rfl) (fun C e X => ?_)
  exact bk_J8_putValH_0 G C _ _ M Q X M a0 x1 a2 a3 x4 x5 hw
theorem nh_J8_putValH : m_nMH yJ8_putVal 5 := by decide +kernel

def wp_J8_putH (g : Nat → Nat) (M : Mem) (a0 : Nat) (a1 : Nat) (a2 : Nat) (Q : Option Nat → Mem → Prop) : Prop := wp_J8_hashH g M a1 (fun (r3 : Int32) (M1 : Mem) => m_le M M1 → m_tg M1 a0 = 16 ∧ wp_J8_putValH g M1 a0 r3 a1 a2 0 1 (fun (r7 : Option Nat) (M5 : Mem) => m_le M1 M5 → Q r7 M5))
theorem bk_J8_putH_0 (G : Gp) (C : m_Cx) (n0 s0 : Nat) (M0 : Mem) (Q : Option Nat → Mem → Prop) (X : m_in G C RJ8 cJ8_put 3 (some (.object "java/lang/Object")) "put" 4 92 n0 s0) (M : Mem) (a0 : Nat) (a1 : Nat) (a2 : Nat) (hw : wp_J8_putH G.2 M a0 a1 a2 Q) : pW G C 3 n0 s0 M0 (m_Q G C n0 s0 (va_Qq (m_q1 M0 Q) (m_W G) (m_A G))) M 0 [(0, vR (some a0)), (1, vR (some a1)), (2, vR (some a2))] [] := by
  refine pw_aload_n X dJ8_put_0 rfl rfl ?_
  refine pw_aload_n X dJ8_put_1 rfl rfl ?_
  refine pw_runi X (m_cS X (met_J8_hashH G C.2.1 M a1 _ hw) (lw_S q327 q328 q89 q329) nh_J8_hashH ⟨Nat.le_of_ble_eq_true rfl, Nat.le_of_ble_eq_true rfl⟩ rfl (Nat.le_of_ble_eq_true rfl) dJ8_put_2) (fun r3 M1 hle2 hx => ?_)
  replace hw := hx hle2
  clear hx
  refine pw_aload_n X dJ8_put_5 rfl rfl ?_
  refine pw_aload_n X dJ8_put_6 rfl rfl ?_
  refine pw_iconst X 0 dJ8_put_7 (by decide) ?_
  refine pw_iconst X 1 dJ8_put_8 (by decide) ?_
  obtain ⟨ht4, hw⟩ := hw
  refine pw_runq X (m_cV X (b := a0) (ci := 15) (q := (RJ8, TJ8, tyJ8, 8)) (met_J8_putValH G C.2.1 M1 a0 r3 a1 a2 0 1 _ hw) ht4 rfl (lw_V q661 q662 q663 q89 q666) ⟨rfl, nh_J8_putValH⟩ ⟨Nat.le_of_ble_eq_true rfl, Nat.le_of_ble_eq_true rfl⟩ rfl (Nat.le_of_ble_eq_true rfl) dJ8_put_9) (fun r7 M5 hle6 hx => ?_)
  replace hw := hx hle6
  clear hx
  have ht8 : m_tg M5 a0 = 16 := m_le_tg hle6 ht4
  exact pw_aret X (Or.inl ⟨_, rfl⟩) hw dJ8_put_12
theorem met_J8_putH (G : Gp) (l : Launch) (M : Mem) (a0 : Nat) (a1 : Nat) (a2 : Nat) (Q : Option Nat → Mem → Prop) (hw : wp_J8_putH G.2 M a0 a1 a2 Q) : m_K G l yJ8_put cJ8_put 3 (some (.object "java/lang/Object")) 4 92 [vR (some a0), vR (some a1), vR (some a2)] M (va_Qq (m_q1 M Q) (m_W G) (m_A G)) := by
  refine m_met (by decide) (Nat.le_of_ble_eq_true rfl) (fun C e X => ?_)
  exact bk_J8_putH_0 G C _ _ M Q X M a0 a1 a2 hw
theorem nh_J8_putH : m_nMH yJ8_put 2 := by decide +kernel

def wp_J8_getNodeH_b137 (g : Nat → Nat) (k99 : Mem → Nat → Nat → Int32 → Prop) (M : Mem) (la1 : Nat) (la4 : Nat) (lx6 : Int32) (Q : Option Nat → Mem → Prop) : Prop := m_tg M la4 = 18 ∧ ∀ r2 : Option Nat, r2 = (m_gr M la4 3) → ((r2 = none → Q none M) ∧ (∀ u4 : Nat, r2 = some u4 → k99 M la1 u4 lx6))
def wp_J8_getNodeH_b99 (g : Nat → Nat) (Q : Option Nat → Mem → Prop) : Nat → Mem → Nat → Nat → Int32 → Prop
  | 0 => fun _ _ _ _ => False
  | n + 1 => fun M la1 la4 lx6 => m_tg M la4 = 18 ∧ ((¬ (m_gi M la4 0) = lx6 → wp_J8_getNodeH_b137 g (wp_J8_getNodeH_b99 g Q n) M la1 la4 lx6 Q) ∧ ((m_gi M la4 0) = lx6 → ∀ r3 : Option Nat, r3 = (m_gr M la4 1) → ((r3 = (some la1) → Q (some la4) M) ∧ (¬ r3 = (some la1) → ∃ u7 : Nat, r3 = some u7 ∧ m_tg M la1 = 11 ∧ wp_X10_equals g M la1 u7 (fun (r12 : Int32) (M10 : Mem) => m_le M M10 → ((r12 = 0 → wp_J8_getNodeH_b137 g (wp_J8_getNodeH_b99 g Q n) M10 la1 la4 lx6 Q) ∧ (¬ r12 = 0 → Q (some la4) M10)))))))
def wp_J8_getNodeH_b71 (g : Nat → Nat) (M : Mem) (la1 : Nat) (la3 : Nat) (lx6 : Int32) (Q : Option Nat → Mem → Prop) : Prop := m_tg M la3 = 18 ∧ ∀ r2 : Option Nat, r2 = (m_gr M la3 3) → ((r2 = none → Q none M) ∧ (∀ u4 : Nat, r2 = some u4 → ∃ j99 : Nat, wp_J8_getNodeH_b99 g Q j99 M la1 u4 lx6))
def wp_J8_getNodeH (g : Nat → Nat) (M : Mem) (a0 : Nat) (a1 : Nat) (Q : Option Nat → Mem → Prop) : Prop := m_tg M a0 = 16 ∧ ∀ r2 : Option Nat, r2 = (m_gr M a0 2) → ((r2 = none → Q none M) ∧ (∀ u4 : Nat, r2 = some u4 → m_isA M u4 ∧ (((nI (m_ln M u4)) ≤ 0 → Q none M) ∧ (¬ (nI (m_ln M u4)) ≤ 0 → wp_J8_hashH g M a1 (fun (r10 : Int32) (M8 : Mem) => m_le M M8 → m_tg M8 u4 = 104 ∧ vp_in (((nI (m_ln M u4)) - 1) &&& r10) (m_ln M8 u4) ∧ ∀ r14 : Option Nat, r14 = (m_gr M8 u4 (Int32.toNatClampNeg (((nI (m_ln M u4)) - 1) &&& r10))) → ((r14 = none → Q none M8) ∧ (∀ u16 : Nat, r14 = some u16 → m_tg M8 u16 = 18 ∧ ((¬ (m_gi M8 u16 0) = r10 → wp_J8_getNodeH_b71 g M8 a1 u16 r10 Q) ∧ ((m_gi M8 u16 0) = r10 → ∀ r20 : Option Nat, r20 = (m_gr M8 u16 1) → ((r20 = (some a1) → Q (some u16) M8) ∧ (¬ r20 = (some a1) → ∃ u24 : Nat, r20 = some u24 ∧ m_tg M8 a1 = 11 ∧ wp_X10_equals g M8 a1 u24 (fun (r29 : Int32) (M27 : Mem) => m_le M8 M27 → ((r29 = 0 → wp_J8_getNodeH_b71 g M27 a1 u16 r10 Q) ∧ (¬ r29 = 0 → Q (some u16) M27))))))))))))))
theorem bk_J8_getNodeH_137 (G : Gp) (C : m_Cx) (n0 s0 : Nat) (M0 : Mem) (Q : Option Nat → Mem → Prop) (X : m_in G C RJ8 cJ8_getNode 8 (some (.object "java/util/HashMap$Node")) "getNode" 2 41 n0 s0) (k99 : Mem → Nat → Nat → Int32 → Prop) (hk99 : ∀ (M : Mem) (la1 : Nat) (la4 : Nat) (lx6 : Int32), k99 M la1 la4 lx6 → pW G C 8 n0 s0 M0 (m_Q G C n0 s0 (va_Qq (m_q1 M0 Q) (m_W G) (m_A G))) M 99 [(1, vR (some la1)), (4, vR (some la4)), (6, vI lx6)] []) (M : Mem) (la1 : Nat) (la4 : Nat) (lx6 : Int32) (hw : wp_J8_getNodeH_b137 G.2 k99 M la1 la4 lx6 Q) : pW G C 8 n0 s0 M0 (m_Q G C n0 s0 (va_Qq (m_q1 M0 Q) (m_W G) (m_A G))) M 137 [(1, vR (some la1)), (4, vR (some la4)), (6, vI lx6)] [] := by
  refine pw_aload X dJ8_getNode_137 rfl ?_
  obtain ⟨ht1, hw⟩ := hw
  obtain ⟨r2, hr3⟩ : ∃ z : Option Nat, z = (m_gr M la4 3) := ⟨_, rfl⟩
  replace hw := hw r2 hr3
  refine pw_get X (q := (RJ18, TJ18, tyJ18, 4)) (ci := 17) (k := 3) (ref := "java/util/HashMap$Node") (vR r2) ht1 rfl (by decide) in_J18 q725 (Or.inl rfl) (by rw [hr3]; rfl) dJ8_getNode_139 ?_
  refine pw_dup X dJ8_getNode_142 ?_
  refine pw_astore X [(1, vR (some la1)), (4, vR r2), (6, vI lx6)] [1, 0, 2] dJ8_getNode_143 (by decide) rfl ?_
  refine pw_ifnonnull X 99 dJ8_getNode_145 (by decide) (fun u4 he5 => ?_) (fun he5 => ?_)
  · replace hw := hw.2 u4 he5
    subst he5
    exact hk99 _ la1 u4 lx6 hw
  · replace hw := hw.1 he5
    subst he5
    refine pw_null X dJ8_getNode_148 ?_
    exact pw_aret X (Or.inl ⟨_, rfl⟩) hw dJ8_getNode_149
theorem bk_J8_getNodeH_99 (G : Gp) (C : m_Cx) (n0 s0 : Nat) (M0 : Mem) (Q : Option Nat → Mem → Prop) (X : m_in G C RJ8 cJ8_getNode 8 (some (.object "java/util/HashMap$Node")) "getNode" 2 41 n0 s0) : ∀ (n : Nat) (M : Mem) (la1 : Nat) (la4 : Nat) (lx6 : Int32) (hw : wp_J8_getNodeH_b99 G.2 Q n M la1 la4 lx6), pW G C 8 n0 s0 M0 (m_Q G C n0 s0 (va_Qq (m_q1 M0 Q) (m_W G) (m_A G))) M 99 [(1, vR (some la1)), (4, vR (some la4)), (6, vI lx6)] [] := by
  intro n
  induction n with
  | zero => intro M la1 la4 lx6 hw; exact hw.elim
  | succ n ih =>
    intro M la1 la4 lx6 hw
    refine pw_aload X dJ8_getNode_99 rfl ?_
    obtain ⟨ht1, hw⟩ := hw
    refine pw_get X (q := (RJ18, TJ18, tyJ18, 4)) (ci := 17) (k := 0) (ref := "java/util/HashMap$Node") (vI (m_gi M la4 0)) ht1 rfl (by decide) in_J18 q709 (Or.inl rfl) rfl dJ8_getNode_101 ?_
    refine pw_iload X dJ8_getNode_104 rfl ?_
    refine pw_icmp_ne X 137 dJ8_getNode_106 (by decide) (fun c2 => ?_) (fun c2 => ?_)
    · replace hw := hw.1 c2
      exact bk_J8_getNodeH_137 G C n0 s0 M0 Q X (wp_J8_getNodeH_b99 G.2 Q n) ih _ la1 la4 lx6 hw
    · replace hw := hw.2 c2
      refine pw_aload X dJ8_getNode_109 rfl ?_
      obtain ⟨r3, hr4⟩ : ∃ z : Option Nat, z = (m_gr M la4 1) := ⟨_, rfl⟩
      replace hw := hw r3 hr4
      refine pw_get X (q := (RJ18, TJ18, tyJ18, 4)) (ci := 17) (k := 1) (ref := "java/util/HashMap$Node") (vR r3) ht1 rfl (by decide) in_J18 q715 (Or.inl rfl) (by rw [hr4]; rfl) dJ8_getNode_111 ?_
      refine pw_dup X dJ8_getNode_114 ?_
      refine pw_astore X [(1, vR (some la1)), (4, vR (some la4)), (6, vI lx6), (7, vR r3)] [1, 2, 3, 0] dJ8_getNode_115 (by decide) rfl ?_
      refine pw_aload_n X dJ8_getNode_117 rfl rfl ?_
      refine pw_acmp_eq X 134 dJ8_getNode_118 (by decide) (fun c5 => ?_) (fun c5 => ?_)
      · replace hw := hw.1 c5
        refine pw_aload X dJ8_getNode_134 rfl ?_
        exact pw_aret X (Or.inl ⟨_, rfl⟩) hw dJ8_getNode_136
      · replace hw := hw.2 c5
        refine pw_aload_n X dJ8_getNode_121 rfl rfl ?_
        refine pw_ifnull X 137 dJ8_getNode_122 (by decide) (fun c => by cases c) (fun _ _ => ?_)
        refine pw_aload_n X dJ8_getNode_125 rfl rfl ?_
        refine pw_aload X dJ8_getNode_126 rfl ?_
        obtain ⟨u7, he8, hw⟩ := hw
        subst he8
        obtain ⟨ht9, hw⟩ := hw
        refine pw_runi X (m_cO X (owner := "java/lang/Object") (b := la1) (ci := 10) (q := (RX10, TX10, tyX10, 1)) (met_X10_equals G C.2.1 M la1 u7 _ hw) ht9 rfl (lw_app (lw_O q361 q363 q362 q376 q377 q118) (lw_meth q378)) q393 (by decide +kernel : m_nMHo "java/lang/Object" ⟨"java/lang/Object", "equals", "(Ljava/lang/Object;)Z"⟩ 1) ⟨Nat.le_of_ble_eq_true rfl, Nat.le_of_ble_eq_true rfl⟩ rfl (Nat.le_of_ble_eq_true rfl) dJ8_getNode_128) (fun r12 M10 hle11 hx => ?_)
        replace hw := hx hle11
        clear hx
        have ht13 : m_tg M10 la4 = 18 := m_le_tg hle11 ht1
        have ht14 : m_tg M10 la1 = 11 := m_le_tg hle11 ht9
        refine pw_if_eq X 137 dJ8_getNode_131 (by decide) (fun c15 => ?_) (fun c15 => ?_)
        · replace hw := hw.1 c15
          refine pw_lo [0, 1, 2] rfl ?_
          exact bk_J8_getNodeH_137 G C n0 s0 M0 Q X (wp_J8_getNodeH_b99 G.2 Q n) ih _ la1 la4 lx6 hw
        · replace hw := hw.2 c15
          refine pw_aload X dJ8_getNode_134 rfl ?_
          exact pw_aret X (Or.inl ⟨_, rfl⟩) hw dJ8_getNode_136
theorem bk_J8_getNodeH_71 (G : Gp) (C : m_Cx) (n0 s0 : Nat) (M0 : Mem) (Q : Option Nat → Mem → Prop) (X : m_in G C RJ8 cJ8_getNode 8 (some (.object "java/util/HashMap$Node")) "getNode" 2 41 n0 s0) (M : Mem) (la1 : Nat) (la3 : Nat) (lx6 : Int32) (hw : wp_J8_getNodeH_b71 G.2 M la1 la3 lx6 Q) : pW G C 8 n0 s0 M0 (m_Q G C n0 s0 (va_Qq (m_q1 M0 Q) (m_W G) (m_A G))) M 71 [(1, vR (some la1)), (3, vR (some la3)), (6, vI lx6)] [] := by
  refine pw_aload_n X dJ8_getNode_71 rfl rfl ?_
  obtain ⟨ht1, hw⟩ := hw
  obtain ⟨r2, hr3⟩ : ∃ z : Option Nat, z = (m_gr M la3 3) := ⟨_, rfl⟩
  replace hw := hw r2 hr3
  refine pw_get X (q := (RJ18, TJ18, tyJ18, 4)) (ci := 17) (k := 3) (ref := "java/util/HashMap$Node") (vR r2) ht1 rfl (by decide) in_J18 q725 (Or.inl rfl) (by rw [hr3]; rfl) dJ8_getNode_72 ?_
  refine pw_dup X dJ8_getNode_75 ?_
  refine pw_astore X [(1, vR (some la1)), (3, vR (some la3)), (4, vR r2), (6, vI lx6)] [1, 2, 0, 3] dJ8_getNode_76 (by decide) rfl ?_
  refine pw_ifnull X 148 dJ8_getNode_78 (by decide) (fun he5 => ?_) (fun u4 he5 => ?_)
  · replace hw := hw.1 he5
    subst he5
    refine pw_null X dJ8_getNode_148 ?_
    exact pw_aret X (Or.inl ⟨_, rfl⟩) hw dJ8_getNode_149
  · replace hw := hw.2 u4 he5
    subst he5
    refine pw_aload_n X dJ8_getNode_81 rfl rfl ?_
    refine pw_instNo X 17 (q := (RJ18, TJ18, tyJ18, 4)) (by decide) rfl ht1 q394 dJ8_getNode_82 ?_
    refine pw_if_eq X 99 dJ8_getNode_85 (by decide) (fun c => ?_) (fun c => ?_)
    rotate_left
    · exact absurd c (by decide)
    refine pw_lo [0, 2, 3] rfl ?_
    obtain ⟨n99, hw⟩ := hw
    exact bk_J8_getNodeH_99 G C n0 s0 M0 Q X n99 _ la1 u4 lx6 hw
theorem bk_J8_getNodeH_0 (G : Gp) (C : m_Cx) (n0 s0 : Nat) (M0 : Mem) (Q : Option Nat → Mem → Prop) (X : m_in G C RJ8 cJ8_getNode 8 (some (.object "java/util/HashMap$Node")) "getNode" 2 41 n0 s0) (M : Mem) (a0 : Nat) (a1 : Nat) (hw : wp_J8_getNodeH G.2 M a0 a1 Q) : pW G C 8 n0 s0 M0 (m_Q G C n0 s0 (va_Qq (m_q1 M0 Q) (m_W G) (m_A G))) M 0 [(0, vR (some a0)), (1, vR (some a1))] [] := by
  refine pw_aload_n X dJ8_getNode_0 rfl rfl ?_
  obtain ⟨ht1, hw⟩ := hw
  obtain ⟨r2, hr3⟩ : ∃ z : Option Nat, z = (m_gr M a0 2) := ⟨_, rfl⟩
  replace hw := hw r2 hr3
  refine pw_get X (q := (RJ8, TJ8, tyJ8, 8)) (ci := 15) (k := 2) (ref := "java/util/HashMap") (vR r2) ht1 rfl (by decide) in_J8 q252 (Or.inl rfl) (by rw [hr3]; rfl) dJ8_getNode_1 ?_
  refine pw_dup X dJ8_getNode_4 ?_
  refine pw_astore_n X [(1, vR (some a1)), (2, vR r2)] [2, 0] dJ8_getNode_5 rfl (by decide) rfl ?_
  refine pw_ifnull X 148 dJ8_getNode_6 (by decide) (fun he5 => ?_) (fun u4 he5 => ?_)
  · replace hw := hw.1 he5
    subst he5
    refine pw_null X dJ8_getNode_148 ?_
    exact pw_aret X (Or.inl ⟨_, rfl⟩) hw dJ8_getNode_149
  · replace hw := hw.2 u4 he5
    subst he5
    refine pw_aload_n X dJ8_getNode_9 rfl rfl ?_
    obtain ⟨hA6, hw⟩ := hw
    refine pw_alen X hA6 dJ8_getNode_10 ?_
    refine pw_dup X dJ8_getNode_11 ?_
    refine pw_istore X [(1, vR (some a1)), (2, vR (some u4)), (5, vI (nI (m_ln M u4)))] [1, 2, 0] dJ8_getNode_12 (by decide) rfl ?_
    refine pw_if_le X 148 dJ8_getNode_14 (by decide) (fun c7 => ?_) (fun c7 => ?_)
    · replace hw := hw.1 c7
      refine pw_null X dJ8_getNode_148 ?_
      exact pw_aret X (Or.inl ⟨_, rfl⟩) hw dJ8_getNode_149
    · replace hw := hw.2 c7
      refine pw_aload_n X dJ8_getNode_17 rfl rfl ?_
      refine pw_iload X dJ8_getNode_18 rfl ?_
      refine pw_iconst X 1 dJ8_getNode_20 (by decide) ?_
      refine pw_isub X dJ8_getNode_21 ?_
      refine pw_aload_n X dJ8_getNode_22 rfl rfl ?_
      refine pw_runi X (m_cS X (met_J8_hashH G C.2.1 M a1 _ hw) (lw_S q327 q328 q89 q329) nh_J8_hashH ⟨Nat.le_of_ble_eq_true rfl, Nat.le_of_ble_eq_true rfl⟩ rfl (Nat.le_of_ble_eq_true rfl) dJ8_getNode_23) (fun r10 M8 hle9 hx => ?_)
      replace hw := hx hle9
      clear hx
      have ht11 : m_tg M8 a0 = 16 := m_le_tg hle9 ht1
      refine pw_dup X dJ8_getNode_26 ?_
      refine pw_istore X [(1, vR (some a1)), (6, vI r10)] [1, 0] dJ8_getNode_27 (by decide) rfl ?_
      refine pw_iand X dJ8_getNode_29 ?_
      obtain ⟨ht12, hw⟩ := hw
      obtain ⟨hi13, hw⟩ := hw
      obtain ⟨r14, hr15⟩ : ∃ z : Option Nat, z = (m_gr M8 u4 (Int32.toNatClampNeg (((nI (m_ln M u4)) - 1) &&& r10))) := ⟨_, rfl⟩
      replace hw := hw r14 hr15
      refine pw_aald X (Or.inr (Or.inl ht12)) hi13 dJ8_getNode_30 ?_
      rw [← hr15]
      refine pw_dup X dJ8_getNode_31 ?_
      refine pw_astore_n X [(1, vR (some a1)), (3, vR r14), (6, vI r10)] [1, 0, 2] dJ8_getNode_32 rfl (by decide) rfl ?_
      refine pw_ifnull X 148 dJ8_getNode_33 (by decide) (fun he17 => ?_) (fun u16 he17 => ?_)
      · replace hw := hw.1 he17
        subst he17
        refine pw_null X dJ8_getNode_148 ?_
        exact pw_aret X (Or.inl ⟨_, rfl⟩) hw dJ8_getNode_149
      · replace hw := hw.2 u16 he17
        subst he17
        refine pw_aload_n X dJ8_getNode_36 rfl rfl ?_
        obtain ⟨ht18, hw⟩ := hw
        refine pw_get X (q := (RJ18, TJ18, tyJ18, 4)) (ci := 17) (k := 0) (ref := "java/util/HashMap$Node") (vI (m_gi M8 u16 0)) ht18 rfl (by decide) in_J18 q709 (Or.inl rfl) rfl dJ8_getNode_37 ?_
        refine pw_iload X dJ8_getNode_40 rfl ?_
        refine pw_icmp_ne X 71 dJ8_getNode_42 (by decide) (fun c19 => ?_) (fun c19 => ?_)
        · replace hw := hw.1 c19
          exact bk_J8_getNodeH_71 G C n0 s0 M0 Q X _ a1 u16 r10 hw
        · replace hw := hw.2 c19
          refine pw_aload_n X dJ8_getNode_45 rfl rfl ?_
          obtain ⟨r20, hr21⟩ : ∃ z : Option Nat, z = (m_gr M8 u16 1) := ⟨_, rfl⟩
          replace hw := hw r20 hr21
          refine pw_get X (q := (RJ18, TJ18, tyJ18, 4)) (ci := 17) (k := 1) (ref := "java/util/HashMap$Node") (vR r20) ht18 rfl (by decide) in_J18 q715 (Or.inl rfl) (by rw [hr21]; rfl) dJ8_getNode_46 ?_
          refine pw_dup X dJ8_getNode_49 ?_
          refine pw_astore X [(1, vR (some a1)), (3, vR (some u16)), (6, vI r10), (7, vR r20)] [1, 2, 3, 0] dJ8_getNode_50 (by decide) rfl ?_
          refine pw_aload_n X dJ8_getNode_52 rfl rfl ?_
          refine pw_acmp_eq X 69 dJ8_getNode_53 (by decide) (fun c22 => ?_) (fun c22 => ?_)
          · replace hw := hw.1 c22
            refine pw_aload_n X dJ8_getNode_69 rfl rfl ?_
            exact pw_aret X (Or.inl ⟨_, rfl⟩) hw dJ8_getNode_70
          · replace hw := hw.2 c22
            refine pw_aload_n X dJ8_getNode_56 rfl rfl ?_
            refine pw_ifnull X 71 dJ8_getNode_57 (by decide) (fun c => by cases c) (fun _ _ => ?_)
            refine pw_aload_n X dJ8_getNode_60 rfl rfl ?_
            refine pw_aload X dJ8_getNode_61 rfl ?_
            obtain ⟨u24, he25, hw⟩ := hw
            subst he25
            obtain ⟨ht26, hw⟩ := hw
            refine pw_runi X (m_cO X (owner := "java/lang/Object") (b := a1) (ci := 10) (q := (RX10, TX10, tyX10, 1)) (met_X10_equals G C.2.1 M8 a1 u24 _ hw) ht26 rfl (lw_app (lw_O q361 q363 q362 q376 q377 q118) (lw_meth q378)) q393 (by decide +kernel : m_nMHo "java/lang/Object" ⟨"java/lang/Object", "equals", "(Ljava/lang/Object;)Z"⟩ 1) ⟨Nat.le_of_ble_eq_true rfl, Nat.le_of_ble_eq_true rfl⟩ rfl (Nat.le_of_ble_eq_true rfl) dJ8_getNode_63) (fun r29 M27 hle28 hx => ?_)
            replace hw := hx hle28
            clear hx
            have ht30 : m_tg M27 a0 = 16 := m_le_tg hle28 ht11
            have ht31 : m_tg M27 u4 = 104 := m_le_tg hle28 ht12
            have ht32 : m_tg M27 u16 = 18 := m_le_tg hle28 ht18
            have ht33 : m_tg M27 a1 = 11 := m_le_tg hle28 ht26
            refine pw_if_eq X 71 dJ8_getNode_66 (by decide) (fun c34 => ?_) (fun c34 => ?_)
            · replace hw := hw.1 c34
              refine pw_lo [0, 1, 2] rfl ?_
              exact bk_J8_getNodeH_71 G C n0 s0 M0 Q X _ a1 u16 r10 hw
            · replace hw := hw.2 c34
              refine pw_aload_n X dJ8_getNode_69 rfl rfl ?_
              exact pw_aret X (Or.inl ⟨_, rfl⟩) hw dJ8_getNode_70
theorem met_J8_getNodeH (G : Gp) (l : Launch) (M : Mem) (a0 : Nat) (a1 : Nat) (Q : Option Nat → Mem → Prop) (hw : wp_J8_getNodeH G.2 M a0 a1 Q) : m_K G l yJ8_getNode cJ8_getNode 8 (some (.object "java/util/HashMap$Node")) 2 41 [vR (some a0), vR (some a1)] M (va_Qq (m_q1 M Q) (m_W G) (m_A G)) := by
  refine m_met (by decide) (Nat.le_of_ble_eq_true rfl) (fun C e X => ?_)
  exact bk_J8_getNodeH_0 G C _ _ M Q X M a0 a1 hw
theorem nh_J8_getNodeH : m_nMH yJ8_getNode 1 := by decide +kernel

def wp_J8_sizeH (g : Nat → Nat) (M : Mem) (a0 : Nat) (Q : Int32 → Mem → Prop) : Prop := m_tg M a0 = 16 ∧ Q (m_gi M a0 4) M
theorem bk_J8_sizeH_0 (G : Gp) (C : m_Cx) (n0 s0 : Nat) (M0 : Mem) (Q : Int32 → Mem → Prop) (X : m_in G C RJ8 cJ8_size 1 (some .int) "size" 0 0 n0 s0) (M : Mem) (a0 : Nat) (hw : wp_J8_sizeH G.2 M a0 Q) : pW G C 1 n0 s0 M0 (m_Q G C n0 s0 (va_Qi (m_q1 M0 Q) (m_W G) (m_A G))) M 0 [(0, vR (some a0))] [] := by
  refine pw_aload_n X dJ8_size_0 rfl rfl ?_
  obtain ⟨ht1, hw⟩ := hw
  refine pw_get X (q := (RJ8, TJ8, tyJ8, 8)) (ci := 15) (k := 4) (ref := "java/util/HashMap") (vI (m_gi M a0 4)) ht1 rfl (by decide) in_J8 q253 (Or.inl rfl) rfl dJ8_size_1 ?_
  exact pw_iret X hw dJ8_size_4
theorem met_J8_sizeH (G : Gp) (l : Launch) (M : Mem) (a0 : Nat) (Q : Int32 → Mem → Prop) (hw : wp_J8_sizeH G.2 M a0 Q) : m_K G l yJ8_size cJ8_size 1 (some .int) 0 0 [vR (some a0)] M (va_Qi (m_q1 M Q) (m_W G) (m_A G)) := by
  refine m_met (by decide) (Nat.le_of_ble_eq_true rfl) (fun C e X => ?_)
  exact bk_J8_sizeH_0 G C _ _ M Q X M a0 hw
theorem nh_J8_sizeH : m_nMH yJ8_size 0 := by decide +kernel

def wp_J25_init (g : Nat → Nat) (M : Mem) (a0 : Nat) (Q : Mem → Prop) : Prop := wp_J0_init g M a0 (fun (M1 : Mem) => m_le M M1 → Q M1)
theorem bk_J25_init_0 (G : Gp) (C : m_Cx) (n0 s0 : Nat) (M0 : Mem) (Q : Mem → Prop) (X : m_in G C RJ25 cJ25_init 1 none "<init>" 2 32 n0 s0) (M : Mem) (a0 : Nat) (hw : wp_J25_init G.2 M a0 Q) : pW G C 1 n0 s0 M0 (m_Q G C n0 s0 (va_Qv (m_q0 M0 Q) (m_W G) (m_A G))) M 0 [(0, vR (some a0))] [] := by
  refine pw_aload_n X dJ25_init_0 rfl rfl ?_
  refine pw_runv X (m_cI X (b := a0) (met_J0_init G C.2.1 M a0 _ hw) q145 q80 q1500 q144 rfl nh_J0_init ⟨Nat.le_of_ble_eq_true rfl, Nat.le_of_ble_eq_true rfl⟩ rfl (Nat.le_of_ble_eq_true rfl) dJ25_init_1) (fun M1 hle2 hx => ?_)
  replace hw := hx hle2
  clear hx
  exact pw_vret X hw dJ25_init_4
theorem met_J25_init (G : Gp) (l : Launch) (M : Mem) (a0 : Nat) (Q : Mem → Prop) (hw : wp_J25_init G.2 M a0 Q) : m_K G l yJ25_init cJ25_init 1 none 2 32 [vR (some a0)] M (va_Qv (m_q0 M Q) (m_W G) (m_A G)) := by
  refine m_met (by decide) (Nat.le_of_ble_eq_true rfl) (fun C e X => ?_)
  exact bk_J25_init_0 G C _ _ M Q X M a0 hw
theorem nh_J25_init : m_nMH yJ25_init 0 := by decide +kernel

def wp_J26_init (g : Nat → Nat) (M : Mem) (a0 : Nat) (Q : Mem → Prop) : Prop := wp_J25_init g M a0 (fun (M1 : Mem) => m_le M M1 → m_fits M1 8 ∧ ∀ u4 : Nat, m_tg M1 u4 = 0 → ∀ M6 : Mem, M6 = (m_al M1 u4 16 0 8) → wp_J8_initH g M6 u4 (fun (M10 : Mem) => m_le M6 M10 → m_tg M10 a0 = 20 ∧ ∀ M14 : Mem, M14 = (m_pr M10 a0 0 (some u4)) → Q M14))
theorem bk_J26_init_0 (G : Gp) (C : m_Cx) (n0 s0 : Nat) (M0 : Mem) (Q : Mem → Prop) (X : m_in G C RJ26 cJ26_init 1 none "<init>" 3 52 n0 s0) (M : Mem) (a0 : Nat) (hw : wp_J26_init G.2 M a0 Q) : pW G C 1 n0 s0 M0 (m_Q G C n0 s0 (va_Qv (m_q0 M0 Q) (m_W G) (m_A G))) M 0 [(0, vR (some a0))] [] := by
  refine pw_aload_n X dJ26_init_0 rfl rfl ?_
  refine pw_runv X (m_cI X (b := a0) (met_J25_init G C.2.1 M a0 _ hw) q1499 q116 q1497 q1498 rfl nh_J25_init ⟨Nat.le_of_ble_eq_true rfl, Nat.le_of_ble_eq_true rfl⟩ rfl (Nat.le_of_ble_eq_true rfl) dJ26_init_1) (fun M1 hle2 hx => ?_)
  replace hw := hx hle2
  clear hx
  refine pw_aload_n X dJ26_init_4 rfl rfl ?_
  obtain ⟨hf3, hw⟩ := hw
  refine pw_new X (ci := 15) (q := (RJ8, TJ8, tyJ8, 8)) hf3 rfl in_J8 tyJ8_ok q1501 q1502 q89 dJ26_init_5 (fun u4 h05 => ?_)
  obtain ⟨M6, hM7⟩ : ∃ z : Mem, z = (m_al M1 u4 16 0 8) := ⟨_, rfl⟩
  replace hw := hw u4 h05 M6 hM7
  have hle8 : m_le M1 M6 := by rw [hM7]; exact m_le_al h05
  change pW _ _ _ _ _ _ _ (m_al M1 u4 16 0 8) _ _ _
  rw [← hM7]
  have ht9 : m_tg M6 u4 = 16 := by rw [hM7, m_tg_al, if_pos rfl]
  refine pw_dup X dJ26_init_8 ?_
  refine pw_runv X (m_cI X (b := u4) (met_J8_initH G C.2.1 M6 u4 _ hw) q242 q89 q1503 q241 rfl nh_J8_initH ⟨Nat.le_of_ble_eq_true rfl, Nat.le_of_ble_eq_true rfl⟩ rfl (Nat.le_of_ble_eq_true rfl) dJ26_init_9) (fun M10 hle11 hx => ?_)
  replace hw := hx hle11
  clear hx
  have ht12 : m_tg M10 u4 = 16 := m_le_tg hle11 ht9
  obtain ⟨ht13, hw⟩ := hw
  obtain ⟨M14, hM15⟩ : ∃ z : Mem, z = (m_pr M10 a0 0 (some u4)) := ⟨_, rfl⟩
  replace hw := hw M14 hM15
  refine pw_put X (q := (RJ26, TJ26, tyJ26, 1)) (ci := 19) (k := 0) (ref := "java/util/HashSet") M14 hM15.symm ht13 rfl (by decide) in_J26 tyJ26_ok nmJ26 q1513 (Or.inl rfl) rfl (m_kd_r (fun _ _ => rfl)) m_no m_fo dJ26_init_12 ?_
  have hle16 : m_le M10 M14 := by rw [hM15]; exact m_le_pr
  have ht17 : m_tg M14 u4 = 16 := m_le_tg hle16 ht12
  have ht18 : m_tg M14 a0 = 20 := m_le_tg hle16 ht13
  exact pw_vret X hw dJ26_init_15
theorem met_J26_init (G : Gp) (l : Launch) (M : Mem) (a0 : Nat) (Q : Mem → Prop) (hw : wp_J26_init G.2 M a0 Q) : m_K G l yJ26_init cJ26_init 1 none 3 52 [vR (some a0)] M (va_Qv (m_q0 M Q) (m_W G) (m_A G)) := by
  refine m_met (by decide) (Nat.le_of_ble_eq_true rfl) (fun C e X => ?_)
  exact bk_J26_init_0 G C _ _ M Q X M a0 hw
theorem nh_J26_init : m_nMH yJ26_init 0 := by decide +kernel

def wp_J26_add (g : Nat → Nat) (M : Mem) (a0 : Nat) (a1 : Nat) (Q : Int32 → Mem → Prop) : Prop := m_tg M a0 = 20 ∧ ∃ u2 : Nat, (m_gr M a0 0) = some u2 ∧ m_tg M u2 = 16 ∧ wp_J8_putH g M u2 a1 (g 2) (fun (r7 : Option Nat) (M5 : Mem) => m_le M M5 → ((r7 = none → Q 1 M5) ∧ (∀ u10 : Nat, r7 = some u10 → Q 0 M5)))
theorem bk_J26_add_0 (G : Gp) (C : m_Cx) (n0 s0 : Nat) (M0 : Mem) (Q : Int32 → Mem → Prop) (X : m_in G C RJ26 cJ26_add 2 (some .boolean) "add" 5 114 n0 s0) (M : Mem) (a0 : Nat) (a1 : Nat) (hw : wp_J26_add G.2 M a0 a1 Q) : pW G C 2 n0 s0 M0 (m_Q G C n0 s0 (va_Qi (m_q1 M0 Q) (m_W G) (m_A G))) M 0 [(0, vR (some a0)), (1, vR (some a1))] [] := by
  refine pw_aload_n X dJ26_add_0 rfl rfl ?_
  obtain ⟨ht1, hw⟩ := hw
  obtain ⟨u2, he3, hw⟩ := hw
  refine pw_get X (q := (RJ26, TJ26, tyJ26, 1)) (ci := 19) (k := 0) (ref := "java/util/HashSet") (vR (some u2)) ht1 rfl (by decide) in_J26 q1513 (Or.inl rfl) (by rw [he3]; rfl) dJ26_add_1 ?_
  refine pw_aload_n X dJ26_add_4 rfl rfl ?_
  refine pw_gets X (vR (some (G.2 2))) (List.mem_of_getElem? (i := 1) rfl) q1537 (Or.inl rfl) dJ26_add_5 ?_
  obtain ⟨ht4, hw⟩ := hw
  refine pw_runq X (m_cV X (b := u2) (ci := 15) (q := (RJ8, TJ8, tyJ8, 8)) (met_J8_putH G C.2.1 M u2 a1 (G.2 2) _ hw) ht4 rfl (lw_V q1539 q658 q2275 q89 q660) ⟨rfl, nh_J8_putH⟩ ⟨Nat.le_of_ble_eq_true rfl, Nat.le_of_ble_eq_true rfl⟩ rfl (Nat.le_of_ble_eq_true rfl) dJ26_add_8) (fun r7 M5 hle6 hx => ?_)
  replace hw := hx hle6
  clear hx
  have ht8 : m_tg M5 a0 = 20 := m_le_tg hle6 ht1
  have ht9 : m_tg M5 u2 = 16 := m_le_tg hle6 ht4
  refine pw_ifnonnull X 18 dJ26_add_11 (by decide) (fun u10 he11 => ?_) (fun he11 => ?_)
  · replace hw := hw.2 u10 he11
    subst he11
    refine pw_iconst X 0 dJ26_add_18 (by decide) ?_
    exact pw_zret X (by decide) hw dJ26_add_19
  · replace hw := hw.1 he11
    subst he11
    refine pw_iconst X 1 dJ26_add_14 (by decide) ?_
    refine pw_goto X 19 dJ26_add_15 (by decide) ?_
    exact pw_zret X (by decide) hw dJ26_add_19
theorem met_J26_add (G : Gp) (l : Launch) (M : Mem) (a0 : Nat) (a1 : Nat) (Q : Int32 → Mem → Prop) (hw : wp_J26_add G.2 M a0 a1 Q) : m_K G l yJ26_add cJ26_add 2 (some .boolean) 5 114 [vR (some a0), vR (some a1)] M (va_Qi (m_q1 M Q) (m_W G) (m_A G)) := by
  refine m_met (by decide) (Nat.le_of_ble_eq_true rfl) (fun C e X => ?_)
  exact bk_J26_add_0 G C _ _ M Q X M a0 a1 hw
theorem nh_J26_add : m_nMH yJ26_add 1 := by decide +kernel
