/-! walks (printed by gen/desk.py): 23.wroads.lean -/
set_option maxRecDepth 100000
set_option maxHeartbeats 4000000
def wp_X2_lengthOf (g : Nat → Nat) (M : Mem) (a0 : Nat) (x1 : Int32) (x2 : Int32) (Q : Int32 → Mem → Prop) : Prop := m_tg M a0 = 3 ∧ ∃ u2 : Nat, (m_gr M a0 1) = some u2 ∧ m_tg M u2 = 105 ∧ vp_in x1 (m_ln M u2) ∧ ∃ u6 : Nat, (m_gr M u2 (Int32.toNatClampNeg x1)) = some u6 ∧ m_tg M u6 = 101 ∧ vp_in x2 (m_ln M u6) ∧ Q (m_gi M u6 (Int32.toNatClampNeg x2)) M
theorem bk_X2_lengthOf_0 (G : Gp) (C : m_Cx) (n0 s0 : Nat) (M0 : Mem) (Q : Int32 → Mem → Prop) (X : m_in G C RX2 cX2_lengthOf 3 (some .int) "lengthOf" 0 0 n0 s0) (M : Mem) (a0 : Nat) (x1 : Int32) (x2 : Int32) (hw : wp_X2_lengthOf G.2 M a0 x1 x2 Q) : pW G C 3 n0 s0 M0 (m_Q G C n0 s0 (va_Qi (m_q1 M0 Q) (m_W G) (m_A G))) M 0 [(0, vR (some a0)), (1, vI x1), (2, vI x2)] [] := by
  refine pw_aload_n X dX2_lengthOf_0 rfl rfl ?_
  obtain ⟨ht1, hw⟩ := hw
  obtain ⟨u2, he3, hw⟩ := hw
  refine pw_get X (q := (RX2, TX2, tyX2, 4)) (ci := 2) (k := 1) (ref := "PatrolDesk$Roads") (vR (some u2)) ht1 rfl (by decide) in_X2 q935 (Or.inl rfl) (by rw [he3]; rfl) dX2_lengthOf_1 ?_
  refine pw_iload_n X dX2_lengthOf_4 rfl rfl ?_
  obtain ⟨ht4, hw⟩ := hw
  obtain ⟨hi5, hw⟩ := hw
  obtain ⟨u6, he7, hw⟩ := hw
  refine pw_aald X (Or.inr (Or.inr ht4)) hi5 dX2_lengthOf_5 ?_
  rw [he7]
  refine pw_iload_n X dX2_lengthOf_6 rfl rfl ?_
  obtain ⟨ht8, hw⟩ := hw
  obtain ⟨hi9, hw⟩ := hw
  refine pw_iald X ht8 hi9 dX2_lengthOf_7 ?_
  exact pw_iret X hw dX2_lengthOf_8
theorem met_X2_lengthOf (G : Gp) (l : Launch) (M : Mem) (a0 : Nat) (x1 : Int32) (x2 : Int32) (Q : Int32 → Mem → Prop) (hw : wp_X2_lengthOf G.2 M a0 x1 x2 Q) : m_K G l yX2_lengthOf cX2_lengthOf 3 (some .int) 0 0 [vR (some a0), vI x1, vI x2] M (va_Qi (m_q1 M Q) (m_W G) (m_A G)) := by
  refine m_met (by decide) (Nat.le_of_ble_eq_true rfl) (fun C e X => ?_)
  exact bk_X2_lengthOf_0 G C _ _ M Q X M a0 x1 x2 hw
theorem nh_X2_lengthOf : m_nMH yX2_lengthOf 2 := by decide +kernel

def wp_X2_comeNearer_b72 (g : Nat → Nat) (M : Mem) (la0 : Nat) (lx1 : Int32) (lx2 : Int32) (lx4 : Int32) (Q : Mem → Prop) : Prop := m_tg M la0 = 3 ∧ ∃ u2 : Nat, (m_gr M la0 2) = some u2 ∧ m_tg M u2 = 105 ∧ vp_in lx1 (m_ln M u2) ∧ ∃ u6 : Nat, (m_gr M u2 (Int32.toNatClampNeg lx1)) = some u6 ∧ m_tg M u6 = 101 ∧ vp_in lx2 (m_ln M u6) ∧ ∀ M10 : Mem, M10 = (m_pi M u6 (Int32.toNatClampNeg lx2) lx4) → Q M10
def wp_X2_comeNearer (g : Nat → Nat) (M : Mem) (a0 : Nat) (x1 : Int32) (x2 : Int32) (x3 : Int32) (Q : Mem → Prop) : Prop := m_tg M a0 = 3 ∧ ∃ u2 : Nat, (m_gr M a0 2) = some u2 ∧ m_tg M u2 = 105 ∧ vp_in x1 (m_ln M u2) ∧ ∃ u6 : Nat, (m_gr M u2 (Int32.toNatClampNeg x1)) = some u6 ∧ m_tg M u6 = 101 ∧ vp_in x3 (m_ln M u6) ∧ (((m_gi M u6 (Int32.toNatClampNeg x3)) = (-5) → Q M) ∧ (¬ (m_gi M u6 (Int32.toNatClampNeg x3)) = (-5) → ∃ u11 : Nat, (m_gr M a0 2) = some u11 ∧ m_tg M u11 = 105 ∧ vp_in x3 (m_ln M u11) ∧ ∃ u15 : Nat, (m_gr M u11 (Int32.toNatClampNeg x3)) = some u15 ∧ m_tg M u15 = 101 ∧ vp_in x2 (m_ln M u15) ∧ ((¬ (m_gi M u15 (Int32.toNatClampNeg x2)) = (-5) → ∃ u20 : Nat, (m_gr M a0 2) = some u20 ∧ m_tg M u20 = 105 ∧ vp_in x1 (m_ln M u20) ∧ ∃ u24 : Nat, (m_gr M u20 (Int32.toNatClampNeg x1)) = some u24 ∧ m_tg M u24 = 101 ∧ vp_in x3 (m_ln M u24) ∧ ∃ u28 : Nat, (m_gr M a0 2) = some u28 ∧ m_tg M u28 = 105 ∧ vp_in x3 (m_ln M u28) ∧ ∃ u32 : Nat, (m_gr M u28 (Int32.toNatClampNeg x3)) = some u32 ∧ m_tg M u32 = 101 ∧ vp_in x2 (m_ln M u32) ∧ ∃ u36 : Nat, (m_gr M a0 2) = some u36 ∧ m_tg M u36 = 105 ∧ vp_in x1 (m_ln M u36) ∧ ∃ u40 : Nat, (m_gr M u36 (Int32.toNatClampNeg x1)) = some u40 ∧ m_tg M u40 = 101 ∧ vp_in x2 (m_ln M u40) ∧ (((m_gi M u40 (Int32.toNatClampNeg x2)) = (-5) → wp_X2_comeNearer_b72 g M a0 x1 x2 ((m_gi M u24 (Int32.toNatClampNeg x3)) + (m_gi M u32 (Int32.toNatClampNeg x2))) Q) ∧ (¬ (m_gi M u40 (Int32.toNatClampNeg x2)) = (-5) → ∃ u45 : Nat, (m_gr M a0 2) = some u45 ∧ m_tg M u45 = 105 ∧ vp_in x1 (m_ln M u45) ∧ ∃ u49 : Nat, (m_gr M u45 (Int32.toNatClampNeg x1)) = some u49 ∧ m_tg M u49 = 101 ∧ vp_in x2 (m_ln M u49) ∧ (((m_gi M u49 (Int32.toNatClampNeg x2)) ≤ ((m_gi M u24 (Int32.toNatClampNeg x3)) + (m_gi M u32 (Int32.toNatClampNeg x2))) → Q M) ∧ (¬ (m_gi M u49 (Int32.toNatClampNeg x2)) ≤ ((m_gi M u24 (Int32.toNatClampNeg x3)) + (m_gi M u32 (Int32.toNatClampNeg x2))) → wp_X2_comeNearer_b72 g M a0 x1 x2 ((m_gi M u24 (Int32.toNatClampNeg x3)) + (m_gi M u32 (Int32.toNatClampNeg x2))) Q))))) ∧ ((m_gi M u15 (Int32.toNatClampNeg x2)) = (-5) → Q M))))
theorem bk_X2_comeNearer_72 (G : Gp) (C : m_Cx) (n0 s0 : Nat) (M0 : Mem) (Q : Mem → Prop) (X : m_in G C RX2 cX2_comeNearer 5 none "comeNearer" 0 0 n0 s0) (M : Mem) (la0 : Nat) (lx1 : Int32) (lx2 : Int32) (lx4 : Int32) (hw : wp_X2_comeNearer_b72 G.2 M la0 lx1 lx2 lx4 Q) : pW G C 5 n0 s0 M0 (m_Q G C n0 s0 (va_Qv (m_q0 M0 Q) (m_W G) (m_A G))) M 72 [(0, vR (some la0)), (1, vI lx1), (2, vI lx2), (4, vI lx4)] [] := by
  refine pw_aload_n X dX2_comeNearer_72 rfl rfl ?_
  obtain ⟨ht1, hw⟩ := hw
  obtain ⟨u2, he3, hw⟩ := hw
  refine pw_get X (q := (RX2, TX2, tyX2, 4)) (ci := 2) (k := 2) (ref := "PatrolDesk$Roads") (vR (some u2)) ht1 rfl (by decide) in_X2 q936 (Or.inl rfl) (by rw [he3]; rfl) dX2_comeNearer_73 ?_
  refine pw_iload_n X dX2_comeNearer_76 rfl rfl ?_
  obtain ⟨ht4, hw⟩ := hw
  obtain ⟨hi5, hw⟩ := hw
  obtain ⟨u6, he7, hw⟩ := hw
  refine pw_aald X (Or.inr (Or.inr ht4)) hi5 dX2_comeNearer_77 ?_
  rw [he7]
  refine pw_iload_n X dX2_comeNearer_78 rfl rfl ?_
  refine pw_iload X dX2_comeNearer_79 rfl ?_
  obtain ⟨ht8, hw⟩ := hw
  obtain ⟨hi9, hw⟩ := hw
  obtain ⟨M10, hM11⟩ : ∃ z : Mem, z = (m_pi M u6 (Int32.toNatClampNeg lx2) lx4) := ⟨_, rfl⟩
  replace hw := hw M10 hM11
  have hle12 : m_le M M10 := by rw [hM11]; exact m_le_pi
  refine pw_iast X ht8 hi9 dX2_comeNearer_81 ?_
  rw [← hM11]
  have ht13 : m_tg M10 la0 = 3 := m_le_tg hle12 ht1
  have ht14 : m_tg M10 u2 = 105 := m_le_tg hle12 ht4
  have ht15 : m_tg M10 u6 = 101 := m_le_tg hle12 ht8
  exact pw_vret X hw dX2_comeNearer_82
theorem bk_X2_comeNearer_0 (G : Gp) (C : m_Cx) (n0 s0 : Nat) (M0 : Mem) (Q : Mem → Prop) (X : m_in G C RX2 cX2_comeNearer 5 none "comeNearer" 0 0 n0 s0) (M : Mem) (a0 : Nat) (x1 : Int32) (x2 : Int32) (x3 : Int32) (hw : wp_X2_comeNearer G.2 M a0 x1 x2 x3 Q) : pW G C 5 n0 s0 M0 (m_Q G C n0 s0 (va_Qv (m_q0 M0 Q) (m_W G) (m_A G))) M 0 [(0, vR (some a0)), (1, vI x1), (2, vI x2), (3, vI x3)] [] := by
  refine pw_aload_n X dX2_comeNearer_0 rfl rfl ?_
  obtain ⟨ht1, hw⟩ := hw
  obtain ⟨u2, he3, hw⟩ := hw
  refine pw_get X (q := (RX2, TX2, tyX2, 4)) (ci := 2) (k := 2) (ref := "PatrolDesk$Roads") (vR (some u2)) ht1 rfl (by decide) in_X2 q936 (Or.inl rfl) (by rw [he3]; rfl) dX2_comeNearer_1 ?_
  refine pw_iload_n X dX2_comeNearer_4 rfl rfl ?_
  obtain ⟨ht4, hw⟩ := hw
  obtain ⟨hi5, hw⟩ := hw
  obtain ⟨u6, he7, hw⟩ := hw
  refine pw_aald X (Or.inr (Or.inr ht4)) hi5 dX2_comeNearer_5 ?_
  rw [he7]
  refine pw_iload_n X dX2_comeNearer_6 rfl rfl ?_
  obtain ⟨ht8, hw⟩ := hw
  obtain ⟨hi9, hw⟩ := hw
  refine pw_iald X ht8 hi9 dX2_comeNearer_7 ?_
  refine pw_bipush X (-5) dX2_comeNearer_8 (by decide) ?_
  refine pw_icmp_eq X 26 dX2_comeNearer_10 (by decide) (fun c10 => ?_) (fun c10 => ?_)
  · replace hw := hw.1 c10
    exact pw_vret X hw dX2_comeNearer_26
  · replace hw := hw.2 c10
    refine pw_aload_n X dX2_comeNearer_13 rfl rfl ?_
    obtain ⟨u11, he12, hw⟩ := hw
    refine pw_get X (q := (RX2, TX2, tyX2, 4)) (ci := 2) (k := 2) (ref := "PatrolDesk$Roads") (vR (some u11)) ht1 rfl (by decide) in_X2 q936 (Or.inl rfl) (by rw [he12]; rfl) dX2_comeNearer_14 ?_
    refine pw_iload_n X dX2_comeNearer_17 rfl rfl ?_
    obtain ⟨ht13, hw⟩ := hw
    obtain ⟨hi14, hw⟩ := hw
    obtain ⟨u15, he16, hw⟩ := hw
    refine pw_aald X (Or.inr (Or.inr ht13)) hi14 dX2_comeNearer_18 ?_
    rw [he16]
    refine pw_iload_n X dX2_comeNearer_19 rfl rfl ?_
    obtain ⟨ht17, hw⟩ := hw
    obtain ⟨hi18, hw⟩ := hw
    refine pw_iald X ht17 hi18 dX2_comeNearer_20 ?_
    refine pw_bipush X (-5) dX2_comeNearer_21 (by decide) ?_
    refine pw_icmp_ne X 27 dX2_comeNearer_23 (by decide) (fun c19 => ?_) (fun c19 => ?_)
    · replace hw := hw.1 c19
      refine pw_aload_n X dX2_comeNearer_27 rfl rfl ?_
      obtain ⟨u20, he21, hw⟩ := hw
      refine pw_get X (q := (RX2, TX2, tyX2, 4)) (ci := 2) (k := 2) (ref := "PatrolDesk$Roads") (vR (some u20)) ht1 rfl (by decide) in_X2 q936 (Or.inl rfl) (by rw [he21]; rfl) dX2_comeNearer_28 ?_
      refine pw_iload_n X dX2_comeNearer_31 rfl rfl ?_
      obtain ⟨ht22, hw⟩ := hw
      obtain ⟨hi23, hw⟩ := hw
      obtain ⟨u24, he25, hw⟩ := hw
      refine pw_aald X (Or.inr (Or.inr ht22)) hi23 dX2_comeNearer_32 ?_
      rw [he25]
      refine pw_iload_n X dX2_comeNearer_33 rfl rfl ?_
      obtain ⟨ht26, hw⟩ := hw
      obtain ⟨hi27, hw⟩ := hw
      refine pw_iald X ht26 hi27 dX2_comeNearer_34 ?_
      refine pw_aload_n X dX2_comeNearer_35 rfl rfl ?_
      obtain ⟨u28, he29, hw⟩ := hw
      refine pw_get X (q := (RX2, TX2, tyX2, 4)) (ci := 2) (k := 2) (ref := "PatrolDesk$Roads") (vR (some u28)) ht1 rfl (by decide) in_X2 q936 (Or.inl rfl) (by rw [he29]; rfl) dX2_comeNearer_36 ?_
      refine pw_iload_n X dX2_comeNearer_39 rfl rfl ?_
      obtain ⟨ht30, hw⟩ := hw
      obtain ⟨hi31, hw⟩ := hw
      obtain ⟨u32, he33, hw⟩ := hw
      refine pw_aald X (Or.inr (Or.inr ht30)) hi31 dX2_comeNearer_40 ?_
      rw [he33]
      refine pw_iload_n X dX2_comeNearer_41 rfl rfl ?_
      obtain ⟨ht34, hw⟩ := hw
      obtain ⟨hi35, hw⟩ := hw
      refine pw_iald X ht34 hi35 dX2_comeNearer_42 ?_
      refine pw_iadd X dX2_comeNearer_43 ?_
      refine pw_istore X [(0, vR (some a0)), (1, vI x1), (2, vI x2), (4, vI ((m_gi M u24 (Int32.toNatClampNeg x3)) + (m_gi M u32 (Int32.toNatClampNeg x2))))] [1, 2, 3, 0] dX2_comeNearer_44 (by decide) rfl ?_
      refine pw_aload_n X dX2_comeNearer_46 rfl rfl ?_
      obtain ⟨u36, he37, hw⟩ := hw
      refine pw_get X (q := (RX2, TX2, tyX2, 4)) (ci := 2) (k := 2) (ref := "PatrolDesk$Roads") (vR (some u36)) ht1 rfl (by decide) in_X2 q936 (Or.inl rfl) (by rw [he37]; rfl) dX2_comeNearer_47 ?_
      refine pw_iload_n X dX2_comeNearer_50 rfl rfl ?_
      obtain ⟨ht38, hw⟩ := hw
      obtain ⟨hi39, hw⟩ := hw
      obtain ⟨u40, he41, hw⟩ := hw
      refine pw_aald X (Or.inr (Or.inr ht38)) hi39 dX2_comeNearer_51 ?_
      rw [he41]
      refine pw_iload_n X dX2_comeNearer_52 rfl rfl ?_
      obtain ⟨ht42, hw⟩ := hw
      obtain ⟨hi43, hw⟩ := hw
      refine pw_iald X ht42 hi43 dX2_comeNearer_53 ?_
      refine pw_bipush X (-5) dX2_comeNearer_54 (by decide) ?_
      refine pw_icmp_eq X 72 dX2_comeNearer_56 (by decide) (fun c44 => ?_) (fun c44 => ?_)
      · replace hw := hw.1 c44
        exact bk_X2_comeNearer_72 G C n0 s0 M0 Q X _ a0 x1 x2 ((m_gi M u24 (Int32.toNatClampNeg x3)) + (m_gi M u32 (Int32.toNatClampNeg x2))) hw
      · replace hw := hw.2 c44
        refine pw_iload X dX2_comeNearer_59 rfl ?_
        refine pw_aload_n X dX2_comeNearer_61 rfl rfl ?_
        obtain ⟨u45, he46, hw⟩ := hw
        refine pw_get X (q := (RX2, TX2, tyX2, 4)) (ci := 2) (k := 2) (ref := "PatrolDesk$Roads") (vR (some u45)) ht1 rfl (by decide) in_X2 q936 (Or.inl rfl) (by rw [he46]; rfl) dX2_comeNearer_62 ?_
        refine pw_iload_n X dX2_comeNearer_65 rfl rfl ?_
        obtain ⟨ht47, hw⟩ := hw
        obtain ⟨hi48, hw⟩ := hw
        obtain ⟨u49, he50, hw⟩ := hw
        refine pw_aald X (Or.inr (Or.inr ht47)) hi48 dX2_comeNearer_66 ?_
        rw [he50]
        refine pw_iload_n X dX2_comeNearer_67 rfl rfl ?_
        obtain ⟨ht51, hw⟩ := hw
        obtain ⟨hi52, hw⟩ := hw
        refine pw_iald X ht51 hi52 dX2_comeNearer_68 ?_
        refine pw_icmp_ge X 82 dX2_comeNearer_69 (by decide) (fun c53 => ?_) (fun c53 => ?_)
        · replace hw := hw.1 c53
          exact pw_vret X hw dX2_comeNearer_82
        · replace hw := hw.2 c53
          exact bk_X2_comeNearer_72 G C n0 s0 M0 Q X _ a0 x1 x2 ((m_gi M u24 (Int32.toNatClampNeg x3)) + (m_gi M u32 (Int32.toNatClampNeg x2))) hw
    · replace hw := hw.2 c19
      exact pw_vret X hw dX2_comeNearer_26
theorem met_X2_comeNearer (G : Gp) (l : Launch) (M : Mem) (a0 : Nat) (x1 : Int32) (x2 : Int32) (x3 : Int32) (Q : Mem → Prop) (hw : wp_X2_comeNearer G.2 M a0 x1 x2 x3 Q) : m_K G l yX2_comeNearer cX2_comeNearer 5 none 0 0 [vR (some a0), vI x1, vI x2, vI x3] M (va_Qv (m_q0 M Q) (m_W G) (m_A G)) := by
  refine m_met (by decide) (Nat.le_of_ble_eq_true rfl) (fun C e X => ?_)
  exact bk_X2_comeNearer_0 G C _ _ M Q X M a0 x1 x2 x3 hw
theorem nh_X2_comeNearer : m_nMH yX2_comeNearer 3 := by decide +kernel

def wp_X2_keep (g : Nat → Nat) (M : Mem) (a0 : Nat) (a1 : Nat) (a2 : Nat) (Q : Mem → Prop) : Prop := m_tg M a1 = 3 ∧ ∃ u2 : Nat, (m_gr M a1 0) = some u2 ∧ m_tg M u2 = 17 ∧ wp_J9_getL g M u2 a2 (fun (r7 : Option Nat) (M5 : Mem) => m_le M M5 → (∀ y : Nat, r7 = some y → m_tg M5 y = 150) ∧ ((r7 = none → Q M5) ∧ (∀ u11 : Nat, r7 = some u11 → m_tg M5 a0 = 3 ∧ ∃ u14 : Nat, (m_gr M5 a0 0) = some u14 ∧ m_tg M5 u14 = 17 ∧ wp_J8_putL g M5 u14 a2 u11 (fun (r19 : Option Nat) (M17 : Mem) => m_le M5 M17 → Q M17))))
theorem bk_X2_keep_0 (G : Gp) (C : m_Cx) (n0 s0 : Nat) (M0 : Mem) (Q : Mem → Prop) (X : m_in G C RX2 cX2_keep 4 none "keep" 6 139 n0 s0) (M : Mem) (a0 : Nat) (a1 : Nat) (a2 : Nat) (hw : wp_X2_keep G.2 M a0 a1 a2 Q) : pW G C 4 n0 s0 M0 (m_Q G C n0 s0 (va_Qv (m_q0 M0 Q) (m_W G) (m_A G))) M 0 [(0, vR (some a0)), (1, vR (some a1)), (2, vR (some a2))] [] := by
  refine pw_aload_n X dX2_keep_0 rfl rfl ?_
  obtain ⟨ht1, hw⟩ := hw
  obtain ⟨u2, he3, hw⟩ := hw
  refine pw_get X (q := (RX2, TX2, tyX2, 4)) (ci := 2) (k := 0) (ref := "PatrolDesk$Roads") (vR (some u2)) ht1 rfl (by decide) in_X2 q933 (Or.inl rfl) (by rw [he3]; rfl) dX2_keep_1 ?_
  refine pw_aload_n X dX2_keep_4 rfl rfl ?_
  obtain ⟨ht4, hw⟩ := hw
  refine pw_runq X (m_cF X (b := u2) (ci := 16) (q := (RJ9, TJ9, tyJ9, 12)) (met_J9_getL G C.2.1 M u2 a2 _ hw) ht4 rfl (lw_app (lw_F q312 q637 q639 q90) (lw_meth q641)) (List.mem_of_getElem? (i := 7) rfl) (by decide +kernel : m_nMH ⟨"java/util/Map", "get", "(Ljava/lang/Object;)Ljava/lang/Object;"⟩ 1) ⟨Nat.le_of_ble_eq_true rfl, Nat.le_of_ble_eq_true rfl⟩ rfl (Nat.le_of_ble_eq_true rfl) dX2_keep_5) (fun r7 M5 hle6 hx => ?_)
  replace hw := hx hle6
  clear hx
  have ht8 : m_tg M5 a1 = 3 := m_le_tg hle6 ht1
  have ht9 : m_tg M5 u2 = 17 := m_le_tg hle6 ht4
  obtain ⟨ht10, hw⟩ := hw
  refine pw_castI X ht10 q651 q866 dX2_keep_10 ?_
  refine pw_astore_n X [(0, vR (some a0)), (2, vR (some a2)), (3, vR r7)] [1, 3, 0] dX2_keep_13 rfl (by decide) rfl ?_
  refine pw_aload_n X dX2_keep_14 rfl rfl ?_
  refine pw_ifnull X 30 dX2_keep_15 (by decide) (fun he12 => ?_) (fun u11 he12 => ?_)
  · replace hw := hw.1 he12
    subst he12
    exact pw_vret X hw dX2_keep_30
  · replace hw := hw.2 u11 he12
    subst he12
    refine pw_aload_n X dX2_keep_18 rfl rfl ?_
    obtain ⟨ht13, hw⟩ := hw
    obtain ⟨u14, he15, hw⟩ := hw
    refine pw_get X (q := (RX2, TX2, tyX2, 4)) (ci := 2) (k := 0) (ref := "PatrolDesk$Roads") (vR (some u14)) ht13 rfl (by decide) in_X2 q933 (Or.inl rfl) (by rw [he15]; rfl) dX2_keep_19 ?_
    refine pw_aload_n X dX2_keep_22 rfl rfl ?_
    refine pw_aload_n X dX2_keep_23 rfl rfl ?_
    obtain ⟨ht16, hw⟩ := hw
    refine pw_runq X (m_cF X (b := u14) (ci := 16) (q := (RJ9, TJ9, tyJ9, 12)) (met_J8_putL G C.2.1 M5 u14 a2 u11 _ hw) ht16 rfl (lw_app (lw_F q653 q857 q658 q89) (lw_meth q660)) (List.mem_of_getElem? (i := 8) rfl) (by decide +kernel : m_nMH ⟨"java/util/Map", "put", "(Ljava/lang/Object;Ljava/lang/Object;)Ljava/lang/Object;"⟩ 2) ⟨Nat.le_of_ble_eq_true rfl, Nat.le_of_ble_eq_true rfl⟩ rfl (Nat.le_of_ble_eq_true rfl) dX2_keep_24) (fun r19 M17 hle18 hx => ?_)
    replace hw := hx hle18
    clear hx
    have ht20 : m_tg M17 a1 = 3 := m_le_tg hle18 ht8
    have ht21 : m_tg M17 u2 = 17 := m_le_tg hle18 ht9
    have ht22 : m_tg M17 a0 = 3 := m_le_tg hle18 ht13
    have ht23 : m_tg M17 u14 = 17 := m_le_tg hle18 ht16
    refine pw_pop X dX2_keep_29 ?_
    exact pw_vret X hw dX2_keep_30
theorem met_X2_keep (G : Gp) (l : Launch) (M : Mem) (a0 : Nat) (a1 : Nat) (a2 : Nat) (Q : Mem → Prop) (hw : wp_X2_keep G.2 M a0 a1 a2 Q) : m_K G l yX2_keep cX2_keep 4 none 6 139 [vR (some a0), vR (some a1), vR (some a2)] M (va_Qv (m_q0 M Q) (m_W G) (m_A G)) := by
  refine m_met (by decide) (Nat.le_of_ble_eq_true rfl) (fun C e X => ?_)
  exact bk_X2_keep_0 G C _ _ M Q X M a0 a1 a2 hw
theorem nh_X2_keep : m_nMH yX2_keep 2 := by decide +kernel

def wp_X2_begin_b67 (g : Nat → Nat) (M : Mem) (la0 : Nat) (sa0 : Nat) (sx1 : Int32) (sx2 : Int32) (Q : Mem → Prop) : Prop := m_tg M sa0 = 101 ∧ vp_in sx1 (m_ln M sa0) ∧ ∀ M3 : Mem, M3 = (m_pi M sa0 (Int32.toNatClampNeg sx1) sx2) → m_tg M3 la0 = 3 ∧ ∃ u8 : Nat, (m_gr M3 la0 3) = some u8 ∧ m_tg M3 u8 = 14 ∧ wp_J2_add g M3 u8 none (fun (r13 : Int32) (M11 : Mem) => m_le M3 M11 → Q M11)
def wp_X2_begin_b42 (g : Nat → Nat) (M : Mem) (la0 : Nat) (lx1 : Int32) (lx2 : Int32) (sa0 : Nat) (sx1 : Int32) (sx2 : Int32) (Q : Mem → Prop) : Prop := m_tg M sa0 = 101 ∧ vp_in sx1 (m_ln M sa0) ∧ ∀ M3 : Mem, M3 = (m_pi M sa0 (Int32.toNatClampNeg sx1) sx2) → m_tg M3 la0 = 3 ∧ ∃ u8 : Nat, (m_gr M3 la0 2) = some u8 ∧ m_tg M3 u8 = 105 ∧ vp_in lx1 (m_ln M3 u8) ∧ ∃ u12 : Nat, (m_gr M3 u8 (Int32.toNatClampNeg lx1)) = some u12 ∧ ((¬ lx1 = lx2 → ∃ u15 : Nat, (m_gr M3 la0 1) = some u15 ∧ m_tg M3 u15 = 105 ∧ vp_in lx1 (m_ln M3 u15) ∧ ∃ u19 : Nat, (m_gr M3 u15 (Int32.toNatClampNeg lx1)) = some u19 ∧ m_tg M3 u19 = 101 ∧ vp_in lx2 (m_ln M3 u19) ∧ wp_X2_begin_b67 g M3 la0 u12 lx2 (m_gi M3 u19 (Int32.toNatClampNeg lx2)) Q) ∧ (lx1 = lx2 → wp_X2_begin_b67 g M3 la0 u12 lx2 0 Q))
def wp_X2_begin (g : Nat → Nat) (M : Mem) (a0 : Nat) (x1 : Int32) (x2 : Int32) (Q : Mem → Prop) : Prop := m_tg M a0 = 3 ∧ ∃ u2 : Nat, (m_gr M a0 0) = some u2 ∧ m_fits M 2 ∧ ∀ u5 : Nat, m_tg M u5 = 0 → ∀ M7 : Mem, M7 = (m_al M u5 4 0 2) → wp_X3_init g M7 u5 x1 x2 (fun (M12 : Mem) => m_le M7 M12 → m_tg M12 u2 = 17 ∧ wp_J9_getL g M12 u2 u5 (fun (r19 : Option Nat) (M17 : Mem) => m_le M12 M17 → (∀ y : Nat, r19 = some y → m_tg M17 y = 150) ∧ ∃ u24 : Nat, (m_gr M17 a0 1) = some u24 ∧ m_tg M17 u24 = 105 ∧ vp_in x1 (m_ln M17 u24) ∧ ∃ u28 : Nat, (m_gr M17 u24 (Int32.toNatClampNeg x1)) = some u28 ∧ ((r19 = none → wp_X2_begin_b42 g M17 a0 x1 x2 u28 x2 (-5) Q) ∧ (∀ u30 : Nat, r19 = some u30 → m_tg M17 u30 = 150 ∧ wp_J12_intValue g M17 u30 (fun (r35 : Int32) (M33 : Mem) => m_le M17 M33 → wp_X2_begin_b42 g M33 a0 x1 x2 u28 x2 r35 Q)))))
theorem bk_X2_begin_67 (G : Gp) (C : m_Cx) (n0 s0 : Nat) (M0 : Mem) (Q : Mem → Prop) (X : m_in G C RX2 cX2_begin 4 none "begin" 7 161 n0 s0) (M : Mem) (la0 : Nat) (sa0 : Nat) (sx1 : Int32) (sx2 : Int32) (hw : wp_X2_begin_b67 G.2 M la0 sa0 sx1 sx2 Q) : pW G C 4 n0 s0 M0 (m_Q G C n0 s0 (va_Qv (m_q0 M0 Q) (m_W G) (m_A G))) M 67 [(0, vR (some la0))] [vI sx2, vI sx1, vR (some sa0)] := by
  obtain ⟨ht1, hw⟩ := hw
  obtain ⟨hi2, hw⟩ := hw
  obtain ⟨M3, hM4⟩ : ∃ z : Mem, z = (m_pi M sa0 (Int32.toNatClampNeg sx1) sx2) := ⟨_, rfl⟩
  replace hw := hw M3 hM4
  have hle5 : m_le M M3 := by rw [hM4]; exact m_le_pi
  refine pw_iast X ht1 hi2 dX2_begin_67 ?_
  rw [← hM4]
  have ht6 : m_tg M3 sa0 = 101 := m_le_tg hle5 ht1
  refine pw_aload_n X dX2_begin_68 rfl rfl ?_
  obtain ⟨ht7, hw⟩ := hw
  obtain ⟨u8, he9, hw⟩ := hw
  refine pw_get X (q := (RX2, TX2, tyX2, 4)) (ci := 2) (k := 3) (ref := "PatrolDesk$Roads") (vR (some u8)) ht7 rfl (by decide) in_X2 q938 (Or.inl rfl) (by rw [he9]; rfl) dX2_begin_69 ?_
  refine pw_null X dX2_begin_72 ?_
  obtain ⟨ht10, hw⟩ := hw
  refine pw_runi X (m_cF X (b := u8) (ci := 13) (q := (RJ2, TJ2, tyJ2, 3)) (met_J2_add G C.2.1 M3 u8 none _ hw) ht10 rfl (lw_app (lw_F q884 q888 q890 q82) (lw_meth q892)) (List.mem_of_getElem? (i := 1) rfl) (by decide +kernel : m_nMH ⟨"java/util/List", "add", "(Ljava/lang/Object;)Z"⟩ 1) ⟨Nat.le_of_ble_eq_true rfl, Nat.le_of_ble_eq_true rfl⟩ rfl (Nat.le_of_ble_eq_true rfl) dX2_begin_73) (fun r13 M11 hle12 hx => ?_)
  replace hw := hx hle12
  clear hx
  have ht14 : m_tg M11 sa0 = 101 := m_le_tg hle12 ht6
  have ht15 : m_tg M11 la0 = 3 := m_le_tg hle12 ht7
  have ht16 : m_tg M11 u8 = 14 := m_le_tg hle12 ht10
  refine pw_pop X dX2_begin_78 ?_
  exact pw_vret X hw dX2_begin_79
theorem bk_X2_begin_42 (G : Gp) (C : m_Cx) (n0 s0 : Nat) (M0 : Mem) (Q : Mem → Prop) (X : m_in G C RX2 cX2_begin 4 none "begin" 7 161 n0 s0) (M : Mem) (la0 : Nat) (lx1 : Int32) (lx2 : Int32) (sa0 : Nat) (sx1 : Int32) (sx2 : Int32) (hw : wp_X2_begin_b42 G.2 M la0 lx1 lx2 sa0 sx1 sx2 Q) : pW G C 4 n0 s0 M0 (m_Q G C n0 s0 (va_Qv (m_q0 M0 Q) (m_W G) (m_A G))) M 42 [(0, vR (some la0)), (1, vI lx1), (2, vI lx2)] [vI sx2, vI sx1, vR (some sa0)] := by
  obtain ⟨ht1, hw⟩ := hw
  obtain ⟨hi2, hw⟩ := hw
  obtain ⟨M3, hM4⟩ : ∃ z : Mem, z = (m_pi M sa0 (Int32.toNatClampNeg sx1) sx2) := ⟨_, rfl⟩
  replace hw := hw M3 hM4
  have hle5 : m_le M M3 := by rw [hM4]; exact m_le_pi
  refine pw_iast X ht1 hi2 dX2_begin_42 ?_
  rw [← hM4]
  have ht6 : m_tg M3 sa0 = 101 := m_le_tg hle5 ht1
  refine pw_aload_n X dX2_begin_43 rfl rfl ?_
  obtain ⟨ht7, hw⟩ := hw
  obtain ⟨u8, he9, hw⟩ := hw
  refine pw_get X (q := (RX2, TX2, tyX2, 4)) (ci := 2) (k := 2) (ref := "PatrolDesk$Roads") (vR (some u8)) ht7 rfl (by decide) in_X2 q936 (Or.inl rfl) (by rw [he9]; rfl) dX2_begin_44 ?_
  refine pw_iload_n X dX2_begin_47 rfl rfl ?_
  obtain ⟨ht10, hw⟩ := hw
  obtain ⟨hi11, hw⟩ := hw
  obtain ⟨u12, he13, hw⟩ := hw
  refine pw_aald X (Or.inr (Or.inr ht10)) hi11 dX2_begin_48 ?_
  rw [he13]
  refine pw_iload_n X dX2_begin_49 rfl rfl ?_
  refine pw_iload_n X dX2_begin_50 rfl rfl ?_
  refine pw_iload_n X dX2_begin_51 rfl rfl ?_
  refine pw_icmp_ne X 59 dX2_begin_52 (by decide) (fun c14 => ?_) (fun c14 => ?_)
  · replace hw := hw.1 c14
    refine pw_aload_n X dX2_begin_59 rfl rfl ?_
    obtain ⟨u15, he16, hw⟩ := hw
    refine pw_get X (q := (RX2, TX2, tyX2, 4)) (ci := 2) (k := 1) (ref := "PatrolDesk$Roads") (vR (some u15)) ht7 rfl (by decide) in_X2 q935 (Or.inl rfl) (by rw [he16]; rfl) dX2_begin_60 ?_
    refine pw_iload_n X dX2_begin_63 rfl rfl ?_
    obtain ⟨ht17, hw⟩ := hw
    obtain ⟨hi18, hw⟩ := hw
    obtain ⟨u19, he20, hw⟩ := hw
    refine pw_aald X (Or.inr (Or.inr ht17)) hi18 dX2_begin_64 ?_
    rw [he20]
    refine pw_iload_n X dX2_begin_65 rfl rfl ?_
    obtain ⟨ht21, hw⟩ := hw
    obtain ⟨hi22, hw⟩ := hw
    refine pw_iald X ht21 hi22 dX2_begin_66 ?_
    refine pw_lo [0] rfl ?_
    exact bk_X2_begin_67 G C n0 s0 M0 Q X _ la0 u12 lx2 (m_gi M3 u19 (Int32.toNatClampNeg lx2)) hw
  · replace hw := hw.2 c14
    refine pw_iconst X 0 dX2_begin_55 (by decide) ?_
    refine pw_goto X 67 dX2_begin_56 (by decide) ?_
    refine pw_lo [0] rfl ?_
    exact bk_X2_begin_67 G C n0 s0 M0 Q X _ la0 u12 lx2 0 hw
theorem bk_X2_begin_0 (G : Gp) (C : m_Cx) (n0 s0 : Nat) (M0 : Mem) (Q : Mem → Prop) (X : m_in G C RX2 cX2_begin 4 none "begin" 7 161 n0 s0) (M : Mem) (a0 : Nat) (x1 : Int32) (x2 : Int32) (hw : wp_X2_begin G.2 M a0 x1 x2 Q) : pW G C 4 n0 s0 M0 (m_Q G C n0 s0 (va_Qv (m_q0 M0 Q) (m_W G) (m_A G))) M 0 [(0, vR (some a0)), (1, vI x1), (2, vI x2)] [] := by
  refine pw_aload_n X dX2_begin_0 rfl rfl ?_
  obtain ⟨ht1, hw⟩ := hw
  obtain ⟨u2, he3, hw⟩ := hw
  refine pw_get X (q := (RX2, TX2, tyX2, 4)) (ci := 2) (k := 0) (ref := "PatrolDesk$Roads") (vR (some u2)) ht1 rfl (by decide) in_X2 q933 (Or.inl rfl) (by rw [he3]; rfl) dX2_begin_1 ?_
  obtain ⟨hf4, hw⟩ := hw
  refine pw_new X (ci := 3) (q := (RX3, TX3, tyX3, 2)) hf4 rfl in_X3 tyX3_ok q288 q289 q91 dX2_begin_4 (fun u5 h06 => ?_)
  obtain ⟨M7, hM8⟩ : ∃ z : Mem, z = (m_al M u5 4 0 2) := ⟨_, rfl⟩
  replace hw := hw u5 h06 M7 hM8
  have hle9 : m_le M M7 := by rw [hM8]; exact m_le_al h06
  change pW _ _ _ _ _ _ _ (m_al M u5 4 0 2) _ _ _
  rw [← hM8]
  have ht10 : m_tg M7 a0 = 3 := m_le_tg hle9 ht1
  have ht11 : m_tg M7 u5 = 4 := by rw [hM8, m_tg_al, if_pos rfl]
  refine pw_dup X dX2_begin_7 ?_
  refine pw_iload_n X dX2_begin_8 rfl rfl ?_
  refine pw_iload_n X dX2_begin_9 rfl rfl ?_
  refine pw_runv X (m_cI X (b := u5) (met_X3_init G C.2.1 M7 u5 x1 x2 _ hw) q292 q91 q290 q291 rfl nh_X3_init ⟨Nat.le_of_ble_eq_true rfl, Nat.le_of_ble_eq_true rfl⟩ rfl (Nat.le_of_ble_eq_true rfl) dX2_begin_10) (fun M12 hle13 hx => ?_)
  replace hw := hx hle13
  clear hx
  have ht14 : m_tg M12 a0 = 3 := m_le_tg hle13 ht10
  have ht15 : m_tg M12 u5 = 4 := m_le_tg hle13 ht11
  obtain ⟨ht16, hw⟩ := hw
  refine pw_runq X (m_cF X (b := u2) (ci := 16) (q := (RJ9, TJ9, tyJ9, 12)) (met_J9_getL G C.2.1 M12 u2 u5 _ hw) ht16 rfl (lw_app (lw_F q312 q637 q639 q90) (lw_meth q641)) (List.mem_of_getElem? (i := 7) rfl) (by decide +kernel : m_nMH ⟨"java/util/Map", "get", "(Ljava/lang/Object;)Ljava/lang/Object;"⟩ 1) ⟨Nat.le_of_ble_eq_true rfl, Nat.le_of_ble_eq_true rfl⟩ rfl (Nat.le_of_ble_eq_true rfl) dX2_begin_13) (fun r19 M17 hle18 hx => ?_)
  replace hw := hx hle18
  clear hx
  have ht20 : m_tg M17 a0 = 3 := m_le_tg hle18 ht14
  have ht21 : m_tg M17 u5 = 4 := m_le_tg hle18 ht15
  have ht22 : m_tg M17 u2 = 17 := m_le_tg hle18 ht16
  obtain ⟨ht23, hw⟩ := hw
  refine pw_castI X ht23 q651 q866 dX2_begin_18 ?_
  refine pw_astore_n X [(0, vR (some a0)), (1, vI x1), (2, vI x2), (3, vR r19)] [1, 2, 3, 0] dX2_begin_21 rfl (by decide) rfl ?_
  refine pw_aload_n X dX2_begin_22 rfl rfl ?_
  obtain ⟨u24, he25, hw⟩ := hw
  refine pw_get X (q := (RX2, TX2, tyX2, 4)) (ci := 2) (k := 1) (ref := "PatrolDesk$Roads") (vR (some u24)) ht20 rfl (by decide) in_X2 q935 (Or.inl rfl) (by rw [he25]; rfl) dX2_begin_23 ?_
  refine pw_iload_n X dX2_begin_26 rfl rfl ?_
  obtain ⟨ht26, hw⟩ := hw
  obtain ⟨hi27, hw⟩ := hw
  obtain ⟨u28, he29, hw⟩ := hw
  refine pw_aald X (Or.inr (Or.inr ht26)) hi27 dX2_begin_27 ?_
  rw [he29]
  refine pw_iload_n X dX2_begin_28 rfl rfl ?_
  refine pw_aload_n X dX2_begin_29 rfl rfl ?_
  refine pw_ifnonnull X 38 dX2_begin_30 (by decide) (fun u30 he31 => ?_) (fun he31 => ?_)
  · replace hw := hw.2 u30 he31
    subst he31
    refine pw_aload_n X dX2_begin_38 rfl rfl ?_
    obtain ⟨ht32, hw⟩ := hw
    refine pw_runi X (m_cVI X (b := u30) (met_J12_intValue G C.2.1 M17 u30 _ hw) ht32 (lw_V q882 q388 q389 q94 q390) ⟨rfl, nh_J12_intValue⟩ ⟨Nat.le_of_ble_eq_true rfl, Nat.le_of_ble_eq_true rfl⟩ rfl (Nat.le_of_ble_eq_true rfl) dX2_begin_39) (fun r35 M33 hle34 hx => ?_)
    replace hw := hx hle34
    clear hx
    have ht36 : m_tg M33 a0 = 3 := m_le_tg hle34 ht20
    have ht37 : m_tg M33 u5 = 4 := m_le_tg hle34 ht21
    have ht38 : m_tg M33 u2 = 17 := m_le_tg hle34 ht22
    have ht39 : m_tg M33 u24 = 105 := m_le_tg hle34 ht26
    have ht40 : m_tg M33 u30 = 150 := m_le_tg hle34 ht32
    refine pw_lo [0, 1, 2] rfl ?_
    exact bk_X2_begin_42 G C n0 s0 M0 Q X _ a0 x1 x2 u28 x2 r35 hw
  · replace hw := hw.1 he31
    subst he31
    refine pw_bipush X (-5) dX2_begin_33 (by decide) ?_
    refine pw_goto X 42 dX2_begin_35 (by decide) ?_
    refine pw_lo [0, 1, 2] rfl ?_
    exact bk_X2_begin_42 G C n0 s0 M0 Q X _ a0 x1 x2 u28 x2 (-5) hw
theorem met_X2_begin (G : Gp) (l : Launch) (M : Mem) (a0 : Nat) (x1 : Int32) (x2 : Int32) (Q : Mem → Prop) (hw : wp_X2_begin G.2 M a0 x1 x2 Q) : m_K G l yX2_begin cX2_begin 4 none 7 161 [vR (some a0), vI x1, vI x2] M (va_Qv (m_q0 M Q) (m_W G) (m_A G)) := by
  refine m_met (by decide) (Nat.le_of_ble_eq_true rfl) (fun C e X => ?_)
  exact bk_X2_begin_0 G C _ _ M Q X M a0 x1 x2 hw
theorem nh_X2_begin : m_nMH yX2_begin 2 := by decide +kernel

def wp_X2_next_b24 (g : Nat → Nat) (k2 : Mem → Nat → Int32 → Int32 → Int32 → Prop) (M : Mem) (la0 : Nat) (lx1 : Int32) (lx2 : Int32) (lx3 : Int32) (sx0 : Int32) (Q : Int32 → Mem → Prop) : Prop := ((sx0 = (-5) → k2 M la0 lx1 lx2 (lx3 + 1)) ∧ (¬ sx0 = (-5) → m_tg M la0 = 3 ∧ ∃ u3 : Nat, (m_gr M la0 2) = some u3 ∧ m_tg M u3 = 105 ∧ vp_in lx3 (m_ln M u3) ∧ ∃ u7 : Nat, (m_gr M u3 (Int32.toNatClampNeg lx3)) = some u7 ∧ m_tg M u7 = 101 ∧ vp_in lx2 (m_ln M u7) ∧ (((m_gi M u7 (Int32.toNatClampNeg lx2)) = (-5) → k2 M la0 lx1 lx2 (lx3 + 1)) ∧ (¬ (m_gi M u7 (Int32.toNatClampNeg lx2)) = (-5) → ∃ u12 : Nat, (m_gr M la0 2) = some u12 ∧ m_tg M u12 = 105 ∧ vp_in lx3 (m_ln M u12) ∧ ∃ u16 : Nat, (m_gr M u12 (Int32.toNatClampNeg lx3)) = some u16 ∧ m_tg M u16 = 101 ∧ vp_in lx2 (m_ln M u16) ∧ ∃ u20 : Nat, (m_gr M la0 2) = some u20 ∧ m_tg M u20 = 105 ∧ vp_in lx1 (m_ln M u20) ∧ ∃ u24 : Nat, (m_gr M u20 (Int32.toNatClampNeg lx1)) = some u24 ∧ m_tg M u24 = 101 ∧ vp_in lx2 (m_ln M u24) ∧ ((¬ (sx0 + (m_gi M u16 (Int32.toNatClampNeg lx2))) = (m_gi M u24 (Int32.toNatClampNeg lx2)) → k2 M la0 lx1 lx2 (lx3 + 1)) ∧ ((sx0 + (m_gi M u16 (Int32.toNatClampNeg lx2))) = (m_gi M u24 (Int32.toNatClampNeg lx2)) → Q lx3 M))))))
def wp_X2_next_b2 (g : Nat → Nat) (Q : Int32 → Mem → Prop) : Nat → Mem → Nat → Int32 → Int32 → Int32 → Prop
  | 0 => fun _ _ _ _ _ => False
  | n + 1 => fun M la0 lx1 lx2 lx3 => ((12 ≤ lx3 → Q (-5) M) ∧ (¬ 12 ≤ lx3 → ((¬ lx3 = lx1 → m_tg M la0 = 3 ∧ wp_X2_lengthOf g M la0 lx1 lx3 (fun (r6 : Int32) (M4 : Mem) => m_le M M4 → wp_X2_next_b24 g (wp_X2_next_b2 g Q n) M4 la0 lx1 lx2 lx3 r6 Q)) ∧ (lx3 = lx1 → wp_X2_next_b24 g (wp_X2_next_b2 g Q n) M la0 lx1 lx2 lx3 (-5) Q))))
def wp_X2_next (g : Nat → Nat) (M : Mem) (a0 : Nat) (x1 : Int32) (x2 : Int32) (Q : Int32 → Mem → Prop) : Prop := ∃ j2 : Nat, wp_X2_next_b2 g Q j2 M a0 x1 x2 0
theorem bk_X2_next_24 (G : Gp) (C : m_Cx) (n0 s0 : Nat) (M0 : Mem) (Q : Int32 → Mem → Prop) (X : m_in G C RX2 cX2_next 5 (some .int) "next" 1 22 n0 s0) (k2 : Mem → Nat → Int32 → Int32 → Int32 → Prop) (hk2 : ∀ (M : Mem) (la0 : Nat) (lx1 : Int32) (lx2 : Int32) (lx3 : Int32), k2 M la0 lx1 lx2 lx3 → pW G C 5 n0 s0 M0 (m_Q G C n0 s0 (va_Qi (m_q1 M0 Q) (m_W G) (m_A G))) M 2 [(0, vR (some la0)), (1, vI lx1), (2, vI lx2), (3, vI lx3)] []) (M : Mem) (la0 : Nat) (lx1 : Int32) (lx2 : Int32) (lx3 : Int32) (sx0 : Int32) (hw : wp_X2_next_b24 G.2 k2 M la0 lx1 lx2 lx3 sx0 Q) : pW G C 5 n0 s0 M0 (m_Q G C n0 s0 (va_Qi (m_q1 M0 Q) (m_W G) (m_A G))) M 24 [(0, vR (some la0)), (1, vI lx1), (2, vI lx2), (3, vI lx3)] [vI sx0] := by
  refine pw_istore X [(0, vR (some la0)), (1, vI lx1), (2, vI lx2), (3, vI lx3), (4, vI sx0)] [1, 2, 3, 4, 0] dX2_next_24 (by decide) rfl ?_
  refine pw_iload X dX2_next_26 rfl ?_
  refine pw_bipush X (-5) dX2_next_28 (by decide) ?_
  refine pw_icmp_eq X 70 dX2_next_30 (by decide) (fun c1 => ?_) (fun c1 => ?_)
  · replace hw := hw.1 c1
    refine pw_iinc X (lx3 + 1) [(0, vR (some la0)), (1, vI lx1), (2, vI lx2), (3, vI (lx3 + 1))] [1, 2, 3, 0] dX2_next_70 rfl (by first | rfl | decide) (by decide) rfl ?_
    refine pw_goto X 2 dX2_next_73 (by decide) ?_
    exact hk2 _ la0 lx1 lx2 (lx3 + 1) hw
  · replace hw := hw.2 c1
    refine pw_aload_n X dX2_next_33 rfl rfl ?_
    obtain ⟨ht2, hw⟩ := hw
    obtain ⟨u3, he4, hw⟩ := hw
    refine pw_get X (q := (RX2, TX2, tyX2, 4)) (ci := 2) (k := 2) (ref := "PatrolDesk$Roads") (vR (some u3)) ht2 rfl (by decide) in_X2 q936 (Or.inl rfl) (by rw [he4]; rfl) dX2_next_34 ?_
    refine pw_iload_n X dX2_next_37 rfl rfl ?_
    obtain ⟨ht5, hw⟩ := hw
    obtain ⟨hi6, hw⟩ := hw
    obtain ⟨u7, he8, hw⟩ := hw
    refine pw_aald X (Or.inr (Or.inr ht5)) hi6 dX2_next_38 ?_
    rw [he8]
    refine pw_iload_n X dX2_next_39 rfl rfl ?_
    obtain ⟨ht9, hw⟩ := hw
    obtain ⟨hi10, hw⟩ := hw
    refine pw_iald X ht9 hi10 dX2_next_40 ?_
    refine pw_bipush X (-5) dX2_next_41 (by decide) ?_
    refine pw_icmp_eq X 70 dX2_next_43 (by decide) (fun c11 => ?_) (fun c11 => ?_)
    · replace hw := hw.1 c11
      refine pw_iinc X (lx3 + 1) [(0, vR (some la0)), (1, vI lx1), (2, vI lx2), (3, vI (lx3 + 1))] [1, 2, 3, 0] dX2_next_70 rfl (by first | rfl | decide) (by decide) rfl ?_
      refine pw_goto X 2 dX2_next_73 (by decide) ?_
      exact hk2 _ la0 lx1 lx2 (lx3 + 1) hw
    · replace hw := hw.2 c11
      refine pw_iload X dX2_next_46 rfl ?_
      refine pw_aload_n X dX2_next_48 rfl rfl ?_
      obtain ⟨u12, he13, hw⟩ := hw
      refine pw_get X (q := (RX2, TX2, tyX2, 4)) (ci := 2) (k := 2) (ref := "PatrolDesk$Roads") (vR (some u12)) ht2 rfl (by decide) in_X2 q936 (Or.inl rfl) (by rw [he13]; rfl) dX2_next_49 ?_
      refine pw_iload_n X dX2_next_52 rfl rfl ?_
      obtain ⟨ht14, hw⟩ := hw
      obtain ⟨hi15, hw⟩ := hw
      obtain ⟨u16, he17, hw⟩ := hw
      refine pw_aald X (Or.inr (Or.inr ht14)) hi15 dX2_next_53 ?_
      rw [he17]
      refine pw_iload_n X dX2_next_54 rfl rfl ?_
      obtain ⟨ht18, hw⟩ := hw
      obtain ⟨hi19, hw⟩ := hw
      refine pw_iald X ht18 hi19 dX2_next_55 ?_
      refine pw_iadd X dX2_next_56 ?_
      refine pw_aload_n X dX2_next_57 rfl rfl ?_
      obtain ⟨u20, he21, hw⟩ := hw
      refine pw_get X (q := (RX2, TX2, tyX2, 4)) (ci := 2) (k := 2) (ref := "PatrolDesk$Roads") (vR (some u20)) ht2 rfl (by decide) in_X2 q936 (Or.inl rfl) (by rw [he21]; rfl) dX2_next_58 ?_
      refine pw_iload_n X dX2_next_61 rfl rfl ?_
      obtain ⟨ht22, hw⟩ := hw
      obtain ⟨hi23, hw⟩ := hw
      obtain ⟨u24, he25, hw⟩ := hw
      refine pw_aald X (Or.inr (Or.inr ht22)) hi23 dX2_next_62 ?_
      rw [he25]
      refine pw_iload_n X dX2_next_63 rfl rfl ?_
      obtain ⟨ht26, hw⟩ := hw
      obtain ⟨hi27, hw⟩ := hw
      refine pw_iald X ht26 hi27 dX2_next_64 ?_
      refine pw_icmp_ne X 70 dX2_next_65 (by decide) (fun c28 => ?_) (fun c28 => ?_)
      · replace hw := hw.1 c28
        refine pw_iinc X (lx3 + 1) [(0, vR (some la0)), (1, vI lx1), (2, vI lx2), (3, vI (lx3 + 1))] [1, 2, 3, 0] dX2_next_70 rfl (by first | rfl | decide) (by decide) rfl ?_
        refine pw_goto X 2 dX2_next_73 (by decide) ?_
        exact hk2 _ la0 lx1 lx2 (lx3 + 1) hw
      · replace hw := hw.2 c28
        refine pw_iload_n X dX2_next_68 rfl rfl ?_
        exact pw_iret X hw dX2_next_69
theorem bk_X2_next_2 (G : Gp) (C : m_Cx) (n0 s0 : Nat) (M0 : Mem) (Q : Int32 → Mem → Prop) (X : m_in G C RX2 cX2_next 5 (some .int) "next" 1 22 n0 s0) : ∀ (n : Nat) (M : Mem) (la0 : Nat) (lx1 : Int32) (lx2 : Int32) (lx3 : Int32) (hw : wp_X2_next_b2 G.2 Q n M la0 lx1 lx2 lx3), pW G C 5 n0 s0 M0 (m_Q G C n0 s0 (va_Qi (m_q1 M0 Q) (m_W G) (m_A G))) M 2 [(0, vR (some la0)), (1, vI lx1), (2, vI lx2), (3, vI lx3)] [] := by
  intro n
  induction n with
  | zero => intro M la0 lx1 lx2 lx3 hw; exact hw.elim
  | succ n ih =>
    intro M la0 lx1 lx2 lx3 hw
    refine pw_iload_n X dX2_next_2 rfl rfl ?_
    refine pw_bipush X 12 dX2_next_3 (by decide) ?_
    refine pw_icmp_ge X 76 dX2_next_5 (by decide) (fun c1 => ?_) (fun c1 => ?_)
    · replace hw := hw.1 c1
      refine pw_bipush X (-5) dX2_next_76 (by decide) ?_
      exact pw_iret X hw dX2_next_78
    · replace hw := hw.2 c1
      refine pw_iload_n X dX2_next_8 rfl rfl ?_
      refine pw_iload_n X dX2_next_9 rfl rfl ?_
      refine pw_icmp_ne X 18 dX2_next_10 (by decide) (fun c2 => ?_) (fun c2 => ?_)
      · replace hw := hw.1 c2
        refine pw_aload_n X dX2_next_18 rfl rfl ?_
        refine pw_iload_n X dX2_next_19 rfl rfl ?_
        refine pw_iload_n X dX2_next_20 rfl rfl ?_
        obtain ⟨ht3, hw⟩ := hw
        refine pw_runi X (m_cV X (b := la0) (ci := 2) (q := (RX2, TX2, tyX2, 4)) (met_X2_lengthOf G C.2.1 M la0 lx1 lx3 _ hw) ht3 rfl (lw_V q1544 q972 q973 q87 q974) ⟨rfl, nh_X2_lengthOf⟩ ⟨Nat.le_of_ble_eq_true rfl, Nat.le_of_ble_eq_true rfl⟩ rfl (Nat.le_of_ble_eq_true rfl) dX2_next_21) (fun r6 M4 hle5 hx => ?_)
        replace hw := hx hle5
        clear hx
        have ht7 : m_tg M4 la0 = 3 := m_le_tg hle5 ht3
        exact bk_X2_next_24 G C n0 s0 M0 Q X (wp_X2_next_b2 G.2 Q n) ih _ la0 lx1 lx2 lx3 r6 hw
      · replace hw := hw.2 c2
        refine pw_bipush X (-5) dX2_next_13 (by decide) ?_
        refine pw_goto X 24 dX2_next_15 (by decide) ?_
        exact bk_X2_next_24 G C n0 s0 M0 Q X (wp_X2_next_b2 G.2 Q n) ih _ la0 lx1 lx2 lx3 (-5) hw
theorem bk_X2_next_0 (G : Gp) (C : m_Cx) (n0 s0 : Nat) (M0 : Mem) (Q : Int32 → Mem → Prop) (X : m_in G C RX2 cX2_next 5 (some .int) "next" 1 22 n0 s0) (M : Mem) (a0 : Nat) (x1 : Int32) (x2 : Int32) (hw : wp_X2_next G.2 M a0 x1 x2 Q) : pW G C 5 n0 s0 M0 (m_Q G C n0 s0 (va_Qi (m_q1 M0 Q) (m_W G) (m_A G))) M 0 [(0, vR (some a0)), (1, vI x1), (2, vI x2)] [] := by
  refine pw_iconst X 0 dX2_next_0 (by decide) ?_
  refine pw_istore_n X [(0, vR (some a0)), (1, vI x1), (2, vI x2), (3, vI 0)] [1, 2, 3, 0] dX2_next_1 rfl (by decide) rfl ?_
  obtain ⟨n2, hw⟩ := hw
  exact bk_X2_next_2 G C n0 s0 M0 Q X n2 _ a0 x1 x2 0 hw
theorem met_X2_next (G : Gp) (l : Launch) (M : Mem) (a0 : Nat) (x1 : Int32) (x2 : Int32) (Q : Int32 → Mem → Prop) (hw : wp_X2_next G.2 M a0 x1 x2 Q) : m_K G l yX2_next cX2_next 5 (some .int) 1 22 [vR (some a0), vI x1, vI x2] M (va_Qi (m_q1 M Q) (m_W G) (m_A G)) := by
  refine m_met (by decide) (Nat.le_of_ble_eq_true rfl) (fun C e X => ?_)
  exact bk_X2_next_0 G C _ _ M Q X M a0 x1 x2 hw
theorem nh_X2_next : m_nMH yX2_next 2 := by decide +kernel

def wp_X2_lay_b35 (g : Nat → Nat) (Q : Option Nat → Mem → Prop) : Nat → Mem → Nat → Int32 → Nat → Nat → Int32 → Prop
  | 0 => fun _ _ _ _ _ _ => False
  | n + 1 => fun M la0 lx2 la3 la4 lx5 => ((lx5 = (-5) → Q (some la3) M) ∧ (¬ lx5 = (-5) → m_fits M 1 ∧ ∀ u3 : Nat, m_tg M u3 = 0 → ∀ M5 : Mem, M5 = (m_al M u3 11 0 1) → wp_X10_init g M5 u3 lx5 (fun (M9 : Mem) => m_le M5 M9 → m_tg M9 la4 = 20 ∧ wp_J26_add g M9 la4 u3 (fun (r15 : Int32) (M13 : Mem) => m_le M9 M13 → ((r15 = 0 → Q (some la3) M13) ∧ (¬ r15 = 0 → wp_J12_valueOf g M13 lx5 (fun (r21 : Option Nat) (M19 : Mem) => m_le M13 M19 → m_tg M19 la3 = 14 ∧ wp_J2_add g M19 la3 r21 (fun (r27 : Int32) (M25 : Mem) => m_le M19 M25 → ((¬ lx5 = lx2 → m_tg M25 la0 = 3 ∧ wp_X2_next g M25 la0 lx5 lx2 (fun (r35 : Int32) (M33 : Mem) => m_le M25 M33 → wp_X2_lay_b35 g Q n M33 la0 lx2 la3 la4 r35)) ∧ (lx5 = lx2 → wp_X2_lay_b35 g Q n M25 la0 lx2 la3 la4 (-5)))))))))))
def wp_X2_lay (g : Nat → Nat) (M : Mem) (a0 : Nat) (x1 : Int32) (x2 : Int32) (Q : Option Nat → Mem → Prop) : Prop := m_fits M 3 ∧ ∀ u2 : Nat, m_tg M u2 = 0 → ∀ M4 : Mem, M4 = (m_al M u2 14 0 3) → wp_J2_init g M4 u2 (fun (M8 : Mem) => m_le M4 M8 → m_tg M8 a0 = 3 ∧ ∃ u12 : Nat, (m_gr M8 a0 2) = some u12 ∧ m_tg M8 u12 = 105 ∧ vp_in x1 (m_ln M8 u12) ∧ ∃ u16 : Nat, (m_gr M8 u12 (Int32.toNatClampNeg x1)) = some u16 ∧ m_tg M8 u16 = 101 ∧ vp_in x2 (m_ln M8 u16) ∧ ((¬ (m_gi M8 u16 (Int32.toNatClampNeg x2)) = (-5) → m_fits M8 1 ∧ ∀ u22 : Nat, m_tg M8 u22 = 0 → ∀ M24 : Mem, M24 = (m_al M8 u22 20 0 1) → wp_J26_init g M24 u22 (fun (M32 : Mem) => m_le M24 M32 → ∃ j35 : Nat, wp_X2_lay_b35 g Q j35 M32 a0 x2 u2 u22 x1)) ∧ ((m_gi M8 u16 (Int32.toNatClampNeg x2)) = (-5) → Q (some u2) M8)))
theorem bk_X2_lay_35 (G : Gp) (C : m_Cx) (n0 s0 : Nat) (M0 : Mem) (Q : Option Nat → Mem → Prop) (X : m_in G C RX2 cX2_lay 6 (some (.object "java/util/List")) "lay" 7 161 n0 s0) : ∀ (n : Nat) (M : Mem) (la0 : Nat) (lx2 : Int32) (la3 : Nat) (la4 : Nat) (lx5 : Int32) (hw : wp_X2_lay_b35 G.2 Q n M la0 lx2 la3 la4 lx5), pW G C 6 n0 s0 M0 (m_Q G C n0 s0 (va_Qq (m_q1 M0 Q) (m_W G) (m_A G))) M 35 [(0, vR (some la0)), (2, vI lx2), (3, vR (some la3)), (4, vR (some la4)), (5, vI lx5)] [] := by
  intro n
  induction n with
  | zero => intro M la0 lx2 la3 la4 lx5 hw; exact hw.elim
  | succ n ih =>
    intro M la0 lx2 la3 la4 lx5 hw
    refine pw_iload X dX2_lay_35 rfl ?_
    refine pw_bipush X (-5) dX2_lay_37 (by decide) ?_
    refine pw_icmp_eq X 96 dX2_lay_39 (by decide) (fun c1 => ?_) (fun c1 => ?_)
    · replace hw := hw.1 c1
      refine pw_aload_n X dX2_lay_96 rfl rfl ?_
      exact pw_aret X (Or.inl ⟨_, rfl⟩) hw dX2_lay_97
    · replace hw := hw.2 c1
      refine pw_aload X dX2_lay_42 rfl ?_
      obtain ⟨hf2, hw⟩ := hw
      refine pw_new X (ci := 10) (q := (RX10, TX10, tyX10, 1)) hf2 rfl in_X10 tyX10_ok q1517 q1518 q118 dX2_lay_44 (fun u3 h04 => ?_)
      obtain ⟨M5, hM6⟩ : ∃ z : Mem, z = (m_al M u3 11 0 1) := ⟨_, rfl⟩
      replace hw := hw u3 h04 M5 hM6
      have hle7 : m_le M M5 := by rw [hM6]; exact m_le_al h04
      change pW _ _ _ _ _ _ _ (m_al M u3 11 0 1) _ _ _
      rw [← hM6]
      have ht8 : m_tg M5 u3 = 11 := by rw [hM6, m_tg_al, if_pos rfl]
      refine pw_dup X dX2_lay_47 ?_
      refine pw_iload X dX2_lay_48 rfl ?_
      refine pw_runv X (m_cI X (b := u3) (met_X10_init G C.2.1 M5 u3 lx5 _ hw) q1521 q118 q1519 q1520 rfl nh_X10_init ⟨Nat.le_of_ble_eq_true rfl, Nat.le_of_ble_eq_true rfl⟩ rfl (Nat.le_of_ble_eq_true rfl) dX2_lay_50) (fun M9 hle10 hx => ?_)
      replace hw := hx hle10
      clear hx
      have ht11 : m_tg M9 u3 = 11 := m_le_tg hle10 ht8
      obtain ⟨ht12, hw⟩ := hw
      refine pw_runi X (m_cF X (b := la4) (ci := 19) (q := (RJ26, TJ26, tyJ26, 1)) (met_J26_add G C.2.1 M9 la4 u3 _ hw) ht12 rfl (lw_app (lw_F q1528 q1532 q1534 q117) (lw_meth q1536)) (List.mem_of_getElem? (i := 10) rfl) (by decide +kernel : m_nMH ⟨"java/util/Set", "add", "(Ljava/lang/Object;)Z"⟩ 1) ⟨Nat.le_of_ble_eq_true rfl, Nat.le_of_ble_eq_true rfl⟩ rfl (Nat.le_of_ble_eq_true rfl) dX2_lay_53) (fun r15 M13 hle14 hx => ?_)
      replace hw := hx hle14
      clear hx
      have ht16 : m_tg M13 u3 = 11 := m_le_tg hle14 ht11
      have ht17 : m_tg M13 la4 = 20 := m_le_tg hle14 ht12
      refine pw_if_eq X 96 dX2_lay_58 (by decide) (fun c18 => ?_) (fun c18 => ?_)
      · replace hw := hw.1 c18
        refine pw_aload_n X dX2_lay_96 rfl rfl ?_
        exact pw_aret X (Or.inl ⟨_, rfl⟩) hw dX2_lay_97
      · replace hw := hw.2 c18
        refine pw_aload_n X dX2_lay_61 rfl rfl ?_
        refine pw_iload X dX2_lay_62 rfl ?_
        refine pw_runq X (m_cS X (met_J12_valueOf G C.2.1 M13 lx5 _ hw) (lw_S q859 q860 q94 q861) nh_J12_valueOf ⟨Nat.le_of_ble_eq_true rfl, Nat.le_of_ble_eq_true rfl⟩ rfl (Nat.le_of_ble_eq_true rfl) dX2_lay_64) (fun r21 M19 hle20 hx => ?_)
        replace hw := hx hle20
        clear hx
        have ht22 : m_tg M19 u3 = 11 := m_le_tg hle20 ht16
        have ht23 : m_tg M19 la4 = 20 := m_le_tg hle20 ht17
        obtain ⟨ht24, hw⟩ := hw
        refine pw_runi X (m_cF X (b := la3) (ci := 13) (q := (RJ2, TJ2, tyJ2, 3)) (met_J2_add G C.2.1 M19 la3 r21 _ hw) ht24 rfl (lw_app (lw_F q884 q888 q890 q82) (lw_meth q892)) (List.mem_of_getElem? (i := 1) rfl) (by decide +kernel : m_nMH ⟨"java/util/List", "add", "(Ljava/lang/Object;)Z"⟩ 1) ⟨Nat.le_of_ble_eq_true rfl, Nat.le_of_ble_eq_true rfl⟩ rfl (Nat.le_of_ble_eq_true rfl) dX2_lay_67) (fun r27 M25 hle26 hx => ?_)
        replace hw := hx hle26
        clear hx
        have ht28 : m_tg M25 u3 = 11 := m_le_tg hle26 ht22
        have ht29 : m_tg M25 la4 = 20 := m_le_tg hle26 ht23
        have ht30 : m_tg M25 la3 = 14 := m_le_tg hle26 ht24
        refine pw_pop X dX2_lay_72 ?_
        refine pw_iload X dX2_lay_73 rfl ?_
        refine pw_iload_n X dX2_lay_75 rfl rfl ?_
        refine pw_icmp_ne X 84 dX2_lay_76 (by decide) (fun c31 => ?_) (fun c31 => ?_)
        · replace hw := hw.1 c31
          refine pw_aload_n X dX2_lay_84 rfl rfl ?_
          refine pw_iload X dX2_lay_85 rfl ?_
          refine pw_iload_n X dX2_lay_87 rfl rfl ?_
          obtain ⟨ht32, hw⟩ := hw
          refine pw_runi X (m_cV X (b := la0) (ci := 2) (q := (RX2, TX2, tyX2, 4)) (met_X2_next G C.2.1 M25 la0 lx5 lx2 _ hw) ht32 rfl (lw_V q1540 q1541 q1542 q87 q1543) ⟨rfl, nh_X2_next⟩ ⟨Nat.le_of_ble_eq_true rfl, Nat.le_of_ble_eq_true rfl⟩ rfl (Nat.le_of_ble_eq_true rfl) dX2_lay_88) (fun r35 M33 hle34 hx => ?_)
          replace hw := hx hle34
          clear hx
          have ht36 : m_tg M33 u3 = 11 := m_le_tg hle34 ht28
          have ht37 : m_tg M33 la4 = 20 := m_le_tg hle34 ht29
          have ht38 : m_tg M33 la3 = 14 := m_le_tg hle34 ht30
          have ht39 : m_tg M33 la0 = 3 := m_le_tg hle34 ht32
          refine pw_istore X [(0, vR (some la0)), (2, vI lx2), (3, vR (some la3)), (4, vR (some la4)), (5, vI r35)] [1, 2, 3, 4, 0] dX2_lay_91 (by decide) rfl ?_
          refine pw_goto X 35 dX2_lay_93 (by decide) ?_
          exact ih _ la0 lx2 la3 la4 r35 hw
        · replace hw := hw.2 c31
          refine pw_bipush X (-5) dX2_lay_79 (by decide) ?_
          refine pw_goto X 91 dX2_lay_81 (by decide) ?_
          refine pw_istore X [(0, vR (some la0)), (2, vI lx2), (3, vR (some la3)), (4, vR (some la4)), (5, vI (-5))] [1, 2, 3, 4, 0] dX2_lay_91 (by decide) rfl ?_
          refine pw_goto X 35 dX2_lay_93 (by decide) ?_
          exact ih _ la0 lx2 la3 la4 (-5) hw
theorem bk_X2_lay_0 (G : Gp) (C : m_Cx) (n0 s0 : Nat) (M0 : Mem) (Q : Option Nat → Mem → Prop) (X : m_in G C RX2 cX2_lay 6 (some (.object "java/util/List")) "lay" 7 161 n0 s0) (M : Mem) (a0 : Nat) (x1 : Int32) (x2 : Int32) (hw : wp_X2_lay G.2 M a0 x1 x2 Q) : pW G C 6 n0 s0 M0 (m_Q G C n0 s0 (va_Qq (m_q1 M0 Q) (m_W G) (m_A G))) M 0 [(0, vR (some a0)), (1, vI x1), (2, vI x2)] [] := by
  obtain ⟨hf1, hw⟩ := hw
  refine pw_new X (ci := 13) (q := (RJ2, TJ2, tyJ2, 3)) hf1 rfl in_J2 tyJ2_ok q286 q136 q82 dX2_lay_0 (fun u2 h03 => ?_)
  obtain ⟨M4, hM5⟩ : ∃ z : Mem, z = (m_al M u2 14 0 3) := ⟨_, rfl⟩
  replace hw := hw u2 h03 M4 hM5
  have hle6 : m_le M M4 := by rw [hM5]; exact m_le_al h03
  change pW _ _ _ _ _ _ _ (m_al M u2 14 0 3) _ _ _
  rw [← hM5]
  have ht7 : m_tg M4 u2 = 14 := by rw [hM5, m_tg_al, if_pos rfl]
  refine pw_dup X dX2_lay_3 ?_
  refine pw_runv X (m_cI X (b := u2) (met_J2_init G C.2.1 M4 u2 _ hw) q139 q82 q287 q138 rfl nh_J2_init ⟨Nat.le_of_ble_eq_true rfl, Nat.le_of_ble_eq_true rfl⟩ rfl (Nat.le_of_ble_eq_true rfl) dX2_lay_4) (fun M8 hle9 hx => ?_)
  replace hw := hx hle9
  clear hx
  have ht10 : m_tg M8 u2 = 14 := m_le_tg hle9 ht7
  refine pw_astore_n X [(0, vR (some a0)), (1, vI x1), (2, vI x2), (3, vR (some u2))] [1, 2, 3, 0] dX2_lay_7 rfl (by decide) rfl ?_
  refine pw_aload_n X dX2_lay_8 rfl rfl ?_
  obtain ⟨ht11, hw⟩ := hw
  obtain ⟨u12, he13, hw⟩ := hw
  refine pw_get X (q := (RX2, TX2, tyX2, 4)) (ci := 2) (k := 2) (ref := "PatrolDesk$Roads") (vR (some u12)) ht11 rfl (by decide) in_X2 q936 (Or.inl rfl) (by rw [he13]; rfl) dX2_lay_9 ?_
  refine pw_iload_n X dX2_lay_12 rfl rfl ?_
  obtain ⟨ht14, hw⟩ := hw
  obtain ⟨hi15, hw⟩ := hw
  obtain ⟨u16, he17, hw⟩ := hw
  refine pw_aald X (Or.inr (Or.inr ht14)) hi15 dX2_lay_13 ?_
  rw [he17]
  refine pw_iload_n X dX2_lay_14 rfl rfl ?_
  obtain ⟨ht18, hw⟩ := hw
  obtain ⟨hi19, hw⟩ := hw
  refine pw_iald X ht18 hi19 dX2_lay_15 ?_
  refine pw_bipush X (-5) dX2_lay_16 (by decide) ?_
  refine pw_icmp_ne X 23 dX2_lay_18 (by decide) (fun c20 => ?_) (fun c20 => ?_)
  · replace hw := hw.1 c20
    obtain ⟨hf21, hw⟩ := hw
    refine pw_new X (ci := 19) (q := (RJ26, TJ26, tyJ26, 1)) hf21 rfl in_J26 tyJ26_ok q1492 q1493 q117 dX2_lay_23 (fun u22 h023 => ?_)
    obtain ⟨M24, hM25⟩ : ∃ z : Mem, z = (m_al M8 u22 20 0 1) := ⟨_, rfl⟩
    replace hw := hw u22 h023 M24 hM25
    have hle26 : m_le M8 M24 := by rw [hM25]; exact m_le_al h023
    change pW _ _ _ _ _ _ _ (m_al M8 u22 20 0 1) _ _ _
    rw [← hM25]
    have ht27 : m_tg M24 u2 = 14 := m_le_tg hle26 ht10
    have ht28 : m_tg M24 a0 = 3 := m_le_tg hle26 ht11
    have ht29 : m_tg M24 u12 = 105 := m_le_tg hle26 ht14
    have ht30 : m_tg M24 u16 = 101 := m_le_tg hle26 ht18
    have ht31 : m_tg M24 u22 = 20 := by rw [hM25, m_tg_al, if_pos rfl]
    refine pw_dup X dX2_lay_26 ?_
    refine pw_runv X (m_cI X (b := u22) (met_J26_init G C.2.1 M24 u22 _ hw) q1496 q117 q1494 q1495 rfl nh_J26_init ⟨Nat.le_of_ble_eq_true rfl, Nat.le_of_ble_eq_true rfl⟩ rfl (Nat.le_of_ble_eq_true rfl) dX2_lay_27) (fun M32 hle33 hx => ?_)
    replace hw := hx hle33
    clear hx
    have ht34 : m_tg M32 u2 = 14 := m_le_tg hle33 ht27
    have ht35 : m_tg M32 a0 = 3 := m_le_tg hle33 ht28
    have ht36 : m_tg M32 u12 = 105 := m_le_tg hle33 ht29
    have ht37 : m_tg M32 u16 = 101 := m_le_tg hle33 ht30
    have ht38 : m_tg M32 u22 = 20 := m_le_tg hle33 ht31
    refine pw_astore X [(0, vR (some a0)), (1, vI x1), (2, vI x2), (3, vR (some u2)), (4, vR (some u22))] [1, 2, 3, 4, 0] dX2_lay_30 (by decide) rfl ?_
    refine pw_iload_n X dX2_lay_32 rfl rfl ?_
    refine pw_istore X [(0, vR (some a0)), (2, vI x2), (3, vR (some u2)), (4, vR (some u22)), (5, vI x1)] [1, 3, 4, 5, 0] dX2_lay_33 (by decide) rfl ?_
    obtain ⟨n35, hw⟩ := hw
    exact bk_X2_lay_35 G C n0 s0 M0 Q X n35 _ a0 x2 u2 u22 x1 hw
  · replace hw := hw.2 c20
    refine pw_aload_n X dX2_lay_21 rfl rfl ?_
    exact pw_aret X (Or.inl ⟨_, rfl⟩) hw dX2_lay_22
theorem met_X2_lay (G : Gp) (l : Launch) (M : Mem) (a0 : Nat) (x1 : Int32) (x2 : Int32) (Q : Option Nat → Mem → Prop) (hw : wp_X2_lay G.2 M a0 x1 x2 Q) : m_K G l yX2_lay cX2_lay 6 (some (.object "java/util/List")) 7 161 [vR (some a0), vI x1, vI x2] M (va_Qq (m_q1 M Q) (m_W G) (m_A G)) := by
  refine m_met (by decide) (Nat.le_of_ble_eq_true rfl) (fun C e X => ?_)
  exact bk_X2_lay_0 G C _ _ M Q X M a0 x1 x2 hw
theorem nh_X2_lay : m_nMH yX2_lay 2 := by decide +kernel

def wp_X2_way_b40 (g : Nat → Nat) (M : Mem) (la0 : Nat) (lx1 : Int32) (lx2 : Int32) (Q : Option Nat → Mem → Prop) : Prop := m_tg M la0 = 3 ∧ ∃ u2 : Nat, (m_gr M la0 3) = some u2 ∧ m_tg M u2 = 14 ∧ wp_J2_get g M u2 ((12 * lx1) + lx2) (fun (r7 : Option Nat) (M5 : Mem) => m_le M M5 → ∃ u10 : Nat, r7 = some u10 ∧ m_tg M5 u10 = 14 ∧ Q (some u10) M5)
def wp_X2_way (g : Nat → Nat) (M : Mem) (a0 : Nat) (x1 : Int32) (x2 : Int32) (Q : Option Nat → Mem → Prop) : Prop := m_tg M a0 = 3 ∧ ∃ u2 : Nat, (m_gr M a0 3) = some u2 ∧ m_tg M u2 = 14 ∧ wp_J2_get g M u2 ((12 * x1) + x2) (fun (r7 : Option Nat) (M5 : Mem) => m_le M M5 → ((r7 = none → ∃ u12 : Nat, (m_gr M5 a0 3) = some u12 ∧ wp_X2_lay g M5 a0 x1 x2 (fun (r16 : Option Nat) (M14 : Mem) => m_le M5 M14 → m_tg M14 u12 = 14 ∧ wp_J2_set g M14 u12 ((12 * x1) + x2) r16 (fun (r22 : Option Nat) (M20 : Mem) => m_le M14 M20 → wp_X2_way_b40 g M20 a0 x1 x2 Q))) ∧ (∀ u10 : Nat, r7 = some u10 → wp_X2_way_b40 g M5 a0 x1 x2 Q)))
theorem bk_X2_way_40 (G : Gp) (C : m_Cx) (n0 s0 : Nat) (M0 : Mem) (Q : Option Nat → Mem → Prop) (X : m_in G C RX2 cX2_way 3 (some (.object "java/util/List")) "way" 8 186 n0 s0) (M : Mem) (la0 : Nat) (lx1 : Int32) (lx2 : Int32) (hw : wp_X2_way_b40 G.2 M la0 lx1 lx2 Q) : pW G C 3 n0 s0 M0 (m_Q G C n0 s0 (va_Qq (m_q1 M0 Q) (m_W G) (m_A G))) M 40 [(0, vR (some la0)), (1, vI lx1), (2, vI lx2)] [] := by
  refine pw_aload_n X dX2_way_40 rfl rfl ?_
  obtain ⟨ht1, hw⟩ := hw
  obtain ⟨u2, he3, hw⟩ := hw
  refine pw_get X (q := (RX2, TX2, tyX2, 4)) (ci := 2) (k := 3) (ref := "PatrolDesk$Roads") (vR (some u2)) ht1 rfl (by decide) in_X2 q938 (Or.inl rfl) (by rw [he3]; rfl) dX2_way_41 ?_
  refine pw_bipush X 12 dX2_way_44 (by decide) ?_
  refine pw_iload_n X dX2_way_46 rfl rfl ?_
  refine pw_imul X dX2_way_47 ?_
  refine pw_iload_n X dX2_way_48 rfl rfl ?_
  refine pw_iadd X dX2_way_49 ?_
  obtain ⟨ht4, hw⟩ := hw
  refine pw_runq X (m_cF X (b := u2) (ci := 13) (q := (RJ2, TJ2, tyJ2, 3)) (met_J2_get G C.2.1 M u2 ((12 * lx1) + lx2) _ hw) ht4 rfl (lw_app (lw_F q1487 q1031 q1033 q82) (lw_meth q1035)) (List.mem_of_getElem? (i := 2) rfl) (by decide +kernel : m_nMH ⟨"java/util/List", "get", "(I)Ljava/lang/Object;"⟩ 1) ⟨Nat.le_of_ble_eq_true rfl, Nat.le_of_ble_eq_true rfl⟩ rfl (Nat.le_of_ble_eq_true rfl) dX2_way_50) (fun r7 M5 hle6 hx => ?_)
  replace hw := hx hle6
  clear hx
  have ht8 : m_tg M5 la0 = 3 := m_le_tg hle6 ht1
  have ht9 : m_tg M5 u2 = 14 := m_le_tg hle6 ht4
  obtain ⟨u10, he11, hw⟩ := hw
  subst he11
  obtain ⟨ht12, hw⟩ := hw
  refine pw_castY X 13 (q := (RJ2, TJ2, tyJ2, 3)) rfl (fun _ h => by cases h; exact ht12) q1554 q887 dX2_way_55 ?_
  exact pw_aret X (Or.inl ⟨_, rfl⟩) hw dX2_way_58
theorem bk_X2_way_0 (G : Gp) (C : m_Cx) (n0 s0 : Nat) (M0 : Mem) (Q : Option Nat → Mem → Prop) (X : m_in G C RX2 cX2_way 3 (some (.object "java/util/List")) "way" 8 186 n0 s0) (M : Mem) (a0 : Nat) (x1 : Int32) (x2 : Int32) (hw : wp_X2_way G.2 M a0 x1 x2 Q) : pW G C 3 n0 s0 M0 (m_Q G C n0 s0 (va_Qq (m_q1 M0 Q) (m_W G) (m_A G))) M 0 [(0, vR (some a0)), (1, vI x1), (2, vI x2)] [] := by
  refine pw_aload_n X dX2_way_0 rfl rfl ?_
  obtain ⟨ht1, hw⟩ := hw
  obtain ⟨u2, he3, hw⟩ := hw
  refine pw_get X (q := (RX2, TX2, tyX2, 4)) (ci := 2) (k := 3) (ref := "PatrolDesk$Roads") (vR (some u2)) ht1 rfl (by decide) in_X2 q938 (Or.inl rfl) (by rw [he3]; rfl) dX2_way_1 ?_
  refine pw_bipush X 12 dX2_way_4 (by decide) ?_
  refine pw_iload_n X dX2_way_6 rfl rfl ?_
  refine pw_imul X dX2_way_7 ?_
  refine pw_iload_n X dX2_way_8 rfl rfl ?_
  refine pw_iadd X dX2_way_9 ?_
  obtain ⟨ht4, hw⟩ := hw
  refine pw_runq X (m_cF X (b := u2) (ci := 13) (q := (RJ2, TJ2, tyJ2, 3)) (met_J2_get G C.2.1 M u2 ((12 * x1) + x2) _ hw) ht4 rfl (lw_app (lw_F q1487 q1031 q1033 q82) (lw_meth q1035)) (List.mem_of_getElem? (i := 2) rfl) (by decide +kernel : m_nMH ⟨"java/util/List", "get", "(I)Ljava/lang/Object;"⟩ 1) ⟨Nat.le_of_ble_eq_true rfl, Nat.le_of_ble_eq_true rfl⟩ rfl (Nat.le_of_ble_eq_true rfl) dX2_way_10) (fun r7 M5 hle6 hx => ?_)
  replace hw := hx hle6
  clear hx
  have ht8 : m_tg M5 a0 = 3 := m_le_tg hle6 ht1
  have ht9 : m_tg M5 u2 = 14 := m_le_tg hle6 ht4
  refine pw_ifnonnull X 40 dX2_way_15 (by decide) (fun u10 he11 => ?_) (fun he11 => ?_)
  · replace hw := hw.2 u10 he11
    subst he11
    exact bk_X2_way_40 G C n0 s0 M0 Q X _ a0 x1 x2 hw
  · replace hw := hw.1 he11
    subst he11
    refine pw_aload_n X dX2_way_18 rfl rfl ?_
    obtain ⟨u12, he13, hw⟩ := hw
    refine pw_get X (q := (RX2, TX2, tyX2, 4)) (ci := 2) (k := 3) (ref := "PatrolDesk$Roads") (vR (some u12)) ht8 rfl (by decide) in_X2 q938 (Or.inl rfl) (by rw [he13]; rfl) dX2_way_19 ?_
    refine pw_bipush X 12 dX2_way_22 (by decide) ?_
    refine pw_iload_n X dX2_way_24 rfl rfl ?_
    refine pw_imul X dX2_way_25 ?_
    refine pw_iload_n X dX2_way_26 rfl rfl ?_
    refine pw_iadd X dX2_way_27 ?_
    refine pw_aload_n X dX2_way_28 rfl rfl ?_
    refine pw_iload_n X dX2_way_29 rfl rfl ?_
    refine pw_iload_n X dX2_way_30 rfl rfl ?_
    refine pw_runq X (m_cV X (b := a0) (ci := 2) (q := (RX2, TX2, tyX2, 4)) (met_X2_lay G C.2.1 M5 a0 x1 x2 _ hw) ht8 rfl (lw_V q1488 q1490 qs21 q87 q1491) ⟨rfl, nh_X2_lay⟩ ⟨Nat.le_of_ble_eq_true rfl, Nat.le_of_ble_eq_true rfl⟩ rfl (Nat.le_of_ble_eq_true rfl) dX2_way_31) (fun r16 M14 hle15 hx => ?_)
    replace hw := hx hle15
    clear hx
    have ht17 : m_tg M14 a0 = 3 := m_le_tg hle15 ht8
    have ht18 : m_tg M14 u2 = 14 := m_le_tg hle15 ht9
    obtain ⟨ht19, hw⟩ := hw
    refine pw_runq X (m_cF X (b := u12) (ci := 13) (q := (RJ2, TJ2, tyJ2, 3)) (met_J2_set G C.2.1 M14 u12 ((12 * x1) + x2) r16 _ hw) ht19 rfl (lw_app (lw_F q1546 q1549 q1551 q82) (lw_meth q1553)) (List.mem_of_getElem? (i := 5) rfl) (by decide +kernel : m_nMH ⟨"java/util/List", "set", "(ILjava/lang/Object;)Ljava/lang/Object;"⟩ 2) ⟨Nat.le_of_ble_eq_true rfl, Nat.le_of_ble_eq_true rfl⟩ rfl (Nat.le_of_ble_eq_true rfl) dX2_way_34) (fun r22 M20 hle21 hx => ?_)
    replace hw := hx hle21
    clear hx
    have ht23 : m_tg M20 a0 = 3 := m_le_tg hle21 ht17
    have ht24 : m_tg M20 u2 = 14 := m_le_tg hle21 ht18
    have ht25 : m_tg M20 u12 = 14 := m_le_tg hle21 ht19
    refine pw_pop X dX2_way_39 ?_
    exact bk_X2_way_40 G C n0 s0 M0 Q X _ a0 x1 x2 hw
theorem met_X2_way (G : Gp) (l : Launch) (M : Mem) (a0 : Nat) (x1 : Int32) (x2 : Int32) (Q : Option Nat → Mem → Prop) (hw : wp_X2_way G.2 M a0 x1 x2 Q) : m_K G l yX2_way cX2_way 3 (some (.object "java/util/List")) 8 186 [vR (some a0), vI x1, vI x2] M (va_Qq (m_q1 M Q) (m_W G) (m_A G)) := by
  refine m_met (by decide) (Nat.le_of_ble_eq_true rfl) (fun C e X => ?_)
  exact bk_X2_way_0 G C _ _ M Q X M a0 x1 x2 hw
theorem nh_X2_way : m_nMH yX2_way 2 := by decide +kernel

def wp_X2_init_b70 (g : Nat → Nat) (k57 : Mem → Nat → Nat → Option Nat → Int32 → Int32 → Prop) (Q : Mem → Prop) : Nat → Mem → Nat → Nat → Option Nat → Int32 → Int32 → Int32 → Prop
  | 0 => fun _ _ _ _ _ _ _ => False
  | n + 1 => fun M la0 la1 lr2 lx3 lx4 lx5 => ((12 ≤ lx5 → k57 M la0 la1 lr2 lx3 (lx4 + 1)) ∧ (¬ 12 ≤ lx5 → m_fits M 2 ∧ ∀ u3 : Nat, m_tg M u3 = 0 → ∀ M5 : Mem, M5 = (m_al M u3 4 0 2) → wp_X3_init g M5 u3 lx4 lx5 (fun (M9 : Mem) => m_le M5 M9 → m_tg M9 la0 = 3 ∧ wp_X2_keep g M9 la0 la1 u3 (fun (M13 : Mem) => m_le M9 M13 → wp_X2_init_b70 g k57 Q n M13 la0 la1 lr2 lx3 lx4 (lx5 + 1)))))
def wp_X2_init_b137 (g : Nat → Nat) (k127 : Mem → Nat → Int32 → Prop) (Q : Mem → Prop) : Nat → Mem → Nat → Int32 → Int32 → Prop
  | 0 => fun _ _ _ _ => False
  | n + 1 => fun M la0 lx4 lx5 => ((12 ≤ lx5 → k127 M la0 (lx4 + 1)) ∧ (¬ 12 ≤ lx5 → m_tg M la0 = 3 ∧ wp_X2_begin g M la0 lx4 lx5 (fun (M3 : Mem) => m_le M M3 → wp_X2_init_b137 g k127 Q n M3 la0 lx4 (lx5 + 1))))
def wp_X2_init_b187 (g : Nat → Nat) (k167 : Mem → Nat → Int32 → Prop) (k177 : Mem → Nat → Int32 → Int32 → Prop) (Q : Mem → Prop) : Nat → Mem → Nat → Int32 → Int32 → Int32 → Prop
  | 0 => fun _ _ _ _ _ => False
  | n + 1 => fun M la0 lx4 lx5 lx6 => ((12 ≤ lx6 → k177 M la0 lx4 (lx5 + 1)) ∧ (¬ 12 ≤ lx6 → m_tg M la0 = 3 ∧ wp_X2_comeNearer g M la0 lx5 lx6 lx4 (fun (M3 : Mem) => m_le M M3 → wp_X2_init_b187 g k167 k177 Q n M3 la0 lx4 lx5 (lx6 + 1))))
def wp_X2_init_b177 (g : Nat → Nat) (k167 : Mem → Nat → Int32 → Prop) (Q : Mem → Prop) : Nat → Mem → Nat → Int32 → Int32 → Prop
  | 0 => fun _ _ _ _ => False
  | n + 1 => fun M la0 lx4 lx5 => ((12 ≤ lx5 → k167 M la0 (lx4 + 1)) ∧ (¬ 12 ≤ lx5 → ∃ j187 : Nat, wp_X2_init_b187 g k167 (wp_X2_init_b177 g k167 Q n) Q j187 M la0 lx4 lx5 0))
def wp_X2_init_b167 (g : Nat → Nat) (Q : Mem → Prop) : Nat → Mem → Nat → Int32 → Prop
  | 0 => fun _ _ _ => False
  | n + 1 => fun M la0 lx4 => ((12 ≤ lx4 → Q M) ∧ (¬ 12 ≤ lx4 → ∃ j177 : Nat, wp_X2_init_b177 g (wp_X2_init_b167 g Q n) Q j177 M la0 lx4 0))
def wp_X2_init_b127 (g : Nat → Nat) (Q : Mem → Prop) : Nat → Mem → Nat → Int32 → Prop
  | 0 => fun _ _ _ => False
  | n + 1 => fun M la0 lx4 => ((12 ≤ lx4 → ∃ j167 : Nat, wp_X2_init_b167 g Q j167 M la0 0) ∧ (¬ 12 ≤ lx4 → ∃ j137 : Nat, wp_X2_init_b137 g (wp_X2_init_b127 g Q n) Q j137 M la0 lx4 0))
def wp_X2_init_b105 (g : Nat → Nat) (M : Mem) (la0 : Nat) (lr2 : Option Nat) (lx3 : Int32) (Q : Mem → Prop) : Prop := ((lr2 = none → ∃ j127 : Nat, wp_X2_init_b127 g Q j127 M la0 0) ∧ (∀ u1 : Nat, lr2 = some u1 → m_tg M la0 = 3 ∧ ∃ u4 : Nat, (m_gr M la0 0) = some u4 ∧ wp_J12_valueOf g M lx3 (fun (r8 : Option Nat) (M6 : Mem) => m_le M M6 → ∃ u10 : Nat, r8 = some u10 ∧ m_tg M6 u4 = 17 ∧ wp_J8_putL g M6 u4 u1 u10 (fun (r15 : Option Nat) (M13 : Mem) => m_le M6 M13 → ∃ j127 : Nat, wp_X2_init_b127 g Q j127 M13 la0 0))))
def wp_X2_init_b57 (g : Nat → Nat) (Q : Mem → Prop) : Nat → Mem → Nat → Nat → Option Nat → Int32 → Int32 → Prop
  | 0 => fun _ _ _ _ _ _ => False
  | n + 1 => fun M la0 la1 lr2 lx3 lx4 => ((12 ≤ lx4 → wp_X2_init_b105 g M la0 lr2 lx3 Q) ∧ (¬ 12 ≤ lx4 → ∃ j70 : Nat, wp_X2_init_b70 g (wp_X2_init_b57 g Q n) Q j70 M la0 la1 lr2 lx3 lx4 (lx4 + 1)))
def wp_X2_init (g : Nat → Nat) (M : Mem) (a0 : Nat) (r1 : Option Nat) (r2 : Option Nat) (x3 : Int32) (Q : Mem → Prop) : Prop := m_fits M 12 ∧ ∀ u2 : Nat, m_tg M u2 = 0 → ∀ M4 : Mem, M4 = (m_al M u2 17 0 12) → wp_J9_initL g M4 u2 (fun (M8 : Mem) => m_le M4 M8 → m_tg M8 a0 = 3 ∧ ∀ M12 : Mem, M12 = (m_pr M8 a0 0 (some u2)) → (m_nc M12 + (1 + Int32.toNatClampNeg 12) ≤ m_CM ∧ m_ns M12 + (Int32.toNatClampNeg 12 + Int32.toNatClampNeg 12 * Int32.toNatClampNeg 12) ≤ m_SM) ∧ ∀ u17 : Nat, (∀ j : Nat, j ≤ Int32.toNatClampNeg 12 → m_tg M12 (u17 + j) = 0) → ∀ M19 : Mem, M19 = (m_mu M12 u17 (Int32.toNatClampNeg 12) (Int32.toNatClampNeg 12)) → ∀ M26 : Mem, M26 = (m_pr M19 a0 1 (some u17)) → (m_nc M26 + (1 + Int32.toNatClampNeg 12) ≤ m_CM ∧ m_ns M26 + (Int32.toNatClampNeg 12 + Int32.toNatClampNeg 12 * Int32.toNatClampNeg 12) ≤ m_SM) ∧ ∀ u32 : Nat, (∀ j : Nat, j ≤ Int32.toNatClampNeg 12 → m_tg M26 (u32 + j) = 0) → ∀ M34 : Mem, M34 = (m_mu M26 u32 (Int32.toNatClampNeg 12) (Int32.toNatClampNeg 12)) → ∀ M42 : Mem, M42 = (m_pr M34 a0 2 (some u32)) → m_fits M42 3 ∧ ∀ u50 : Nat, m_tg M42 u50 = 0 → ∀ M52 : Mem, M52 = (m_al M42 u50 14 0 3) → wp_J2_init g M52 u50 (fun (M60 : Mem) => m_le M52 M60 → ∀ M67 : Mem, M67 = (m_pr M60 a0 3 (some u50)) → ((r1 = none → wp_X2_init_b105 g M67 a0 r2 x3 Q) ∧ (∀ u75 : Nat, r1 = some u75 → ∃ j57 : Nat, wp_X2_init_b57 g Q j57 M67 a0 u75 r2 x3 0))))
theorem bk_X2_init_70 (G : Gp) (C : m_Cx) (n0 s0 : Nat) (M0 : Mem) (Q : Mem → Prop) (X : m_in G C RX2 cX2_init 7 none "<init>" 8 184 n0 s0) (k57 : Mem → Nat → Nat → Option Nat → Int32 → Int32 → Prop) (hk57 : ∀ (M : Mem) (la0 : Nat) (la1 : Nat) (lr2 : Option Nat) (lx3 : Int32) (lx4 : Int32), k57 M la0 la1 lr2 lx3 lx4 → pW G C 7 n0 s0 M0 (m_Q G C n0 s0 (va_Qv (m_q0 M0 Q) (m_W G) (m_A G))) M 57 [(0, vR (some la0)), (1, vR (some la1)), (2, vR lr2), (3, vI lx3), (4, vI lx4)] []) : ∀ (n : Nat) (M : Mem) (la0 : Nat) (la1 : Nat) (lr2 : Option Nat) (lx3 : Int32) (lx4 : Int32) (lx5 : Int32) (hw : wp_X2_init_b70 G.2 k57 Q n M la0 la1 lr2 lx3 lx4 lx5), pW G C 7 n0 s0 M0 (m_Q G C n0 s0 (va_Qv (m_q0 M0 Q) (m_W G) (m_A G))) M 70 [(0, vR (some la0)), (1, vR (some la1)), (2, vR lr2), (3, vI lx3), (4, vI lx4), (5, vI lx5)] [] := by
  intro n
  induction n with
  | zero => intro M la0 la1 lr2 lx3 lx4 lx5 hw; exact hw.elim
  | succ n ih =>
    intro M la0 la1 lr2 lx3 lx4 lx5 hw
    refine pw_iload X dX2_init_70 rfl ?_
    refine pw_bipush X 12 dX2_init_72 (by decide) ?_
    refine pw_icmp_ge X 99 dX2_init_74 (by decide) (fun c1 => ?_) (fun c1 => ?_)
    · replace hw := hw.1 c1
      refine pw_iinc X (lx4 + 1) [(0, vR (some la0)), (1, vR (some la1)), (2, vR lr2), (3, vI lx3), (4, vI (lx4 + 1))] [1, 2, 3, 4, 0] dX2_init_99 rfl (by first | rfl | decide) (by decide) rfl ?_
      refine pw_goto X 57 dX2_init_102 (by decide) ?_
      exact hk57 _ la0 la1 lr2 lx3 (lx4 + 1) hw
    · replace hw := hw.2 c1
      refine pw_aload_n X dX2_init_77 rfl rfl ?_
      refine pw_aload_n X dX2_init_78 rfl rfl ?_
      obtain ⟨hf2, hw⟩ := hw
      refine pw_new X (ci := 3) (q := (RX3, TX3, tyX3, 2)) hf2 rfl in_X3 tyX3_ok q288 q289 q91 dX2_init_79 (fun u3 h04 => ?_)
      obtain ⟨M5, hM6⟩ : ∃ z : Mem, z = (m_al M u3 4 0 2) := ⟨_, rfl⟩
      replace hw := hw u3 h04 M5 hM6
      have hle7 : m_le M M5 := by rw [hM6]; exact m_le_al h04
      change pW _ _ _ _ _ _ _ (m_al M u3 4 0 2) _ _ _
      rw [← hM6]
      have ht8 : m_tg M5 u3 = 4 := by rw [hM6, m_tg_al, if_pos rfl]
      refine pw_dup X dX2_init_82 ?_
      refine pw_iload X dX2_init_83 rfl ?_
      refine pw_iload X dX2_init_85 rfl ?_
      refine pw_runv X (m_cI X (b := u3) (met_X3_init G C.2.1 M5 u3 lx4 lx5 _ hw) q292 q91 q290 q291 rfl nh_X3_init ⟨Nat.le_of_ble_eq_true rfl, Nat.le_of_ble_eq_true rfl⟩ rfl (Nat.le_of_ble_eq_true rfl) dX2_init_87) (fun M9 hle10 hx => ?_)
      replace hw := hx hle10
      clear hx
      have ht11 : m_tg M9 u3 = 4 := m_le_tg hle10 ht8
      obtain ⟨ht12, hw⟩ := hw
      refine pw_runv X (m_cV X (b := la0) (ci := 2) (q := (RX2, TX2, tyX2, 4)) (met_X2_keep G C.2.1 M9 la0 la1 u3 _ hw) ht12 rfl (lw_V q307 q309 qs0 q87 q310) ⟨rfl, nh_X2_keep⟩ ⟨Nat.le_of_ble_eq_true rfl, Nat.le_of_ble_eq_true rfl⟩ rfl (Nat.le_of_ble_eq_true rfl) dX2_init_90) (fun M13 hle14 hx => ?_)
      replace hw := hx hle14
      clear hx
      have ht15 : m_tg M13 u3 = 4 := m_le_tg hle14 ht11
      have ht16 : m_tg M13 la0 = 3 := m_le_tg hle14 ht12
      refine pw_iinc X (lx5 + 1) [(0, vR (some la0)), (1, vR (some la1)), (2, vR lr2), (3, vI lx3), (4, vI lx4), (5, vI (lx5 + 1))] [1, 2, 3, 4, 5, 0] dX2_init_93 rfl (by first | rfl | decide) (by decide) rfl ?_
      refine pw_goto X 70 dX2_init_96 (by decide) ?_
      exact ih _ la0 la1 lr2 lx3 lx4 (lx5 + 1) hw
theorem bk_X2_init_137 (G : Gp) (C : m_Cx) (n0 s0 : Nat) (M0 : Mem) (Q : Mem → Prop) (X : m_in G C RX2 cX2_init 7 none "<init>" 8 184 n0 s0) (k127 : Mem → Nat → Int32 → Prop) (hk127 : ∀ (M : Mem) (la0 : Nat) (lx4 : Int32), k127 M la0 lx4 → pW G C 7 n0 s0 M0 (m_Q G C n0 s0 (va_Qv (m_q0 M0 Q) (m_W G) (m_A G))) M 127 [(0, vR (some la0)), (4, vI lx4)] []) : ∀ (n : Nat) (M : Mem) (la0 : Nat) (lx4 : Int32) (lx5 : Int32) (hw : wp_X2_init_b137 G.2 k127 Q n M la0 lx4 lx5), pW G C 7 n0 s0 M0 (m_Q G C n0 s0 (va_Qv (m_q0 M0 Q) (m_W G) (m_A G))) M 137 [(0, vR (some la0)), (4, vI lx4), (5, vI lx5)] [] := by
  intro n
  induction n with
  | zero => intro M la0 lx4 lx5 hw; exact hw.elim
  | succ n ih =>
    intro M la0 lx4 lx5 hw
    refine pw_iload X dX2_init_137 rfl ?_
    refine pw_bipush X 12 dX2_init_139 (by decide) ?_
    refine pw_icmp_ge X 158 dX2_init_141 (by decide) (fun c1 => ?_) (fun c1 => ?_)
    · replace hw := hw.1 c1
      refine pw_iinc X (lx4 + 1) [(0, vR (some la0)), (4, vI (lx4 + 1))] [1, 0] dX2_init_158 rfl (by first | rfl | decide) (by decide) rfl ?_
      refine pw_goto X 127 dX2_init_161 (by decide) ?_
      exact hk127 _ la0 (lx4 + 1) hw
    · replace hw := hw.2 c1
      refine pw_aload_n X dX2_init_144 rfl rfl ?_
      refine pw_iload X dX2_init_145 rfl ?_
      refine pw_iload X dX2_init_147 rfl ?_
      obtain ⟨ht2, hw⟩ := hw
      refine pw_runv X (m_cV X (b := la0) (ci := 2) (q := (RX2, TX2, tyX2, 4)) (met_X2_begin G C.2.1 M la0 lx4 lx5 _ hw) ht2 rfl (lw_V q878 q880 qs3 q87 q881) ⟨rfl, nh_X2_begin⟩ ⟨Nat.le_of_ble_eq_true rfl, Nat.le_of_ble_eq_true rfl⟩ rfl (Nat.le_of_ble_eq_true rfl) dX2_init_149) (fun M3 hle4 hx => ?_)
      replace hw := hx hle4
      clear hx
      have ht5 : m_tg M3 la0 = 3 := m_le_tg hle4 ht2
      refine pw_iinc X (lx5 + 1) [(0, vR (some la0)), (4, vI lx4), (5, vI (lx5 + 1))] [1, 2, 0] dX2_init_152 rfl (by first | rfl | decide) (by decide) rfl ?_
      refine pw_goto X 137 dX2_init_155 (by decide) ?_
      exact ih _ la0 lx4 (lx5 + 1) hw
theorem bk_X2_init_187 (G : Gp) (C : m_Cx) (n0 s0 : Nat) (M0 : Mem) (Q : Mem → Prop) (X : m_in G C RX2 cX2_init 7 none "<init>" 8 184 n0 s0) (k167 : Mem → Nat → Int32 → Prop) (k177 : Mem → Nat → Int32 → Int32 → Prop) (hk167 : ∀ (M : Mem) (la0 : Nat) (lx4 : Int32), k167 M la0 lx4 → pW G C 7 n0 s0 M0 (m_Q G C n0 s0 (va_Qv (m_q0 M0 Q) (m_W G) (m_A G))) M 167 [(0, vR (some la0)), (4, vI lx4)] []) (hk177 : ∀ (M : Mem) (la0 : Nat) (lx4 : Int32) (lx5 : Int32), k177 M la0 lx4 lx5 → pW G C 7 n0 s0 M0 (m_Q G C n0 s0 (va_Qv (m_q0 M0 Q) (m_W G) (m_A G))) M 177 [(0, vR (some la0)), (4, vI lx4), (5, vI lx5)] []) : ∀ (n : Nat) (M : Mem) (la0 : Nat) (lx4 : Int32) (lx5 : Int32) (lx6 : Int32) (hw : wp_X2_init_b187 G.2 k167 k177 Q n M la0 lx4 lx5 lx6), pW G C 7 n0 s0 M0 (m_Q G C n0 s0 (va_Qv (m_q0 M0 Q) (m_W G) (m_A G))) M 187 [(0, vR (some la0)), (4, vI lx4), (5, vI lx5), (6, vI lx6)] [] := by
  intro n
  induction n with
  | zero => intro M la0 lx4 lx5 lx6 hw; exact hw.elim
  | succ n ih =>
    intro M la0 lx4 lx5 lx6 hw
    refine pw_iload X dX2_init_187 rfl ?_
    refine pw_bipush X 12 dX2_init_189 (by decide) ?_
    refine pw_icmp_ge X 210 dX2_init_191 (by decide) (fun c1 => ?_) (fun c1 => ?_)
    · replace hw := hw.1 c1
      refine pw_iinc X (lx5 + 1) [(0, vR (some la0)), (4, vI lx4), (5, vI (lx5 + 1))] [1, 2, 0] dX2_init_210 rfl (by first | rfl | decide) (by decide) rfl ?_
      refine pw_goto X 177 dX2_init_213 (by decide) ?_
      exact hk177 _ la0 lx4 (lx5 + 1) hw
    · replace hw := hw.2 c1
      refine pw_aload_n X dX2_init_194 rfl rfl ?_
      refine pw_iload X dX2_init_195 rfl ?_
      refine pw_iload X dX2_init_197 rfl ?_
      refine pw_iload X dX2_init_199 rfl ?_
      obtain ⟨ht2, hw⟩ := hw
      refine pw_runv X (m_cV X (b := la0) (ci := 2) (q := (RX2, TX2, tyX2, 4)) (met_X2_comeNearer G C.2.1 M la0 lx5 lx6 lx4 _ hw) ht2 rfl (lw_V q929 q931 qs7 q87 q932) ⟨rfl, nh_X2_comeNearer⟩ ⟨Nat.le_of_ble_eq_true rfl, Nat.le_of_ble_eq_true rfl⟩ rfl (Nat.le_of_ble_eq_true rfl) dX2_init_201) (fun M3 hle4 hx => ?_)
      replace hw := hx hle4
      clear hx
      have ht5 : m_tg M3 la0 = 3 := m_le_tg hle4 ht2
      refine pw_iinc X (lx6 + 1) [(0, vR (some la0)), (4, vI lx4), (5, vI lx5), (6, vI (lx6 + 1))] [1, 2, 3, 0] dX2_init_204 rfl (by first | rfl | decide) (by decide) rfl ?_
      refine pw_goto X 187 dX2_init_207 (by decide) ?_
      exact ih _ la0 lx4 lx5 (lx6 + 1) hw
theorem bk_X2_init_177 (G : Gp) (C : m_Cx) (n0 s0 : Nat) (M0 : Mem) (Q : Mem → Prop) (X : m_in G C RX2 cX2_init 7 none "<init>" 8 184 n0 s0) (k167 : Mem → Nat → Int32 → Prop) (hk167 : ∀ (M : Mem) (la0 : Nat) (lx4 : Int32), k167 M la0 lx4 → pW G C 7 n0 s0 M0 (m_Q G C n0 s0 (va_Qv (m_q0 M0 Q) (m_W G) (m_A G))) M 167 [(0, vR (some la0)), (4, vI lx4)] []) : ∀ (n : Nat) (M : Mem) (la0 : Nat) (lx4 : Int32) (lx5 : Int32) (hw : wp_X2_init_b177 G.2 k167 Q n M la0 lx4 lx5), pW G C 7 n0 s0 M0 (m_Q G C n0 s0 (va_Qv (m_q0 M0 Q) (m_W G) (m_A G))) M 177 [(0, vR (some la0)), (4, vI lx4), (5, vI lx5)] [] := by
  intro n
  induction n with
  | zero => intro M la0 lx4 lx5 hw; exact hw.elim
  | succ n ih =>
    intro M la0 lx4 lx5 hw
    refine pw_iload X dX2_init_177 rfl ?_
    refine pw_bipush X 12 dX2_init_179 (by decide) ?_
    refine pw_icmp_ge X 216 dX2_init_181 (by decide) (fun c1 => ?_) (fun c1 => ?_)
    · replace hw := hw.1 c1
      refine pw_iinc X (lx4 + 1) [(0, vR (some la0)), (4, vI (lx4 + 1))] [1, 0] dX2_init_216 rfl (by first | rfl | decide) (by decide) rfl ?_
      refine pw_goto X 167 dX2_init_219 (by decide) ?_
      exact hk167 _ la0 (lx4 + 1) hw
    · replace hw := hw.2 c1
      refine pw_iconst X 0 dX2_init_184 (by decide) ?_
      refine pw_istore X [(0, vR (some la0)), (4, vI lx4), (5, vI lx5), (6, vI 0)] [1, 2, 3, 0] dX2_init_185 (by decide) rfl ?_
      obtain ⟨n187, hw⟩ := hw
      exact bk_X2_init_187 G C n0 s0 M0 Q X k167 (wp_X2_init_b177 G.2 k167 Q n) hk167 ih n187 _ la0 lx4 lx5 0 hw
theorem bk_X2_init_167 (G : Gp) (C : m_Cx) (n0 s0 : Nat) (M0 : Mem) (Q : Mem → Prop) (X : m_in G C RX2 cX2_init 7 none "<init>" 8 184 n0 s0) : ∀ (n : Nat) (M : Mem) (la0 : Nat) (lx4 : Int32) (hw : wp_X2_init_b167 G.2 Q n M la0 lx4), pW G C 7 n0 s0 M0 (m_Q G C n0 s0 (va_Qv (m_q0 M0 Q) (m_W G) (m_A G))) M 167 [(0, vR (some la0)), (4, vI lx4)] [] := by
  intro n
  induction n with
  | zero => intro M la0 lx4 hw; exact hw.elim
  | succ n ih =>
    intro M la0 lx4 hw
    refine pw_iload X dX2_init_167 rfl ?_
    refine pw_bipush X 12 dX2_init_169 (by decide) ?_
    refine pw_icmp_ge X 222 dX2_init_171 (by decide) (fun c1 => ?_) (fun c1 => ?_)
    · replace hw := hw.1 c1
      exact pw_vret X hw dX2_init_222
    · replace hw := hw.2 c1
      refine pw_iconst X 0 dX2_init_174 (by decide) ?_
      refine pw_istore X [(0, vR (some la0)), (4, vI lx4), (5, vI 0)] [1, 2, 0] dX2_init_175 (by decide) rfl ?_
      obtain ⟨n177, hw⟩ := hw
      exact bk_X2_init_177 G C n0 s0 M0 Q X (wp_X2_init_b167 G.2 Q n) ih n177 _ la0 lx4 0 hw
theorem bk_X2_init_127 (G : Gp) (C : m_Cx) (n0 s0 : Nat) (M0 : Mem) (Q : Mem → Prop) (X : m_in G C RX2 cX2_init 7 none "<init>" 8 184 n0 s0) : ∀ (n : Nat) (M : Mem) (la0 : Nat) (lx4 : Int32) (hw : wp_X2_init_b127 G.2 Q n M la0 lx4), pW G C 7 n0 s0 M0 (m_Q G C n0 s0 (va_Qv (m_q0 M0 Q) (m_W G) (m_A G))) M 127 [(0, vR (some la0)), (4, vI lx4)] [] := by
  intro n
  induction n with
  | zero => intro M la0 lx4 hw; exact hw.elim
  | succ n ih =>
    intro M la0 lx4 hw
    refine pw_iload X dX2_init_127 rfl ?_
    refine pw_bipush X 12 dX2_init_129 (by decide) ?_
    refine pw_icmp_ge X 164 dX2_init_131 (by decide) (fun c1 => ?_) (fun c1 => ?_)
    · replace hw := hw.1 c1
      refine pw_iconst X 0 dX2_init_164 (by decide) ?_
      refine pw_istore X [(0, vR (some la0)), (4, vI 0)] [1, 0] dX2_init_165 (by decide) rfl ?_
      obtain ⟨n167, hw⟩ := hw
      exact bk_X2_init_167 G C n0 s0 M0 Q X n167 _ la0 0 hw
    · replace hw := hw.2 c1
      refine pw_iconst X 0 dX2_init_134 (by decide) ?_
      refine pw_istore X [(0, vR (some la0)), (4, vI lx4), (5, vI 0)] [1, 2, 0] dX2_init_135 (by decide) rfl ?_
      obtain ⟨n137, hw⟩ := hw
      exact bk_X2_init_137 G C n0 s0 M0 Q X (wp_X2_init_b127 G.2 Q n) ih n137 _ la0 lx4 0 hw
theorem bk_X2_init_105 (G : Gp) (C : m_Cx) (n0 s0 : Nat) (M0 : Mem) (Q : Mem → Prop) (X : m_in G C RX2 cX2_init 7 none "<init>" 8 184 n0 s0) (M : Mem) (la0 : Nat) (lr2 : Option Nat) (lx3 : Int32) (hw : wp_X2_init_b105 G.2 M la0 lr2 lx3 Q) : pW G C 7 n0 s0 M0 (m_Q G C n0 s0 (va_Qv (m_q0 M0 Q) (m_W G) (m_A G))) M 105 [(0, vR (some la0)), (2, vR lr2), (3, vI lx3)] [] := by
  refine pw_aload_n X dX2_init_105 rfl rfl ?_
  refine pw_ifnull X 124 dX2_init_106 (by decide) (fun he2 => ?_) (fun u1 he2 => ?_)
  · replace hw := hw.1 he2
    subst he2
    refine pw_iconst X 0 dX2_init_124 (by decide) ?_
    refine pw_istore X [(0, vR (some la0)), (4, vI 0)] [1, 0] dX2_init_125 (by decide) rfl ?_
    obtain ⟨n127, hw⟩ := hw
    exact bk_X2_init_127 G C n0 s0 M0 Q X n127 _ la0 0 hw
  · replace hw := hw.2 u1 he2
    subst he2
    refine pw_aload_n X dX2_init_109 rfl rfl ?_
    obtain ⟨ht3, hw⟩ := hw
    obtain ⟨u4, he5, hw⟩ := hw
    refine pw_get X (q := (RX2, TX2, tyX2, 4)) (ci := 2) (k := 0) (ref := "PatrolDesk$Roads") (vR (some u4)) ht3 rfl (by decide) in_X2 q933 (Or.inl rfl) (by rw [he5]; rfl) dX2_init_110 ?_
    refine pw_aload_n X dX2_init_113 rfl rfl ?_
    refine pw_iload_n X dX2_init_114 rfl rfl ?_
    refine pw_runq X (m_cS X (met_J12_valueOf G C.2.1 M lx3 _ hw) (lw_S q859 q860 q94 q861) nh_J12_valueOf ⟨Nat.le_of_ble_eq_true rfl, Nat.le_of_ble_eq_true rfl⟩ rfl (Nat.le_of_ble_eq_true rfl) dX2_init_115) (fun r8 M6 hle7 hx => ?_)
    replace hw := hx hle7
    clear hx
    have ht9 : m_tg M6 la0 = 3 := m_le_tg hle7 ht3
    obtain ⟨u10, he11, hw⟩ := hw
    subst he11
    obtain ⟨ht12, hw⟩ := hw
    refine pw_runq X (m_cF X (b := u4) (ci := 16) (q := (RJ9, TJ9, tyJ9, 12)) (met_J8_putL G C.2.1 M6 u4 u1 u10 _ hw) ht12 rfl (lw_app (lw_F q653 q857 q658 q89) (lw_meth q660)) (List.mem_of_getElem? (i := 8) rfl) (by decide +kernel : m_nMH ⟨"java/util/Map", "put", "(Ljava/lang/Object;Ljava/lang/Object;)Ljava/lang/Object;"⟩ 2) ⟨Nat.le_of_ble_eq_true rfl, Nat.le_of_ble_eq_true rfl⟩ rfl (Nat.le_of_ble_eq_true rfl) dX2_init_118) (fun r15 M13 hle14 hx => ?_)
    replace hw := hx hle14
    clear hx
    have ht16 : m_tg M13 la0 = 3 := m_le_tg hle14 ht9
    have ht17 : m_tg M13 u4 = 17 := m_le_tg hle14 ht12
    refine pw_pop X dX2_init_123 ?_
    refine pw_iconst X 0 dX2_init_124 (by decide) ?_
    refine pw_istore X [(0, vR (some la0)), (4, vI 0)] [1, 0] dX2_init_125 (by decide) rfl ?_
    obtain ⟨n127, hw⟩ := hw
    exact bk_X2_init_127 G C n0 s0 M0 Q X n127 _ la0 0 hw
theorem bk_X2_init_57 (G : Gp) (C : m_Cx) (n0 s0 : Nat) (M0 : Mem) (Q : Mem → Prop) (X : m_in G C RX2 cX2_init 7 none "<init>" 8 184 n0 s0) : ∀ (n : Nat) (M : Mem) (la0 : Nat) (la1 : Nat) (lr2 : Option Nat) (lx3 : Int32) (lx4 : Int32) (hw : wp_X2_init_b57 G.2 Q n M la0 la1 lr2 lx3 lx4), pW G C 7 n0 s0 M0 (m_Q G C n0 s0 (va_Qv (m_q0 M0 Q) (m_W G) (m_A G))) M 57 [(0, vR (some la0)), (1, vR (some la1)), (2, vR lr2), (3, vI lx3), (4, vI lx4)] [] := by
  intro n
  induction n with
  | zero => intro M la0 la1 lr2 lx3 lx4 hw; exact hw.elim
  | succ n ih =>
    intro M la0 la1 lr2 lx3 lx4 hw
    refine pw_iload X dX2_init_57 rfl ?_
    refine pw_bipush X 12 dX2_init_59 (by decide) ?_
    refine pw_icmp_ge X 105 dX2_init_61 (by decide) (fun c1 => ?_) (fun c1 => ?_)
    · replace hw := hw.1 c1
      refine pw_lo [0, 2, 3] rfl ?_
      exact bk_X2_init_105 G C n0 s0 M0 Q X _ la0 lr2 lx3 hw
    · replace hw := hw.2 c1
      refine pw_iload X dX2_init_64 rfl ?_
      refine pw_iconst X 1 dX2_init_66 (by decide) ?_
      refine pw_iadd X dX2_init_67 ?_
      refine pw_istore X [(0, vR (some la0)), (1, vR (some la1)), (2, vR lr2), (3, vI lx3), (4, vI lx4), (5, vI (lx4 + 1))] [1, 2, 3, 4, 5, 0] dX2_init_68 (by decide) rfl ?_
      obtain ⟨n70, hw⟩ := hw
      exact bk_X2_init_70 G C n0 s0 M0 Q X (wp_X2_init_b57 G.2 Q n) ih n70 _ la0 la1 lr2 lx3 lx4 (lx4 + 1) hw
theorem bk_X2_init_0 (G : Gp) (C : m_Cx) (n0 s0 : Nat) (M0 : Mem) (Q : Mem → Prop) (X : m_in G C RX2 cX2_init 7 none "<init>" 8 184 n0 s0) (M : Mem) (a0 : Nat) (r1 : Option Nat) (r2 : Option Nat) (x3 : Int32) (hw : wp_X2_init G.2 M a0 r1 r2 x3 Q) : pW G C 7 n0 s0 M0 (m_Q G C n0 s0 (va_Qv (m_q0 M0 Q) (m_W G) (m_A G))) M 0 [(0, vR (some a0)), (1, vR r1), (2, vR r2), (3, vI x3)] [] := by
  refine pw_aload_n X dX2_init_0 rfl rfl ?_
  refine pw_objInit X rfl q234 q127 q128 dX2_init_1 (Nat.le_of_ble_eq_true rfl) (Nat.le_of_ble_eq_true rfl) ?_
  refine pw_aload_n X dX2_init_4 rfl rfl ?_
  obtain ⟨hf1, hw⟩ := hw
  refine pw_new X (ci := 16) (q := (RJ9, TJ9, tyJ9, 12)) hf1 rfl in_J9 tyJ9_ok q235 q236 q90 dX2_init_5 (fun u2 h03 => ?_)
  obtain ⟨M4, hM5⟩ : ∃ z : Mem, z = (m_al M u2 17 0 12) := ⟨_, rfl⟩
  replace hw := hw u2 h03 M4 hM5
  have hle6 : m_le M M4 := by rw [hM5]; exact m_le_al h03
  change pW _ _ _ _ _ _ _ (m_al M u2 17 0 12) _ _ _
  rw [← hM5]
  have ht7 : m_tg M4 u2 = 17 := by rw [hM5, m_tg_al, if_pos rfl]
  refine pw_dup X dX2_init_8 ?_
  refine pw_runv X (m_cI X (b := u2) (met_J9_initL G C.2.1 M4 u2 _ hw) q239 q90 q237 q238 rfl nh_J9_initL ⟨Nat.le_of_ble_eq_true rfl, Nat.le_of_ble_eq_true rfl⟩ rfl (Nat.le_of_ble_eq_true rfl) dX2_init_9) (fun M8 hle9 hx => ?_)
  replace hw := hx hle9
  clear hx
  have ht10 : m_tg M8 u2 = 17 := m_le_tg hle9 ht7
  obtain ⟨ht11, hw⟩ := hw
  obtain ⟨M12, hM13⟩ : ∃ z : Mem, z = (m_pr M8 a0 0 (some u2)) := ⟨_, rfl⟩
  replace hw := hw M12 hM13
  refine pw_putF X (q := (RX2, TX2, tyX2, 4)) (ci := 2) (k := 0) (ref := "PatrolDesk$Roads") M12 hM13.symm ht11 rfl (by decide) in_X2 tyX2_ok nmX2 q933 (Or.inl rfl) rfl rfl rfl (m_kd_r (fun _ _ => rfl)) m_no m_fo dX2_init_12 ?_
  have hle14 : m_le M8 M12 := by rw [hM13]; exact m_le_pr
  have ht15 : m_tg M12 u2 = 17 := m_le_tg hle14 ht10
  have ht16 : m_tg M12 a0 = 3 := m_le_tg hle14 ht11
  refine pw_aload_n X dX2_init_15 rfl rfl ?_
  refine pw_bipush X 12 dX2_init_16 (by decide) ?_
  refine pw_bipush X 12 dX2_init_18 (by decide) ?_
  obtain ⟨hf22, hw⟩ := hw
  refine pw_mula X (by decide) (by decide) hf22 (by decide) q284 q285 q194 dX2_init_20 (fun u17 h018 => ?_)
  obtain ⟨M19, hM20⟩ : ∃ z : Mem, z = (m_mu M12 u17 (Int32.toNatClampNeg 12) (Int32.toNatClampNeg 12)) := ⟨_, rfl⟩
  replace hw := hw u17 h018 M19 hM20
  have hle21 : m_le M12 M19 := by rw [hM20]; exact m_le_mu h018
  rw [← hM20]
  have ht23 : m_tg M19 u2 = 17 := m_le_tg hle21 ht15
  have ht24 : m_tg M19 a0 = 3 := m_le_tg hle21 ht16
  have ht25 : m_tg M19 u17 = 105 := by rw [hM20, m_tg_mu, if_pos rfl]
  obtain ⟨M26, hM27⟩ : ∃ z : Mem, z = (m_pr M19 a0 1 (some u17)) := ⟨_, rfl⟩
  replace hw := hw M26 hM27
  refine pw_putF X (q := (RX2, TX2, tyX2, 4)) (ci := 2) (k := 1) (ref := "PatrolDesk$Roads") M26 hM27.symm ht24 rfl (by decide) in_X2 tyX2_ok nmX2 q935 (Or.inl rfl) rfl rfl rfl (m_kd_r (fun _ _ => rfl)) m_na m_fa dX2_init_24 ?_
  have hle28 : m_le M19 M26 := by rw [hM27]; exact m_le_pr
  have ht29 : m_tg M26 u2 = 17 := m_le_tg hle28 ht23
  have ht30 : m_tg M26 a0 = 3 := m_le_tg hle28 ht24
  have ht31 : m_tg M26 u17 = 105 := m_le_tg hle28 ht25
  refine pw_aload_n X dX2_init_27 rfl rfl ?_
  refine pw_bipush X 12 dX2_init_28 (by decide) ?_
  refine pw_bipush X 12 dX2_init_30 (by decide) ?_
  obtain ⟨hf37, hw⟩ := hw
  refine pw_mula X (by decide) (by decide) hf37 (by decide) q284 q285 q194 dX2_init_32 (fun u32 h033 => ?_)
  obtain ⟨M34, hM35⟩ : ∃ z : Mem, z = (m_mu M26 u32 (Int32.toNatClampNeg 12) (Int32.toNatClampNeg 12)) := ⟨_, rfl⟩
  replace hw := hw u32 h033 M34 hM35
  have hle36 : m_le M26 M34 := by rw [hM35]; exact m_le_mu h033
  rw [← hM35]
  have ht38 : m_tg M34 u2 = 17 := m_le_tg hle36 ht29
  have ht39 : m_tg M34 a0 = 3 := m_le_tg hle36 ht30
  have ht40 : m_tg M34 u17 = 105 := m_le_tg hle36 ht31
  have ht41 : m_tg M34 u32 = 105 := by rw [hM35, m_tg_mu, if_pos rfl]
  obtain ⟨M42, hM43⟩ : ∃ z : Mem, z = (m_pr M34 a0 2 (some u32)) := ⟨_, rfl⟩
  replace hw := hw M42 hM43
  refine pw_putF X (q := (RX2, TX2, tyX2, 4)) (ci := 2) (k := 2) (ref := "PatrolDesk$Roads") M42 hM43.symm ht39 rfl (by decide) in_X2 tyX2_ok nmX2 q936 (Or.inl rfl) rfl rfl rfl (m_kd_r (fun _ _ => rfl)) m_na m_fa dX2_init_36 ?_
  have hle44 : m_le M34 M42 := by rw [hM43]; exact m_le_pr
  have ht45 : m_tg M42 u2 = 17 := m_le_tg hle44 ht38
  have ht46 : m_tg M42 a0 = 3 := m_le_tg hle44 ht39
  have ht47 : m_tg M42 u17 = 105 := m_le_tg hle44 ht40
  have ht48 : m_tg M42 u32 = 105 := m_le_tg hle44 ht41
  refine pw_aload_n X dX2_init_39 rfl rfl ?_
  obtain ⟨hf49, hw⟩ := hw
  refine pw_new X (ci := 13) (q := (RJ2, TJ2, tyJ2, 3)) hf49 rfl in_J2 tyJ2_ok q286 q136 q82 dX2_init_40 (fun u50 h051 => ?_)
  obtain ⟨M52, hM53⟩ : ∃ z : Mem, z = (m_al M42 u50 14 0 3) := ⟨_, rfl⟩
  replace hw := hw u50 h051 M52 hM53
  have hle54 : m_le M42 M52 := by rw [hM53]; exact m_le_al h051
  change pW _ _ _ _ _ _ _ (m_al M42 u50 14 0 3) _ _ _
  rw [← hM53]
  have ht55 : m_tg M52 u2 = 17 := m_le_tg hle54 ht45
  have ht56 : m_tg M52 a0 = 3 := m_le_tg hle54 ht46
  have ht57 : m_tg M52 u17 = 105 := m_le_tg hle54 ht47
  have ht58 : m_tg M52 u32 = 105 := m_le_tg hle54 ht48
  have ht59 : m_tg M52 u50 = 14 := by rw [hM53, m_tg_al, if_pos rfl]
  refine pw_dup X dX2_init_43 ?_
  refine pw_runv X (m_cI X (b := u50) (met_J2_init G C.2.1 M52 u50 _ hw) q139 q82 q287 q138 rfl nh_J2_init ⟨Nat.le_of_ble_eq_true rfl, Nat.le_of_ble_eq_true rfl⟩ rfl (Nat.le_of_ble_eq_true rfl) dX2_init_44) (fun M60 hle61 hx => ?_)
  replace hw := hx hle61
  clear hx
  have ht62 : m_tg M60 u2 = 17 := m_le_tg hle61 ht55
  have ht63 : m_tg M60 a0 = 3 := m_le_tg hle61 ht56
  have ht64 : m_tg M60 u17 = 105 := m_le_tg hle61 ht57
  have ht65 : m_tg M60 u32 = 105 := m_le_tg hle61 ht58
  have ht66 : m_tg M60 u50 = 14 := m_le_tg hle61 ht59
  obtain ⟨M67, hM68⟩ : ∃ z : Mem, z = (m_pr M60 a0 3 (some u50)) := ⟨_, rfl⟩
  replace hw := hw M67 hM68
  refine pw_putF X (q := (RX2, TX2, tyX2, 4)) (ci := 2) (k := 3) (ref := "PatrolDesk$Roads") M67 hM68.symm ht63 rfl (by decide) in_X2 tyX2_ok nmX2 q938 (Or.inl rfl) rfl rfl rfl (m_kd_r (fun _ _ => rfl)) m_no m_fo dX2_init_47 ?_
  have hle69 : m_le M60 M67 := by rw [hM68]; exact m_le_pr
  have ht70 : m_tg M67 u2 = 17 := m_le_tg hle69 ht62
  have ht71 : m_tg M67 a0 = 3 := m_le_tg hle69 ht63
  have ht72 : m_tg M67 u17 = 105 := m_le_tg hle69 ht64
  have ht73 : m_tg M67 u32 = 105 := m_le_tg hle69 ht65
  have ht74 : m_tg M67 u50 = 14 := m_le_tg hle69 ht66
  refine pw_aload_n X dX2_init_50 rfl rfl ?_
  refine pw_ifnull X 105 dX2_init_51 (by decide) (fun he76 => ?_) (fun u75 he76 => ?_)
  · replace hw := hw.1 he76
    subst he76
    refine pw_lo [0, 2, 3] rfl ?_
    exact bk_X2_init_105 G C n0 s0 M0 Q X _ a0 r2 x3 hw
  · replace hw := hw.2 u75 he76
    subst he76
    refine pw_iconst X 0 dX2_init_54 (by decide) ?_
    refine pw_istore X [(0, vR (some a0)), (1, vR (some u75)), (2, vR r2), (3, vI x3), (4, vI 0)] [1, 2, 3, 4, 0] dX2_init_55 (by decide) rfl ?_
    obtain ⟨n57, hw⟩ := hw
    exact bk_X2_init_57 G C n0 s0 M0 Q X n57 _ a0 u75 r2 x3 0 hw
theorem met_X2_init (G : Gp) (l : Launch) (M : Mem) (a0 : Nat) (r1 : Option Nat) (r2 : Option Nat) (x3 : Int32) (Q : Mem → Prop) (hw : wp_X2_init G.2 M a0 r1 r2 x3 Q) : m_K G l yX2_init cX2_init 7 none 8 184 [vR (some a0), vR r1, vR r2, vI x3] M (va_Qv (m_q0 M Q) (m_W G) (m_A G)) := by
  refine m_met (by decide) (Nat.le_of_ble_eq_true rfl) (fun C e X => ?_)
  exact bk_X2_init_0 G C _ _ M Q X M a0 r1 r2 x3 hw
theorem nh_X2_init : m_nMH yX2_init 3 := by decide +kernel
