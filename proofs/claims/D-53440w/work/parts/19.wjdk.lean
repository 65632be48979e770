/-! walks (printed by gen/desk.py): 19.wjdk.lean -/
set_option maxRecDepth 100000
set_option maxHeartbeats 4000000
def wp_J0_init (g : Nat → Nat) (M : Mem) (a0 : Nat) (Q : Mem → Prop) : Prop := Q M
theorem bk_J0_init_0 (G : Gp) (C : m_Cx) (n0 s0 : Nat) (M0 : Mem) (Q : Mem → Prop) (X : m_in G C RJ0 cJ0_init 1 none "<init>" 1 12 n0 s0) (M : Mem) (a0 : Nat) (hw : wp_J0_init G.2 M a0 Q) : pW G C 1 n0 s0 M0 (m_Q G C n0 s0 (va_Qv (m_q0 M0 Q) (m_W G) (m_A G))) M 0 [(0, vR (some a0))] [] := by
  refine pw_aload_n X dJ0_init_0 rfl rfl ?_
  refine pw_objInit X rfl q146 q127 q128 dJ0_init_1 (Nat.le_of_ble_eq_true rfl) (Nat.le_of_ble_eq_true rfl) ?_
  exact pw_vret X hw dJ0_init_4
theorem met_J0_init (G : Gp) (l : Launch) (M : Mem) (a0 : Nat) (Q : Mem → Prop) (hw : wp_J0_init G.2 M a0 Q) : m_K G l yJ0_init cJ0_init 1 none 1 12 [vR (some a0)] M (va_Qv (m_q0 M Q) (m_W G) (m_A G)) := by
  refine m_met (by decide) (Nat.le_of_ble_eq_true rfl) (fun C e X => ?_)
  exact bk_J0_init_0 G C _ _ M Q X M a0 hw
theorem nh_J0_init : m_nMH yJ0_init 0 := by decide +kernel

def wp_J1_init (g : Nat → Nat) (M : Mem) (a0 : Nat) (Q : Mem → Prop) : Prop := wp_J0_init g M a0 (fun (M1 : Mem) => m_le M M1 → m_tg M1 a0 = 14 ∧ ∀ M4 : Mem, M4 = (m_pi M1 a0 0 0) → Q M4)
theorem bk_J1_init_0 (G : Gp) (C : m_Cx) (n0 s0 : Nat) (M0 : Mem) (Q : Mem → Prop) (X : m_in G C RJ1 cJ1_init 1 none "<init>" 2 32 n0 s0) (M : Mem) (a0 : Nat) (hw : wp_J1_init G.2 M a0 Q) : pW G C 1 n0 s0 M0 (m_Q G C n0 s0 (va_Qv (m_q0 M0 Q) (m_W G) (m_A G))) M 0 [(0, vR (some a0))] [] := by
  refine pw_aload_n X dJ1_init_0 rfl rfl ?_
  refine pw_runv X (m_cI X (b := a0) (met_J0_init G C.2.1 M a0 _ hw) q145 q80 q143 q144 rfl nh_J0_init ⟨Nat.le_of_ble_eq_true rfl, Nat.le_of_ble_eq_true rfl⟩ rfl (Nat.le_of_ble_eq_true rfl) dJ1_init_1) (fun M1 hle2 hx => ?_)
  replace hw := hx hle2
  clear hx
  refine pw_aload_n X dJ1_init_4 rfl rfl ?_
  refine pw_iconst X 0 dJ1_init_5 (by decide) ?_
  obtain ⟨ht3, hw⟩ := hw
  obtain ⟨M4, hM5⟩ : ∃ z : Mem, z = (m_pi M1 a0 0 0) := ⟨_, rfl⟩
  replace hw := hw M4 hM5
  refine pw_put X (q := (RJ2, TJ2, tyJ2, 3)) (ci := 13) (k := 0) (ref := "java/util/AbstractList") M4 hM5.symm ht3 rfl (by decide) in_J2 tyJ2_ok nmJ2 q151 (Or.inl rfl) rfl (m_kd_i (fun _ _ => rfl)) rfl rfl dJ1_init_6 ?_
  have hle6 : m_le M1 M4 := by rw [hM5]; exact m_le_pi
  have ht7 : m_tg M4 a0 = 14 := m_le_tg hle6 ht3
  exact pw_vret X hw dJ1_init_9
theorem met_J1_init (G : Gp) (l : Launch) (M : Mem) (a0 : Nat) (Q : Mem → Prop) (hw : wp_J1_init G.2 M a0 Q) : m_K G l yJ1_init cJ1_init 1 none 2 32 [vR (some a0)] M (va_Qv (m_q0 M Q) (m_W G) (m_A G)) := by
  refine m_met (by decide) (Nat.le_of_ble_eq_true rfl) (fun C e X => ?_)
  exact bk_J1_init_0 G C _ _ M Q X M a0 hw
theorem nh_J1_init : m_nMH yJ1_init 0 := by decide +kernel

def wp_J17_checkIndex (g : Nat → Nat) (M : Mem) (x0 : Int32) (x1 : Int32) (r2 : Option Nat) (Q : Int32 → Mem → Prop) : Prop := ((x0 < 0 → False) ∧ (¬ x0 < 0 → ((x0 < x1 → Q x0 M) ∧ (¬ x0 < x1 → False))))
theorem bk_J17_checkIndex_0 (G : Gp) (C : m_Cx) (n0 s0 : Nat) (M0 : Mem) (Q : Int32 → Mem → Prop) (X : m_in G C RJ17 cJ17_checkIndex 3 (some .int) "checkIndex" 0 0 n0 s0) (M : Mem) (x0 : Int32) (x1 : Int32) (r2 : Option Nat) (hw : wp_J17_checkIndex G.2 M x0 x1 r2 Q) : pW G C 3 n0 s0 M0 (m_Q G C n0 s0 (va_Qi (m_q1 M0 Q) (m_W G) (m_A G))) M 0 [(0, vI x0), (1, vI x1), (2, vR r2)] [] := by
  refine pw_iload_n X dJ17_checkIndex_0 rfl rfl ?_
  refine pw_if_lt X 9 dJ17_checkIndex_1 (by decide) (fun c1 => ?_) (fun c1 => ?_)
  · replace hw := hw.1 c1
    refine pw_aload_n X dJ17_checkIndex_9 rfl rfl ?_
    refine pw_iload_n X dJ17_checkIndex_10 rfl rfl ?_
    refine pw_iload_n X dJ17_checkIndex_11 rfl rfl ?_
    exact hw.elim
  · replace hw := hw.2 c1
    refine pw_iload_n X dJ17_checkIndex_4 rfl rfl ?_
    refine pw_iload_n X dJ17_checkIndex_5 rfl rfl ?_
    refine pw_icmp_lt X 16 dJ17_checkIndex_6 (by decide) (fun c2 => ?_) (fun c2 => ?_)
    · replace hw := hw.1 c2
      refine pw_iload_n X dJ17_checkIndex_16 rfl rfl ?_
      exact pw_iret X hw dJ17_checkIndex_17
    · replace hw := hw.2 c2
      refine pw_aload_n X dJ17_checkIndex_9 rfl rfl ?_
      refine pw_iload_n X dJ17_checkIndex_10 rfl rfl ?_
      refine pw_iload_n X dJ17_checkIndex_11 rfl rfl ?_
      exact hw.elim
theorem met_J17_checkIndex (G : Gp) (l : Launch) (M : Mem) (x0 : Int32) (x1 : Int32) (r2 : Option Nat) (Q : Int32 → Mem → Prop) (hw : wp_J17_checkIndex G.2 M x0 x1 r2 Q) : m_K G l yJ17_checkIndex cJ17_checkIndex 3 (some .int) 0 0 [vI x0, vI x1, vR r2] M (va_Qi (m_q1 M Q) (m_W G) (m_A G)) := by
  refine m_met (by decide) (Nat.le_of_ble_eq_true rfl) (fun C e X => ?_)
  exact bk_J17_checkIndex_0 G C _ _ M Q X M x0 x1 r2 hw
theorem nh_J17_checkIndex : m_nMH yJ17_checkIndex 3 := by decide +kernel

def wp_J22_checkIndex (g : Nat → Nat) (M : Mem) (x0 : Int32) (x1 : Int32) (Q : Int32 → Mem → Prop) : Prop := wp_J17_checkIndex g M x0 x1 none (fun (r3 : Int32) (M1 : Mem) => m_le M M1 → Q r3 M1)
theorem bk_J22_checkIndex_0 (G : Gp) (C : m_Cx) (n0 s0 : Nat) (M0 : Mem) (Q : Int32 → Mem → Prop) (X : m_in G C RJ22 cJ22_checkIndex 2 (some .int) "checkIndex" 1 22 n0 s0) (M : Mem) (x0 : Int32) (x1 : Int32) (hw : wp_J22_checkIndex G.2 M x0 x1 Q) : pW G C 2 n0 s0 M0 (m_Q G C n0 s0 (va_Qi (m_q1 M0 Q) (m_W G) (m_A G))) M 0 [(0, vI x0), (1, vI x1)] [] := by
  refine pw_iload_n X dJ22_checkIndex_0 rfl rfl ?_
  refine pw_iload_n X dJ22_checkIndex_1 rfl rfl ?_
  refine pw_null X dJ22_checkIndex_2 ?_
  refine pw_runi X (m_cS X (met_J17_checkIndex G C.2.1 M x0 x1 none _ hw) (lw_S q1011 q1012 q100 q1013) nh_J17_checkIndex ⟨Nat.le_of_ble_eq_true rfl, Nat.le_of_ble_eq_true rfl⟩ rfl (Nat.le_of_ble_eq_true rfl) dJ22_checkIndex_3) (fun r3 M1 hle2 hx => ?_)
  replace hw := hx hle2
  clear hx
  exact pw_iret X hw dJ22_checkIndex_6
theorem met_J22_checkIndex (G : Gp) (l : Launch) (M : Mem) (x0 : Int32) (x1 : Int32) (Q : Int32 → Mem → Prop) (hw : wp_J22_checkIndex G.2 M x0 x1 Q) : m_K G l yJ22_checkIndex cJ22_checkIndex 2 (some .int) 1 22 [vI x0, vI x1] M (va_Qi (m_q1 M Q) (m_W G) (m_A G)) := by
  refine m_met (by decide) (Nat.le_of_ble_eq_true rfl) (fun C e X => ?_)
  exact bk_J22_checkIndex_0 G C _ _ M Q X M x0 x1 hw
theorem nh_J22_checkIndex : m_nMH yJ22_checkIndex 2 := by decide +kernel

def wp_J12_intValue (g : Nat → Nat) (M : Mem) (a0 : Nat) (Q : Int32 → Mem → Prop) : Prop := m_tg M a0 = 150 ∧ Q (m_ub g a0) M
theorem bk_J12_intValue_0 (G : Gp) (C : m_Cx) (n0 s0 : Nat) (M0 : Mem) (Q : Int32 → Mem → Prop) (X : m_in G C RJ12 cJ12_intValue 1 (some .int) "intValue" 0 0 n0 s0) (M : Mem) (a0 : Nat) (hw : wp_J12_intValue G.2 M a0 Q) : pW G C 1 n0 s0 M0 (m_Q G C n0 s0 (va_Qi (m_q1 M0 Q) (m_W G) (m_A G))) M 0 [(0, vR (some a0))] [] := by
  refine pw_aload_n X dJ12_intValue_0 rfl rfl ?_
  obtain ⟨ht1, hw⟩ := hw
  refine pw_getBox X (ref := "java/lang/Integer") ht1 q874 (Or.inl rfl) dJ12_intValue_1 ?_
  exact pw_iret X hw dJ12_intValue_4
theorem met_J12_intValue (G : Gp) (l : Launch) (M : Mem) (a0 : Nat) (Q : Int32 → Mem → Prop) (hw : wp_J12_intValue G.2 M a0 Q) : m_K G l yJ12_intValue cJ12_intValue 1 (some .int) 0 0 [vR (some a0)] M (va_Qi (m_q1 M Q) (m_W G) (m_A G)) := by
  refine m_met (by decide) (Nat.le_of_ble_eq_true rfl) (fun C e X => ?_)
  exact bk_J12_intValue_0 G C _ _ M Q X M a0 hw
theorem nh_J12_intValue : m_nMH yJ12_intValue 0 := by decide +kernel

def wp_J12_valueOf (g : Nat → Nat) (M : Mem) (x0 : Int32) (Q : Option Nat → Mem → Prop) : Prop := ((x0 < (-128) → False) ∧ (¬ x0 < (-128) → ((127 < x0 → False) ∧ (¬ 127 < x0 → (∀ u3 : Nat, m_tg M u3 = 150 → m_ub g u3 = x0 → Q (some u3) M)))))
theorem bk_J12_valueOf_0 (G : Gp) (C : m_Cx) (n0 s0 : Nat) (M0 : Mem) (Q : Option Nat → Mem → Prop) (X : m_in G C RJ12 cJ12_valueOf 1 (some (.object "java/lang/Integer")) "valueOf" 0 0 n0 s0) (M : Mem) (x0 : Int32) (hw : wp_J12_valueOf G.2 M x0 Q) : pW G C 1 n0 s0 M0 (m_Q G C n0 s0 (va_Qq (m_q1 M0 Q) (m_W G) (m_A G))) M 0 [(0, vI x0)] [] := by
  refine pw_iload_n X dJ12_valueOf_0 rfl rfl ?_
  refine pw_bipush X (-128) dJ12_valueOf_1 (by decide) ?_
  refine pw_icmp_lt X 23 dJ12_valueOf_3 (by decide) (fun c1 => ?_) (fun c1 => ?_)
  · replace hw := hw.1 c1
    exact hw.elim
  · replace hw := hw.2 c1
    refine pw_iload_n X dJ12_valueOf_6 rfl rfl ?_
    refine pw_gets X (vI 127) (List.mem_of_getElem? (i := 6) rfl) q862 (Or.inl rfl) dJ12_valueOf_7 ?_
    refine pw_icmp_gt X 23 dJ12_valueOf_10 (by decide) (fun c2 => ?_) (fun c2 => ?_)
    · replace hw := hw.1 c2
      exact hw.elim
    · replace hw := hw.2 c2
      refine pw_gets X (vR (some (G.2 6))) (List.mem_of_getElem? (i := 5) rfl) q864 (Or.inl rfl) dJ12_valueOf_13 ?_
      refine pw_iload_n X dJ12_valueOf_16 rfl rfl ?_
      refine pw_sipush X 128 dJ12_valueOf_17 (by decide) ?_
      refine pw_iadd X dJ12_valueOf_20 ?_
      refine pw_cacheAt X (by assumption) (by assumption) dJ12_valueOf_21 (fun u3 h14 h25 => ?_)
      replace hw := hw u3 h14 h25
      exact pw_aret X (Or.inl ⟨_, rfl⟩) hw dJ12_valueOf_22
theorem met_J12_valueOf (G : Gp) (l : Launch) (M : Mem) (x0 : Int32) (Q : Option Nat → Mem → Prop) (hw : wp_J12_valueOf G.2 M x0 Q) : m_K G l yJ12_valueOf cJ12_valueOf 1 (some (.object "java/lang/Integer")) 0 0 [vI x0] M (va_Qq (m_q1 M Q) (m_W G) (m_A G)) := by
  refine m_met (by decide) (Nat.le_of_ble_eq_true rfl) (fun C e X => ?_)
  exact bk_J12_valueOf_0 G C _ _ M Q X M x0 hw
theorem nh_J12_valueOf : m_nMH yJ12_valueOf 1 := by decide +kernel

def wp_J14_newLength (g : Nat → Nat) (M : Mem) (x0 : Int32) (x1 : Int32) (x2 : Int32) (Q : Int32 → Mem → Prop) : Prop := (((x0 + (if x1 < x2 then x2 else x1)) ≤ 0 → False) ∧ (¬ (x0 + (if x1 < x2 then x2 else x1)) ≤ 0 → ((2147483639 < (x0 + (if x1 < x2 then x2 else x1)) → False) ∧ (¬ 2147483639 < (x0 + (if x1 < x2 then x2 else x1)) → Q (x0 + (if x1 < x2 then x2 else x1)) M))))
theorem bk_J14_newLength_0 (G : Gp) (C : m_Cx) (n0 s0 : Nat) (M0 : Mem) (Q : Int32 → Mem → Prop) (X : m_in G C RJ14 cJ14_newLength 4 (some .int) "newLength" 1 14 n0 s0) (M : Mem) (x0 : Int32) (x1 : Int32) (x2 : Int32) (hw : wp_J14_newLength G.2 M x0 x1 x2 Q) : pW G C 4 n0 s0 M0 (m_Q G C n0 s0 (va_Qi (m_q1 M0 Q) (m_W G) (m_A G))) M 0 [(0, vI x0), (1, vI x1), (2, vI x2)] [] := by
  refine pw_iload_n X dJ14_newLength_0 rfl rfl ?_
  refine pw_iload_n X dJ14_newLength_1 rfl rfl ?_
  refine pw_iload_n X dJ14_newLength_2 rfl rfl ?_
  refine pw_mmax X q908 q298 q92 q299 (Nat.le_of_ble_eq_true rfl) (Nat.le_of_ble_eq_true rfl) dJ14_newLength_3 ?_
  refine pw_iadd X dJ14_newLength_6 ?_
  refine pw_istore_n X [(0, vI x0), (1, vI x1), (3, vI (x0 + (if x1 < x2 then x2 else x1)))] [1, 2, 0] dJ14_newLength_7 rfl (by decide) rfl ?_
  refine pw_iconst X 0 dJ14_newLength_8 (by decide) ?_
  refine pw_iload_n X dJ14_newLength_9 rfl rfl ?_
  refine pw_icmp_ge X 21 dJ14_newLength_10 (by decide) (fun c1 => ?_) (fun c1 => ?_)
  · replace hw := hw.1 c1
    refine pw_iload_n X dJ14_newLength_21 rfl rfl ?_
    refine pw_iload_n X dJ14_newLength_22 rfl rfl ?_
    exact hw.elim
  · replace hw := hw.2 c1
    refine pw_iload_n X dJ14_newLength_13 rfl rfl ?_
    refine pw_ldc X 2147483639 q909 dJ14_newLength_14 ?_
    refine pw_icmp_gt X 21 dJ14_newLength_16 (by decide) (fun c2 => ?_) (fun c2 => ?_)
    · replace hw := hw.1 c2
      refine pw_iload_n X dJ14_newLength_21 rfl rfl ?_
      refine pw_iload_n X dJ14_newLength_22 rfl rfl ?_
      exact hw.elim
    · replace hw := hw.2 c2
      refine pw_iload_n X dJ14_newLength_19 rfl rfl ?_
      exact pw_iret X hw dJ14_newLength_20
theorem met_J14_newLength (G : Gp) (l : Launch) (M : Mem) (x0 : Int32) (x1 : Int32) (x2 : Int32) (Q : Int32 → Mem → Prop) (hw : wp_J14_newLength G.2 M x0 x1 x2 Q) : m_K G l yJ14_newLength cJ14_newLength 4 (some .int) 1 14 [vI x0, vI x1, vI x2] M (va_Qi (m_q1 M Q) (m_W G) (m_A G)) := by
  refine m_met (by decide) (Nat.le_of_ble_eq_true rfl) (fun C e X => ?_)
  exact bk_J14_newLength_0 G C _ _ M Q X M x0 x1 x2 hw
theorem nh_J14_newLength : m_nMH yJ14_newLength 3 := by decide +kernel

def wp_J21_copyOf_2 (g : Nat → Nat) (M : Mem) (a0 : Nat) (x1 : Int32) (a2 : Nat) (Q : Option Nat → Mem → Prop) : Prop := ((¬ (some a2) = (some (g 8)) → False) ∧ ((some a2) = (some (g 8)) → ¬ (x1 : Int32) < 0 ∧ m_fits M (Int32.toNatClampNeg x1) ∧ ∀ u4 : Nat, m_tg M u4 = 0 → ∀ M6 : Mem, M6 = (m_al M u4 103 (Int32.toNatClampNeg x1) (Int32.toNatClampNeg x1)) → m_isA M6 a0 ∧ m_tg M6 a0 = 103 ∧ m_cpin M6 a0 u4 0 0 (if x1 < (nI (m_ln M6 a0)) then x1 else (nI (m_ln M6 a0))) ∧ (∀ i : Nat, i < Int32.toNatClampNeg (if x1 < (nI (m_ln M6 a0)) then x1 else (nI (m_ln M6 a0))) → ∀ y : Nat, m_gr M6 a0 (Int32.toNatClampNeg 0 + i) = some y → m_asg M6 y "java/lang/Object") ∧ ∀ M14 : Mem, M14 = (m_cr M6 a0 (Int32.toNatClampNeg 0) u4 (Int32.toNatClampNeg 0) (Int32.toNatClampNeg (if x1 < (nI (m_ln M6 a0)) then x1 else (nI (m_ln M6 a0))))) → Q (some u4) M14))
theorem bk_J21_copyOf_2_0 (G : Gp) (C : m_Cx) (n0 s0 : Nat) (M0 : Mem) (Q : Option Nat → Mem → Prop) (X : m_in G C RJ21 cJ21_copyOf_2 4 (some (.array (.object "java/lang/Object"))) "copyOf" 1 30 n0 s0) (M : Mem) (a0 : Nat) (x1 : Int32) (a2 : Nat) (hw : wp_J21_copyOf_2 G.2 M a0 x1 a2 Q) : pW G C 4 n0 s0 M0 (m_Q G C n0 s0 (va_Qq (m_q1 M0 Q) (m_W G) (m_A G))) M 0 [(0, vR (some a0)), (1, vI x1), (2, vR (some a2))] [] := by
  refine pw_aload_n X dJ21_copyOf_2_0 rfl rfl ?_
  refine pw_ldcM X q920 dJ21_copyOf_2_1 ?_
  refine pw_acmp_ne X 13 dJ21_copyOf_2_3 (by decide) (fun c1 => ?_) (fun c1 => ?_)
  · replace hw := hw.1 c1
    exact hw.elim
  · replace hw := hw.2 c1
    refine pw_iload_n X dJ21_copyOf_2_6 rfl rfl ?_
    obtain ⟨hn3, hf2, hw⟩ := hw
    refine pw_newq X 2 (E := "java/lang/Object") (by decide) hf2 hn3 rfl q922 q921 dJ21_copyOf_2_7 (fun u4 h05 => ?_)
    obtain ⟨M6, hM7⟩ : ∃ z : Mem, z = (m_al M u4 103 (Int32.toNatClampNeg x1) (Int32.toNatClampNeg x1)) := ⟨_, rfl⟩
    replace hw := hw u4 h05 M6 hM7
    have hle8 : m_le M M6 := by rw [hM7]; exact m_le_al h05
    change pW _ _ _ _ _ _ _ (m_al M u4 103 (Int32.toNatClampNeg x1) (Int32.toNatClampNeg x1)) _ _ _
    rw [← hM7]
    have ht9 : m_tg M6 u4 = 103 := by rw [hM7, m_tg_al, if_pos rfl]
    refine pw_goto X 24 dJ21_copyOf_2_10 (by decide) ?_
    refine pw_astore_n X [(0, vR (some a0)), (1, vI x1), (3, vR (some u4))] [1, 2, 0] dJ21_copyOf_2_24 rfl (by decide) rfl ?_
    refine pw_aload_n X dJ21_copyOf_2_25 rfl rfl ?_
    refine pw_iconst X 0 dJ21_copyOf_2_26 (by decide) ?_
    refine pw_aload_n X dJ21_copyOf_2_27 rfl rfl ?_
    refine pw_iconst X 0 dJ21_copyOf_2_28 (by decide) ?_
    refine pw_aload_n X dJ21_copyOf_2_29 rfl rfl ?_
    obtain ⟨hA10, hw⟩ := hw
    refine pw_alen X hA10 dJ21_copyOf_2_30 ?_
    refine pw_iload_n X dJ21_copyOf_2_31 rfl rfl ?_
    refine pw_mmin X q923 q295 q92 q296 (Nat.le_of_ble_eq_true rfl) (Nat.le_of_ble_eq_true rfl) dJ21_copyOf_2_32 ?_
    obtain ⟨ht11, hw⟩ := hw
    obtain ⟨hin12, hw⟩ := hw
    obtain ⟨hg13, hw⟩ := hw
    obtain ⟨M14, hM15⟩ : ∃ z : Mem, z = (m_cr M6 a0 (Int32.toNatClampNeg 0) u4 (Int32.toNatClampNeg 0) (Int32.toNatClampNeg (if x1 < (nI (m_ln M6 a0)) then x1 else (nI (m_ln M6 a0))))) := ⟨_, rfl⟩
    replace hw := hw M14 hM15
    have hle16 : m_le M6 M14 := by rw [hM15]; exact m_le_cr
    refine pw_copy X 2 M14 (by decide) hM15 ht11 ht9 hin12 (fun h => by cases h) (fun _ => hg13) q924 q926 q925 q106 (Nat.le_of_ble_eq_true rfl) (Nat.le_of_ble_eq_true rfl) dJ21_copyOf_2_35 ?_
    have ht17 : m_tg M14 u4 = 103 := m_le_tg hle16 ht9
    have ht18 : m_tg M14 a0 = 103 := m_le_tg hle16 ht11
    refine pw_aload_n X dJ21_copyOf_2_38 rfl rfl ?_
    exact pw_aret X (Or.inr ⟨_, rfl⟩) hw dJ21_copyOf_2_39
theorem met_J21_copyOf_2 (G : Gp) (l : Launch) (M : Mem) (a0 : Nat) (x1 : Int32) (a2 : Nat) (Q : Option Nat → Mem → Prop) (hw : wp_J21_copyOf_2 G.2 M a0 x1 a2 Q) : m_K G l yJ21_copyOf_2 cJ21_copyOf_2 4 (some (.array (.object "java/lang/Object"))) 1 30 [vR (some a0), vI x1, vR (some a2)] M (va_Qq (m_q1 M Q) (m_W G) (m_A G)) := by
  refine m_met (by decide) (Nat.le_of_ble_eq_true rfl) (fun C e X => ?_)
  exact bk_J21_copyOf_2_0 G C _ _ M Q X M a0 x1 a2 hw
theorem nh_J21_copyOf_2 : m_nMH yJ21_copyOf_2 3 := by decide +kernel

def wp_J21_copyOf (g : Nat → Nat) (M : Mem) (a0 : Nat) (x1 : Int32) (Q : Option Nat → Mem → Prop) : Prop := m_tg M a0 = 103 ∧ wp_J21_copyOf_2 g M a0 x1 (g 8) (fun (r4 : Option Nat) (M2 : Mem) => m_le M M2 → Q r4 M2)
theorem bk_J21_copyOf_0 (G : Gp) (C : m_Cx) (n0 s0 : Nat) (M0 : Mem) (Q : Option Nat → Mem → Prop) (X : m_in G C RJ21 cJ21_copyOf 2 (some (.array (.object "java/lang/Object"))) "copyOf" 2 53 n0 s0) (M : Mem) (a0 : Nat) (x1 : Int32) (hw : wp_J21_copyOf G.2 M a0 x1 Q) : pW G C 2 n0 s0 M0 (m_Q G C n0 s0 (va_Qq (m_q1 M0 Q) (m_W G) (m_A G))) M 0 [(0, vR (some a0)), (1, vI x1)] [] := by
  refine pw_aload_n X dJ21_copyOf_0 rfl rfl ?_
  refine pw_iload_n X dJ21_copyOf_1 rfl rfl ?_
  refine pw_aload_n X dJ21_copyOf_2 rfl rfl ?_
  obtain ⟨ht1, hw⟩ := hw
  refine pw_getClass X ht1 q916 q2314 q2313 q413 q438 (Nat.le_of_ble_eq_true rfl) (Nat.le_of_ble_eq_true rfl) dJ21_copyOf_3 ?_
  refine pw_runq X (m_cS X (met_J21_copyOf_2 G C.2.1 M a0 x1 (G.2 8) _ hw) (lw_S q917 q918 q105 q919) nh_J21_copyOf_2 ⟨Nat.le_of_ble_eq_true rfl, Nat.le_of_ble_eq_true rfl⟩ rfl (Nat.le_of_ble_eq_true rfl) dJ21_copyOf_6) (fun r4 M2 hle3 hx => ?_)
  replace hw := hx hle3
  clear hx
  have ht5 : m_tg M2 a0 = 103 := m_le_tg hle3 ht1
  exact pw_aret X (Or.inr ⟨_, rfl⟩) hw dJ21_copyOf_9
theorem met_J21_copyOf (G : Gp) (l : Launch) (M : Mem) (a0 : Nat) (x1 : Int32) (Q : Option Nat → Mem → Prop) (hw : wp_J21_copyOf G.2 M a0 x1 Q) : m_K G l yJ21_copyOf cJ21_copyOf 2 (some (.array (.object "java/lang/Object"))) 2 53 [vR (some a0), vI x1] M (va_Qq (m_q1 M Q) (m_W G) (m_A G)) := by
  refine m_met (by decide) (Nat.le_of_ble_eq_true rfl) (fun C e X => ?_)
  exact bk_J21_copyOf_0 G C _ _ M Q X M a0 x1 hw
theorem nh_J21_copyOf : m_nMH yJ21_copyOf 2 := by decide +kernel

def wp_J21_copyOf_3 (g : Nat → Nat) (M : Mem) (a0 : Nat) (x1 : Int32) (Q : Option Nat → Mem → Prop) : Prop := m_isA M a0 ∧ ((¬ x1 = (nI (m_ln M a0)) → ¬ (x1 : Int32) < 0 ∧ m_fits M (Int32.toNatClampNeg x1) ∧ ∀ u5 : Nat, m_tg M u5 = 0 → ∀ M7 : Mem, M7 = (m_al M u5 102 (Int32.toNatClampNeg x1) (Int32.toNatClampNeg x1)) → m_isA M7 a0 ∧ m_tg M7 a0 = 102 ∧ m_cpin M7 a0 u5 0 0 (if x1 < (nI (m_ln M7 a0)) then x1 else (nI (m_ln M7 a0))) ∧ (∀ i : Nat, i < Int32.toNatClampNeg (if x1 < (nI (m_ln M7 a0)) then x1 else (nI (m_ln M7 a0))) → fits .byte (.int (m_gi M7 a0 (Int32.toNatClampNeg 0 + i))) = true) ∧ ∀ M15 : Mem, M15 = (m_ci M7 a0 (Int32.toNatClampNeg 0) u5 (Int32.toNatClampNeg 0) (Int32.toNatClampNeg (if x1 < (nI (m_ln M7 a0)) then x1 else (nI (m_ln M7 a0))))) → Q (some u5) M15) ∧ (x1 = (nI (m_ln M a0)) → False))
theorem bk_J21_copyOf_3_0 (G : Gp) (C : m_Cx) (n0 s0 : Nat) (M0 : Mem) (Q : Option Nat → Mem → Prop) (X : m_in G C RJ21 cJ21_copyOf_3 3 (some (.array .byte)) "copyOf" 1 30 n0 s0) (M : Mem) (a0 : Nat) (x1 : Int32) (hw : wp_J21_copyOf_3 G.2 M a0 x1 Q) : pW G C 3 n0 s0 M0 (m_Q G C n0 s0 (va_Qq (m_q1 M0 Q) (m_W G) (m_A G))) M 0 [(0, vR (some a0)), (1, vI x1)] [] := by
  refine pw_iload_n X dJ21_copyOf_3_0 rfl rfl ?_
  refine pw_aload_n X dJ21_copyOf_3_1 rfl rfl ?_
  obtain ⟨hA1, hw⟩ := hw
  refine pw_alen X hA1 dJ21_copyOf_3_2 ?_
  refine pw_icmp_ne X 14 dJ21_copyOf_3_3 (by decide) (fun c2 => ?_) (fun c2 => ?_)
  · replace hw := hw.1 c2
    refine pw_iload_n X dJ21_copyOf_3_14 rfl rfl ?_
    obtain ⟨hn4, hf3, hw⟩ := hw
    refine pw_newa X (atype := .byte) 1 (by decide) hf3 hn4 rfl q228 dJ21_copyOf_3_15 (fun u5 h06 => ?_)
    obtain ⟨M7, hM8⟩ : ∃ z : Mem, z = (m_al M u5 102 (Int32.toNatClampNeg x1) (Int32.toNatClampNeg x1)) := ⟨_, rfl⟩
    replace hw := hw u5 h06 M7 hM8
    have hle9 : m_le M M7 := by rw [hM8]; exact m_le_al h06
    change pW _ _ _ _ _ _ _ (m_al M u5 102 (Int32.toNatClampNeg x1) (Int32.toNatClampNeg x1)) _ _ _
    rw [← hM8]
    have ht10 : m_tg M7 u5 = 102 := by rw [hM8, m_tg_al, if_pos rfl]
    refine pw_astore_n X [(0, vR (some a0)), (1, vI x1), (2, vR (some u5))] [1, 2, 0] dJ21_copyOf_3_17 rfl (by decide) rfl ?_
    refine pw_aload_n X dJ21_copyOf_3_18 rfl rfl ?_
    refine pw_iconst X 0 dJ21_copyOf_3_19 (by decide) ?_
    refine pw_aload_n X dJ21_copyOf_3_20 rfl rfl ?_
    refine pw_iconst X 0 dJ21_copyOf_3_21 (by decide) ?_
    refine pw_aload_n X dJ21_copyOf_3_22 rfl rfl ?_
    obtain ⟨hA11, hw⟩ := hw
    refine pw_alen X hA11 dJ21_copyOf_3_23 ?_
    refine pw_iload_n X dJ21_copyOf_3_24 rfl rfl ?_
    refine pw_mmin X q923 q295 q92 q296 (Nat.le_of_ble_eq_true rfl) (Nat.le_of_ble_eq_true rfl) dJ21_copyOf_3_25 ?_
    obtain ⟨ht12, hw⟩ := hw
    obtain ⟨hin13, hw⟩ := hw
    obtain ⟨hg14, hw⟩ := hw
    obtain ⟨M15, hM16⟩ : ∃ z : Mem, z = (m_ci M7 a0 (Int32.toNatClampNeg 0) u5 (Int32.toNatClampNeg 0) (Int32.toNatClampNeg (if x1 < (nI (m_ln M7 a0)) then x1 else (nI (m_ln M7 a0))))) := ⟨_, rfl⟩
    replace hw := hw M15 hM16
    have hle17 : m_le M7 M15 := by rw [hM16]; exact m_le_ci
    refine pw_copy X 1 M15 (by decide) hM16 ht12 ht10 hin13 (fun _ => hg14) (fun h => by cases h) q924 q926 q925 q106 (Nat.le_of_ble_eq_true rfl) (Nat.le_of_ble_eq_true rfl) dJ21_copyOf_3_28 ?_
    have ht18 : m_tg M15 u5 = 102 := m_le_tg hle17 ht10
    have ht19 : m_tg M15 a0 = 102 := m_le_tg hle17 ht12
    refine pw_aload_n X dJ21_copyOf_3_31 rfl rfl ?_
    exact pw_aret X (Or.inr ⟨_, rfl⟩) hw dJ21_copyOf_3_32
  · replace hw := hw.2 c2
    refine pw_aload_n X dJ21_copyOf_3_6 rfl rfl ?_
    exact hw.elim
theorem met_J21_copyOf_3 (G : Gp) (l : Launch) (M : Mem) (a0 : Nat) (x1 : Int32) (Q : Option Nat → Mem → Prop) (hw : wp_J21_copyOf_3 G.2 M a0 x1 Q) : m_K G l yJ21_copyOf_3 cJ21_copyOf_3 3 (some (.array .byte)) 1 30 [vR (some a0), vI x1] M (va_Qq (m_q1 M Q) (m_W G) (m_A G)) := by
  refine m_met (by decide) (Nat.le_of_ble_eq_true rfl) (fun C e X => ?_)
  exact bk_J21_copyOf_3_0 G C _ _ M Q X M a0 x1 hw
theorem nh_J21_copyOf_3 : m_nMH yJ21_copyOf_3 2 := by decide +kernel

def wp_J2_init (g : Nat → Nat) (M : Mem) (a0 : Nat) (Q : Mem → Prop) : Prop := wp_J1_init g M a0 (fun (M1 : Mem) => m_le M M1 → (m_tg M1 (g 1) = 160 → m_ln M1 (g 1) = 0 → m_tg M1 a0 = 14 ∧ ∀ M6 : Mem, M6 = (m_pr M1 a0 1 (some (g 1))) → Q M6))
theorem bk_J2_init_0 (G : Gp) (C : m_Cx) (n0 s0 : Nat) (M0 : Mem) (Q : Mem → Prop) (X : m_in G C RJ2 cJ2_init 1 none "<init>" 3 52 n0 s0) (M : Mem) (a0 : Nat) (hw : wp_J2_init G.2 M a0 Q) : pW G C 1 n0 s0 M0 (m_Q G C n0 s0 (va_Qv (m_q0 M0 Q) (m_W G) (m_A G))) M 0 [(0, vR (some a0))] [] := by
  refine pw_aload_n X dJ2_init_0 rfl rfl ?_
  refine pw_runv X (m_cI X (b := a0) (met_J1_init G C.2.1 M a0 _ hw) q142 q81 q140 q141 rfl nh_J1_init ⟨Nat.le_of_ble_eq_true rfl, Nat.le_of_ble_eq_true rfl⟩ rfl (Nat.le_of_ble_eq_true rfl) dJ2_init_1) (fun M1 hle2 hx => ?_)
  replace hw := hx hle2
  clear hx
  refine pw_aload_n X dJ2_init_4 rfl rfl ?_
  refine pw_getE0 X q147 (Or.inl rfl) dJ2_init_5 (fun h13 h24 => ?_)
  replace hw := hw h13 h24
  obtain ⟨ht5, hw⟩ := hw
  obtain ⟨M6, hM7⟩ : ∃ z : Mem, z = (m_pr M1 a0 1 (some (G.2 1))) := ⟨_, rfl⟩
  replace hw := hw M6 hM7
  refine pw_put X (q := (RJ2, TJ2, tyJ2, 3)) (ci := 13) (k := 1) (ref := "java/util/ArrayList") M6 hM7.symm ht5 rfl (by decide) in_J2 tyJ2_ok nmJ2 q149 (Or.inl rfl) rfl (m_kd_r (fun _ _ => rfl)) m_na m_fa dJ2_init_8 ?_
  have hle8 : m_le M1 M6 := by rw [hM7]; exact m_le_pr
  have ht9 : m_tg M6 a0 = 14 := m_le_tg hle8 ht5
  exact pw_vret X hw dJ2_init_11
theorem met_J2_init (G : Gp) (l : Launch) (M : Mem) (a0 : Nat) (Q : Mem → Prop) (hw : wp_J2_init G.2 M a0 Q) : m_K G l yJ2_init cJ2_init 1 none 3 52 [vR (some a0)] M (va_Qv (m_q0 M Q) (m_W G) (m_A G)) := by
  refine m_met (by decide) (Nat.le_of_ble_eq_true rfl) (fun C e X => ?_)
  exact bk_J2_init_0 G C _ _ M Q X M a0 hw
theorem nh_J2_init : m_nMH yJ2_init 0 := by decide +kernel

def wp_J2_size (g : Nat → Nat) (M : Mem) (a0 : Nat) (Q : Int32 → Mem → Prop) : Prop := m_tg M a0 = 14 ∧ Q (m_gi M a0 2) M
theorem bk_J2_size_0 (G : Gp) (C : m_Cx) (n0 s0 : Nat) (M0 : Mem) (Q : Int32 → Mem → Prop) (X : m_in G C RJ2 cJ2_size 1 (some .int) "size" 0 0 n0 s0) (M : Mem) (a0 : Nat) (hw : wp_J2_size G.2 M a0 Q) : pW G C 1 n0 s0 M0 (m_Q G C n0 s0 (va_Qi (m_q1 M0 Q) (m_W G) (m_A G))) M 0 [(0, vR (some a0))] [] := by
  refine pw_aload_n X dJ2_size_0 rfl rfl ?_
  obtain ⟨ht1, hw⟩ := hw
  refine pw_get X (q := (RJ2, TJ2, tyJ2, 3)) (ci := 13) (k := 2) (ref := "java/util/ArrayList") (vI (m_gi M a0 2)) ht1 rfl (by decide) in_J2 q150 (Or.inl rfl) rfl dJ2_size_1 ?_
  exact pw_iret X hw dJ2_size_4
theorem met_J2_size (G : Gp) (l : Launch) (M : Mem) (a0 : Nat) (Q : Int32 → Mem → Prop) (hw : wp_J2_size G.2 M a0 Q) : m_K G l yJ2_size cJ2_size 1 (some .int) 0 0 [vR (some a0)] M (va_Qi (m_q1 M Q) (m_W G) (m_A G)) := by
  refine m_met (by decide) (Nat.le_of_ble_eq_true rfl) (fun C e X => ?_)
  exact bk_J2_size_0 G C _ _ M Q X M a0 hw
theorem nh_J2_size : m_nMH yJ2_size 0 := by decide +kernel

def wp_J2_isEmpty (g : Nat → Nat) (M : Mem) (a0 : Nat) (Q : Int32 → Mem → Prop) : Prop := m_tg M a0 = 14 ∧ ((¬ (m_gi M a0 2) = 0 → Q 0 M) ∧ ((m_gi M a0 2) = 0 → Q 1 M))
theorem bk_J2_isEmpty_0 (G : Gp) (C : m_Cx) (n0 s0 : Nat) (M0 : Mem) (Q : Int32 → Mem → Prop) (X : m_in G C RJ2 cJ2_isEmpty 1 (some .boolean) "isEmpty" 0 0 n0 s0) (M : Mem) (a0 : Nat) (hw : wp_J2_isEmpty G.2 M a0 Q) : pW G C 1 n0 s0 M0 (m_Q G C n0 s0 (va_Qi (m_q1 M0 Q) (m_W G) (m_A G))) M 0 [(0, vR (some a0))] [] := by
  refine pw_aload_n X dJ2_isEmpty_0 rfl rfl ?_
  obtain ⟨ht1, hw⟩ := hw
  refine pw_get X (q := (RJ2, TJ2, tyJ2, 3)) (ci := 13) (k := 2) (ref := "java/util/ArrayList") (vI (m_gi M a0 2)) ht1 rfl (by decide) in_J2 q150 (Or.inl rfl) rfl dJ2_isEmpty_1 ?_
  refine pw_if_ne X 11 dJ2_isEmpty_4 (by decide) (fun c2 => ?_) (fun c2 => ?_)
  · replace hw := hw.1 c2
    refine pw_iconst X 0 dJ2_isEmpty_11 (by decide) ?_
    exact pw_zret X (by decide) hw dJ2_isEmpty_12
  · replace hw := hw.2 c2
    refine pw_iconst X 1 dJ2_isEmpty_7 (by decide) ?_
    refine pw_goto X 12 dJ2_isEmpty_8 (by decide) ?_
    exact pw_zret X (by decide) hw dJ2_isEmpty_12
theorem met_J2_isEmpty (G : Gp) (l : Launch) (M : Mem) (a0 : Nat) (Q : Int32 → Mem → Prop) (hw : wp_J2_isEmpty G.2 M a0 Q) : m_K G l yJ2_isEmpty cJ2_isEmpty 1 (some .boolean) 0 0 [vR (some a0)] M (va_Qi (m_q1 M Q) (m_W G) (m_A G)) := by
  refine m_met (by decide) (Nat.le_of_ble_eq_true rfl) (fun C e X => ?_)
  exact bk_J2_isEmpty_0 G C _ _ M Q X M a0 hw
theorem nh_J2_isEmpty : m_nMH yJ2_isEmpty 0 := by decide +kernel

def wp_J2_elementData (g : Nat → Nat) (M : Mem) (a0 : Nat) (x1 : Int32) (Q : Option Nat → Mem → Prop) : Prop := m_tg M a0 = 14 ∧ ∃ u2 : Nat, (m_gr M a0 1) = some u2 ∧ m_tg M u2 = 103 ∧ vp_in x1 (m_ln M u2) ∧ ∀ r6 : Option Nat, r6 = (m_gr M u2 (Int32.toNatClampNeg x1)) → Q r6 M
theorem bk_J2_elementData_0 (G : Gp) (C : m_Cx) (n0 s0 : Nat) (M0 : Mem) (Q : Option Nat → Mem → Prop) (X : m_in G C RJ2 cJ2_elementData 2 (some (.object "java/lang/Object")) "elementData" 0 0 n0 s0) (M : Mem) (a0 : Nat) (x1 : Int32) (hw : wp_J2_elementData G.2 M a0 x1 Q) : pW G C 2 n0 s0 M0 (m_Q G C n0 s0 (va_Qq (m_q1 M0 Q) (m_W G) (m_A G))) M 0 [(0, vR (some a0)), (1, vI x1)] [] := by
  refine pw_aload_n X dJ2_elementData_0 rfl rfl ?_
  obtain ⟨ht1, hw⟩ := hw
  obtain ⟨u2, he3, hw⟩ := hw
  refine pw_get X (q := (RJ2, TJ2, tyJ2, 3)) (ci := 13) (k := 1) (ref := "java/util/ArrayList") (vR (some u2)) ht1 rfl (by decide) in_J2 q149 (Or.inl rfl) (by rw [he3]; rfl) dJ2_elementData_1 ?_
  refine pw_iload_n X dJ2_elementData_4 rfl rfl ?_
  obtain ⟨ht4, hw⟩ := hw
  obtain ⟨hi5, hw⟩ := hw
  obtain ⟨r6, hr7⟩ : ∃ z : Option Nat, z = (m_gr M u2 (Int32.toNatClampNeg x1)) := ⟨_, rfl⟩
  replace hw := hw r6 hr7
  refine pw_aald X (Or.inl ht4) hi5 dJ2_elementData_5 ?_
  rw [← hr7]
  exact pw_aret X (Or.inl ⟨_, rfl⟩) hw dJ2_elementData_6
theorem met_J2_elementData (G : Gp) (l : Launch) (M : Mem) (a0 : Nat) (x1 : Int32) (Q : Option Nat → Mem → Prop) (hw : wp_J2_elementData G.2 M a0 x1 Q) : m_K G l yJ2_elementData cJ2_elementData 2 (some (.object "java/lang/Object")) 0 0 [vR (some a0), vI x1] M (va_Qq (m_q1 M Q) (m_W G) (m_A G)) := by
  refine m_met (by decide) (Nat.le_of_ble_eq_true rfl) (fun C e X => ?_)
  exact bk_J2_elementData_0 G C _ _ M Q X M a0 x1 hw
theorem nh_J2_elementData : m_nMH yJ2_elementData 1 := by decide +kernel

def wp_J2_get (g : Nat → Nat) (M : Mem) (a0 : Nat) (x1 : Int32) (Q : Option Nat → Mem → Prop) : Prop := m_tg M a0 = 14 ∧ wp_J22_checkIndex g M x1 (m_gi M a0 2) (fun (r4 : Int32) (M2 : Mem) => m_le M M2 → wp_J2_elementData g M2 a0 x1 (fun (r8 : Option Nat) (M6 : Mem) => m_le M2 M6 → Q r8 M6))
theorem bk_J2_get_0 (G : Gp) (C : m_Cx) (n0 s0 : Nat) (M0 : Mem) (Q : Option Nat → Mem → Prop) (X : m_in G C RJ2 cJ2_get 2 (some (.object "java/lang/Object")) "get" 2 43 n0 s0) (M : Mem) (a0 : Nat) (x1 : Int32) (hw : wp_J2_get G.2 M a0 x1 Q) : pW G C 2 n0 s0 M0 (m_Q G C n0 s0 (va_Qq (m_q1 M0 Q) (m_W G) (m_A G))) M 0 [(0, vR (some a0)), (1, vI x1)] [] := by
  refine pw_iload_n X dJ2_get_0 rfl rfl ?_
  refine pw_aload_n X dJ2_get_1 rfl rfl ?_
  obtain ⟨ht1, hw⟩ := hw
  refine pw_get X (q := (RJ2, TJ2, tyJ2, 3)) (ci := 13) (k := 2) (ref := "java/util/ArrayList") (vI (m_gi M a0 2)) ht1 rfl (by decide) in_J2 q150 (Or.inl rfl) rfl dJ2_get_2 ?_
  refine pw_runi X (m_cS X (met_J22_checkIndex G C.2.1 M x1 (m_gi M a0 2) _ hw) (lw_S q1008 q1009 q108 q1010) nh_J22_checkIndex ⟨Nat.le_of_ble_eq_true rfl, Nat.le_of_ble_eq_true rfl⟩ rfl (Nat.le_of_ble_eq_true rfl) dJ2_get_5) (fun r4 M2 hle3 hx => ?_)
  replace hw := hx hle3
  clear hx
  have ht5 : m_tg M2 a0 = 14 := m_le_tg hle3 ht1
  refine pw_pop X dJ2_get_8 ?_
  refine pw_aload_n X dJ2_get_9 rfl rfl ?_
  refine pw_iload_n X dJ2_get_10 rfl rfl ?_
  refine pw_runq X (m_cV X (b := a0) (ci := 13) (q := (RJ2, TJ2, tyJ2, 3)) (met_J2_elementData G C.2.1 M2 a0 x1 _ hw) ht5 rfl (lw_V q1036 q1037 q1038 q82 q1039) ⟨rfl, nh_J2_elementData⟩ ⟨Nat.le_of_ble_eq_true rfl, Nat.le_of_ble_eq_true rfl⟩ rfl (Nat.le_of_ble_eq_true rfl) dJ2_get_11) (fun r8 M6 hle7 hx => ?_)
  replace hw := hx hle7
  clear hx
  have ht9 : m_tg M6 a0 = 14 := m_le_tg hle7 ht5
  exact pw_aret X (Or.inl ⟨_, rfl⟩) hw dJ2_get_14
theorem met_J2_get (G : Gp) (l : Launch) (M : Mem) (a0 : Nat) (x1 : Int32) (Q : Option Nat → Mem → Prop) (hw : wp_J2_get G.2 M a0 x1 Q) : m_K G l yJ2_get cJ2_get 2 (some (.object "java/lang/Object")) 2 43 [vR (some a0), vI x1] M (va_Qq (m_q1 M Q) (m_W G) (m_A G)) := by
  refine m_met (by decide) (Nat.le_of_ble_eq_true rfl) (fun C e X => ?_)
  exact bk_J2_get_0 G C _ _ M Q X M a0 x1 hw
theorem nh_J2_get : m_nMH yJ2_get 1 := by decide +kernel

def wp_J2_set (g : Nat → Nat) (M : Mem) (a0 : Nat) (x1 : Int32) (r2 : Option Nat) (Q : Option Nat → Mem → Prop) : Prop := m_tg M a0 = 14 ∧ wp_J22_checkIndex g M x1 (m_gi M a0 2) (fun (r4 : Int32) (M2 : Mem) => m_le M M2 → wp_J2_elementData g M2 a0 x1 (fun (r8 : Option Nat) (M6 : Mem) => m_le M2 M6 → ∃ u10 : Nat, (m_gr M6 a0 1) = some u10 ∧ m_tg M6 u10 = 103 ∧ vp_in x1 (m_ln M6 u10) ∧ (∀ y : Nat, r2 = some y → m_asg M6 y "java/lang/Object") ∧ ∀ M14 : Mem, M14 = (m_pr M6 u10 (Int32.toNatClampNeg x1) r2) → Q r8 M14))
theorem bk_J2_set_0 (G : Gp) (C : m_Cx) (n0 s0 : Nat) (M0 : Mem) (Q : Option Nat → Mem → Prop) (X : m_in G C RJ2 cJ2_set 4 (some (.object "java/lang/Object")) "set" 2 43 n0 s0) (M : Mem) (a0 : Nat) (x1 : Int32) (r2 : Option Nat) (hw : wp_J2_set G.2 M a0 x1 r2 Q) : pW G C 4 n0 s0 M0 (m_Q G C n0 s0 (va_Qq (m_q1 M0 Q) (m_W G) (m_A G))) M 0 [(0, vR (some a0)), (1, vI x1), (2, vR r2)] [] := by
  refine pw_iload_n X dJ2_set_0 rfl rfl ?_
  refine pw_aload_n X dJ2_set_1 rfl rfl ?_
  obtain ⟨ht1, hw⟩ := hw
  refine pw_get X (q := (RJ2, TJ2, tyJ2, 3)) (ci := 13) (k := 2) (ref := "java/util/ArrayList") (vI (m_gi M a0 2)) ht1 rfl (by decide) in_J2 q150 (Or.inl rfl) rfl dJ2_set_2 ?_
  refine pw_runi X (m_cS X (met_J22_checkIndex G C.2.1 M x1 (m_gi M a0 2) _ hw) (lw_S q1008 q1009 q108 q1010) nh_J22_checkIndex ⟨Nat.le_of_ble_eq_true rfl, Nat.le_of_ble_eq_true rfl⟩ rfl (Nat.le_of_ble_eq_true rfl) dJ2_set_5) (fun r4 M2 hle3 hx => ?_)
  replace hw := hx hle3
  clear hx
  have ht5 : m_tg M2 a0 = 14 := m_le_tg hle3 ht1
  refine pw_pop X dJ2_set_8 ?_
  refine pw_aload_n X dJ2_set_9 rfl rfl ?_
  refine pw_iload_n X dJ2_set_10 rfl rfl ?_
  refine pw_runq X (m_cV X (b := a0) (ci := 13) (q := (RJ2, TJ2, tyJ2, 3)) (met_J2_elementData G C.2.1 M2 a0 x1 _ hw) ht5 rfl (lw_V q1036 q1037 q1038 q82 q1039) ⟨rfl, nh_J2_elementData⟩ ⟨Nat.le_of_ble_eq_true rfl, Nat.le_of_ble_eq_true rfl⟩ rfl (Nat.le_of_ble_eq_true rfl) dJ2_set_11) (fun r8 M6 hle7 hx => ?_)
  replace hw := hx hle7
  clear hx
  have ht9 : m_tg M6 a0 = 14 := m_le_tg hle7 ht5
  refine pw_astore_n X [(0, vR (some a0)), (1, vI x1), (2, vR r2), (3, vR r8)] [1, 2, 3, 0] dJ2_set_14 rfl (by decide) rfl ?_
  refine pw_aload_n X dJ2_set_15 rfl rfl ?_
  obtain ⟨u10, he11, hw⟩ := hw
  refine pw_get X (q := (RJ2, TJ2, tyJ2, 3)) (ci := 13) (k := 1) (ref := "java/util/ArrayList") (vR (some u10)) ht9 rfl (by decide) in_J2 q149 (Or.inl rfl) (by rw [he11]; rfl) dJ2_set_16 ?_
  refine pw_iload_n X dJ2_set_19 rfl rfl ?_
  refine pw_aload_n X dJ2_set_20 rfl rfl ?_
  obtain ⟨ht12, hw⟩ := hw
  obtain ⟨hi13, hw⟩ := hw
  obtain ⟨hg17, hw⟩ := hw
  obtain ⟨M14, hM15⟩ : ∃ z : Mem, z = (m_pr M6 u10 (Int32.toNatClampNeg x1) r2) := ⟨_, rfl⟩
  replace hw := hw M14 hM15
  have hle16 : m_le M6 M14 := by rw [hM15]; exact m_le_pr
  refine pw_aast X (E := "java/lang/Object") 2 (by decide) rfl ht12 hi13 hg17 dJ2_set_21 ?_
  rw [← hM15]
  have ht18 : m_tg M14 a0 = 14 := m_le_tg hle16 ht9
  have ht19 : m_tg M14 u10 = 103 := m_le_tg hle16 ht12
  refine pw_aload_n X dJ2_set_22 rfl rfl ?_
  exact pw_aret X (Or.inl ⟨_, rfl⟩) hw dJ2_set_23
theorem met_J2_set (G : Gp) (l : Launch) (M : Mem) (a0 : Nat) (x1 : Int32) (r2 : Option Nat) (Q : Option Nat → Mem → Prop) (hw : wp_J2_set G.2 M a0 x1 r2 Q) : m_K G l yJ2_set cJ2_set 4 (some (.object "java/lang/Object")) 2 43 [vR (some a0), vI x1, vR r2] M (va_Qq (m_q1 M Q) (m_W G) (m_A G)) := by
  refine m_met (by decide) (Nat.le_of_ble_eq_true rfl) (fun C e X => ?_)
  exact bk_J2_set_0 G C _ _ M Q X M a0 x1 r2 hw
theorem nh_J2_set : m_nMH yJ2_set 2 := by decide +kernel

def wp_J2_grow_2_b20 (g : Nat → Nat) (M : Mem) (la0 : Nat) (lx1 : Int32) (lx2 : Int32) (Q : Option Nat → Mem → Prop) : Prop := wp_J14_newLength g M lx2 (lx1 - lx2) ((lx2 : Int32) >>> ((1 : Int32) &&& 31)) (fun (r3 : Int32) (M1 : Mem) => m_le M M1 → m_tg M1 la0 = 14 ∧ ∃ u5 : Nat, (m_gr M1 la0 1) = some u5 ∧ wp_J21_copyOf g M1 u5 r3 (fun (r9 : Option Nat) (M7 : Mem) => m_le M1 M7 → ∀ M11 : Mem, M11 = (m_pr M7 la0 1 r9) → Q r9 M11))
def wp_J2_grow_2 (g : Nat → Nat) (M : Mem) (a0 : Nat) (x1 : Int32) (Q : Option Nat → Mem → Prop) : Prop := m_tg M a0 = 14 ∧ ∃ u2 : Nat, (m_gr M a0 1) = some u2 ∧ m_isA M u2 ∧ ((0 < (nI (m_ln M u2)) → wp_J2_grow_2_b20 g M a0 x1 (nI (m_ln M u2)) Q) ∧ (¬ 0 < (nI (m_ln M u2)) → ∃ u6 : Nat, (m_gr M a0 1) = some u6 ∧ (m_tg M (g 1) = 160 → m_ln M (g 1) = 0 → (((some u6) = (some (g 1)) → ¬ ((if 10 < x1 then x1 else 10) : Int32) < 0 ∧ m_fits M (Int32.toNatClampNeg (if 10 < x1 then x1 else 10)) ∧ ∀ u13 : Nat, m_tg M u13 = 0 → ∀ M15 : Mem, M15 = (m_al M u13 103 (Int32.toNatClampNeg (if 10 < x1 then x1 else 10)) (Int32.toNatClampNeg (if 10 < x1 then x1 else 10))) → ∀ M20 : Mem, M20 = (m_pr M15 a0 1 (some u13)) → Q (some u13) M20) ∧ (¬ (some u6) = (some (g 1)) → wp_J2_grow_2_b20 g M a0 x1 (nI (m_ln M u2)) Q)))))
theorem bk_J2_grow_2_20 (G : Gp) (C : m_Cx) (n0 s0 : Nat) (M0 : Mem) (Q : Option Nat → Mem → Prop) (X : m_in G C RJ2 cJ2_grow_2 4 (some (.array (.object "java/lang/Object"))) "grow" 3 74 n0 s0) (M : Mem) (la0 : Nat) (lx1 : Int32) (lx2 : Int32) (hw : wp_J2_grow_2_b20 G.2 M la0 lx1 lx2 Q) : pW G C 4 n0 s0 M0 (m_Q G C n0 s0 (va_Qq (m_q1 M0 Q) (m_W G) (m_A G))) M 20 [(0, vR (some la0)), (1, vI lx1), (2, vI lx2)] [] := by
  refine pw_iload_n X dJ2_grow_2_20 rfl rfl ?_
  refine pw_iload_n X dJ2_grow_2_21 rfl rfl ?_
  refine pw_iload_n X dJ2_grow_2_22 rfl rfl ?_
  refine pw_isub X dJ2_grow_2_23 ?_
  refine pw_iload_n X dJ2_grow_2_24 rfl rfl ?_
  refine pw_iconst X 1 dJ2_grow_2_25 (by decide) ?_
  refine pw_ishr X dJ2_grow_2_26 ?_
  refine pw_runi X (m_cS X (met_J14_newLength G C.2.1 M lx2 (lx1 - lx2) ((lx2 : Int32) >>> ((1 : Int32) &&& 31)) _ hw) (lw_S q905 q906 q96 q907) nh_J14_newLength ⟨Nat.le_of_ble_eq_true rfl, Nat.le_of_ble_eq_true rfl⟩ rfl (Nat.le_of_ble_eq_true rfl) dJ2_grow_2_27) (fun r3 M1 hle2 hx => ?_)
  replace hw := hx hle2
  clear hx
  refine pw_istore_n X [(0, vR (some la0)), (3, vI r3)] [1, 0] dJ2_grow_2_30 rfl (by decide) rfl ?_
  refine pw_aload_n X dJ2_grow_2_31 rfl rfl ?_
  refine pw_aload_n X dJ2_grow_2_32 rfl rfl ?_
  obtain ⟨ht4, hw⟩ := hw
  obtain ⟨u5, he6, hw⟩ := hw
  refine pw_get X (q := (RJ2, TJ2, tyJ2, 3)) (ci := 13) (k := 1) (ref := "java/util/ArrayList") (vR (some u5)) ht4 rfl (by decide) in_J2 q149 (Or.inl rfl) (by rw [he6]; rfl) dJ2_grow_2_33 ?_
  refine pw_iload_n X dJ2_grow_2_36 rfl rfl ?_
  refine pw_runq X (m_cS X (met_J21_copyOf G C.2.1 M1 u5 r3 _ hw) (lw_S q913 q914 q105 q915) nh_J21_copyOf ⟨Nat.le_of_ble_eq_true rfl, Nat.le_of_ble_eq_true rfl⟩ rfl (Nat.le_of_ble_eq_true rfl) dJ2_grow_2_37) (fun r9 M7 hle8 hx => ?_)
  replace hw := hx hle8
  clear hx
  have ht10 : m_tg M7 la0 = 14 := m_le_tg hle8 ht4
  refine pw_dup_x1 X dJ2_grow_2_40 ?_
  obtain ⟨M11, hM12⟩ : ∃ z : Mem, z = (m_pr M7 la0 1 r9) := ⟨_, rfl⟩
  replace hw := hw M11 hM12
  refine pw_put X (q := (RJ2, TJ2, tyJ2, 3)) (ci := 13) (k := 1) (ref := "java/util/ArrayList") M11 hM12.symm ht10 rfl (by decide) in_J2 tyJ2_ok nmJ2 q149 (Or.inl rfl) rfl (m_kd_r (fun _ _ => rfl)) m_na m_fa dJ2_grow_2_41 ?_
  have hle13 : m_le M7 M11 := by rw [hM12]; exact m_le_pr
  have ht14 : m_tg M11 la0 = 14 := m_le_tg hle13 ht10
  exact pw_aret X (Or.inr ⟨_, rfl⟩) hw dJ2_grow_2_44
theorem bk_J2_grow_2_0 (G : Gp) (C : m_Cx) (n0 s0 : Nat) (M0 : Mem) (Q : Option Nat → Mem → Prop) (X : m_in G C RJ2 cJ2_grow_2 4 (some (.array (.object "java/lang/Object"))) "grow" 3 74 n0 s0) (M : Mem) (a0 : Nat) (x1 : Int32) (hw : wp_J2_grow_2 G.2 M a0 x1 Q) : pW G C 4 n0 s0 M0 (m_Q G C n0 s0 (va_Qq (m_q1 M0 Q) (m_W G) (m_A G))) M 0 [(0, vR (some a0)), (1, vI x1)] [] := by
  refine pw_aload_n X dJ2_grow_2_0 rfl rfl ?_
  obtain ⟨ht1, hw⟩ := hw
  obtain ⟨u2, he3, hw⟩ := hw
  refine pw_get X (q := (RJ2, TJ2, tyJ2, 3)) (ci := 13) (k := 1) (ref := "java/util/ArrayList") (vR (some u2)) ht1 rfl (by decide) in_J2 q149 (Or.inl rfl) (by rw [he3]; rfl) dJ2_grow_2_1 ?_
  obtain ⟨hA4, hw⟩ := hw
  refine pw_alen X hA4 dJ2_grow_2_4 ?_
  refine pw_istore_n X [(0, vR (some a0)), (1, vI x1), (2, vI (nI (m_ln M u2)))] [1, 2, 0] dJ2_grow_2_5 rfl (by decide) rfl ?_
  refine pw_iload_n X dJ2_grow_2_6 rfl rfl ?_
  refine pw_if_gt X 20 dJ2_grow_2_7 (by decide) (fun c5 => ?_) (fun c5 => ?_)
  · replace hw := hw.1 c5
    exact bk_J2_grow_2_20 G C n0 s0 M0 Q X _ a0 x1 (nI (m_ln M u2)) hw
  · replace hw := hw.2 c5
    refine pw_aload_n X dJ2_grow_2_10 rfl rfl ?_
    obtain ⟨u6, he7, hw⟩ := hw
    refine pw_get X (q := (RJ2, TJ2, tyJ2, 3)) (ci := 13) (k := 1) (ref := "java/util/ArrayList") (vR (some u6)) ht1 rfl (by decide) in_J2 q149 (Or.inl rfl) (by rw [he7]; rfl) dJ2_grow_2_11 ?_
    refine pw_getE0 X q147 (Or.inl rfl) dJ2_grow_2_14 (fun h18 h29 => ?_)
    replace hw := hw h18 h29
    refine pw_acmp_eq X 45 dJ2_grow_2_17 (by decide) (fun c10 => ?_) (fun c10 => ?_)
    · replace hw := hw.1 c10
      refine pw_aload_n X dJ2_grow_2_45 rfl rfl ?_
      refine pw_bipush X 10 dJ2_grow_2_46 (by decide) ?_
      refine pw_iload_n X dJ2_grow_2_48 rfl rfl ?_
      refine pw_mmax X q927 q298 q92 q299 (Nat.le_of_ble_eq_true rfl) (Nat.le_of_ble_eq_true rfl) dJ2_grow_2_49 ?_
      obtain ⟨hn12, hf11, hw⟩ := hw
      refine pw_newq X 2 (E := "java/lang/Object") (by decide) hf11 hn12 rfl q928 q921 dJ2_grow_2_52 (fun u13 h014 => ?_)
      obtain ⟨M15, hM16⟩ : ∃ z : Mem, z = (m_al M u13 103 (Int32.toNatClampNeg (if 10 < x1 then x1 else 10)) (Int32.toNatClampNeg (if 10 < x1 then x1 else 10))) := ⟨_, rfl⟩
      replace hw := hw u13 h014 M15 hM16
      have hle17 : m_le M M15 := by rw [hM16]; exact m_le_al h014
      change pW _ _ _ _ _ _ _ (m_al M u13 103 (Int32.toNatClampNeg (if 10 < x1 then x1 else 10)) (Int32.toNatClampNeg (if 10 < x1 then x1 else 10))) _ _ _
      rw [← hM16]
      have ht18 : m_tg M15 a0 = 14 := m_le_tg hle17 ht1
      have ht19 : m_tg M15 u13 = 103 := by rw [hM16, m_tg_al, if_pos rfl]
      refine pw_dup_x1 X dJ2_grow_2_55 ?_
      obtain ⟨M20, hM21⟩ : ∃ z : Mem, z = (m_pr M15 a0 1 (some u13)) := ⟨_, rfl⟩
      replace hw := hw M20 hM21
      refine pw_put X (q := (RJ2, TJ2, tyJ2, 3)) (ci := 13) (k := 1) (ref := "java/util/ArrayList") M20 hM21.symm ht18 rfl (by decide) in_J2 tyJ2_ok nmJ2 q149 (Or.inl rfl) rfl (m_kd_r (fun _ _ => rfl)) m_na m_fa dJ2_grow_2_56 ?_
      have hle22 : m_le M15 M20 := by rw [hM21]; exact m_le_pr
      have ht23 : m_tg M20 a0 = 14 := m_le_tg hle22 ht18
      have ht24 : m_tg M20 u13 = 103 := m_le_tg hle22 ht19
      exact pw_aret X (Or.inr ⟨_, rfl⟩) hw dJ2_grow_2_59
    · replace hw := hw.2 c10
      exact bk_J2_grow_2_20 G C n0 s0 M0 Q X _ a0 x1 (nI (m_ln M u2)) hw
theorem met_J2_grow_2 (G : Gp) (l : Launch) (M : Mem) (a0 : Nat) (x1 : Int32) (Q : Option Nat → Mem → Prop) (hw : wp_J2_grow_2 G.2 M a0 x1 Q) : m_K G l yJ2_grow_2 cJ2_grow_2 4 (some (.array (.object "java/lang/Object"))) 3 74 [vR (some a0), vI x1] M (va_Qq (m_q1 M Q) (m_W G) (m_A G)) := by
  refine m_met (by decide) (Nat.le_of_ble_eq_true rfl) (fun C e X => ?_)
  exact bk_J2_grow_2_0 G C _ _ M Q X M a0 x1 hw
theorem nh_J2_grow_2 : m_nMH yJ2_grow_2 1 := by decide +kernel

def wp_J2_grow (g : Nat → Nat) (M : Mem) (a0 : Nat) (Q : Option Nat → Mem → Prop) : Prop := m_tg M a0 = 14 ∧ wp_J2_grow_2 g M a0 ((m_gi M a0 2) + 1) (fun (r4 : Option Nat) (M2 : Mem) => m_le M M2 → Q r4 M2)
theorem bk_J2_grow_0 (G : Gp) (C : m_Cx) (n0 s0 : Nat) (M0 : Mem) (Q : Option Nat → Mem → Prop) (X : m_in G C RJ2 cJ2_grow 1 (some (.array (.object "java/lang/Object"))) "grow" 4 97 n0 s0) (M : Mem) (a0 : Nat) (hw : wp_J2_grow G.2 M a0 Q) : pW G C 1 n0 s0 M0 (m_Q G C n0 s0 (va_Qq (m_q1 M0 Q) (m_W G) (m_A G))) M 0 [(0, vR (some a0))] [] := by
  refine pw_aload_n X dJ2_grow_0 rfl rfl ?_
  refine pw_aload_n X dJ2_grow_1 rfl rfl ?_
  obtain ⟨ht1, hw⟩ := hw
  refine pw_get X (q := (RJ2, TJ2, tyJ2, 3)) (ci := 13) (k := 2) (ref := "java/util/ArrayList") (vI (m_gi M a0 2)) ht1 rfl (by decide) in_J2 q150 (Or.inl rfl) rfl dJ2_grow_2 ?_
  refine pw_iconst X 1 dJ2_grow_5 (by decide) ?_
  refine pw_iadd X dJ2_grow_6 ?_
  refine pw_runq X (m_cV X (b := a0) (ci := 13) (q := (RJ2, TJ2, tyJ2, 3)) (met_J2_grow_2 G C.2.1 M a0 ((m_gi M a0 2) + 1) _ hw) ht1 rfl (lw_V q901 q903 qs6 q82 q904) ⟨rfl, nh_J2_grow_2⟩ ⟨Nat.le_of_ble_eq_true rfl, Nat.le_of_ble_eq_true rfl⟩ rfl (Nat.le_of_ble_eq_true rfl) dJ2_grow_7) (fun r4 M2 hle3 hx => ?_)
  replace hw := hx hle3
  clear hx
  have ht5 : m_tg M2 a0 = 14 := m_le_tg hle3 ht1
  exact pw_aret X (Or.inr ⟨_, rfl⟩) hw dJ2_grow_10
theorem met_J2_grow (G : Gp) (l : Launch) (M : Mem) (a0 : Nat) (Q : Option Nat → Mem → Prop) (hw : wp_J2_grow G.2 M a0 Q) : m_K G l yJ2_grow cJ2_grow 1 (some (.array (.object "java/lang/Object"))) 4 97 [vR (some a0)] M (va_Qq (m_q1 M Q) (m_W G) (m_A G)) := by
  refine m_met (by decide) (Nat.le_of_ble_eq_true rfl) (fun C e X => ?_)
  exact bk_J2_grow_0 G C _ _ M Q X M a0 hw
theorem nh_J2_grow : m_nMH yJ2_grow 0 := by decide +kernel

def wp_J2_add_2_b11 (g : Nat → Nat) (M : Mem) (la0 : Nat) (lr1 : Option Nat) (lr2 : Option Nat) (lx3 : Int32) (Q : Mem → Prop) : Prop := ∃ u1 : Nat, lr2 = some u1 ∧ m_tg M u1 = 103 ∧ vp_in lx3 (m_ln M u1) ∧ (∀ y : Nat, lr1 = some y → m_asg M y "java/lang/Object") ∧ ∀ M5 : Mem, M5 = (m_pr M u1 (Int32.toNatClampNeg lx3) lr1) → m_tg M5 la0 = 14 ∧ ∀ M11 : Mem, M11 = (m_pi M5 la0 2 (lx3 + 1)) → Q M11
def wp_J2_add_2 (g : Nat → Nat) (M : Mem) (a0 : Nat) (r1 : Option Nat) (a2 : Nat) (x3 : Int32) (Q : Mem → Prop) : Prop := m_isA M a2 ∧ ((¬ x3 = (nI (m_ln M a2)) → wp_J2_add_2_b11 g M a0 r1 (some a2) x3 Q) ∧ (x3 = (nI (m_ln M a2)) → m_tg M a0 = 14 ∧ wp_J2_grow g M a0 (fun (r6 : Option Nat) (M4 : Mem) => m_le M M4 → wp_J2_add_2_b11 g M4 a0 r1 r6 x3 Q)))
theorem bk_J2_add_2_11 (G : Gp) (C : m_Cx) (n0 s0 : Nat) (M0 : Mem) (Q : Mem → Prop) (X : m_in G C RJ2 cJ2_add_2 4 none "add" 5 117 n0 s0) (M : Mem) (la0 : Nat) (lr1 : Option Nat) (lr2 : Option Nat) (lx3 : Int32) (hw : wp_J2_add_2_b11 G.2 M la0 lr1 lr2 lx3 Q) : pW G C 4 n0 s0 M0 (m_Q G C n0 s0 (va_Qv (m_q0 M0 Q) (m_W G) (m_A G))) M 11 [(0, vR (some la0)), (1, vR lr1), (2, vR lr2), (3, vI lx3)] [] := by
  refine pw_aload_n X dJ2_add_2_11 rfl rfl ?_
  refine pw_iload_n X dJ2_add_2_12 rfl rfl ?_
  refine pw_aload_n X dJ2_add_2_13 rfl rfl ?_
  obtain ⟨u1, he2, hw⟩ := hw
  subst he2
  obtain ⟨ht3, hw⟩ := hw
  obtain ⟨hi4, hw⟩ := hw
  obtain ⟨hg8, hw⟩ := hw
  obtain ⟨M5, hM6⟩ : ∃ z : Mem, z = (m_pr M u1 (Int32.toNatClampNeg lx3) lr1) := ⟨_, rfl⟩
  replace hw := hw M5 hM6
  have hle7 : m_le M M5 := by rw [hM6]; exact m_le_pr
  refine pw_aast X (E := "java/lang/Object") 2 (by decide) rfl ht3 hi4 hg8 dJ2_add_2_14 ?_
  rw [← hM6]
  have ht9 : m_tg M5 u1 = 103 := m_le_tg hle7 ht3
  refine pw_aload_n X dJ2_add_2_15 rfl rfl ?_
  refine pw_iload_n X dJ2_add_2_16 rfl rfl ?_
  refine pw_iconst X 1 dJ2_add_2_17 (by decide) ?_
  refine pw_iadd X dJ2_add_2_18 ?_
  obtain ⟨ht10, hw⟩ := hw
  obtain ⟨M11, hM12⟩ : ∃ z : Mem, z = (m_pi M5 la0 2 (lx3 + 1)) := ⟨_, rfl⟩
  replace hw := hw M11 hM12
  refine pw_put X (q := (RJ2, TJ2, tyJ2, 3)) (ci := 13) (k := 2) (ref := "java/util/ArrayList") M11 hM12.symm ht10 rfl (by decide) in_J2 tyJ2_ok nmJ2 q150 (Or.inl rfl) rfl (m_kd_i (fun _ _ => rfl)) rfl rfl dJ2_add_2_19 ?_
  have hle13 : m_le M5 M11 := by rw [hM12]; exact m_le_pi
  have ht14 : m_tg M11 u1 = 103 := m_le_tg hle13 ht9
  have ht15 : m_tg M11 la0 = 14 := m_le_tg hle13 ht10
  exact pw_vret X hw dJ2_add_2_22
theorem bk_J2_add_2_0 (G : Gp) (C : m_Cx) (n0 s0 : Nat) (M0 : Mem) (Q : Mem → Prop) (X : m_in G C RJ2 cJ2_add_2 4 none "add" 5 117 n0 s0) (M : Mem) (a0 : Nat) (r1 : Option Nat) (a2 : Nat) (x3 : Int32) (hw : wp_J2_add_2 G.2 M a0 r1 a2 x3 Q) : pW G C 4 n0 s0 M0 (m_Q G C n0 s0 (va_Qv (m_q0 M0 Q) (m_W G) (m_A G))) M 0 [(0, vR (some a0)), (1, vR r1), (2, vR (some a2)), (3, vI x3)] [] := by
  refine pw_iload_n X dJ2_add_2_0 rfl rfl ?_
  refine pw_aload_n X dJ2_add_2_1 rfl rfl ?_
  obtain ⟨hA1, hw⟩ := hw
  refine pw_alen X hA1 dJ2_add_2_2 ?_
  refine pw_icmp_ne X 11 dJ2_add_2_3 (by decide) (fun c2 => ?_) (fun c2 => ?_)
  · replace hw := hw.1 c2
    exact bk_J2_add_2_11 G C n0 s0 M0 Q X _ a0 r1 (some a2) x3 hw
  · replace hw := hw.2 c2
    refine pw_aload_n X dJ2_add_2_6 rfl rfl ?_
    obtain ⟨ht3, hw⟩ := hw
    refine pw_runq X (m_cV X (b := a0) (ci := 13) (q := (RJ2, TJ2, tyJ2, 3)) (met_J2_grow G C.2.1 M a0 _ hw) ht3 rfl (lw_V q897 q899 qs5 q82 q900) ⟨rfl, nh_J2_grow⟩ ⟨Nat.le_of_ble_eq_true rfl, Nat.le_of_ble_eq_true rfl⟩ rfl (Nat.le_of_ble_eq_true rfl) dJ2_add_2_7) (fun r6 M4 hle5 hx => ?_)
    replace hw := hx hle5
    clear hx
    have ht7 : m_tg M4 a0 = 14 := m_le_tg hle5 ht3
    refine pw_astore_n X [(0, vR (some a0)), (1, vR r1), (2, vR r6), (3, vI x3)] [1, 2, 0, 3] dJ2_add_2_10 rfl (by decide) rfl ?_
    exact bk_J2_add_2_11 G C n0 s0 M0 Q X _ a0 r1 r6 x3 hw
theorem met_J2_add_2 (G : Gp) (l : Launch) (M : Mem) (a0 : Nat) (r1 : Option Nat) (a2 : Nat) (x3 : Int32) (Q : Mem → Prop) (hw : wp_J2_add_2 G.2 M a0 r1 a2 x3 Q) : m_K G l yJ2_add_2 cJ2_add_2 4 none 5 117 [vR (some a0), vR r1, vR (some a2), vI x3] M (va_Qv (m_q0 M Q) (m_W G) (m_A G)) := by
  refine m_met (by decide) (Nat.le_of_ble_eq_true rfl) (fun C e X => ?_)
  exact bk_J2_add_2_0 G C _ _ M Q X M a0 r1 a2 x3 hw
theorem nh_J2_add_2 : m_nMH yJ2_add_2 3 := by decide +kernel

def wp_J2_add (g : Nat → Nat) (M : Mem) (a0 : Nat) (r1 : Option Nat) (Q : Int32 → Mem → Prop) : Prop := m_tg M a0 = 14 ∧ ∀ M2 : Mem, M2 = (m_pi M a0 0 ((m_gi M a0 0) + 1)) → ∃ u6 : Nat, (m_gr M2 a0 1) = some u6 ∧ wp_J2_add_2 g M2 a0 r1 u6 (m_gi M2 a0 2) (fun (M8 : Mem) => m_le M2 M8 → Q 1 M8)
theorem bk_J2_add_0 (G : Gp) (C : m_Cx) (n0 s0 : Nat) (M0 : Mem) (Q : Int32 → Mem → Prop) (X : m_in G C RJ2 cJ2_add 2 (some .boolean) "add" 6 140 n0 s0) (M : Mem) (a0 : Nat) (r1 : Option Nat) (hw : wp_J2_add G.2 M a0 r1 Q) : pW G C 2 n0 s0 M0 (m_Q G C n0 s0 (va_Qi (m_q1 M0 Q) (m_W G) (m_A G))) M 0 [(0, vR (some a0)), (1, vR r1)] [] := by
  refine pw_aload_n X dJ2_add_0 rfl rfl ?_
  refine pw_dup X dJ2_add_1 ?_
  obtain ⟨ht1, hw⟩ := hw
  refine pw_get X (q := (RJ2, TJ2, tyJ2, 3)) (ci := 13) (k := 0) (ref := "java/util/ArrayList") (vI (m_gi M a0 0)) ht1 rfl (by decide) in_J2 q152 (Or.inr q153) rfl dJ2_add_2 ?_
  refine pw_iconst X 1 dJ2_add_5 (by decide) ?_
  refine pw_iadd X dJ2_add_6 ?_
  obtain ⟨M2, hM3⟩ : ∃ z : Mem, z = (m_pi M a0 0 ((m_gi M a0 0) + 1)) := ⟨_, rfl⟩
  replace hw := hw M2 hM3
  refine pw_put X (q := (RJ2, TJ2, tyJ2, 3)) (ci := 13) (k := 0) (ref := "java/util/ArrayList") M2 hM3.symm ht1 rfl (by decide) in_J2 tyJ2_ok nmJ2 q152 (Or.inr q153) rfl (m_kd_i (fun _ _ => rfl)) rfl rfl dJ2_add_7 ?_
  have hle4 : m_le M M2 := by rw [hM3]; exact m_le_pi
  have ht5 : m_tg M2 a0 = 14 := m_le_tg hle4 ht1
  refine pw_aload_n X dJ2_add_10 rfl rfl ?_
  refine pw_aload_n X dJ2_add_11 rfl rfl ?_
  refine pw_aload_n X dJ2_add_12 rfl rfl ?_
  obtain ⟨u6, he7, hw⟩ := hw
  refine pw_get X (q := (RJ2, TJ2, tyJ2, 3)) (ci := 13) (k := 1) (ref := "java/util/ArrayList") (vR (some u6)) ht5 rfl (by decide) in_J2 q149 (Or.inl rfl) (by rw [he7]; rfl) dJ2_add_13 ?_
  refine pw_aload_n X dJ2_add_16 rfl rfl ?_
  refine pw_get X (q := (RJ2, TJ2, tyJ2, 3)) (ci := 13) (k := 2) (ref := "java/util/ArrayList") (vI (m_gi M2 a0 2)) ht5 rfl (by decide) in_J2 q150 (Or.inl rfl) rfl dJ2_add_17 ?_
  refine pw_runv X (m_cV X (b := a0) (ci := 13) (q := (RJ2, TJ2, tyJ2, 3)) (met_J2_add_2 G C.2.1 M2 a0 r1 u6 (m_gi M2 a0 2) _ hw) ht5 rfl (lw_V q893 q895 qs4 q82 q896) ⟨rfl, nh_J2_add_2⟩ ⟨Nat.le_of_ble_eq_true rfl, Nat.le_of_ble_eq_true rfl⟩ rfl (Nat.le_of_ble_eq_true rfl) dJ2_add_20) (fun M8 hle9 hx => ?_)
  replace hw := hx hle9
  clear hx
  have ht10 : m_tg M8 a0 = 14 := m_le_tg hle9 ht5
  refine pw_iconst X 1 dJ2_add_23 (by decide) ?_
  exact pw_zret X (by decide) hw dJ2_add_24
theorem met_J2_add (G : Gp) (l : Launch) (M : Mem) (a0 : Nat) (r1 : Option Nat) (Q : Int32 → Mem → Prop) (hw : wp_J2_add G.2 M a0 r1 Q) : m_K G l yJ2_add cJ2_add 2 (some .boolean) 6 140 [vR (some a0), vR r1] M (va_Qi (m_q1 M Q) (m_W G) (m_A G)) := by
  refine m_met (by decide) (Nat.le_of_ble_eq_true rfl) (fun C e X => ?_)
  exact bk_J2_add_0 G C _ _ M Q X M a0 r1 hw
theorem nh_J2_add : m_nMH yJ2_add 1 := by decide +kernel

def wp_J2_rangeCheckForAdd (g : Nat → Nat) (M : Mem) (a0 : Nat) (x1 : Int32) (Q : Mem → Prop) : Prop := m_tg M a0 = 14 ∧ (((m_gi M a0 2) < x1 → False) ∧ (¬ (m_gi M a0 2) < x1 → ((0 ≤ x1 → Q M) ∧ (¬ 0 ≤ x1 → False))))
theorem bk_J2_rangeCheckForAdd_0 (G : Gp) (C : m_Cx) (n0 s0 : Nat) (M0 : Mem) (Q : Mem → Prop) (X : m_in G C RJ2 cJ2_rangeCheckForAdd 2 none "rangeCheckForAdd" 0 0 n0 s0) (M : Mem) (a0 : Nat) (x1 : Int32) (hw : wp_J2_rangeCheckForAdd G.2 M a0 x1 Q) : pW G C 2 n0 s0 M0 (m_Q G C n0 s0 (va_Qv (m_q0 M0 Q) (m_W G) (m_A G))) M 0 [(0, vR (some a0)), (1, vI x1)] [] := by
  refine pw_iload_n X dJ2_rangeCheckForAdd_0 rfl rfl ?_
  refine pw_aload_n X dJ2_rangeCheckForAdd_1 rfl rfl ?_
  obtain ⟨ht1, hw⟩ := hw
  refine pw_get X (q := (RJ2, TJ2, tyJ2, 3)) (ci := 13) (k := 2) (ref := "java/util/ArrayList") (vI (m_gi M a0 2)) ht1 rfl (by decide) in_J2 q150 (Or.inl rfl) rfl dJ2_rangeCheckForAdd_2 ?_
  refine pw_icmp_gt X 12 dJ2_rangeCheckForAdd_5 (by decide) (fun c2 => ?_) (fun c2 => ?_)
  · replace hw := hw.1 c2
    exact hw.elim
  · replace hw := hw.2 c2
    refine pw_iload_n X dJ2_rangeCheckForAdd_8 rfl rfl ?_
    refine pw_if_ge X 25 dJ2_rangeCheckForAdd_9 (by decide) (fun c3 => ?_) (fun c3 => ?_)
    · replace hw := hw.1 c3
      exact pw_vret X hw dJ2_rangeCheckForAdd_25
    · replace hw := hw.2 c3
      exact hw.elim
theorem met_J2_rangeCheckForAdd (G : Gp) (l : Launch) (M : Mem) (a0 : Nat) (x1 : Int32) (Q : Mem → Prop) (hw : wp_J2_rangeCheckForAdd G.2 M a0 x1 Q) : m_K G l yJ2_rangeCheckForAdd cJ2_rangeCheckForAdd 2 none 0 0 [vR (some a0), vI x1] M (va_Qv (m_q0 M Q) (m_W G) (m_A G)) := by
  refine m_met (by decide) (Nat.le_of_ble_eq_true rfl) (fun C e X => ?_)
  exact bk_J2_rangeCheckForAdd_0 G C _ _ M Q X M a0 x1 hw
theorem nh_J2_rangeCheckForAdd : m_nMH yJ2_rangeCheckForAdd 1 := by decide +kernel

def wp_J2_add_3_b38 (g : Nat → Nat) (M : Mem) (la0 : Nat) (lx1 : Int32) (lr2 : Option Nat) (lx3 : Int32) (lr4 : Option Nat) (Q : Mem → Prop) : Prop := ∃ u1 : Nat, lr4 = some u1 ∧ m_tg M u1 = 103 ∧ m_cpin M u1 u1 lx1 (lx1 + 1) (lx3 - lx1) ∧ (∀ i : Nat, i < Int32.toNatClampNeg (lx3 - lx1) → ∀ y : Nat, m_gr M u1 (Int32.toNatClampNeg lx1 + i) = some y → m_asg M y "java/lang/Object") ∧ ∀ M6 : Mem, M6 = (m_cr M u1 (Int32.toNatClampNeg lx1) u1 (Int32.toNatClampNeg (lx1 + 1)) (Int32.toNatClampNeg (lx3 - lx1))) → vp_in lx1 (m_ln M6 u1) ∧ (∀ y : Nat, lr2 = some y → m_asg M6 y "java/lang/Object") ∧ ∀ M11 : Mem, M11 = (m_pr M6 u1 (Int32.toNatClampNeg lx1) lr2) → m_tg M11 la0 = 14 ∧ ∀ M17 : Mem, M17 = (m_pi M11 la0 2 (lx3 + 1)) → Q M17
def wp_J2_add_3 (g : Nat → Nat) (M : Mem) (a0 : Nat) (x1 : Int32) (r2 : Option Nat) (Q : Mem → Prop) : Prop := m_tg M a0 = 14 ∧ wp_J2_rangeCheckForAdd g M a0 x1 (fun (M2 : Mem) => m_le M M2 → ∀ M5 : Mem, M5 = (m_pi M2 a0 0 ((m_gi M2 a0 0) + 1)) → ∃ u9 : Nat, (m_gr M5 a0 1) = some u9 ∧ m_isA M5 u9 ∧ ((¬ (m_gi M5 a0 2) = (nI (m_ln M5 u9)) → wp_J2_add_3_b38 g M5 a0 x1 r2 (m_gi M5 a0 2) (some u9) Q) ∧ ((m_gi M5 a0 2) = (nI (m_ln M5 u9)) → wp_J2_grow g M5 a0 (fun (r15 : Option Nat) (M13 : Mem) => m_le M5 M13 → wp_J2_add_3_b38 g M13 a0 x1 r2 (m_gi M5 a0 2) r15 Q))))
theorem bk_J2_add_3_38 (G : Gp) (C : m_Cx) (n0 s0 : Nat) (M0 : Mem) (Q : Mem → Prop) (X : m_in G C RJ2 cJ2_add_3 5 none "add" 5 117 n0 s0) (M : Mem) (la0 : Nat) (lx1 : Int32) (lr2 : Option Nat) (lx3 : Int32) (lr4 : Option Nat) (hw : wp_J2_add_3_b38 G.2 M la0 lx1 lr2 lx3 lr4 Q) : pW G C 5 n0 s0 M0 (m_Q G C n0 s0 (va_Qv (m_q0 M0 Q) (m_W G) (m_A G))) M 38 [(0, vR (some la0)), (1, vI lx1), (2, vR lr2), (3, vI lx3), (4, vR lr4)] [] := by
  refine pw_aload X dJ2_add_3_38 rfl ?_
  refine pw_iload_n X dJ2_add_3_40 rfl rfl ?_
  refine pw_aload X dJ2_add_3_41 rfl ?_
  refine pw_iload_n X dJ2_add_3_43 rfl rfl ?_
  refine pw_iconst X 1 dJ2_add_3_44 (by decide) ?_
  refine pw_iadd X dJ2_add_3_45 ?_
  refine pw_iload_n X dJ2_add_3_46 rfl rfl ?_
  refine pw_iload_n X dJ2_add_3_47 rfl rfl ?_
  refine pw_isub X dJ2_add_3_48 ?_
  obtain ⟨u1, he2, hw⟩ := hw
  subst he2
  obtain ⟨ht3, hw⟩ := hw
  obtain ⟨hin4, hw⟩ := hw
  obtain ⟨hg5, hw⟩ := hw
  obtain ⟨M6, hM7⟩ : ∃ z : Mem, z = (m_cr M u1 (Int32.toNatClampNeg lx1) u1 (Int32.toNatClampNeg (lx1 + 1)) (Int32.toNatClampNeg (lx3 - lx1))) := ⟨_, rfl⟩
  replace hw := hw M6 hM7
  have hle8 : m_le M M6 := by rw [hM7]; exact m_le_cr
  refine pw_copy X 2 M6 (by decide) hM7 ht3 ht3 hin4 (fun h => by cases h) (fun _ => hg5) q1018 q926 q925 q106 (Nat.le_of_ble_eq_true rfl) (Nat.le_of_ble_eq_true rfl) dJ2_add_3_49 ?_
  have ht9 : m_tg M6 u1 = 103 := m_le_tg hle8 ht3
  refine pw_aload X dJ2_add_3_52 rfl ?_
  refine pw_iload_n X dJ2_add_3_54 rfl rfl ?_
  refine pw_aload_n X dJ2_add_3_55 rfl rfl ?_
  obtain ⟨hi10, hw⟩ := hw
  obtain ⟨hg14, hw⟩ := hw
  obtain ⟨M11, hM12⟩ : ∃ z : Mem, z = (m_pr M6 u1 (Int32.toNatClampNeg lx1) lr2) := ⟨_, rfl⟩
  replace hw := hw M11 hM12
  have hle13 : m_le M6 M11 := by rw [hM12]; exact m_le_pr
  refine pw_aast X (E := "java/lang/Object") 2 (by decide) rfl ht9 hi10 hg14 dJ2_add_3_56 ?_
  rw [← hM12]
  have ht15 : m_tg M11 u1 = 103 := m_le_tg hle13 ht9
  refine pw_aload_n X dJ2_add_3_57 rfl rfl ?_
  refine pw_iload_n X dJ2_add_3_58 rfl rfl ?_
  refine pw_iconst X 1 dJ2_add_3_59 (by decide) ?_
  refine pw_iadd X dJ2_add_3_60 ?_
  obtain ⟨ht16, hw⟩ := hw
  obtain ⟨M17, hM18⟩ : ∃ z : Mem, z = (m_pi M11 la0 2 (lx3 + 1)) := ⟨_, rfl⟩
  replace hw := hw M17 hM18
  refine pw_put X (q := (RJ2, TJ2, tyJ2, 3)) (ci := 13) (k := 2) (ref := "java/util/ArrayList") M17 hM18.symm ht16 rfl (by decide) in_J2 tyJ2_ok nmJ2 q150 (Or.inl rfl) rfl (m_kd_i (fun _ _ => rfl)) rfl rfl dJ2_add_3_61 ?_
  have hle19 : m_le M11 M17 := by rw [hM18]; exact m_le_pi
  have ht20 : m_tg M17 u1 = 103 := m_le_tg hle19 ht15
  have ht21 : m_tg M17 la0 = 14 := m_le_tg hle19 ht16
  exact pw_vret X hw dJ2_add_3_64
theorem bk_J2_add_3_0 (G : Gp) (C : m_Cx) (n0 s0 : Nat) (M0 : Mem) (Q : Mem → Prop) (X : m_in G C RJ2 cJ2_add_3 5 none "add" 5 117 n0 s0) (M : Mem) (a0 : Nat) (x1 : Int32) (r2 : Option Nat) (hw : wp_J2_add_3 G.2 M a0 x1 r2 Q) : pW G C 5 n0 s0 M0 (m_Q G C n0 s0 (va_Qv (m_q0 M0 Q) (m_W G) (m_A G))) M 0 [(0, vR (some a0)), (1, vI x1), (2, vR r2)] [] := by
  refine pw_aload_n X dJ2_add_3_0 rfl rfl ?_
  refine pw_iload_n X dJ2_add_3_1 rfl rfl ?_
  obtain ⟨ht1, hw⟩ := hw
  refine pw_runv X (m_cV X (b := a0) (ci := 13) (q := (RJ2, TJ2, tyJ2, 3)) (met_J2_rangeCheckForAdd G C.2.1 M a0 x1 _ hw) ht1 rfl (lw_V q1616 q1618 qs25 q82 q1619) ⟨rfl, nh_J2_rangeCheckForAdd⟩ ⟨Nat.le_of_ble_eq_true rfl, Nat.le_of_ble_eq_true rfl⟩ rfl (Nat.le_of_ble_eq_true rfl) dJ2_add_3_2) (fun M2 hle3 hx => ?_)
  replace hw := hx hle3
  clear hx
  have ht4 : m_tg M2 a0 = 14 := m_le_tg hle3 ht1
  refine pw_aload_n X dJ2_add_3_5 rfl rfl ?_
  refine pw_dup X dJ2_add_3_6 ?_
  refine pw_get X (q := (RJ2, TJ2, tyJ2, 3)) (ci := 13) (k := 0) (ref := "java/util/ArrayList") (vI (m_gi M2 a0 0)) ht4 rfl (by decide) in_J2 q152 (Or.inr q153) rfl dJ2_add_3_7 ?_
  refine pw_iconst X 1 dJ2_add_3_10 (by decide) ?_
  refine pw_iadd X dJ2_add_3_11 ?_
  obtain ⟨M5, hM6⟩ : ∃ z : Mem, z = (m_pi M2 a0 0 ((m_gi M2 a0 0) + 1)) := ⟨_, rfl⟩
  replace hw := hw M5 hM6
  refine pw_put X (q := (RJ2, TJ2, tyJ2, 3)) (ci := 13) (k := 0) (ref := "java/util/ArrayList") M5 hM6.symm ht4 rfl (by decide) in_J2 tyJ2_ok nmJ2 q152 (Or.inr q153) rfl (m_kd_i (fun _ _ => rfl)) rfl rfl dJ2_add_3_12 ?_
  have hle7 : m_le M2 M5 := by rw [hM6]; exact m_le_pi
  have ht8 : m_tg M5 a0 = 14 := m_le_tg hle7 ht4
  refine pw_aload_n X dJ2_add_3_15 rfl rfl ?_
  refine pw_get X (q := (RJ2, TJ2, tyJ2, 3)) (ci := 13) (k := 2) (ref := "java/util/ArrayList") (vI (m_gi M5 a0 2)) ht8 rfl (by decide) in_J2 q150 (Or.inl rfl) rfl dJ2_add_3_16 ?_
  refine pw_dup X dJ2_add_3_19 ?_
  refine pw_istore_n X [(0, vR (some a0)), (1, vI x1), (2, vR r2), (3, vI (m_gi M5 a0 2))] [1, 2, 3, 0] dJ2_add_3_20 rfl (by decide) rfl ?_
  refine pw_aload_n X dJ2_add_3_21 rfl rfl ?_
  obtain ⟨u9, he10, hw⟩ := hw
  refine pw_get X (q := (RJ2, TJ2, tyJ2, 3)) (ci := 13) (k := 1) (ref := "java/util/ArrayList") (vR (some u9)) ht8 rfl (by decide) in_J2 q149 (Or.inl rfl) (by rw [he10]; rfl) dJ2_add_3_22 ?_
  refine pw_dup X dJ2_add_3_25 ?_
  refine pw_astore X [(0, vR (some a0)), (1, vI x1), (2, vR r2), (3, vI (m_gi M5 a0 2)), (4, vR (some u9))] [1, 2, 3, 4, 0] dJ2_add_3_26 (by decide) rfl ?_
  obtain ⟨hA11, hw⟩ := hw
  refine pw_alen X hA11 dJ2_add_3_28 ?_
  refine pw_icmp_ne X 38 dJ2_add_3_29 (by decide) (fun c12 => ?_) (fun c12 => ?_)
  · replace hw := hw.1 c12
    exact bk_J2_add_3_38 G C n0 s0 M0 Q X _ a0 x1 r2 (m_gi M5 a0 2) (some u9) hw
  · replace hw := hw.2 c12
    refine pw_aload_n X dJ2_add_3_32 rfl rfl ?_
    refine pw_runq X (m_cV X (b := a0) (ci := 13) (q := (RJ2, TJ2, tyJ2, 3)) (met_J2_grow G C.2.1 M5 a0 _ hw) ht8 rfl (lw_V q897 q899 qs5 q82 q900) ⟨rfl, nh_J2_grow⟩ ⟨Nat.le_of_ble_eq_true rfl, Nat.le_of_ble_eq_true rfl⟩ rfl (Nat.le_of_ble_eq_true rfl) dJ2_add_3_33) (fun r15 M13 hle14 hx => ?_)
    replace hw := hx hle14
    clear hx
    have ht16 : m_tg M13 a0 = 14 := m_le_tg hle14 ht8
    refine pw_astore X [(0, vR (some a0)), (1, vI x1), (2, vR r2), (3, vI (m_gi M5 a0 2)), (4, vR r15)] [1, 2, 3, 4, 0] dJ2_add_3_36 (by decide) rfl ?_
    exact bk_J2_add_3_38 G C n0 s0 M0 Q X _ a0 x1 r2 (m_gi M5 a0 2) r15 hw
theorem met_J2_add_3 (G : Gp) (l : Launch) (M : Mem) (a0 : Nat) (x1 : Int32) (r2 : Option Nat) (Q : Mem → Prop) (hw : wp_J2_add_3 G.2 M a0 x1 r2 Q) : m_K G l yJ2_add_3 cJ2_add_3 5 none 5 117 [vR (some a0), vI x1, vR r2] M (va_Qv (m_q0 M Q) (m_W G) (m_A G)) := by
  refine m_met (by decide) (Nat.le_of_ble_eq_true rfl) (fun C e X => ?_)
  exact bk_J2_add_3_0 G C _ _ M Q X M a0 x1 r2 hw
theorem nh_J2_add_3 : m_nMH yJ2_add_3 2 := by decide +kernel

def wp_J2_fastRemove_b34 (g : Nat → Nat) (M : Mem) (la0 : Nat) (la1 : Nat) (lx3 : Int32) (Q : Mem → Prop) : Prop := m_tg M la0 = 14 ∧ ∀ M2 : Mem, M2 = (m_pi M la0 2 lx3) → m_tg M2 la1 = 103 ∧ vp_in lx3 (m_ln M2 la1) ∧ ∀ M8 : Mem, M8 = (m_pr M2 la1 (Int32.toNatClampNeg lx3) none) → Q M8
def wp_J2_fastRemove (g : Nat → Nat) (M : Mem) (a0 : Nat) (a1 : Nat) (x2 : Int32) (Q : Mem → Prop) : Prop := m_tg M a0 = 14 ∧ ∀ M2 : Mem, M2 = (m_pi M a0 0 ((m_gi M a0 0) + 1)) → ((((m_gi M2 a0 2) - 1) ≤ x2 → wp_J2_fastRemove_b34 g M2 a0 a1 ((m_gi M2 a0 2) - 1) Q) ∧ (¬ ((m_gi M2 a0 2) - 1) ≤ x2 → m_tg M2 a1 = 103 ∧ m_cpin M2 a1 a1 (x2 + 1) x2 (((m_gi M2 a0 2) - 1) - x2) ∧ (∀ i : Nat, i < Int32.toNatClampNeg (((m_gi M2 a0 2) - 1) - x2) → ∀ y : Nat, m_gr M2 a1 (Int32.toNatClampNeg (x2 + 1) + i) = some y → m_asg M2 y "java/lang/Object") ∧ ∀ M10 : Mem, M10 = (m_cr M2 a1 (Int32.toNatClampNeg (x2 + 1)) a1 (Int32.toNatClampNeg x2) (Int32.toNatClampNeg (((m_gi M2 a0 2) - 1) - x2))) → wp_J2_fastRemove_b34 g M10 a0 a1 ((m_gi M2 a0 2) - 1) Q))
theorem bk_J2_fastRemove_34 (G : Gp) (C : m_Cx) (n0 s0 : Nat) (M0 : Mem) (Q : Mem → Prop) (X : m_in G C RJ2 cJ2_fastRemove 4 none "fastRemove" 1 30 n0 s0) (M : Mem) (la0 : Nat) (la1 : Nat) (lx3 : Int32) (hw : wp_J2_fastRemove_b34 G.2 M la0 la1 lx3 Q) : pW G C 4 n0 s0 M0 (m_Q G C n0 s0 (va_Qv (m_q0 M0 Q) (m_W G) (m_A G))) M 34 [(0, vR (some la0)), (1, vR (some la1)), (3, vI lx3)] [] := by
  refine pw_aload_n X dJ2_fastRemove_34 rfl rfl ?_
  refine pw_aload_n X dJ2_fastRemove_35 rfl rfl ?_
  refine pw_iload_n X dJ2_fastRemove_36 rfl rfl ?_
  refine pw_dup_x1 X dJ2_fastRemove_37 ?_
  obtain ⟨ht1, hw⟩ := hw
  obtain ⟨M2, hM3⟩ : ∃ z : Mem, z = (m_pi M la0 2 lx3) := ⟨_, rfl⟩
  replace hw := hw M2 hM3
  refine pw_put X (q := (RJ2, TJ2, tyJ2, 3)) (ci := 13) (k := 2) (ref := "java/util/ArrayList") M2 hM3.symm ht1 rfl (by decide) in_J2 tyJ2_ok nmJ2 q150 (Or.inl rfl) rfl (m_kd_i (fun _ _ => rfl)) rfl rfl dJ2_fastRemove_38 ?_
  have hle4 : m_le M M2 := by rw [hM3]; exact m_le_pi
  have ht5 : m_tg M2 la0 = 14 := m_le_tg hle4 ht1
  refine pw_null X dJ2_fastRemove_41 ?_
  obtain ⟨ht6, hw⟩ := hw
  obtain ⟨hi7, hw⟩ := hw
  obtain ⟨M8, hM9⟩ : ∃ z : Mem, z = (m_pr M2 la1 (Int32.toNatClampNeg lx3) none) := ⟨_, rfl⟩
  replace hw := hw M8 hM9
  have hle10 : m_le M2 M8 := by rw [hM9]; exact m_le_pr
  refine pw_aast X (E := "java/lang/Object") 2 (by decide) rfl ht6 hi7 (fun _ h => by cases h) dJ2_fastRemove_42 ?_
  rw [← hM9]
  have ht11 : m_tg M8 la0 = 14 := m_le_tg hle10 ht5
  have ht12 : m_tg M8 la1 = 103 := m_le_tg hle10 ht6
  exact pw_vret X hw dJ2_fastRemove_43
theorem bk_J2_fastRemove_0 (G : Gp) (C : m_Cx) (n0 s0 : Nat) (M0 : Mem) (Q : Mem → Prop) (X : m_in G C RJ2 cJ2_fastRemove 4 none "fastRemove" 1 30 n0 s0) (M : Mem) (a0 : Nat) (a1 : Nat) (x2 : Int32) (hw : wp_J2_fastRemove G.2 M a0 a1 x2 Q) : pW G C 4 n0 s0 M0 (m_Q G C n0 s0 (va_Qv (m_q0 M0 Q) (m_W G) (m_A G))) M 0 [(0, vR (some a0)), (1, vR (some a1)), (2, vI x2)] [] := by
  refine pw_aload_n X dJ2_fastRemove_0 rfl rfl ?_
  refine pw_dup X dJ2_fastRemove_1 ?_
  obtain ⟨ht1, hw⟩ := hw
  refine pw_get X (q := (RJ2, TJ2, tyJ2, 3)) (ci := 13) (k := 0) (ref := "java/util/ArrayList") (vI (m_gi M a0 0)) ht1 rfl (by decide) in_J2 q152 (Or.inr q153) rfl dJ2_fastRemove_2 ?_
  refine pw_iconst X 1 dJ2_fastRemove_5 (by decide) ?_
  refine pw_iadd X dJ2_fastRemove_6 ?_
  obtain ⟨M2, hM3⟩ : ∃ z : Mem, z = (m_pi M a0 0 ((m_gi M a0 0) + 1)) := ⟨_, rfl⟩
  replace hw := hw M2 hM3
  refine pw_put X (q := (RJ2, TJ2, tyJ2, 3)) (ci := 13) (k := 0) (ref := "java/util/ArrayList") M2 hM3.symm ht1 rfl (by decide) in_J2 tyJ2_ok nmJ2 q152 (Or.inr q153) rfl (m_kd_i (fun _ _ => rfl)) rfl rfl dJ2_fastRemove_7 ?_
  have hle4 : m_le M M2 := by rw [hM3]; exact m_le_pi
  have ht5 : m_tg M2 a0 = 14 := m_le_tg hle4 ht1
  refine pw_aload_n X dJ2_fastRemove_10 rfl rfl ?_
  refine pw_get X (q := (RJ2, TJ2, tyJ2, 3)) (ci := 13) (k := 2) (ref := "java/util/ArrayList") (vI (m_gi M2 a0 2)) ht5 rfl (by decide) in_J2 q150 (Or.inl rfl) rfl dJ2_fastRemove_11 ?_
  refine pw_iconst X 1 dJ2_fastRemove_14 (by decide) ?_
  refine pw_isub X dJ2_fastRemove_15 ?_
  refine pw_dup X dJ2_fastRemove_16 ?_
  refine pw_istore_n X [(0, vR (some a0)), (1, vR (some a1)), (2, vI x2), (3, vI ((m_gi M2 a0 2) - 1))] [1, 2, 3, 0] dJ2_fastRemove_17 rfl (by decide) rfl ?_
  refine pw_iload_n X dJ2_fastRemove_18 rfl rfl ?_
  refine pw_icmp_le X 34 dJ2_fastRemove_19 (by decide) (fun c6 => ?_) (fun c6 => ?_)
  · replace hw := hw.1 c6
    refine pw_lo [0, 1, 3] rfl ?_
    exact bk_J2_fastRemove_34 G C n0 s0 M0 Q X _ a0 a1 ((m_gi M2 a0 2) - 1) hw
  · replace hw := hw.2 c6
    refine pw_aload_n X dJ2_fastRemove_22 rfl rfl ?_
    refine pw_iload_n X dJ2_fastRemove_23 rfl rfl ?_
    refine pw_iconst X 1 dJ2_fastRemove_24 (by decide) ?_
    refine pw_iadd X dJ2_fastRemove_25 ?_
    refine pw_aload_n X dJ2_fastRemove_26 rfl rfl ?_
    refine pw_iload_n X dJ2_fastRemove_27 rfl rfl ?_
    refine pw_iload_n X dJ2_fastRemove_28 rfl rfl ?_
    refine pw_iload_n X dJ2_fastRemove_29 rfl rfl ?_
    refine pw_isub X dJ2_fastRemove_30 ?_
    obtain ⟨ht7, hw⟩ := hw
    obtain ⟨hin8, hw⟩ := hw
    obtain ⟨hg9, hw⟩ := hw
    obtain ⟨M10, hM11⟩ : ∃ z : Mem, z = (m_cr M2 a1 (Int32.toNatClampNeg (x2 + 1)) a1 (Int32.toNatClampNeg x2) (Int32.toNatClampNeg (((m_gi M2 a0 2) - 1) - x2))) := ⟨_, rfl⟩
    replace hw := hw M10 hM11
    have hle12 : m_le M2 M10 := by rw [hM11]; exact m_le_cr
    refine pw_copy X 2 M10 (by decide) hM11 ht7 ht7 hin8 (fun h => by cases h) (fun _ => hg9) q1018 q926 q925 q106 (Nat.le_of_ble_eq_true rfl) (Nat.le_of_ble_eq_true rfl) dJ2_fastRemove_31 ?_
    have ht13 : m_tg M10 a0 = 14 := m_le_tg hle12 ht5
    have ht14 : m_tg M10 a1 = 103 := m_le_tg hle12 ht7
    refine pw_lo [0, 1, 3] rfl ?_
    exact bk_J2_fastRemove_34 G C n0 s0 M0 Q X _ a0 a1 ((m_gi M2 a0 2) - 1) hw
theorem met_J2_fastRemove (G : Gp) (l : Launch) (M : Mem) (a0 : Nat) (a1 : Nat) (x2 : Int32) (Q : Mem → Prop) (hw : wp_J2_fastRemove G.2 M a0 a1 x2 Q) : m_K G l yJ2_fastRemove cJ2_fastRemove 4 none 1 30 [vR (some a0), vR (some a1), vI x2] M (va_Qv (m_q0 M Q) (m_W G) (m_A G)) := by
  refine m_met (by decide) (Nat.le_of_ble_eq_true rfl) (fun C e X => ?_)
  exact bk_J2_fastRemove_0 G C _ _ M Q X M a0 a1 x2 hw
theorem nh_J2_fastRemove : m_nMH yJ2_fastRemove 2 := by decide +kernel

def wp_J2_remove (g : Nat → Nat) (M : Mem) (a0 : Nat) (x1 : Int32) (Q : Option Nat → Mem → Prop) : Prop := m_tg M a0 = 14 ∧ wp_J22_checkIndex g M x1 (m_gi M a0 2) (fun (r4 : Int32) (M2 : Mem) => m_le M M2 → ∃ u6 : Nat, (m_gr M2 a0 1) = some u6 ∧ m_tg M2 u6 = 103 ∧ vp_in x1 (m_ln M2 u6) ∧ ∀ r10 : Option Nat, r10 = (m_gr M2 u6 (Int32.toNatClampNeg x1)) → wp_J2_fastRemove g M2 a0 u6 x1 (fun (M12 : Mem) => m_le M2 M12 → Q r10 M12))
theorem bk_J2_remove_0 (G : Gp) (C : m_Cx) (n0 s0 : Nat) (M0 : Mem) (Q : Option Nat → Mem → Prop) (X : m_in G C RJ2 cJ2_remove 4 (some (.object "java/lang/Object")) "remove" 2 53 n0 s0) (M : Mem) (a0 : Nat) (x1 : Int32) (hw : wp_J2_remove G.2 M a0 x1 Q) : pW G C 4 n0 s0 M0 (m_Q G C n0 s0 (va_Qq (m_q1 M0 Q) (m_W G) (m_A G))) M 0 [(0, vR (some a0)), (1, vI x1)] [] := by
  refine pw_iload_n X dJ2_remove_0 rfl rfl ?_
  refine pw_aload_n X dJ2_remove_1 rfl rfl ?_
  obtain ⟨ht1, hw⟩ := hw
  refine pw_get X (q := (RJ2, TJ2, tyJ2, 3)) (ci := 13) (k := 2) (ref := "java/util/ArrayList") (vI (m_gi M a0 2)) ht1 rfl (by decide) in_J2 q150 (Or.inl rfl) rfl dJ2_remove_2 ?_
  refine pw_runi X (m_cS X (met_J22_checkIndex G C.2.1 M x1 (m_gi M a0 2) _ hw) (lw_S q1008 q1009 q108 q1010) nh_J22_checkIndex ⟨Nat.le_of_ble_eq_true rfl, Nat.le_of_ble_eq_true rfl⟩ rfl (Nat.le_of_ble_eq_true rfl) dJ2_remove_5) (fun r4 M2 hle3 hx => ?_)
  replace hw := hx hle3
  clear hx
  have ht5 : m_tg M2 a0 = 14 := m_le_tg hle3 ht1
  refine pw_pop X dJ2_remove_8 ?_
  refine pw_aload_n X dJ2_remove_9 rfl rfl ?_
  obtain ⟨u6, he7, hw⟩ := hw
  refine pw_get X (q := (RJ2, TJ2, tyJ2, 3)) (ci := 13) (k := 1) (ref := "java/util/ArrayList") (vR (some u6)) ht5 rfl (by decide) in_J2 q149 (Or.inl rfl) (by rw [he7]; rfl) dJ2_remove_10 ?_
  refine pw_astore_n X [(0, vR (some a0)), (1, vI x1), (2, vR (some u6))] [1, 2, 0] dJ2_remove_13 rfl (by decide) rfl ?_
  refine pw_aload_n X dJ2_remove_14 rfl rfl ?_
  refine pw_iload_n X dJ2_remove_15 rfl rfl ?_
  obtain ⟨ht8, hw⟩ := hw
  obtain ⟨hi9, hw⟩ := hw
  obtain ⟨r10, hr11⟩ : ∃ z : Option Nat, z = (m_gr M2 u6 (Int32.toNatClampNeg x1)) := ⟨_, rfl⟩
  replace hw := hw r10 hr11
  refine pw_aald X (Or.inl ht8) hi9 dJ2_remove_16 ?_
  rw [← hr11]
  refine pw_astore_n X [(0, vR (some a0)), (1, vI x1), (2, vR (some u6)), (3, vR r10)] [1, 2, 3, 0] dJ2_remove_17 rfl (by decide) rfl ?_
  refine pw_aload_n X dJ2_remove_18 rfl rfl ?_
  refine pw_aload_n X dJ2_remove_19 rfl rfl ?_
  refine pw_iload_n X dJ2_remove_20 rfl rfl ?_
  refine pw_runv X (m_cV X (b := a0) (ci := 13) (q := (RJ2, TJ2, tyJ2, 3)) (met_J2_fastRemove G C.2.1 M2 a0 u6 x1 _ hw) ht5 rfl (lw_V q1014 q1016 qs9 q82 q1017) ⟨rfl, nh_J2_fastRemove⟩ ⟨Nat.le_of_ble_eq_true rfl, Nat.le_of_ble_eq_true rfl⟩ rfl (Nat.le_of_ble_eq_true rfl) dJ2_remove_21) (fun M12 hle13 hx => ?_)
  replace hw := hx hle13
  clear hx
  have ht14 : m_tg M12 a0 = 14 := m_le_tg hle13 ht5
  have ht15 : m_tg M12 u6 = 103 := m_le_tg hle13 ht8
  refine pw_aload_n X dJ2_remove_24 rfl rfl ?_
  exact pw_aret X (Or.inl ⟨_, rfl⟩) hw dJ2_remove_25
theorem met_J2_remove (G : Gp) (l : Launch) (M : Mem) (a0 : Nat) (x1 : Int32) (Q : Option Nat → Mem → Prop) (hw : wp_J2_remove G.2 M a0 x1 Q) : m_K G l yJ2_remove cJ2_remove 4 (some (.object "java/lang/Object")) 2 53 [vR (some a0), vI x1] M (va_Qq (m_q1 M Q) (m_W G) (m_A G)) := by
  refine m_met (by decide) (Nat.le_of_ble_eq_true rfl) (fun C e X => ?_)
  exact bk_J2_remove_0 G C _ _ M Q X M a0 x1 hw
theorem nh_J2_remove : m_nMH yJ2_remove 1 := by decide +kernel
