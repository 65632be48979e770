/-! walks (printed by gen/desk.py): 28.wrest.lean -/
set_option maxRecDepth 100000
set_option maxHeartbeats 4000000
def wp_X1_sum_b4 (g : Nat → Nat) (Q : Int32 → Mem → Prop) : Nat → Mem → Nat → Nat → Int32 → Int32 → Prop
  | 0 => fun _ _ _ _ _ => False
  | n + 1 => fun M la0 la1 lx2 lx3 => m_tg M la0 = 2 ∧ ∃ u2 : Nat, (m_gr M la0 3) = some u2 ∧ m_tg M u2 = 14 ∧ wp_J2_size g M u2 (fun (r7 : Int32) (M5 : Mem) => m_le M M5 → ((r7 ≤ lx3 → Q lx2 M5) ∧ (¬ r7 ≤ lx3 → ∃ u11 : Nat, (m_gr M5 la0 3) = some u11 ∧ m_tg M5 u11 = 14 ∧ wp_J2_get g M5 u11 lx3 (fun (r16 : Option Nat) (M14 : Mem) => m_le M5 M14 → ∃ u20 : Nat, r16 = some u20 ∧ m_tg M14 u20 = 9 ∧ wp_of g M14 la1 u20 (fun (r23 : Int32) (M24 : Mem) => m_le M14 M24 → wp_X1_sum_b4 g Q n M24 la0 la1 (lx2 + r23) (lx3 + 1))))))
def wp_X1_sum (g : Nat → Nat) (M : Mem) (a0 : Nat) (a1 : Nat) (Q : Int32 → Mem → Prop) : Prop := ∃ j4 : Nat, wp_X1_sum_b4 g Q j4 M a0 a1 0 0
theorem bk_X1_sum_4 (G : Gp) (C : m_Cx) (n0 s0 : Nat) (M0 : Mem) (Q : Int32 → Mem → Prop) (X : m_in G C RX1 cX1_sum 4 (some .int) "sum" 5 104 n0 s0) : ∀ (n : Nat) (M : Mem) (la0 : Nat) (la1 : Nat) (lx2 : Int32) (lx3 : Int32) (hw : wp_X1_sum_b4 G.2 Q n M la0 la1 lx2 lx3), pW G C 4 n0 s0 M0 (m_Q G C n0 s0 (va_Qi (m_q1 M0 Q) (m_W G) (m_A G))) M 4 [(0, vR (some la0)), (1, vR (some la1)), (2, vI lx2), (3, vI lx3)] [] := by
  intro n
  induction n with
  | zero => intro M la0 la1 lx2 lx3 hw; exact hw.elim
  | succ n ih =>
    intro M la0 la1 lx2 lx3 hw
    refine pw_iload_n X dX1_sum_4 rfl rfl ?_
    refine pw_aload_n X dX1_sum_5 rfl rfl ?_
    obtain ⟨ht1, hw⟩ := hw
    obtain ⟨u2, he3, hw⟩ := hw
    refine pw_get X (q := (RX1, TX1, tyX1, 8)) (ci := 1) (k := 3) (ref := "PatrolDesk$State") (vR (some u2)) ht1 rfl (by decide) in_X1 q167 (Or.inl rfl) (by rw [he3]; rfl) dX1_sum_6 ?_
    obtain ⟨ht4, hw⟩ := hw
    refine pw_runi X (m_cF X (b := u2) (ci := 13) (q := (RJ2, TJ2, tyJ2, 3)) (met_J2_size G C.2.1 M u2 _ hw) ht4 rfl (lw_app (lw_F q1026 q994 q996 q82) (lw_meth q998)) (List.mem_of_getElem? (i := 6) rfl) (by decide +kernel : m_nMH ⟨"java/util/List", "size", "()I"⟩ 0) ⟨Nat.le_of_ble_eq_true rfl, Nat.le_of_ble_eq_true rfl⟩ rfl (Nat.le_of_ble_eq_true rfl) dX1_sum_9) (fun r7 M5 hle6 hx => ?_)
    replace hw := hx hle6
    clear hx
    have ht8 : m_tg M5 la0 = 2 := m_le_tg hle6 ht1
    have ht9 : m_tg M5 u2 = 14 := m_le_tg hle6 ht4
    refine pw_icmp_ge X 45 dX1_sum_14 (by decide) (fun c10 => ?_) (fun c10 => ?_)
    · replace hw := hw.1 c10
      refine pw_iload_n X dX1_sum_45 rfl rfl ?_
      exact pw_iret X hw dX1_sum_46
    · replace hw := hw.2 c10
      refine pw_iload_n X dX1_sum_17 rfl rfl ?_
      refine pw_aload_n X dX1_sum_18 rfl rfl ?_
      refine pw_aload_n X dX1_sum_19 rfl rfl ?_
      obtain ⟨u11, he12, hw⟩ := hw
      refine pw_get X (q := (RX1, TX1, tyX1, 8)) (ci := 1) (k := 3) (ref := "PatrolDesk$State") (vR (some u11)) ht8 rfl (by decide) in_X1 q167 (Or.inl rfl) (by rw [he12]; rfl) dX1_sum_20 ?_
      refine pw_iload_n X dX1_sum_23 rfl rfl ?_
      obtain ⟨ht13, hw⟩ := hw
      refine pw_runq X (m_cF X (b := u11) (ci := 13) (q := (RJ2, TJ2, tyJ2, 3)) (met_J2_get G C.2.1 M5 u11 lx3 _ hw) ht13 rfl (lw_app (lw_F q1028 q1031 q1033 q82) (lw_meth q1035)) (List.mem_of_getElem? (i := 2) rfl) (by decide +kernel : m_nMH ⟨"java/util/List", "get", "(I)Ljava/lang/Object;"⟩ 1) ⟨Nat.le_of_ble_eq_true rfl, Nat.le_of_ble_eq_true rfl⟩ rfl (Nat.le_of_ble_eq_true rfl) dX1_sum_24) (fun r16 M14 hle15 hx => ?_)
      replace hw := hx hle15
      clear hx
      have ht17 : m_tg M14 la0 = 2 := m_le_tg hle15 ht8
      have ht18 : m_tg M14 u2 = 14 := m_le_tg hle15 ht9
      have ht19 : m_tg M14 u11 = 14 := m_le_tg hle15 ht13
      obtain ⟨u20, he21, hw⟩ := hw
      subst he21
      obtain ⟨ht22, hw⟩ := hw
      refine pw_cast X 8 (q := (RX8, TX8, tyX8, 13)) rfl (fun _ h => by cases h; exact ht22) q1196 dX1_sum_29 ?_
      refine pw_runi X (m_cOf X hw ⟨Nat.le_of_ble_eq_true rfl, Nat.le_of_ble_eq_true rfl⟩ q1881 rfl (Nat.le_of_ble_eq_true rfl) dX1_sum_32) (fun r23 M24 hle25 hx => ?_)
      replace hw := hx hle25
      clear hx
      have ht26 : m_tg M24 la0 = 2 := m_le_tg hle25 ht17
      have ht27 : m_tg M24 u2 = 14 := m_le_tg hle25 ht18
      have ht28 : m_tg M24 u11 = 14 := m_le_tg hle25 ht19
      have ht29 : m_tg M24 u20 = 9 := m_le_tg hle25 ht22
      refine pw_iadd X dX1_sum_37 ?_
      refine pw_istore_n X [(0, vR (some la0)), (1, vR (some la1)), (2, vI (lx2 + r23)), (3, vI lx3)] [1, 2, 0, 3] dX1_sum_38 rfl (by decide) rfl ?_
      refine pw_iinc X (lx3 + 1) [(0, vR (some la0)), (1, vR (some la1)), (2, vI (lx2 + r23)), (3, vI (lx3 + 1))] [1, 2, 3, 0] dX1_sum_39 rfl (by first | rfl | decide) (by decide) rfl ?_
      refine pw_goto X 4 dX1_sum_42 (by decide) ?_
      exact ih _ la0 la1 (lx2 + r23) (lx3 + 1) hw
theorem bk_X1_sum_0 (G : Gp) (C : m_Cx) (n0 s0 : Nat) (M0 : Mem) (Q : Int32 → Mem → Prop) (X : m_in G C RX1 cX1_sum 4 (some .int) "sum" 5 104 n0 s0) (M : Mem) (a0 : Nat) (a1 : Nat) (hw : wp_X1_sum G.2 M a0 a1 Q) : pW G C 4 n0 s0 M0 (m_Q G C n0 s0 (va_Qi (m_q1 M0 Q) (m_W G) (m_A G))) M 0 [(0, vR (some a0)), (1, vR (some a1))] [] := by
  refine pw_iconst X 0 dX1_sum_0 (by decide) ?_
  refine pw_istore_n X [(0, vR (some a0)), (1, vR (some a1)), (2, vI 0)] [1, 2, 0] dX1_sum_1 rfl (by decide) rfl ?_
  refine pw_iconst X 0 dX1_sum_2 (by decide) ?_
  refine pw_istore_n X [(0, vR (some a0)), (1, vR (some a1)), (2, vI 0), (3, vI 0)] [1, 2, 3, 0] dX1_sum_3 rfl (by decide) rfl ?_
  obtain ⟨n4, hw⟩ := hw
  exact bk_X1_sum_4 G C n0 s0 M0 Q X n4 _ a0 a1 0 0 hw
theorem met_X1_sum (G : Gp) (l : Launch) (M : Mem) (a0 : Nat) (a1 : Nat) (Q : Int32 → Mem → Prop) (hw : wp_X1_sum G.2 M a0 a1 Q) : m_K G l yX1_sum cX1_sum 4 (some .int) 5 104 [vR (some a0), vR (some a1)] M (va_Qi (m_q1 M Q) (m_W G) (m_A G)) := by
  refine m_met (by decide) (Nat.le_of_ble_eq_true rfl) (fun C e X => ?_)
  exact bk_X1_sum_0 G C _ _ M Q X M a0 a1 hw
theorem nh_X1_sum : m_nMH yX1_sum 1 := by decide +kernel

def wp_X1_nearestOf_b101 (g : Nat → Nat) (k5 : Mem → Nat → Int32 → Nat → Option Nat → Int32 → Prop) (M : Mem) (la0 : Nat) (lx1 : Int32) (la2 : Nat) (lr3 : Option Nat) (lx4 : Int32) (la5 : Nat) (sx0 : Int32) (Q : Option Nat → Mem → Prop) : Prop := ((0 < sx0 → k5 M la0 lx1 la2 (some la5) (lx4 + 1)) ∧ (¬ 0 < sx0 → ((¬ sx0 = 0 → k5 M la0 lx1 la2 lr3 (lx4 + 1)) ∧ (sx0 = 0 → m_tg M la5 = 7 ∧ ∃ u4 : Nat, lr3 = some u4 ∧ m_tg M u4 = 7 ∧ (((m_gi M la5 2) ≤ (m_gi M u4 2) → k5 M la0 lx1 la2 (some u4) (lx4 + 1)) ∧ (¬ (m_gi M la5 2) ≤ (m_gi M u4 2) → k5 M la0 lx1 la2 (some la5) (lx4 + 1)))))))
def wp_X1_nearestOf_b5 (g : Nat → Nat) (Q : Option Nat → Mem → Prop) : Nat → Mem → Nat → Int32 → Nat → Option Nat → Int32 → Prop
  | 0 => fun _ _ _ _ _ _ => False
  | n + 1 => fun M la0 lx1 la2 lr3 lx4 => m_tg M la0 = 2 ∧ ∃ u2 : Nat, (m_gr M la0 1) = some u2 ∧ m_tg M u2 = 14 ∧ wp_J2_size g M u2 (fun (r7 : Int32) (M5 : Mem) => m_le M M5 → ((r7 ≤ lx4 → Q lr3 M5) ∧ (¬ r7 ≤ lx4 → ∃ u11 : Nat, (m_gr M5 la0 1) = some u11 ∧ m_tg M5 u11 = 14 ∧ wp_J2_get g M5 u11 lx4 (fun (r16 : Option Nat) (M14 : Mem) => m_le M5 M14 → ∃ u20 : Nat, r16 = some u20 ∧ m_tg M14 u20 = 7 ∧ ((¬ (m_gi M14 u20 5) = 0 → wp_X1_nearestOf_b5 g Q n M14 la0 lx1 la2 lr3 (lx4 + 1)) ∧ ((m_gi M14 u20 5) = 0 → wp_X1_far g M14 la0 (m_gi M14 u20 4) lx1 (fun (r26 : Int32) (M24 : Mem) => m_le M14 M24 → ((r26 = (-5) → wp_X1_nearestOf_b5 g Q n M24 la0 lx1 la2 lr3 (lx4 + 1)) ∧ (¬ r26 = (-5) → wp_test g M24 la2 u20 lx1 (fun (r32 : Int32) (M33 : Mem) => m_le M24 M33 → ((¬ r32 = 0 → ((lr3 = none → wp_X1_nearestOf_b101 g (wp_X1_nearestOf_b5 g Q n) M33 la0 lx1 la2 none lx4 u20 1 Q) ∧ (∀ u40 : Nat, lr3 = some u40 → m_tg M33 u40 = 7 ∧ wp_X1_far g M33 la0 (m_gi M33 u40 4) lx1 (fun (r45 : Int32) (M43 : Mem) => m_le M33 M43 → wp_X1_far g M43 la0 (m_gi M43 u20 4) lx1 (fun (r53 : Int32) (M51 : Mem) => m_le M43 M51 → wp_X1_nearestOf_b101 g (wp_X1_nearestOf_b5 g Q n) M51 la0 lx1 la2 (some u40) lx4 u20 (r45 - r53) Q))))) ∧ (r32 = 0 → wp_X1_nearestOf_b5 g Q n M33 la0 lx1 la2 lr3 (lx4 + 1)))))))))))))
def wp_X1_nearestOf (g : Nat → Nat) (M : Mem) (a0 : Nat) (x1 : Int32) (a2 : Nat) (Q : Option Nat → Mem → Prop) : Prop := ∃ j5 : Nat, wp_X1_nearestOf_b5 g Q j5 M a0 x1 a2 none 0
theorem bk_X1_nearestOf_101 (G : Gp) (C : m_Cx) (n0 s0 : Nat) (M0 : Mem) (Q : Option Nat → Mem → Prop) (X : m_in G C RX1 cX1_nearestOf 7 (some (.object "PatrolDesk$Patrol")) "nearestOf" 5 104 n0 s0) (k5 : Mem → Nat → Int32 → Nat → Option Nat → Int32 → Prop) (hk5 : ∀ (M : Mem) (la0 : Nat) (lx1 : Int32) (la2 : Nat) (lr3 : Option Nat) (lx4 : Int32), k5 M la0 lx1 la2 lr3 lx4 → pW G C 7 n0 s0 M0 (m_Q G C n0 s0 (va_Qq (m_q1 M0 Q) (m_W G) (m_A G))) M 5 [(0, vR (some la0)), (1, vI lx1), (2, vR (some la2)), (3, vR lr3), (4, vI lx4)] []) (M : Mem) (la0 : Nat) (lx1 : Int32) (la2 : Nat) (lr3 : Option Nat) (lx4 : Int32) (la5 : Nat) (sx0 : Int32) (hw : wp_X1_nearestOf_b101 G.2 k5 M la0 lx1 la2 lr3 lx4 la5 sx0 Q) : pW G C 7 n0 s0 M0 (m_Q G C n0 s0 (va_Qq (m_q1 M0 Q) (m_W G) (m_A G))) M 101 [(0, vR (some la0)), (1, vI lx1), (2, vR (some la2)), (3, vR lr3), (4, vI lx4), (5, vR (some la5))] [vI sx0] := by
  refine pw_istore X [(0, vR (some la0)), (1, vI lx1), (2, vR (some la2)), (3, vR lr3), (4, vI lx4), (5, vR (some la5)), (6, vI sx0)] [1, 2, 3, 4, 5, 6, 0] dX1_nearestOf_101 (by decide) rfl ?_
  refine pw_iload X dX1_nearestOf_103 rfl ?_
  refine pw_if_gt X 125 dX1_nearestOf_105 (by decide) (fun c1 => ?_) (fun c1 => ?_)
  · replace hw := hw.1 c1
    refine pw_aload X dX1_nearestOf_125 rfl ?_
    refine pw_astore_n X [(0, vR (some la0)), (1, vI lx1), (2, vR (some la2)), (3, vR (some la5)), (4, vI lx4)] [1, 2, 3, 0, 4] dX1_nearestOf_127 rfl (by decide) rfl ?_
    refine pw_iinc X (lx4 + 1) [(0, vR (some la0)), (1, vI lx1), (2, vR (some la2)), (3, vR (some la5)), (4, vI (lx4 + 1))] [1, 2, 3, 4, 0] dX1_nearestOf_128 rfl (by first | rfl | decide) (by decide) rfl ?_
    refine pw_goto X 5 dX1_nearestOf_131 (by decide) ?_
    exact hk5 _ la0 lx1 la2 (some la5) (lx4 + 1) hw
  · replace hw := hw.2 c1
    refine pw_iload X dX1_nearestOf_108 rfl ?_
    refine pw_if_ne X 128 dX1_nearestOf_110 (by decide) (fun c2 => ?_) (fun c2 => ?_)
    · replace hw := hw.1 c2
      refine pw_iinc X (lx4 + 1) [(0, vR (some la0)), (1, vI lx1), (2, vR (some la2)), (3, vR lr3), (4, vI (lx4 + 1))] [1, 2, 3, 4, 0] dX1_nearestOf_128 rfl (by first | rfl | decide) (by decide) rfl ?_
      refine pw_goto X 5 dX1_nearestOf_131 (by decide) ?_
      exact hk5 _ la0 lx1 la2 lr3 (lx4 + 1) hw
    · replace hw := hw.2 c2
      refine pw_aload X dX1_nearestOf_113 rfl ?_
      obtain ⟨ht3, hw⟩ := hw
      refine pw_getN X (q := (RX6, TX6, tyX6, 15)) (ci := 6) (k := 2) (ref := "PatrolDesk$Patrol") (host := "PatrolDesk") (vI (m_gi M la5 2)) ht3 rfl (by decide) in_X6 q1094 (Or.inl rfl) rfl dX1_nearestOf_115 ?_
      refine pw_aload_n X dX1_nearestOf_118 rfl rfl ?_
      obtain ⟨u4, he5, hw⟩ := hw
      subst he5
      obtain ⟨ht6, hw⟩ := hw
      refine pw_getN X (q := (RX6, TX6, tyX6, 15)) (ci := 6) (k := 2) (ref := "PatrolDesk$Patrol") (host := "PatrolDesk") (vI (m_gi M u4 2)) ht6 rfl (by decide) in_X6 q1094 (Or.inl rfl) rfl dX1_nearestOf_119 ?_
      refine pw_icmp_le X 128 dX1_nearestOf_122 (by decide) (fun c7 => ?_) (fun c7 => ?_)
      · replace hw := hw.1 c7
        refine pw_iinc X (lx4 + 1) [(0, vR (some la0)), (1, vI lx1), (2, vR (some la2)), (3, vR (some u4)), (4, vI (lx4 + 1))] [1, 2, 3, 4, 0] dX1_nearestOf_128 rfl (by first | rfl | decide) (by decide) rfl ?_
        refine pw_goto X 5 dX1_nearestOf_131 (by decide) ?_
        exact hk5 _ la0 lx1 la2 (some u4) (lx4 + 1) hw
      · replace hw := hw.2 c7
        refine pw_aload X dX1_nearestOf_125 rfl ?_
        refine pw_astore_n X [(0, vR (some la0)), (1, vI lx1), (2, vR (some la2)), (3, vR (some la5)), (4, vI lx4)] [1, 2, 3, 0, 4] dX1_nearestOf_127 rfl (by decide) rfl ?_
        refine pw_iinc X (lx4 + 1) [(0, vR (some la0)), (1, vI lx1), (2, vR (some la2)), (3, vR (some la5)), (4, vI (lx4 + 1))] [1, 2, 3, 4, 0] dX1_nearestOf_128 rfl (by first | rfl | decide) (by decide) rfl ?_
        refine pw_goto X 5 dX1_nearestOf_131 (by decide) ?_
        exact hk5 _ la0 lx1 la2 (some la5) (lx4 + 1) hw
theorem bk_X1_nearestOf_5 (G : Gp) (C : m_Cx) (n0 s0 : Nat) (M0 : Mem) (Q : Option Nat → Mem → Prop) (X : m_in G C RX1 cX1_nearestOf 7 (some (.object "PatrolDesk$Patrol")) "nearestOf" 5 104 n0 s0) : ∀ (n : Nat) (M : Mem) (la0 : Nat) (lx1 : Int32) (la2 : Nat) (lr3 : Option Nat) (lx4 : Int32) (hw : wp_X1_nearestOf_b5 G.2 Q n M la0 lx1 la2 lr3 lx4), pW G C 7 n0 s0 M0 (m_Q G C n0 s0 (va_Qq (m_q1 M0 Q) (m_W G) (m_A G))) M 5 [(0, vR (some la0)), (1, vI lx1), (2, vR (some la2)), (3, vR lr3), (4, vI lx4)] [] := by
  intro n
  induction n with
  | zero => intro M la0 lx1 la2 lr3 lx4 hw; exact hw.elim
  | succ n ih =>
    intro M la0 lx1 la2 lr3 lx4 hw
    refine pw_iload X dX1_nearestOf_5 rfl ?_
    refine pw_aload_n X dX1_nearestOf_7 rfl rfl ?_
    obtain ⟨ht1, hw⟩ := hw
    obtain ⟨u2, he3, hw⟩ := hw
    refine pw_get X (q := (RX1, TX1, tyX1, 8)) (ci := 1) (k := 1) (ref := "PatrolDesk$State") (vR (some u2)) ht1 rfl (by decide) in_X1 q163 (Or.inl rfl) (by rw [he3]; rfl) dX1_nearestOf_8 ?_
    obtain ⟨ht4, hw⟩ := hw
    refine pw_runi X (m_cF X (b := u2) (ci := 13) (q := (RJ2, TJ2, tyJ2, 3)) (met_J2_size G C.2.1 M u2 _ hw) ht4 rfl (lw_app (lw_F q1026 q994 q996 q82) (lw_meth q998)) (List.mem_of_getElem? (i := 6) rfl) (by decide +kernel : m_nMH ⟨"java/util/List", "size", "()I"⟩ 0) ⟨Nat.le_of_ble_eq_true rfl, Nat.le_of_ble_eq_true rfl⟩ rfl (Nat.le_of_ble_eq_true rfl) dX1_nearestOf_11) (fun r7 M5 hle6 hx => ?_)
    replace hw := hx hle6
    clear hx
    have ht8 : m_tg M5 la0 = 2 := m_le_tg hle6 ht1
    have ht9 : m_tg M5 u2 = 14 := m_le_tg hle6 ht4
    refine pw_icmp_ge X 134 dX1_nearestOf_16 (by decide) (fun c10 => ?_) (fun c10 => ?_)
    · replace hw := hw.1 c10
      refine pw_aload_n X dX1_nearestOf_134 rfl rfl ?_
      exact pw_aret X (Or.inl ⟨_, rfl⟩) hw dX1_nearestOf_135
    · replace hw := hw.2 c10
      refine pw_aload_n X dX1_nearestOf_19 rfl rfl ?_
      obtain ⟨u11, he12, hw⟩ := hw
      refine pw_get X (q := (RX1, TX1, tyX1, 8)) (ci := 1) (k := 1) (ref := "PatrolDesk$State") (vR (some u11)) ht8 rfl (by decide) in_X1 q163 (Or.inl rfl) (by rw [he12]; rfl) dX1_nearestOf_20 ?_
      refine pw_iload X dX1_nearestOf_23 rfl ?_
      obtain ⟨ht13, hw⟩ := hw
      refine pw_runq X (m_cF X (b := u11) (ci := 13) (q := (RJ2, TJ2, tyJ2, 3)) (met_J2_get G C.2.1 M5 u11 lx4 _ hw) ht13 rfl (lw_app (lw_F q1028 q1031 q1033 q82) (lw_meth q1035)) (List.mem_of_getElem? (i := 2) rfl) (by decide +kernel : m_nMH ⟨"java/util/List", "get", "(I)Ljava/lang/Object;"⟩ 1) ⟨Nat.le_of_ble_eq_true rfl, Nat.le_of_ble_eq_true rfl⟩ rfl (Nat.le_of_ble_eq_true rfl) dX1_nearestOf_25) (fun r16 M14 hle15 hx => ?_)
      replace hw := hx hle15
      clear hx
      have ht17 : m_tg M14 la0 = 2 := m_le_tg hle15 ht8
      have ht18 : m_tg M14 u2 = 14 := m_le_tg hle15 ht9
      have ht19 : m_tg M14 u11 = 14 := m_le_tg hle15 ht13
      obtain ⟨u20, he21, hw⟩ := hw
      subst he21
      obtain ⟨ht22, hw⟩ := hw
      refine pw_cast X 6 (q := (RX6, TX6, tyX6, 15)) rfl (fun _ h => by cases h; exact ht22) q1077 dX1_nearestOf_30 ?_
      refine pw_astore X [(0, vR (some la0)), (1, vI lx1), (2, vR (some la2)), (3, vR lr3), (4, vI lx4), (5, vR (some u20))] [1, 2, 3, 4, 5, 0] dX1_nearestOf_33 (by decide) rfl ?_
      refine pw_aload X dX1_nearestOf_35 rfl ?_
      refine pw_getN X (q := (RX6, TX6, tyX6, 15)) (ci := 6) (k := 5) (ref := "PatrolDesk$Patrol") (host := "PatrolDesk") (vI (m_gi M14 u20 5)) ht22 rfl (by decide) in_X6 q1102 (Or.inl rfl) rfl dX1_nearestOf_37 ?_
      refine pw_if_ne X 128 dX1_nearestOf_40 (by decide) (fun c23 => ?_) (fun c23 => ?_)
      · replace hw := hw.1 c23
        refine pw_iinc X (lx4 + 1) [(0, vR (some la0)), (1, vI lx1), (2, vR (some la2)), (3, vR lr3), (4, vI (lx4 + 1))] [1, 2, 3, 4, 0] dX1_nearestOf_128 rfl (by first | rfl | decide) (by decide) rfl ?_
        refine pw_goto X 5 dX1_nearestOf_131 (by decide) ?_
        exact ih _ la0 lx1 la2 lr3 (lx4 + 1) hw
      · replace hw := hw.2 c23
        refine pw_aload_n X dX1_nearestOf_43 rfl rfl ?_
        refine pw_aload X dX1_nearestOf_44 rfl ?_
        refine pw_getN X (q := (RX6, TX6, tyX6, 15)) (ci := 6) (k := 4) (ref := "PatrolDesk$Patrol") (host := "PatrolDesk") (vI (m_gi M14 u20 4)) ht22 rfl (by decide) in_X6 q1099 (Or.inl rfl) rfl dX1_nearestOf_46 ?_
        refine pw_iload_n X dX1_nearestOf_49 rfl rfl ?_
        refine pw_runi X (m_cV X (b := la0) (ci := 1) (q := (RX1, TX1, tyX1, 8)) (met_X1_far G C.2.1 M14 la0 (m_gi M14 u20 4) lx1 _ hw) ht17 rfl (lw_V q1472 q1436 q1437 q79 q1438) ⟨rfl, nh_X1_far⟩ ⟨Nat.le_of_ble_eq_true rfl, Nat.le_of_ble_eq_true rfl⟩ rfl (Nat.le_of_ble_eq_true rfl) dX1_nearestOf_50) (fun r26 M24 hle25 hx => ?_)
        replace hw := hx hle25
        clear hx
        have ht27 : m_tg M24 la0 = 2 := m_le_tg hle25 ht17
        have ht28 : m_tg M24 u2 = 14 := m_le_tg hle25 ht18
        have ht29 : m_tg M24 u11 = 14 := m_le_tg hle25 ht19
        have ht30 : m_tg M24 u20 = 7 := m_le_tg hle25 ht22
        refine pw_bipush X (-5) dX1_nearestOf_53 (by decide) ?_
        refine pw_icmp_eq X 128 dX1_nearestOf_55 (by decide) (fun c31 => ?_) (fun c31 => ?_)
        · replace hw := hw.1 c31
          refine pw_iinc X (lx4 + 1) [(0, vR (some la0)), (1, vI lx1), (2, vR (some la2)), (3, vR lr3), (4, vI (lx4 + 1))] [1, 2, 3, 4, 0] dX1_nearestOf_128 rfl (by first | rfl | decide) (by decide) rfl ?_
          refine pw_goto X 5 dX1_nearestOf_131 (by decide) ?_
          exact ih _ la0 lx1 la2 lr3 (lx4 + 1) hw
        · replace hw := hw.2 c31
          refine pw_aload_n X dX1_nearestOf_58 rfl rfl ?_
          refine pw_aload X dX1_nearestOf_59 rfl ?_
          refine pw_iload_n X dX1_nearestOf_61 rfl rfl ?_
          refine pw_runi X (m_cTest X hw ⟨Nat.le_of_ble_eq_true rfl, Nat.le_of_ble_eq_true rfl⟩ q1642 rfl (Nat.le_of_ble_eq_true rfl) dX1_nearestOf_62) (fun r32 M33 hle34 hx => ?_)
          replace hw := hx.2 hle34
          clear hx
          have ht35 : m_tg M33 la0 = 2 := m_le_tg hle34 ht27
          have ht36 : m_tg M33 u2 = 14 := m_le_tg hle34 ht28
          have ht37 : m_tg M33 u11 = 14 := m_le_tg hle34 ht29
          have ht38 : m_tg M33 u20 = 7 := m_le_tg hle34 ht30
          refine pw_if_ne X 73 dX1_nearestOf_67 (by decide) (fun c39 => ?_) (fun c39 => ?_)
          · replace hw := hw.1 c39
            refine pw_aload_n X dX1_nearestOf_73 rfl rfl ?_
            refine pw_ifnonnull X 81 dX1_nearestOf_74 (by decide) (fun u40 he41 => ?_) (fun he41 => ?_)
            · replace hw := hw.2 u40 he41
              subst he41
              refine pw_aload_n X dX1_nearestOf_81 rfl rfl ?_
              refine pw_aload_n X dX1_nearestOf_82 rfl rfl ?_
              obtain ⟨ht42, hw⟩ := hw
              refine pw_getN X (q := (RX6, TX6, tyX6, 15)) (ci := 6) (k := 4) (ref := "PatrolDesk$Patrol") (host := "PatrolDesk") (vI (m_gi M33 u40 4)) ht42 rfl (by decide) in_X6 q1099 (Or.inl rfl) rfl dX1_nearestOf_83 ?_
              refine pw_iload_n X dX1_nearestOf_86 rfl rfl ?_
              refine pw_runi X (m_cV X (b := la0) (ci := 1) (q := (RX1, TX1, tyX1, 8)) (met_X1_far G C.2.1 M33 la0 (m_gi M33 u40 4) lx1 _ hw) ht35 rfl (lw_V q1472 q1436 q1437 q79 q1438) ⟨rfl, nh_X1_far⟩ ⟨Nat.le_of_ble_eq_true rfl, Nat.le_of_ble_eq_true rfl⟩ rfl (Nat.le_of_ble_eq_true rfl) dX1_nearestOf_87) (fun r45 M43 hle44 hx => ?_)
              replace hw := hx hle44
              clear hx
              have ht46 : m_tg M43 la0 = 2 := m_le_tg hle44 ht35
              have ht47 : m_tg M43 u2 = 14 := m_le_tg hle44 ht36
              have ht48 : m_tg M43 u11 = 14 := m_le_tg hle44 ht37
              have ht49 : m_tg M43 u20 = 7 := m_le_tg hle44 ht38
              have ht50 : m_tg M43 u40 = 7 := m_le_tg hle44 ht42
              refine pw_aload_n X dX1_nearestOf_90 rfl rfl ?_
              refine pw_aload X dX1_nearestOf_91 rfl ?_
              refine pw_getN X (q := (RX6, TX6, tyX6, 15)) (ci := 6) (k := 4) (ref := "PatrolDesk$Patrol") (host := "PatrolDesk") (vI (m_gi M43 u20 4)) ht49 rfl (by decide) in_X6 q1099 (Or.inl rfl) rfl dX1_nearestOf_93 ?_
              refine pw_iload_n X dX1_nearestOf_96 rfl rfl ?_
              refine pw_runi X (m_cV X (b := la0) (ci := 1) (q := (RX1, TX1, tyX1, 8)) (met_X1_far G C.2.1 M43 la0 (m_gi M43 u20 4) lx1 _ hw) ht46 rfl (lw_V q1472 q1436 q1437 q79 q1438) ⟨rfl, nh_X1_far⟩ ⟨Nat.le_of_ble_eq_true rfl, Nat.le_of_ble_eq_true rfl⟩ rfl (Nat.le_of_ble_eq_true rfl) dX1_nearestOf_97) (fun r53 M51 hle52 hx => ?_)
              replace hw := hx hle52
              clear hx
              have ht54 : m_tg M51 la0 = 2 := m_le_tg hle52 ht46
              have ht55 : m_tg M51 u2 = 14 := m_le_tg hle52 ht47
              have ht56 : m_tg M51 u11 = 14 := m_le_tg hle52 ht48
              have ht57 : m_tg M51 u20 = 7 := m_le_tg hle52 ht49
              have ht58 : m_tg M51 u40 = 7 := m_le_tg hle52 ht50
              refine pw_isub X dX1_nearestOf_100 ?_
              exact bk_X1_nearestOf_101 G C n0 s0 M0 Q X (wp_X1_nearestOf_b5 G.2 Q n) ih _ la0 lx1 la2 (some u40) lx4 u20 (r45 - r53) hw
            · replace hw := hw.1 he41
              subst he41
              refine pw_iconst X 1 dX1_nearestOf_77 (by decide) ?_
              refine pw_goto X 101 dX1_nearestOf_78 (by decide) ?_
              exact bk_X1_nearestOf_101 G C n0 s0 M0 Q X (wp_X1_nearestOf_b5 G.2 Q n) ih _ la0 lx1 la2 none lx4 u20 1 hw
          · replace hw := hw.2 c39
            refine pw_goto X 128 dX1_nearestOf_70 (by decide) ?_
            refine pw_iinc X (lx4 + 1) [(0, vR (some la0)), (1, vI lx1), (2, vR (some la2)), (3, vR lr3), (4, vI (lx4 + 1))] [1, 2, 3, 4, 0] dX1_nearestOf_128 rfl (by first | rfl | decide) (by decide) rfl ?_
            refine pw_goto X 5 dX1_nearestOf_131 (by decide) ?_
            exact ih _ la0 lx1 la2 lr3 (lx4 + 1) hw
theorem bk_X1_nearestOf_0 (G : Gp) (C : m_Cx) (n0 s0 : Nat) (M0 : Mem) (Q : Option Nat → Mem → Prop) (X : m_in G C RX1 cX1_nearestOf 7 (some (.object "PatrolDesk$Patrol")) "nearestOf" 5 104 n0 s0) (M : Mem) (a0 : Nat) (x1 : Int32) (a2 : Nat) (hw : wp_X1_nearestOf G.2 M a0 x1 a2 Q) : pW G C 7 n0 s0 M0 (m_Q G C n0 s0 (va_Qq (m_q1 M0 Q) (m_W G) (m_A G))) M 0 [(0, vR (some a0)), (1, vI x1), (2, vR (some a2))] [] := by
  refine pw_null X dX1_nearestOf_0 ?_
  refine pw_astore_n X [(0, vR (some a0)), (1, vI x1), (2, vR (some a2)), (3, vR none)] [1, 2, 3, 0] dX1_nearestOf_1 rfl (by decide) rfl ?_
  refine pw_iconst X 0 dX1_nearestOf_2 (by decide) ?_
  refine pw_istore X [(0, vR (some a0)), (1, vI x1), (2, vR (some a2)), (3, vR none), (4, vI 0)] [1, 2, 3, 4, 0] dX1_nearestOf_3 (by decide) rfl ?_
  obtain ⟨n5, hw⟩ := hw
  exact bk_X1_nearestOf_5 G C n0 s0 M0 Q X n5 _ a0 x1 a2 none 0 hw
theorem met_X1_nearestOf (G : Gp) (l : Launch) (M : Mem) (a0 : Nat) (x1 : Int32) (a2 : Nat) (Q : Option Nat → Mem → Prop) (hw : wp_X1_nearestOf G.2 M a0 x1 a2 Q) : m_K G l yX1_nearestOf cX1_nearestOf 7 (some (.object "PatrolDesk$Patrol")) 5 104 [vR (some a0), vI x1, vR (some a2)] M (va_Qq (m_q1 M Q) (m_W G) (m_A G)) := by
  refine m_met (by decide) (Nat.le_of_ble_eq_true rfl) (fun C e X => ?_)
  exact bk_X1_nearestOf_0 G C _ _ M Q X M a0 x1 a2 hw
theorem nh_X1_nearestOf : m_nMH yX1_nearestOf 2 := by decide +kernel

def wp_X1_nearest (g : Nat → Nat) (M : Mem) (a0 : Nat) (a1 : Nat) (Q : Option Nat → Mem → Prop) : Prop := m_tg M a1 = 9 ∧ ((¬ (m_gi M a1 7) = 0 → (m_tg M (g 21) = 202 → m_tg M a0 = 2 ∧ wp_X1_nearestOf g M a0 (m_gi M a1 6) (g 21) (fun (r7 : Option Nat) (M5 : Mem) => m_le M M5 → Q r7 M5))) ∧ ((m_gi M a1 7) = 0 → (m_tg M (g 20) = 201 → m_tg M a0 = 2 ∧ wp_X1_nearestOf g M a0 (m_gi M a1 6) (g 20) (fun (r15 : Option Nat) (M13 : Mem) => m_le M M13 → Q r15 M13))))
theorem bk_X1_nearest_0 (G : Gp) (C : m_Cx) (n0 s0 : Nat) (M0 : Mem) (Q : Option Nat → Mem → Prop) (X : m_in G C RX1 cX1_nearest 3 (some (.object "PatrolDesk$Patrol")) "nearest" 6 3074 n0 s0) (hN : (m_s C).methodNamed? yX1_nearest = some (m_mi C)) (M : Mem) (a0 : Nat) (a1 : Nat) (hw : wp_X1_nearest G.2 M a0 a1 Q) : pW G C 3 n0 s0 M0 (m_Q G C n0 s0 (va_Qq (m_q1 M0 Q) (m_W G) (m_A G))) M 0 [(0, vR (some a0)), (1, vR (some a1))] [] := by
  refine pw_aload_n X dX1_nearest_0 rfl rfl ?_
  obtain ⟨ht1, hw⟩ := hw
  refine pw_getN X (q := (RX8, TX8, tyX8, 13)) (ci := 8) (k := 6) (ref := "PatrolDesk$Call") (host := "PatrolDesk") (vI (m_gi M a1 6)) ht1 rfl (by decide) in_X8 q1225 (Or.inl rfl) rfl dX1_nearest_1 ?_
  refine pw_istore_n X [(0, vR (some a0)), (1, vR (some a1)), (2, vI (m_gi M a1 6))] [1, 2, 0] dX1_nearest_4 rfl (by decide) rfl ?_
  refine pw_aload_n X dX1_nearest_5 rfl rfl ?_
  refine pw_getN X (q := (RX8, TX8, tyX8, 13)) (ci := 8) (k := 7) (ref := "PatrolDesk$Call") (host := "PatrolDesk") (vI (m_gi M a1 7)) ht1 rfl (by decide) in_X8 q1228 (Or.inl rfl) rfl dX1_nearest_6 ?_
  refine pw_if_ne X 25 dX1_nearest_9 (by decide) (fun c2 => ?_) (fun c2 => ?_)
  · replace hw := hw.1 c2
    refine pw_aload_n X dX1_nearest_25 rfl rfl ?_
    refine pw_iload_n X dX1_nearest_26 rfl rfl ?_
    refine pw_lamC X hN lsh1 (by decide) rfl (Nat.le_of_ble_eq_true rfl) dX1_nearest_27 (fun ht3 => ?_)
    replace hw := hw ht3
    obtain ⟨ht4, hw⟩ := hw
    refine pw_runq X (m_cV X (b := a0) (ci := 1) (q := (RX1, TX1, tyX1, 8)) (met_X1_nearestOf G C.2.1 M a0 (m_gi M a1 6) (G.2 21) _ hw) ht4 rfl (lw_V q1637 q1639 qs27 q79 q1640) ⟨rfl, nh_X1_nearestOf⟩ ⟨Nat.le_of_ble_eq_true rfl, Nat.le_of_ble_eq_true rfl⟩ rfl (Nat.le_of_ble_eq_true rfl) dX1_nearest_32) (fun r7 M5 hle6 hx => ?_)
    replace hw := hx hle6
    clear hx
    have ht8 : m_tg M5 a1 = 9 := m_le_tg hle6 ht1
    have ht9 : m_tg M5 (G.2 21) = 202 := m_le_tg hle6 ht3
    have ht10 : m_tg M5 a0 = 2 := m_le_tg hle6 ht4
    exact pw_aret X (Or.inl ⟨_, rfl⟩) hw dX1_nearest_35
  · replace hw := hw.2 c2
    refine pw_aload_n X dX1_nearest_12 rfl rfl ?_
    refine pw_iload_n X dX1_nearest_13 rfl rfl ?_
    refine pw_lamC X hN lsh0 (by decide) rfl (Nat.le_of_ble_eq_true rfl) dX1_nearest_14 (fun ht11 => ?_)
    replace hw := hw ht11
    obtain ⟨ht12, hw⟩ := hw
    refine pw_runq X (m_cV X (b := a0) (ci := 1) (q := (RX1, TX1, tyX1, 8)) (met_X1_nearestOf G C.2.1 M a0 (m_gi M a1 6) (G.2 20) _ hw) ht12 rfl (lw_V q1637 q1639 qs27 q79 q1640) ⟨rfl, nh_X1_nearestOf⟩ ⟨Nat.le_of_ble_eq_true rfl, Nat.le_of_ble_eq_true rfl⟩ rfl (Nat.le_of_ble_eq_true rfl) dX1_nearest_19) (fun r15 M13 hle14 hx => ?_)
    replace hw := hx hle14
    clear hx
    have ht16 : m_tg M13 a1 = 9 := m_le_tg hle14 ht1
    have ht17 : m_tg M13 (G.2 20) = 201 := m_le_tg hle14 ht11
    have ht18 : m_tg M13 a0 = 2 := m_le_tg hle14 ht12
    refine pw_goto X 35 dX1_nearest_22 (by decide) ?_
    exact pw_aret X (Or.inl ⟨_, rfl⟩) hw dX1_nearest_35
theorem met_X1_nearest (G : Gp) (l : Launch) (M : Mem) (a0 : Nat) (a1 : Nat) (Q : Option Nat → Mem → Prop) (hw : wp_X1_nearest G.2 M a0 a1 Q) : m_K G l yX1_nearest cX1_nearest 3 (some (.object "PatrolDesk$Patrol")) 6 3074 [vR (some a0), vR (some a1)] M (va_Qq (m_q1 M Q) (m_W G) (m_A G)) := by
  refine m_metN (by decide) (Nat.le_of_ble_eq_true rfl) (fun C e X hN => ?_)
  exact bk_X1_nearest_0 G C _ _ M Q X hN M a0 a1 hw
theorem nh_X1_nearest : m_nMH yX1_nearest 1 := by decide +kernel

def wp_X1_send_b67 (g : Nat → Nat) (M : Mem) (la0 : Nat) (la1 : Nat) (la2 : Nat) (lx3 : Int32) (Q : Mem → Prop) : Prop := ((¬ lx3 = 0 → Q M) ∧ (lx3 = 0 → m_tg M la0 = 2 ∧ wp_X1_getThere g M la0 la2 la1 (fun (M3 : Mem) => m_le M M3 → Q M3)))
def wp_X1_send_b37 (g : Nat → Nat) (M : Mem) (la0 : Nat) (la1 : Nat) (la2 : Nat) (lx3 : Int32) (sx0 : Int32) (Q : Mem → Prop) : Prop := m_tg M la1 = 9 ∧ m_tg M la2 = 7 ∧ wp_X6_begin g M la2 1 (m_gi M la1 0) lx3 (fun (M3 : Mem) => m_le M M3 → ∀ M7 : Mem, M7 = (m_pi M3 la1 8 (m_gi M3 la2 0)) → ((¬ sx0 = 0 → wp_X1_send_b67 g M7 la0 la1 la2 lx3 Q) ∧ (sx0 = 0 → ∀ M13 : Mem, M13 = (m_pi M7 la1 7 1) → wp_X1_send_b67 g M13 la0 la1 la2 lx3 Q)))
def wp_X1_send (g : Nat → Nat) (M : Mem) (a0 : Nat) (a1 : Nat) (Q : Mem → Prop) : Prop := m_tg M a0 = 2 ∧ wp_X1_nearest g M a0 a1 (fun (r4 : Option Nat) (M2 : Mem) => m_le M M2 → ((r4 = none → Q M2) ∧ (∀ u6 : Nat, r4 = some u6 → m_tg M2 u6 = 7 ∧ m_tg M2 a1 = 9 ∧ wp_X1_far g M2 a0 (m_gi M2 u6 4) (m_gi M2 a1 6) (fun (r12 : Int32) (M10 : Mem) => m_le M2 M10 → ((¬ (m_gi M10 a1 7) = 3 → wp_X1_send_b37 g M10 a0 a1 u6 r12 0 Q) ∧ ((m_gi M10 a1 7) = 3 → wp_X1_send_b37 g M10 a0 a1 u6 r12 1 Q))))))
theorem bk_X1_send_67 (G : Gp) (C : m_Cx) (n0 s0 : Nat) (M0 : Mem) (Q : Mem → Prop) (X : m_in G C RX1 cX1_send 5 none "send" 11 3096 n0 s0) (M : Mem) (la0 : Nat) (la1 : Nat) (la2 : Nat) (lx3 : Int32) (hw : wp_X1_send_b67 G.2 M la0 la1 la2 lx3 Q) : pW G C 5 n0 s0 M0 (m_Q G C n0 s0 (va_Qv (m_q0 M0 Q) (m_W G) (m_A G))) M 67 [(0, vR (some la0)), (1, vR (some la1)), (2, vR (some la2)), (3, vI lx3)] [] := by
  refine pw_iload_n X dX1_send_67 rfl rfl ?_
  refine pw_if_ne X 77 dX1_send_68 (by decide) (fun c1 => ?_) (fun c1 => ?_)
  · replace hw := hw.1 c1
    exact pw_vret X hw dX1_send_77
  · replace hw := hw.2 c1
    refine pw_aload_n X dX1_send_71 rfl rfl ?_
    refine pw_aload_n X dX1_send_72 rfl rfl ?_
    refine pw_aload_n X dX1_send_73 rfl rfl ?_
    obtain ⟨ht2, hw⟩ := hw
    refine pw_runv X (m_cV X (b := la0) (ci := 1) (q := (RX1, TX1, tyX1, 8)) (met_X1_getThere G C.2.1 M la0 la2 la1 _ hw) ht2 rfl (lw_V q1460 q1462 qs18 q79 q1463) ⟨rfl, nh_X1_getThere⟩ ⟨Nat.le_of_ble_eq_true rfl, Nat.le_of_ble_eq_true rfl⟩ rfl (Nat.le_of_ble_eq_true rfl) dX1_send_74) (fun M3 hle4 hx => ?_)
    replace hw := hx hle4
    clear hx
    have ht5 : m_tg M3 la0 = 2 := m_le_tg hle4 ht2
    exact pw_vret X hw dX1_send_77
theorem bk_X1_send_37 (G : Gp) (C : m_Cx) (n0 s0 : Nat) (M0 : Mem) (Q : Mem → Prop) (X : m_in G C RX1 cX1_send 5 none "send" 11 3096 n0 s0) (M : Mem) (la0 : Nat) (la1 : Nat) (la2 : Nat) (lx3 : Int32) (sx0 : Int32) (hw : wp_X1_send_b37 G.2 M la0 la1 la2 lx3 sx0 Q) : pW G C 5 n0 s0 M0 (m_Q G C n0 s0 (va_Qv (m_q0 M0 Q) (m_W G) (m_A G))) M 37 [(0, vR (some la0)), (1, vR (some la1)), (2, vR (some la2)), (3, vI lx3)] [vI sx0] := by
  refine pw_istore X [(0, vR (some la0)), (1, vR (some la1)), (2, vR (some la2)), (3, vI lx3), (4, vI sx0)] [1, 2, 3, 4, 0] dX1_send_37 (by decide) rfl ?_
  refine pw_aload_n X dX1_send_39 rfl rfl ?_
  refine pw_iconst X 1 dX1_send_40 (by decide) ?_
  refine pw_aload_n X dX1_send_41 rfl rfl ?_
  obtain ⟨ht1, hw⟩ := hw
  refine pw_getN X (q := (RX8, TX8, tyX8, 13)) (ci := 8) (k := 0) (ref := "PatrolDesk$Call") (host := "PatrolDesk") (vI (m_gi M la1 0)) ht1 rfl (by decide) in_X8 q1208 (Or.inl rfl) rfl dX1_send_42 ?_
  refine pw_iload_n X dX1_send_45 rfl rfl ?_
  obtain ⟨ht2, hw⟩ := hw
  refine pw_runv X (m_cV X (b := la2) (ci := 6) (q := (RX6, TX6, tyX6, 15)) (met_X6_begin G C.2.1 M la2 1 (m_gi M la1 0) lx3 _ hw) ht2 rfl (lw_V q1567 q1568 q1569 q110 q1570) ⟨rfl, nh_X6_begin⟩ ⟨Nat.le_of_ble_eq_true rfl, Nat.le_of_ble_eq_true rfl⟩ rfl (Nat.le_of_ble_eq_true rfl) dX1_send_46) (fun M3 hle4 hx => ?_)
  replace hw := hx hle4
  clear hx
  have ht5 : m_tg M3 la1 = 9 := m_le_tg hle4 ht1
  have ht6 : m_tg M3 la2 = 7 := m_le_tg hle4 ht2
  refine pw_aload_n X dX1_send_49 rfl rfl ?_
  refine pw_aload_n X dX1_send_50 rfl rfl ?_
  refine pw_getN X (q := (RX6, TX6, tyX6, 15)) (ci := 6) (k := 0) (ref := "PatrolDesk$Patrol") (host := "PatrolDesk") (vI (m_gi M3 la2 0)) ht6 rfl (by decide) in_X6 q1089 (Or.inl rfl) rfl dX1_send_51 ?_
  obtain ⟨M7, hM8⟩ : ∃ z : Mem, z = (m_pi M3 la1 8 (m_gi M3 la2 0)) := ⟨_, rfl⟩
  replace hw := hw M7 hM8
  refine pw_putN X (q := (RX8, TX8, tyX8, 13)) (ci := 8) (k := 8) (ref := "PatrolDesk$Call") (host := "PatrolDesk") M7 hM8.symm ht5 rfl (by decide) in_X8 tyX8_ok nmX8 q1231 (Or.inl rfl) rfl (m_kd_i (fun _ _ => rfl)) rfl rfl dX1_send_54 ?_
  have hle9 : m_le M3 M7 := by rw [hM8]; exact m_le_pi
  have ht10 : m_tg M7 la1 = 9 := m_le_tg hle9 ht5
  have ht11 : m_tg M7 la2 = 7 := m_le_tg hle9 ht6
  refine pw_iload X dX1_send_57 rfl ?_
  refine pw_if_ne X 67 dX1_send_59 (by decide) (fun c12 => ?_) (fun c12 => ?_)
  · replace hw := hw.1 c12
    refine pw_lo [0, 1, 2, 3] rfl ?_
    exact bk_X1_send_67 G C n0 s0 M0 Q X _ la0 la1 la2 lx3 hw
  · replace hw := hw.2 c12
    refine pw_aload_n X dX1_send_62 rfl rfl ?_
    refine pw_iconst X 1 dX1_send_63 (by decide) ?_
    obtain ⟨M13, hM14⟩ : ∃ z : Mem, z = (m_pi M7 la1 7 1) := ⟨_, rfl⟩
    replace hw := hw M13 hM14
    refine pw_putN X (q := (RX8, TX8, tyX8, 13)) (ci := 8) (k := 7) (ref := "PatrolDesk$Call") (host := "PatrolDesk") M13 hM14.symm ht10 rfl (by decide) in_X8 tyX8_ok nmX8 q1228 (Or.inl rfl) rfl (m_kd_i (fun _ _ => rfl)) rfl rfl dX1_send_64 ?_
    have hle15 : m_le M7 M13 := by rw [hM14]; exact m_le_pi
    have ht16 : m_tg M13 la1 = 9 := m_le_tg hle15 ht10
    have ht17 : m_tg M13 la2 = 7 := m_le_tg hle15 ht11
    refine pw_lo [0, 1, 2, 3] rfl ?_
    exact bk_X1_send_67 G C n0 s0 M0 Q X _ la0 la1 la2 lx3 hw
theorem bk_X1_send_0 (G : Gp) (C : m_Cx) (n0 s0 : Nat) (M0 : Mem) (Q : Mem → Prop) (X : m_in G C RX1 cX1_send 5 none "send" 11 3096 n0 s0) (M : Mem) (a0 : Nat) (a1 : Nat) (hw : wp_X1_send G.2 M a0 a1 Q) : pW G C 5 n0 s0 M0 (m_Q G C n0 s0 (va_Qv (m_q0 M0 Q) (m_W G) (m_A G))) M 0 [(0, vR (some a0)), (1, vR (some a1))] [] := by
  refine pw_aload_n X dX1_send_0 rfl rfl ?_
  refine pw_aload_n X dX1_send_1 rfl rfl ?_
  obtain ⟨ht1, hw⟩ := hw
  refine pw_runq X (m_cV X (b := a0) (ci := 1) (q := (RX1, TX1, tyX1, 8)) (met_X1_nearest G C.2.1 M a0 a1 _ hw) ht1 rfl (lw_V q1624 q1625 q1626 q79 q1627) ⟨rfl, nh_X1_nearest⟩ ⟨Nat.le_of_ble_eq_true rfl, Nat.le_of_ble_eq_true rfl⟩ rfl (Nat.le_of_ble_eq_true rfl) dX1_send_2) (fun r4 M2 hle3 hx => ?_)
  replace hw := hx hle3
  clear hx
  have ht5 : m_tg M2 a0 = 2 := m_le_tg hle3 ht1
  refine pw_astore_n X [(0, vR (some a0)), (1, vR (some a1)), (2, vR r4)] [1, 2, 0] dX1_send_5 rfl (by decide) rfl ?_
  refine pw_aload_n X dX1_send_6 rfl rfl ?_
  refine pw_ifnonnull X 11 dX1_send_7 (by decide) (fun u6 he7 => ?_) (fun he7 => ?_)
  · replace hw := hw.2 u6 he7
    subst he7
    refine pw_aload_n X dX1_send_11 rfl rfl ?_
    refine pw_aload_n X dX1_send_12 rfl rfl ?_
    obtain ⟨ht8, hw⟩ := hw
    refine pw_getN X (q := (RX6, TX6, tyX6, 15)) (ci := 6) (k := 4) (ref := "PatrolDesk$Patrol") (host := "PatrolDesk") (vI (m_gi M2 u6 4)) ht8 rfl (by decide) in_X6 q1099 (Or.inl rfl) rfl dX1_send_13 ?_
    refine pw_aload_n X dX1_send_16 rfl rfl ?_
    obtain ⟨ht9, hw⟩ := hw
    refine pw_getN X (q := (RX8, TX8, tyX8, 13)) (ci := 8) (k := 6) (ref := "PatrolDesk$Call") (host := "PatrolDesk") (vI (m_gi M2 a1 6)) ht9 rfl (by decide) in_X8 q1225 (Or.inl rfl) rfl dX1_send_17 ?_
    refine pw_runi X (m_cV X (b := a0) (ci := 1) (q := (RX1, TX1, tyX1, 8)) (met_X1_far G C.2.1 M2 a0 (m_gi M2 u6 4) (m_gi M2 a1 6) _ hw) ht5 rfl (lw_V q1472 q1436 q1437 q79 q1438) ⟨rfl, nh_X1_far⟩ ⟨Nat.le_of_ble_eq_true rfl, Nat.le_of_ble_eq_true rfl⟩ rfl (Nat.le_of_ble_eq_true rfl) dX1_send_20) (fun r12 M10 hle11 hx => ?_)
    replace hw := hx hle11
    clear hx
    have ht13 : m_tg M10 a0 = 2 := m_le_tg hle11 ht5
    have ht14 : m_tg M10 u6 = 7 := m_le_tg hle11 ht8
    have ht15 : m_tg M10 a1 = 9 := m_le_tg hle11 ht9
    refine pw_istore_n X [(0, vR (some a0)), (1, vR (some a1)), (2, vR (some u6)), (3, vI r12)] [1, 2, 3, 0] dX1_send_23 rfl (by decide) rfl ?_
    refine pw_aload_n X dX1_send_24 rfl rfl ?_
    refine pw_getN X (q := (RX8, TX8, tyX8, 13)) (ci := 8) (k := 7) (ref := "PatrolDesk$Call") (host := "PatrolDesk") (vI (m_gi M10 a1 7)) ht15 rfl (by decide) in_X8 q1228 (Or.inl rfl) rfl dX1_send_25 ?_
    refine pw_iconst X 3 dX1_send_28 (by decide) ?_
    refine pw_icmp_ne X 36 dX1_send_29 (by decide) (fun c16 => ?_) (fun c16 => ?_)
    · replace hw := hw.1 c16
      refine pw_iconst X 0 dX1_send_36 (by decide) ?_
      exact bk_X1_send_37 G C n0 s0 M0 Q X _ a0 a1 u6 r12 0 hw
    · replace hw := hw.2 c16
      refine pw_iconst X 1 dX1_send_32 (by decide) ?_
      refine pw_goto X 37 dX1_send_33 (by decide) ?_
      exact bk_X1_send_37 G C n0 s0 M0 Q X _ a0 a1 u6 r12 1 hw
  · replace hw := hw.1 he7
    subst he7
    exact pw_vret X hw dX1_send_10
theorem met_X1_send (G : Gp) (l : Launch) (M : Mem) (a0 : Nat) (a1 : Nat) (Q : Mem → Prop) (hw : wp_X1_send G.2 M a0 a1 Q) : m_K G l yX1_send cX1_send 5 none 11 3096 [vR (some a0), vR (some a1)] M (va_Qv (m_q0 M Q) (m_W G) (m_A G)) := by
  refine m_met (by decide) (Nat.le_of_ble_eq_true rfl) (fun C e X => ?_)
  exact bk_X1_send_0 G C _ _ M Q X M a0 a1 hw
theorem nh_X1_send : m_nMH yX1_send 1 := by decide +kernel

def wp_X1_passMinute_b50 (g : Nat → Nat) (Q : Int32 → Mem → Prop) : Nat → Mem → Nat → Int32 → Option Nat → Int32 → Prop
  | 0 => fun _ _ _ _ _ => False
  | n + 1 => fun M la0 lx1 lr2 lx3 => ∃ u1 : Nat, lr2 = some u1 ∧ m_tg M u1 = 14 ∧ wp_J2_size g M u1 (fun (r6 : Int32) (M4 : Mem) => m_le M M4 → ((r6 ≤ lx3 → m_tg M4 la0 = 2 ∧ ∀ M10 : Mem, M10 = (m_pi M4 la0 7 ((m_gi M4 la0 7) + 1)) → Q lx1 M10) ∧ (¬ r6 ≤ lx3 → wp_J2_get g M4 u1 lx3 (fun (r17 : Option Nat) (M15 : Mem) => m_le M4 M15 → ∃ u19 : Nat, r17 = some u19 ∧ m_tg M15 u19 = 9 ∧ m_tg M15 la0 = 2 ∧ wp_X1_send g M15 la0 u19 (fun (M23 : Mem) => m_le M15 M23 → wp_X1_passMinute_b50 g Q n M23 la0 lx1 (some u1) (lx3 + 1))))))
def wp_X1_passMinute_b4 (g : Nat → Nat) (Q : Int32 → Mem → Prop) : Nat → Mem → Nat → Int32 → Int32 → Prop
  | 0 => fun _ _ _ _ => False
  | n + 1 => fun M la0 lx1 lx2 => m_tg M la0 = 2 ∧ ∃ u2 : Nat, (m_gr M la0 1) = some u2 ∧ m_tg M u2 = 14 ∧ wp_J2_size g M u2 (fun (r7 : Int32) (M5 : Mem) => m_le M M5 → ((r7 ≤ lx2 → wp_X1_waiting g M5 la0 (fun (r13 : Option Nat) (M11 : Mem) => m_le M5 M11 → ∃ j50 : Nat, wp_X1_passMinute_b50 g Q j50 M11 la0 lx1 r13 0)) ∧ (¬ r7 ≤ lx2 → ∃ u16 : Nat, (m_gr M5 la0 1) = some u16 ∧ m_tg M5 u16 = 14 ∧ wp_J2_get g M5 u16 lx2 (fun (r21 : Option Nat) (M19 : Mem) => m_le M5 M19 → ∃ u25 : Nat, r21 = some u25 ∧ m_tg M19 u25 = 7 ∧ wp_X1_goOn g M19 la0 u25 (fun (r30 : Int32) (M28 : Mem) => m_le M19 M28 → wp_X1_passMinute_b4 g Q n M28 la0 (lx1 + r30) (lx2 + 1))))))
def wp_X1_passMinute (g : Nat → Nat) (M : Mem) (a0 : Nat) (Q : Int32 → Mem → Prop) : Prop := ∃ j4 : Nat, wp_X1_passMinute_b4 g Q j4 M a0 0 0
theorem bk_X1_passMinute_50 (G : Gp) (C : m_Cx) (n0 s0 : Nat) (M0 : Mem) (Q : Int32 → Mem → Prop) (X : m_in G C RX1 cX1_passMinute 4 (some .int) "passMinute" 12 3120 n0 s0) : ∀ (n : Nat) (M : Mem) (la0 : Nat) (lx1 : Int32) (lr2 : Option Nat) (lx3 : Int32) (hw : wp_X1_passMinute_b50 G.2 Q n M la0 lx1 lr2 lx3), pW G C 4 n0 s0 M0 (m_Q G C n0 s0 (va_Qi (m_q1 M0 Q) (m_W G) (m_A G))) M 50 [(0, vR (some la0)), (1, vI lx1), (2, vR lr2), (3, vI lx3)] [] := by
  intro n
  induction n with
  | zero => intro M la0 lx1 lr2 lx3 hw; exact hw.elim
  | succ n ih =>
    intro M la0 lx1 lr2 lx3 hw
    refine pw_iload_n X dX1_passMinute_50 rfl rfl ?_
    refine pw_aload_n X dX1_passMinute_51 rfl rfl ?_
    obtain ⟨u1, he2, hw⟩ := hw
    subst he2
    obtain ⟨ht3, hw⟩ := hw
    refine pw_runi X (m_cF X (b := u1) (ci := 13) (q := (RJ2, TJ2, tyJ2, 3)) (met_J2_size G C.2.1 M u1 _ hw) ht3 rfl (lw_app (lw_F q1026 q994 q996 q82) (lw_meth q998)) (List.mem_of_getElem? (i := 6) rfl) (by decide +kernel : m_nMH ⟨"java/util/List", "size", "()I"⟩ 0) ⟨Nat.le_of_ble_eq_true rfl, Nat.le_of_ble_eq_true rfl⟩ rfl (Nat.le_of_ble_eq_true rfl) dX1_passMinute_52) (fun r6 M4 hle5 hx => ?_)
    replace hw := hx hle5
    clear hx
    have ht7 : m_tg M4 u1 = 14 := m_le_tg hle5 ht3
    refine pw_icmp_ge X 80 dX1_passMinute_57 (by decide) (fun c8 => ?_) (fun c8 => ?_)
    · replace hw := hw.1 c8
      refine pw_aload_n X dX1_passMinute_80 rfl rfl ?_
      refine pw_dup X dX1_passMinute_81 ?_
      obtain ⟨ht9, hw⟩ := hw
      refine pw_get X (q := (RX1, TX1, tyX1, 8)) (ci := 1) (k := 7) (ref := "PatrolDesk$State") (vI (m_gi M4 la0 7)) ht9 rfl (by decide) in_X1 q175 (Or.inl rfl) rfl dX1_passMinute_82 ?_
      refine pw_iconst X 1 dX1_passMinute_85 (by decide) ?_
      refine pw_iadd X dX1_passMinute_86 ?_
      obtain ⟨M10, hM11⟩ : ∃ z : Mem, z = (m_pi M4 la0 7 ((m_gi M4 la0 7) + 1)) := ⟨_, rfl⟩
      replace hw := hw M10 hM11
      refine pw_put X (q := (RX1, TX1, tyX1, 8)) (ci := 1) (k := 7) (ref := "PatrolDesk$State") M10 hM11.symm ht9 rfl (by decide) in_X1 tyX1_ok nmX1 q175 (Or.inl rfl) rfl (m_kd_i (fun _ _ => rfl)) rfl rfl dX1_passMinute_87 ?_
      have hle12 : m_le M4 M10 := by rw [hM11]; exact m_le_pi
      have ht13 : m_tg M10 u1 = 14 := m_le_tg hle12 ht7
      have ht14 : m_tg M10 la0 = 2 := m_le_tg hle12 ht9
      refine pw_iload_n X dX1_passMinute_90 rfl rfl ?_
      exact pw_iret X hw dX1_passMinute_91
    · replace hw := hw.2 c8
      refine pw_aload_n X dX1_passMinute_60 rfl rfl ?_
      refine pw_aload_n X dX1_passMinute_61 rfl rfl ?_
      refine pw_iload_n X dX1_passMinute_62 rfl rfl ?_
      refine pw_runq X (m_cF X (b := u1) (ci := 13) (q := (RJ2, TJ2, tyJ2, 3)) (met_J2_get G C.2.1 M4 u1 lx3 _ hw) ht7 rfl (lw_app (lw_F q1028 q1031 q1033 q82) (lw_meth q1035)) (List.mem_of_getElem? (i := 2) rfl) (by decide +kernel : m_nMH ⟨"java/util/List", "get", "(I)Ljava/lang/Object;"⟩ 1) ⟨Nat.le_of_ble_eq_true rfl, Nat.le_of_ble_eq_true rfl⟩ rfl (Nat.le_of_ble_eq_true rfl) dX1_passMinute_63) (fun r17 M15 hle16 hx => ?_)
      replace hw := hx hle16
      clear hx
      have ht18 : m_tg M15 u1 = 14 := m_le_tg hle16 ht7
      obtain ⟨u19, he20, hw⟩ := hw
      subst he20
      obtain ⟨ht21, hw⟩ := hw
      refine pw_cast X 8 (q := (RX8, TX8, tyX8, 13)) rfl (fun _ h => by cases h; exact ht21) q1196 dX1_passMinute_68 ?_
      obtain ⟨ht22, hw⟩ := hw
      refine pw_runv X (m_cV X (b := la0) (ci := 1) (q := (RX1, TX1, tyX1, 8)) (met_X1_send G C.2.1 M15 la0 u19 _ hw) ht22 rfl (lw_V q1620 q1622 qs26 q79 q1623) ⟨rfl, nh_X1_send⟩ ⟨Nat.le_of_ble_eq_true rfl, Nat.le_of_ble_eq_true rfl⟩ rfl (Nat.le_of_ble_eq_true rfl) dX1_passMinute_71) (fun M23 hle24 hx => ?_)
      replace hw := hx hle24
      clear hx
      have ht25 : m_tg M23 u1 = 14 := m_le_tg hle24 ht18
      have ht26 : m_tg M23 u19 = 9 := m_le_tg hle24 ht21
      have ht27 : m_tg M23 la0 = 2 := m_le_tg hle24 ht22
      refine pw_iinc X (lx3 + 1) [(0, vR (some la0)), (1, vI lx1), (2, vR (some u1)), (3, vI (lx3 + 1))] [1, 2, 3, 0] dX1_passMinute_74 rfl (by first | rfl | decide) (by decide) rfl ?_
      refine pw_goto X 50 dX1_passMinute_77 (by decide) ?_
      exact ih _ la0 lx1 (some u1) (lx3 + 1) hw
theorem bk_X1_passMinute_4 (G : Gp) (C : m_Cx) (n0 s0 : Nat) (M0 : Mem) (Q : Int32 → Mem → Prop) (X : m_in G C RX1 cX1_passMinute 4 (some .int) "passMinute" 12 3120 n0 s0) : ∀ (n : Nat) (M : Mem) (la0 : Nat) (lx1 : Int32) (lx2 : Int32) (hw : wp_X1_passMinute_b4 G.2 Q n M la0 lx1 lx2), pW G C 4 n0 s0 M0 (m_Q G C n0 s0 (va_Qi (m_q1 M0 Q) (m_W G) (m_A G))) M 4 [(0, vR (some la0)), (1, vI lx1), (2, vI lx2)] [] := by
  intro n
  induction n with
  | zero => intro M la0 lx1 lx2 hw; exact hw.elim
  | succ n ih =>
    intro M la0 lx1 lx2 hw
    refine pw_iload_n X dX1_passMinute_4 rfl rfl ?_
    refine pw_aload_n X dX1_passMinute_5 rfl rfl ?_
    obtain ⟨ht1, hw⟩ := hw
    obtain ⟨u2, he3, hw⟩ := hw
    refine pw_get X (q := (RX1, TX1, tyX1, 8)) (ci := 1) (k := 1) (ref := "PatrolDesk$State") (vR (some u2)) ht1 rfl (by decide) in_X1 q163 (Or.inl rfl) (by rw [he3]; rfl) dX1_passMinute_6 ?_
    obtain ⟨ht4, hw⟩ := hw
    refine pw_runi X (m_cF X (b := u2) (ci := 13) (q := (RJ2, TJ2, tyJ2, 3)) (met_J2_size G C.2.1 M u2 _ hw) ht4 rfl (lw_app (lw_F q1026 q994 q996 q82) (lw_meth q998)) (List.mem_of_getElem? (i := 6) rfl) (by decide +kernel : m_nMH ⟨"java/util/List", "size", "()I"⟩ 0) ⟨Nat.le_of_ble_eq_true rfl, Nat.le_of_ble_eq_true rfl⟩ rfl (Nat.le_of_ble_eq_true rfl) dX1_passMinute_9) (fun r7 M5 hle6 hx => ?_)
    replace hw := hx hle6
    clear hx
    have ht8 : m_tg M5 la0 = 2 := m_le_tg hle6 ht1
    have ht9 : m_tg M5 u2 = 14 := m_le_tg hle6 ht4
    refine pw_icmp_ge X 43 dX1_passMinute_14 (by decide) (fun c10 => ?_) (fun c10 => ?_)
    · replace hw := hw.1 c10
      refine pw_aload_n X dX1_passMinute_43 rfl rfl ?_
      refine pw_runq X (m_cV X (b := la0) (ci := 1) (q := (RX1, TX1, tyX1, 8)) (met_X1_waiting G C.2.1 M5 la0 _ hw) ht8 rfl (lw_V q1591 q1592 q1593 q79 q1594) ⟨rfl, nh_X1_waiting⟩ ⟨Nat.le_of_ble_eq_true rfl, Nat.le_of_ble_eq_true rfl⟩ rfl (Nat.le_of_ble_eq_true rfl) dX1_passMinute_44) (fun r13 M11 hle12 hx => ?_)
      replace hw := hx hle12
      clear hx
      have ht14 : m_tg M11 la0 = 2 := m_le_tg hle12 ht8
      have ht15 : m_tg M11 u2 = 14 := m_le_tg hle12 ht9
      refine pw_astore_n X [(0, vR (some la0)), (1, vI lx1), (2, vR r13)] [1, 2, 0] dX1_passMinute_47 rfl (by decide) rfl ?_
      refine pw_iconst X 0 dX1_passMinute_48 (by decide) ?_
      refine pw_istore_n X [(0, vR (some la0)), (1, vI lx1), (2, vR r13), (3, vI 0)] [1, 2, 3, 0] dX1_passMinute_49 rfl (by decide) rfl ?_
      obtain ⟨n50, hw⟩ := hw
      exact bk_X1_passMinute_50 G C n0 s0 M0 Q X n50 _ la0 lx1 r13 0 hw
    · replace hw := hw.2 c10
      refine pw_iload_n X dX1_passMinute_17 rfl rfl ?_
      refine pw_aload_n X dX1_passMinute_18 rfl rfl ?_
      refine pw_aload_n X dX1_passMinute_19 rfl rfl ?_
      obtain ⟨u16, he17, hw⟩ := hw
      refine pw_get X (q := (RX1, TX1, tyX1, 8)) (ci := 1) (k := 1) (ref := "PatrolDesk$State") (vR (some u16)) ht8 rfl (by decide) in_X1 q163 (Or.inl rfl) (by rw [he17]; rfl) dX1_passMinute_20 ?_
      refine pw_iload_n X dX1_passMinute_23 rfl rfl ?_
      obtain ⟨ht18, hw⟩ := hw
      refine pw_runq X (m_cF X (b := u16) (ci := 13) (q := (RJ2, TJ2, tyJ2, 3)) (met_J2_get G C.2.1 M5 u16 lx2 _ hw) ht18 rfl (lw_app (lw_F q1028 q1031 q1033 q82) (lw_meth q1035)) (List.mem_of_getElem? (i := 2) rfl) (by decide +kernel : m_nMH ⟨"java/util/List", "get", "(I)Ljava/lang/Object;"⟩ 1) ⟨Nat.le_of_ble_eq_true rfl, Nat.le_of_ble_eq_true rfl⟩ rfl (Nat.le_of_ble_eq_true rfl) dX1_passMinute_24) (fun r21 M19 hle20 hx => ?_)
      replace hw := hx hle20
      clear hx
      have ht22 : m_tg M19 la0 = 2 := m_le_tg hle20 ht8
      have ht23 : m_tg M19 u2 = 14 := m_le_tg hle20 ht9
      have ht24 : m_tg M19 u16 = 14 := m_le_tg hle20 ht18
      obtain ⟨u25, he26, hw⟩ := hw
      subst he26
      obtain ⟨ht27, hw⟩ := hw
      refine pw_cast X 6 (q := (RX6, TX6, tyX6, 15)) rfl (fun _ h => by cases h; exact ht27) q1077 dX1_passMinute_29 ?_
      refine pw_runi X (m_cV X (b := la0) (ci := 1) (q := (RX1, TX1, tyX1, 8)) (met_X1_goOn G C.2.1 M19 la0 u25 _ hw) ht22 rfl (lw_V q1455 q1457 qs17 q79 q1458) ⟨rfl, nh_X1_goOn⟩ ⟨Nat.le_of_ble_eq_true rfl, Nat.le_of_ble_eq_true rfl⟩ rfl (Nat.le_of_ble_eq_true rfl) dX1_passMinute_32) (fun r30 M28 hle29 hx => ?_)
      replace hw := hx hle29
      clear hx
      have ht31 : m_tg M28 la0 = 2 := m_le_tg hle29 ht22
      have ht32 : m_tg M28 u2 = 14 := m_le_tg hle29 ht23
      have ht33 : m_tg M28 u16 = 14 := m_le_tg hle29 ht24
      have ht34 : m_tg M28 u25 = 7 := m_le_tg hle29 ht27
      refine pw_iadd X dX1_passMinute_35 ?_
      refine pw_istore_n X [(0, vR (some la0)), (1, vI (lx1 + r30)), (2, vI lx2)] [1, 0, 2] dX1_passMinute_36 rfl (by decide) rfl ?_
      refine pw_iinc X (lx2 + 1) [(0, vR (some la0)), (1, vI (lx1 + r30)), (2, vI (lx2 + 1))] [1, 2, 0] dX1_passMinute_37 rfl (by first | rfl | decide) (by decide) rfl ?_
      refine pw_goto X 4 dX1_passMinute_40 (by decide) ?_
      exact ih _ la0 (lx1 + r30) (lx2 + 1) hw
theorem bk_X1_passMinute_0 (G : Gp) (C : m_Cx) (n0 s0 : Nat) (M0 : Mem) (Q : Int32 → Mem → Prop) (X : m_in G C RX1 cX1_passMinute 4 (some .int) "passMinute" 12 3120 n0 s0) (M : Mem) (a0 : Nat) (hw : wp_X1_passMinute G.2 M a0 Q) : pW G C 4 n0 s0 M0 (m_Q G C n0 s0 (va_Qi (m_q1 M0 Q) (m_W G) (m_A G))) M 0 [(0, vR (some a0))] [] := by
  refine pw_iconst X 0 dX1_passMinute_0 (by decide) ?_
  refine pw_istore_n X [(0, vR (some a0)), (1, vI 0)] [1, 0] dX1_passMinute_1 rfl (by decide) rfl ?_
  refine pw_iconst X 0 dX1_passMinute_2 (by decide) ?_
  refine pw_istore_n X [(0, vR (some a0)), (1, vI 0), (2, vI 0)] [1, 2, 0] dX1_passMinute_3 rfl (by decide) rfl ?_
  obtain ⟨n4, hw⟩ := hw
  exact bk_X1_passMinute_4 G C n0 s0 M0 Q X n4 _ a0 0 0 hw
theorem met_X1_passMinute (G : Gp) (l : Launch) (M : Mem) (a0 : Nat) (Q : Int32 → Mem → Prop) (hw : wp_X1_passMinute G.2 M a0 Q) : m_K G l yX1_passMinute cX1_passMinute 4 (some .int) 12 3120 [vR (some a0)] M (va_Qi (m_q1 M Q) (m_W G) (m_A G)) := by
  refine m_met (by decide) (Nat.le_of_ble_eq_true rfl) (fun C e X => ?_)
  exact bk_X1_passMinute_0 G C _ _ M Q X M a0 hw
theorem nh_X1_passMinute : m_nMH yX1_passMinute 0 := by decide +kernel

def wp_X0_init (g : Nat → Nat) (M : Mem) (a0 : Nat) (Q : Mem → Prop) : Prop := m_fits M 8 ∧ ∀ u2 : Nat, m_tg M u2 = 0 → ∀ M4 : Mem, M4 = (m_al M u2 2 0 8) → wp_X1_init g M4 u2 (fun (M8 : Mem) => m_le M4 M8 → m_tg M8 a0 = 1 ∧ ∀ M12 : Mem, M12 = (m_pr M8 a0 0 (some u2)) → m_fits M12 3 ∧ ∀ u18 : Nat, m_tg M12 u18 = 0 → ∀ M20 : Mem, M20 = (m_al M12 u18 14 0 3) → wp_J2_init g M20 u18 (fun (M26 : Mem) => m_le M20 M26 → ∀ M31 : Mem, M31 = (m_pr M26 a0 2 (some u18)) → m_fits M31 4 ∧ ∀ u38 : Nat, m_tg M31 u38 = 0 → ∀ M40 : Mem, M40 = (m_al M31 u38 15 0 4) → wp_J4_init g M40 u38 (fun (M47 : Mem) => m_le M40 M47 → ∀ M53 : Mem, M53 = (m_pr M47 a0 3 (some u38)) → ∃ u60 : Nat, (m_gr M53 a0 0) = some u60 ∧ m_fits M53 4 ∧ ∀ u63 : Nat, m_tg M53 u63 = 0 → ∀ M65 : Mem, M65 = (m_al M53 u63 3 0 4) → wp_X2_init g M65 u63 none none 0 (fun (M73 : Mem) => m_le M65 M73 → m_tg M73 u60 = 2 ∧ ∀ M81 : Mem, M81 = (m_pr M73 u60 5 (some u63)) → ∃ u90 : Nat, (m_gr M81 a0 0) = some u90 ∧ m_tg M81 u90 = 2 ∧ ∃ u93 : Nat, (m_gr M81 u90 4) = some u93 ∧ m_tg M81 u93 = 101 ∧ vp_in 0 (m_ln M81 u93) ∧ ∀ M97 : Mem, M97 = (m_pi M81 u93 (Int32.toNatClampNeg 0) 90) → ∃ u108 : Nat, (m_gr M97 a0 0) = some u108 ∧ m_tg M97 u108 = 2 ∧ ∃ u111 : Nat, (m_gr M97 u108 4) = some u111 ∧ m_tg M97 u111 = 101 ∧ vp_in 1 (m_ln M97 u111) ∧ ∀ M115 : Mem, M115 = (m_pi M97 u111 (Int32.toNatClampNeg 1) 60) → ∃ u128 : Nat, (m_gr M115 a0 0) = some u128 ∧ m_tg M115 u128 = 2 ∧ ∃ u131 : Nat, (m_gr M115 u128 4) = some u131 ∧ m_tg M115 u131 = 101 ∧ vp_in 2 (m_ln M115 u131) ∧ ∀ M135 : Mem, M135 = (m_pi M115 u131 (Int32.toNatClampNeg 2) 40) → Q M135))))
theorem bk_X0_init_0 (G : Gp) (C : m_Cx) (n0 s0 : Nat) (M0 : Mem) (Q : Mem → Prop) (X : m_in G C RX0 cX0_init 1 none "<init>" 9 210 n0 s0) (M : Mem) (a0 : Nat) (hw : wp_X0_init G.2 M a0 Q) : pW G C 1 n0 s0 M0 (m_Q G C n0 s0 (va_Qv (m_q0 M0 Q) (m_W G) (m_A G))) M 0 [(0, vR (some a0))] [] := by
  refine pw_aload_n X dX0_init_0 rfl rfl ?_
  refine pw_objInit X rfl q126 q127 q128 dX0_init_1 (Nat.le_of_ble_eq_true rfl) (Nat.le_of_ble_eq_true rfl) ?_
  refine pw_aload_n X dX0_init_4 rfl rfl ?_
  obtain ⟨hf1, hw⟩ := hw
  refine pw_new X (ci := 1) (q := (RX1, TX1, tyX1, 8)) hf1 rfl in_X1 tyX1_ok q129 q130 q79 dX0_init_5 (fun u2 h03 => ?_)
  obtain ⟨M4, hM5⟩ : ∃ z : Mem, z = (m_al M u2 2 0 8) := ⟨_, rfl⟩
  replace hw := hw u2 h03 M4 hM5
  have hle6 : m_le M M4 := by rw [hM5]; exact m_le_al h03
  change pW _ _ _ _ _ _ _ (m_al M u2 2 0 8) _ _ _
  rw [← hM5]
  have ht7 : m_tg M4 u2 = 2 := by rw [hM5, m_tg_al, if_pos rfl]
  refine pw_dup X dX0_init_8 ?_
  refine pw_runv X (m_cIN X (b := u2) (met_X1_init G C.2.1 M4 u2 _ hw) q133 q79 q131 q132 rfl nh_X1_init ⟨Nat.le_of_ble_eq_true rfl, Nat.le_of_ble_eq_true rfl⟩ rfl (Nat.le_of_ble_eq_true rfl) dX0_init_9) (fun M8 hle9 hx => ?_)
  replace hw := hx hle9
  clear hx
  have ht10 : m_tg M8 u2 = 2 := m_le_tg hle9 ht7
  obtain ⟨ht11, hw⟩ := hw
  obtain ⟨M12, hM13⟩ : ∃ z : Mem, z = (m_pr M8 a0 0 (some u2)) := ⟨_, rfl⟩
  replace hw := hw M12 hM13
  refine pw_put X (q := (RX0, TX0, tyX0, 4)) (ci := 0) (k := 0) (ref := "PatrolDesk") M12 hM13.symm ht11 rfl (by decide) in_X0 tyX0_ok nmX0 q948 (Or.inl rfl) rfl (m_kd_r (fun _ _ => rfl)) m_no m_fo dX0_init_12 ?_
  have hle14 : m_le M8 M12 := by rw [hM13]; exact m_le_pr
  have ht15 : m_tg M12 u2 = 2 := m_le_tg hle14 ht10
  have ht16 : m_tg M12 a0 = 1 := m_le_tg hle14 ht11
  refine pw_aload_n X dX0_init_15 rfl rfl ?_
  obtain ⟨hf17, hw⟩ := hw
  refine pw_new X (ci := 13) (q := (RJ2, TJ2, tyJ2, 3)) hf17 rfl in_J2 tyJ2_ok q195 q136 q82 dX0_init_16 (fun u18 h019 => ?_)
  obtain ⟨M20, hM21⟩ : ∃ z : Mem, z = (m_al M12 u18 14 0 3) := ⟨_, rfl⟩
  replace hw := hw u18 h019 M20 hM21
  have hle22 : m_le M12 M20 := by rw [hM21]; exact m_le_al h019
  change pW _ _ _ _ _ _ _ (m_al M12 u18 14 0 3) _ _ _
  rw [← hM21]
  have ht23 : m_tg M20 u2 = 2 := m_le_tg hle22 ht15
  have ht24 : m_tg M20 a0 = 1 := m_le_tg hle22 ht16
  have ht25 : m_tg M20 u18 = 14 := by rw [hM21, m_tg_al, if_pos rfl]
  refine pw_dup X dX0_init_19 ?_
  refine pw_runv X (m_cI X (b := u18) (met_J2_init G C.2.1 M20 u18 _ hw) q139 q82 q196 q138 rfl nh_J2_init ⟨Nat.le_of_ble_eq_true rfl, Nat.le_of_ble_eq_true rfl⟩ rfl (Nat.le_of_ble_eq_true rfl) dX0_init_20) (fun M26 hle27 hx => ?_)
  replace hw := hx hle27
  clear hx
  have ht28 : m_tg M26 u2 = 2 := m_le_tg hle27 ht23
  have ht29 : m_tg M26 a0 = 1 := m_le_tg hle27 ht24
  have ht30 : m_tg M26 u18 = 14 := m_le_tg hle27 ht25
  obtain ⟨M31, hM32⟩ : ∃ z : Mem, z = (m_pr M26 a0 2 (some u18)) := ⟨_, rfl⟩
  replace hw := hw M31 hM32
  refine pw_putF X (q := (RX0, TX0, tyX0, 4)) (ci := 0) (k := 2) (ref := "PatrolDesk") M31 hM32.symm ht29 rfl (by decide) in_X0 tyX0_ok nmX0 q950 (Or.inl rfl) rfl rfl rfl (m_kd_r (fun _ _ => rfl)) m_no m_fo dX0_init_23 ?_
  have hle33 : m_le M26 M31 := by rw [hM32]; exact m_le_pr
  have ht34 : m_tg M31 u2 = 2 := m_le_tg hle33 ht28
  have ht35 : m_tg M31 a0 = 1 := m_le_tg hle33 ht29
  have ht36 : m_tg M31 u18 = 14 := m_le_tg hle33 ht30
  refine pw_aload_n X dX0_init_26 rfl rfl ?_
  obtain ⟨hf37, hw⟩ := hw
  refine pw_new X (ci := 14) (q := (RJ4, TJ4, tyJ4, 4)) hf37 rfl in_J4 tyJ4_ok q197 q198 q84 dX0_init_27 (fun u38 h039 => ?_)
  obtain ⟨M40, hM41⟩ : ∃ z : Mem, z = (m_al M31 u38 15 0 4) := ⟨_, rfl⟩
  replace hw := hw u38 h039 M40 hM41
  have hle42 : m_le M31 M40 := by rw [hM41]; exact m_le_al h039
  change pW _ _ _ _ _ _ _ (m_al M31 u38 15 0 4) _ _ _
  rw [← hM41]
  have ht43 : m_tg M40 u2 = 2 := m_le_tg hle42 ht34
  have ht44 : m_tg M40 a0 = 1 := m_le_tg hle42 ht35
  have ht45 : m_tg M40 u18 = 14 := m_le_tg hle42 ht36
  have ht46 : m_tg M40 u38 = 15 := by rw [hM41, m_tg_al, if_pos rfl]
  refine pw_dup X dX0_init_30 ?_
  refine pw_runv X (m_cI X (b := u38) (met_J4_init G C.2.1 M40 u38 _ hw) q201 q84 q199 q200 rfl nh_J4_init ⟨Nat.le_of_ble_eq_true rfl, Nat.le_of_ble_eq_true rfl⟩ rfl (Nat.le_of_ble_eq_true rfl) dX0_init_31) (fun M47 hle48 hx => ?_)
  replace hw := hx hle48
  clear hx
  have ht49 : m_tg M47 u2 = 2 := m_le_tg hle48 ht43
  have ht50 : m_tg M47 a0 = 1 := m_le_tg hle48 ht44
  have ht51 : m_tg M47 u18 = 14 := m_le_tg hle48 ht45
  have ht52 : m_tg M47 u38 = 15 := m_le_tg hle48 ht46
  obtain ⟨M53, hM54⟩ : ∃ z : Mem, z = (m_pr M47 a0 3 (some u38)) := ⟨_, rfl⟩
  replace hw := hw M53 hM54
  refine pw_putF X (q := (RX0, TX0, tyX0, 4)) (ci := 0) (k := 3) (ref := "PatrolDesk") M53 hM54.symm ht50 rfl (by decide) in_X0 tyX0_ok nmX0 q951 (Or.inl rfl) rfl rfl rfl (m_kd_r (fun _ _ => rfl)) m_no m_fo dX0_init_34 ?_
  have hle55 : m_le M47 M53 := by rw [hM54]; exact m_le_pr
  have ht56 : m_tg M53 u2 = 2 := m_le_tg hle55 ht49
  have ht57 : m_tg M53 a0 = 1 := m_le_tg hle55 ht50
  have ht58 : m_tg M53 u18 = 14 := m_le_tg hle55 ht51
  have ht59 : m_tg M53 u38 = 15 := m_le_tg hle55 ht52
  refine pw_aload_n X dX0_init_37 rfl rfl ?_
  obtain ⟨u60, he61, hw⟩ := hw
  refine pw_get X (q := (RX0, TX0, tyX0, 4)) (ci := 0) (k := 0) (ref := "PatrolDesk") (vR (some u60)) ht57 rfl (by decide) in_X0 q948 (Or.inl rfl) (by rw [he61]; rfl) dX0_init_38 ?_
  obtain ⟨hf62, hw⟩ := hw
  refine pw_new X (ci := 2) (q := (RX2, TX2, tyX2, 4)) hf62 rfl in_X2 tyX2_ok q229 q230 q87 dX0_init_41 (fun u63 h064 => ?_)
  obtain ⟨M65, hM66⟩ : ∃ z : Mem, z = (m_al M53 u63 3 0 4) := ⟨_, rfl⟩
  replace hw := hw u63 h064 M65 hM66
  have hle67 : m_le M53 M65 := by rw [hM66]; exact m_le_al h064
  change pW _ _ _ _ _ _ _ (m_al M53 u63 3 0 4) _ _ _
  rw [← hM66]
  have ht68 : m_tg M65 u2 = 2 := m_le_tg hle67 ht56
  have ht69 : m_tg M65 a0 = 1 := m_le_tg hle67 ht57
  have ht70 : m_tg M65 u18 = 14 := m_le_tg hle67 ht58
  have ht71 : m_tg M65 u38 = 15 := m_le_tg hle67 ht59
  have ht72 : m_tg M65 u63 = 3 := by rw [hM66, m_tg_al, if_pos rfl]
  refine pw_dup X dX0_init_44 ?_
  refine pw_null X dX0_init_45 ?_
  refine pw_null X dX0_init_46 ?_
  refine pw_iconst X 0 dX0_init_47 (by decide) ?_
  refine pw_runv X (m_cI X (b := u63) (met_X2_init G C.2.1 M65 u63 none none 0 _ hw) q233 q87 q231 q232 rfl nh_X2_init ⟨Nat.le_of_ble_eq_true rfl, Nat.le_of_ble_eq_true rfl⟩ rfl (Nat.le_of_ble_eq_true rfl) dX0_init_48) (fun M73 hle74 hx => ?_)
  replace hw := hx hle74
  clear hx
  have ht75 : m_tg M73 u2 = 2 := m_le_tg hle74 ht68
  have ht76 : m_tg M73 a0 = 1 := m_le_tg hle74 ht69
  have ht77 : m_tg M73 u18 = 14 := m_le_tg hle74 ht70
  have ht78 : m_tg M73 u38 = 15 := m_le_tg hle74 ht71
  have ht79 : m_tg M73 u63 = 3 := m_le_tg hle74 ht72
  obtain ⟨ht80, hw⟩ := hw
  obtain ⟨M81, hM82⟩ : ∃ z : Mem, z = (m_pr M73 u60 5 (some u63)) := ⟨_, rfl⟩
  replace hw := hw M81 hM82
  refine pw_putN X (q := (RX1, TX1, tyX1, 8)) (ci := 1) (k := 5) (ref := "PatrolDesk$State") (host := "PatrolDesk") M81 hM82.symm ht80 rfl (by decide) in_X1 tyX1_ok nmX1 q172 (Or.inl rfl) rfl (m_kd_r (fun _ _ => rfl)) m_no m_fo dX0_init_51 ?_
  have hle83 : m_le M73 M81 := by rw [hM82]; exact m_le_pr
  have ht84 : m_tg M81 u2 = 2 := m_le_tg hle83 ht75
  have ht85 : m_tg M81 a0 = 1 := m_le_tg hle83 ht76
  have ht86 : m_tg M81 u18 = 14 := m_le_tg hle83 ht77
  have ht87 : m_tg M81 u38 = 15 := m_le_tg hle83 ht78
  have ht88 : m_tg M81 u63 = 3 := m_le_tg hle83 ht79
  have ht89 : m_tg M81 u60 = 2 := m_le_tg hle83 ht80
  refine pw_aload_n X dX0_init_54 rfl rfl ?_
  obtain ⟨u90, he91, hw⟩ := hw
  refine pw_get X (q := (RX0, TX0, tyX0, 4)) (ci := 0) (k := 0) (ref := "PatrolDesk") (vR (some u90)) ht85 rfl (by decide) in_X0 q948 (Or.inl rfl) (by rw [he91]; rfl) dX0_init_55 ?_
  obtain ⟨ht92, hw⟩ := hw
  obtain ⟨u93, he94, hw⟩ := hw
  refine pw_getN X (q := (RX1, TX1, tyX1, 8)) (ci := 1) (k := 4) (ref := "PatrolDesk$State") (host := "PatrolDesk") (vR (some u93)) ht92 rfl (by decide) in_X1 q170 (Or.inl rfl) (by rw [he94]; rfl) dX0_init_58 ?_
  refine pw_iconst X 0 dX0_init_61 (by decide) ?_
  refine pw_bipush X 90 dX0_init_62 (by decide) ?_
  obtain ⟨ht95, hw⟩ := hw
  obtain ⟨hi96, hw⟩ := hw
  obtain ⟨M97, hM98⟩ : ∃ z : Mem, z = (m_pi M81 u93 (Int32.toNatClampNeg 0) 90) := ⟨_, rfl⟩
  replace hw := hw M97 hM98
  have hle99 : m_le M81 M97 := by rw [hM98]; exact m_le_pi
  refine pw_iast X ht95 hi96 dX0_init_64 ?_
  rw [← hM98]
  have ht100 : m_tg M97 u2 = 2 := m_le_tg hle99 ht84
  have ht101 : m_tg M97 a0 = 1 := m_le_tg hle99 ht85
  have ht102 : m_tg M97 u18 = 14 := m_le_tg hle99 ht86
  have ht103 : m_tg M97 u38 = 15 := m_le_tg hle99 ht87
  have ht104 : m_tg M97 u63 = 3 := m_le_tg hle99 ht88
  have ht105 : m_tg M97 u60 = 2 := m_le_tg hle99 ht89
  have ht106 : m_tg M97 u90 = 2 := m_le_tg hle99 ht92
  have ht107 : m_tg M97 u93 = 101 := m_le_tg hle99 ht95
  refine pw_aload_n X dX0_init_65 rfl rfl ?_
  obtain ⟨u108, he109, hw⟩ := hw
  refine pw_get X (q := (RX0, TX0, tyX0, 4)) (ci := 0) (k := 0) (ref := "PatrolDesk") (vR (some u108)) ht101 rfl (by decide) in_X0 q948 (Or.inl rfl) (by rw [he109]; rfl) dX0_init_66 ?_
  obtain ⟨ht110, hw⟩ := hw
  obtain ⟨u111, he112, hw⟩ := hw
  refine pw_getN X (q := (RX1, TX1, tyX1, 8)) (ci := 1) (k := 4) (ref := "PatrolDesk$State") (host := "PatrolDesk") (vR (some u111)) ht110 rfl (by decide) in_X1 q170 (Or.inl rfl) (by rw [he112]; rfl) dX0_init_69 ?_
  refine pw_iconst X 1 dX0_init_72 (by decide) ?_
  refine pw_bipush X 60 dX0_init_73 (by decide) ?_
  obtain ⟨ht113, hw⟩ := hw
  obtain ⟨hi114, hw⟩ := hw
  obtain ⟨M115, hM116⟩ : ∃ z : Mem, z = (m_pi M97 u111 (Int32.toNatClampNeg 1) 60) := ⟨_, rfl⟩
  replace hw := hw M115 hM116
  have hle117 : m_le M97 M115 := by rw [hM116]; exact m_le_pi
  refine pw_iast X ht113 hi114 dX0_init_75 ?_
  rw [← hM116]
  have ht118 : m_tg M115 u2 = 2 := m_le_tg hle117 ht100
  have ht119 : m_tg M115 a0 = 1 := m_le_tg hle117 ht101
  have ht120 : m_tg M115 u18 = 14 := m_le_tg hle117 ht102
  have ht121 : m_tg M115 u38 = 15 := m_le_tg hle117 ht103
  have ht122 : m_tg M115 u63 = 3 := m_le_tg hle117 ht104
  have ht123 : m_tg M115 u60 = 2 := m_le_tg hle117 ht105
  have ht124 : m_tg M115 u90 = 2 := m_le_tg hle117 ht106
  have ht125 : m_tg M115 u93 = 101 := m_le_tg hle117 ht107
  have ht126 : m_tg M115 u108 = 2 := m_le_tg hle117 ht110
  have ht127 : m_tg M115 u111 = 101 := m_le_tg hle117 ht113
  refine pw_aload_n X dX0_init_76 rfl rfl ?_
  obtain ⟨u128, he129, hw⟩ := hw
  refine pw_get X (q := (RX0, TX0, tyX0, 4)) (ci := 0) (k := 0) (ref := "PatrolDesk") (vR (some u128)) ht119 rfl (by decide) in_X0 q948 (Or.inl rfl) (by rw [he129]; rfl) dX0_init_77 ?_
  obtain ⟨ht130, hw⟩ := hw
  obtain ⟨u131, he132, hw⟩ := hw
  refine pw_getN X (q := (RX1, TX1, tyX1, 8)) (ci := 1) (k := 4) (ref := "PatrolDesk$State") (host := "PatrolDesk") (vR (some u131)) ht130 rfl (by decide) in_X1 q170 (Or.inl rfl) (by rw [he132]; rfl) dX0_init_80 ?_
  refine pw_iconst X 2 dX0_init_83 (by decide) ?_
  refine pw_bipush X 40 dX0_init_84 (by decide) ?_
  obtain ⟨ht133, hw⟩ := hw
  obtain ⟨hi134, hw⟩ := hw
  obtain ⟨M135, hM136⟩ : ∃ z : Mem, z = (m_pi M115 u131 (Int32.toNatClampNeg 2) 40) := ⟨_, rfl⟩
  replace hw := hw M135 hM136
  have hle137 : m_le M115 M135 := by rw [hM136]; exact m_le_pi
  refine pw_iast X ht133 hi134 dX0_init_86 ?_
  rw [← hM136]
  have ht138 : m_tg M135 u2 = 2 := m_le_tg hle137 ht118
  have ht139 : m_tg M135 a0 = 1 := m_le_tg hle137 ht119
  have ht140 : m_tg M135 u18 = 14 := m_le_tg hle137 ht120
  have ht141 : m_tg M135 u38 = 15 := m_le_tg hle137 ht121
  have ht142 : m_tg M135 u63 = 3 := m_le_tg hle137 ht122
  have ht143 : m_tg M135 u60 = 2 := m_le_tg hle137 ht123
  have ht144 : m_tg M135 u90 = 2 := m_le_tg hle137 ht124
  have ht145 : m_tg M135 u93 = 101 := m_le_tg hle137 ht125
  have ht146 : m_tg M135 u108 = 2 := m_le_tg hle137 ht126
  have ht147 : m_tg M135 u111 = 101 := m_le_tg hle137 ht127
  have ht148 : m_tg M135 u128 = 2 := m_le_tg hle137 ht130
  have ht149 : m_tg M135 u131 = 101 := m_le_tg hle137 ht133
  exact pw_vret X hw dX0_init_87
theorem met_X0_init (G : Gp) (l : Launch) (M : Mem) (a0 : Nat) (Q : Mem → Prop) (hw : wp_X0_init G.2 M a0 Q) : m_K G l yX0_init cX0_init 1 none 9 210 [vR (some a0)] M (va_Qv (m_q0 M Q) (m_W G) (m_A G)) := by
  refine m_met (by decide) (Nat.le_of_ble_eq_true rfl) (fun C e X => ?_)
  exact bk_X0_init_0 G C _ _ M Q X M a0 hw
theorem nh_X0_init : m_nMH yX0_init 0 := by decide +kernel

def wp_X0_record_b24 (g : Nat → Nat) (M : Mem) (la0 : Nat) (Q : Mem → Prop) : Prop := m_tg M la0 = 1 ∧ ∃ u2 : Nat, (m_gr M la0 2) = some u2 ∧ ∃ u4 : Nat, (m_gr M la0 0) = some u4 ∧ m_tg M u4 = 2 ∧ wp_X1_copy g M u4 (fun (r9 : Option Nat) (M7 : Mem) => m_le M M7 → m_tg M7 u2 = 14 ∧ wp_J2_add g M7 u2 r9 (fun (r15 : Int32) (M13 : Mem) => m_le M7 M13 → Q M13))
def wp_X0_record (g : Nat → Nat) (M : Mem) (a0 : Nat) (Q : Mem → Prop) : Prop := m_tg M a0 = 1 ∧ ∃ u2 : Nat, (m_gr M a0 2) = some u2 ∧ m_tg M u2 = 14 ∧ wp_J2_size g M u2 (fun (r7 : Int32) (M5 : Mem) => m_le M M5 → ((¬ r7 = 4 → wp_X0_record_b24 g M5 a0 Q) ∧ (r7 = 4 → ∃ u11 : Nat, (m_gr M5 a0 2) = some u11 ∧ m_tg M5 u11 = 14 ∧ wp_J2_remove g M5 u11 0 (fun (r16 : Option Nat) (M14 : Mem) => m_le M5 M14 → wp_X0_record_b24 g M14 a0 Q))))
theorem bk_X0_record_24 (G : Gp) (C : m_Cx) (n0 s0 : Nat) (M0 : Mem) (Q : Mem → Prop) (X : m_in G C RX0 cX0_record 1 none "record" 8 183 n0 s0) (M : Mem) (la0 : Nat) (hw : wp_X0_record_b24 G.2 M la0 Q) : pW G C 1 n0 s0 M0 (m_Q G C n0 s0 (va_Qv (m_q0 M0 Q) (m_W G) (m_A G))) M 24 [(0, vR (some la0))] [] := by
  refine pw_aload_n X dX0_record_24 rfl rfl ?_
  obtain ⟨ht1, hw⟩ := hw
  obtain ⟨u2, he3, hw⟩ := hw
  refine pw_get X (q := (RX0, TX0, tyX0, 4)) (ci := 0) (k := 2) (ref := "PatrolDesk") (vR (some u2)) ht1 rfl (by decide) in_X0 q950 (Or.inl rfl) (by rw [he3]; rfl) dX0_record_25 ?_
  refine pw_aload_n X dX0_record_28 rfl rfl ?_
  obtain ⟨u4, he5, hw⟩ := hw
  refine pw_get X (q := (RX0, TX0, tyX0, 4)) (ci := 0) (k := 0) (ref := "PatrolDesk") (vR (some u4)) ht1 rfl (by decide) in_X0 q948 (Or.inl rfl) (by rw [he5]; rfl) dX0_record_29 ?_
  obtain ⟨ht6, hw⟩ := hw
  refine pw_runq X (m_cV X (b := u4) (ci := 1) (q := (RX1, TX1, tyX1, 8)) (met_X1_copy G C.2.1 M u4 _ hw) ht6 rfl (lw_V q1019 q1020 q1021 q79 q1022) ⟨rfl, nh_X1_copy⟩ ⟨Nat.le_of_ble_eq_true rfl, Nat.le_of_ble_eq_true rfl⟩ rfl (Nat.le_of_ble_eq_true rfl) dX0_record_32) (fun r9 M7 hle8 hx => ?_)
  replace hw := hx hle8
  clear hx
  have ht10 : m_tg M7 la0 = 1 := m_le_tg hle8 ht1
  have ht11 : m_tg M7 u4 = 2 := m_le_tg hle8 ht6
  obtain ⟨ht12, hw⟩ := hw
  refine pw_runi X (m_cF X (b := u2) (ci := 13) (q := (RJ2, TJ2, tyJ2, 3)) (met_J2_add G C.2.1 M7 u2 r9 _ hw) ht12 rfl (lw_app (lw_F q1273 q888 q890 q82) (lw_meth q892)) (List.mem_of_getElem? (i := 1) rfl) (by decide +kernel : m_nMH ⟨"java/util/List", "add", "(Ljava/lang/Object;)Z"⟩ 1) ⟨Nat.le_of_ble_eq_true rfl, Nat.le_of_ble_eq_true rfl⟩ rfl (Nat.le_of_ble_eq_true rfl) dX0_record_35) (fun r15 M13 hle14 hx => ?_)
  replace hw := hx hle14
  clear hx
  have ht16 : m_tg M13 la0 = 1 := m_le_tg hle14 ht10
  have ht17 : m_tg M13 u4 = 2 := m_le_tg hle14 ht11
  have ht18 : m_tg M13 u2 = 14 := m_le_tg hle14 ht12
  refine pw_pop X dX0_record_40 ?_
  exact pw_vret X hw dX0_record_41
theorem bk_X0_record_0 (G : Gp) (C : m_Cx) (n0 s0 : Nat) (M0 : Mem) (Q : Mem → Prop) (X : m_in G C RX0 cX0_record 1 none "record" 8 183 n0 s0) (M : Mem) (a0 : Nat) (hw : wp_X0_record G.2 M a0 Q) : pW G C 1 n0 s0 M0 (m_Q G C n0 s0 (va_Qv (m_q0 M0 Q) (m_W G) (m_A G))) M 0 [(0, vR (some a0))] [] := by
  refine pw_aload_n X dX0_record_0 rfl rfl ?_
  obtain ⟨ht1, hw⟩ := hw
  obtain ⟨u2, he3, hw⟩ := hw
  refine pw_get X (q := (RX0, TX0, tyX0, 4)) (ci := 0) (k := 2) (ref := "PatrolDesk") (vR (some u2)) ht1 rfl (by decide) in_X0 q950 (Or.inl rfl) (by rw [he3]; rfl) dX0_record_1 ?_
  obtain ⟨ht4, hw⟩ := hw
  refine pw_runi X (m_cF X (b := u2) (ci := 13) (q := (RJ2, TJ2, tyJ2, 3)) (met_J2_size G C.2.1 M u2 _ hw) ht4 rfl (lw_app (lw_F q991 q994 q996 q82) (lw_meth q998)) (List.mem_of_getElem? (i := 6) rfl) (by decide +kernel : m_nMH ⟨"java/util/List", "size", "()I"⟩ 0) ⟨Nat.le_of_ble_eq_true rfl, Nat.le_of_ble_eq_true rfl⟩ rfl (Nat.le_of_ble_eq_true rfl) dX0_record_4) (fun r7 M5 hle6 hx => ?_)
  replace hw := hx hle6
  clear hx
  have ht8 : m_tg M5 a0 = 1 := m_le_tg hle6 ht1
  have ht9 : m_tg M5 u2 = 14 := m_le_tg hle6 ht4
  refine pw_iconst X 4 dX0_record_9 (by decide) ?_
  refine pw_icmp_ne X 24 dX0_record_10 (by decide) (fun c10 => ?_) (fun c10 => ?_)
  · replace hw := hw.1 c10
    exact bk_X0_record_24 G C n0 s0 M0 Q X _ a0 hw
  · replace hw := hw.2 c10
    refine pw_aload_n X dX0_record_13 rfl rfl ?_
    obtain ⟨u11, he12, hw⟩ := hw
    refine pw_get X (q := (RX0, TX0, tyX0, 4)) (ci := 0) (k := 2) (ref := "PatrolDesk") (vR (some u11)) ht8 rfl (by decide) in_X0 q950 (Or.inl rfl) (by rw [he12]; rfl) dX0_record_14 ?_
    refine pw_iconst X 0 dX0_record_17 (by decide) ?_
    obtain ⟨ht13, hw⟩ := hw
    refine pw_runq X (m_cF X (b := u11) (ci := 13) (q := (RJ2, TJ2, tyJ2, 3)) (met_J2_remove G C.2.1 M5 u11 0 _ hw) ht13 rfl (lw_app (lw_F q1000 q1003 q1005 q82) (lw_meth q1007)) (List.mem_of_getElem? (i := 4) rfl) (by decide +kernel : m_nMH ⟨"java/util/List", "remove", "(I)Ljava/lang/Object;"⟩ 1) ⟨Nat.le_of_ble_eq_true rfl, Nat.le_of_ble_eq_true rfl⟩ rfl (Nat.le_of_ble_eq_true rfl) dX0_record_18) (fun r16 M14 hle15 hx => ?_)
    replace hw := hx hle15
    clear hx
    have ht17 : m_tg M14 a0 = 1 := m_le_tg hle15 ht8
    have ht18 : m_tg M14 u2 = 14 := m_le_tg hle15 ht9
    have ht19 : m_tg M14 u11 = 14 := m_le_tg hle15 ht13
    refine pw_pop X dX0_record_23 ?_
    exact bk_X0_record_24 G C n0 s0 M0 Q X _ a0 hw
theorem met_X0_record (G : Gp) (l : Launch) (M : Mem) (a0 : Nat) (Q : Mem → Prop) (hw : wp_X0_record G.2 M a0 Q) : m_K G l yX0_record cX0_record 1 none 8 183 [vR (some a0)] M (va_Qv (m_q0 M Q) (m_W G) (m_A G)) := by
  refine m_met (by decide) (Nat.le_of_ble_eq_true rfl) (fun C e X => ?_)
  exact bk_X0_record_0 G C _ _ M Q X M a0 hw
theorem nh_X0_record : m_nMH yX0_record 0 := by decide +kernel

def wp_X0_isMember (g : Nat → Nat) (M : Mem) (a0 : Nat) (x1 : Int32) (Q : Int32 → Mem → Prop) : Prop := m_tg M a0 = 1 ∧ ∃ u2 : Nat, (m_gr M a0 0) = some u2 ∧ m_tg M u2 = 2 ∧ ∃ u5 : Nat, (m_gr M u2 0) = some u5 ∧ m_tg M u5 = 14 ∧ wp_J2_size g M u5 (fun (r10 : Int32) (M8 : Mem) => m_le M M8 → wp_X0_inRange g M8 x1 0 (r10 - 1) (fun (r16 : Int32) (M14 : Mem) => m_le M8 M14 → ((r16 = 0 ∨ r16 = 1) ∧ Q r16 M14)))
theorem bk_X0_isMember_0 (G : Gp) (C : m_Cx) (n0 s0 : Nat) (M0 : Mem) (Q : Int32 → Mem → Prop) (X : m_in G C RX0 cX0_isMember 2 (some .boolean) "isMember" 1 22 n0 s0) (M : Mem) (a0 : Nat) (x1 : Int32) (hw : wp_X0_isMember G.2 M a0 x1 Q) : pW G C 2 n0 s0 M0 (m_Q G C n0 s0 (va_Qi (m_q1 M0 Q) (m_W G) (m_A G))) M 0 [(0, vR (some a0)), (1, vI x1)] [] := by
  refine pw_iload_n X dX0_isMember_0 rfl rfl ?_
  refine pw_iconst X 0 dX0_isMember_1 (by decide) ?_
  refine pw_aload_n X dX0_isMember_2 rfl rfl ?_
  obtain ⟨ht1, hw⟩ := hw
  obtain ⟨u2, he3, hw⟩ := hw
  refine pw_get X (q := (RX0, TX0, tyX0, 4)) (ci := 0) (k := 0) (ref := "PatrolDesk") (vR (some u2)) ht1 rfl (by decide) in_X0 q948 (Or.inl rfl) (by rw [he3]; rfl) dX0_isMember_3 ?_
  obtain ⟨ht4, hw⟩ := hw
  obtain ⟨u5, he6, hw⟩ := hw
  refine pw_getN X (q := (RX1, TX1, tyX1, 8)) (ci := 1) (k := 0) (ref := "PatrolDesk$State") (host := "PatrolDesk") (vR (some u5)) ht4 rfl (by decide) in_X1 q162 (Or.inl rfl) (by rw [he6]; rfl) dX0_isMember_6 ?_
  obtain ⟨ht7, hw⟩ := hw
  refine pw_runi X (m_cF X (b := u5) (ci := 13) (q := (RJ2, TJ2, tyJ2, 3)) (met_J2_size G C.2.1 M u5 _ hw) ht7 rfl (lw_app (lw_F q991 q994 q996 q82) (lw_meth q998)) (List.mem_of_getElem? (i := 6) rfl) (by decide +kernel : m_nMH ⟨"java/util/List", "size", "()I"⟩ 0) ⟨Nat.le_of_ble_eq_true rfl, Nat.le_of_ble_eq_true rfl⟩ rfl (Nat.le_of_ble_eq_true rfl) dX0_isMember_9) (fun r10 M8 hle9 hx => ?_)
  replace hw := hx hle9
  clear hx
  have ht11 : m_tg M8 a0 = 1 := m_le_tg hle9 ht1
  have ht12 : m_tg M8 u2 = 2 := m_le_tg hle9 ht4
  have ht13 : m_tg M8 u5 = 14 := m_le_tg hle9 ht7
  refine pw_iconst X 1 dX0_isMember_14 (by decide) ?_
  refine pw_isub X dX0_isMember_15 ?_
  refine pw_runi X (m_cS X (met_X0_inRange G C.2.1 M8 x1 0 (r10 - 1) _ hw) (lw_S q968 q969 q78 q970) nh_X0_inRange ⟨Nat.le_of_ble_eq_true rfl, Nat.le_of_ble_eq_true rfl⟩ rfl (Nat.le_of_ble_eq_true rfl) dX0_isMember_16) (fun r16 M14 hle15 hx => ?_)
  replace hw := hx hle15
  clear hx
  have ht17 : m_tg M14 a0 = 1 := m_le_tg hle15 ht11
  have ht18 : m_tg M14 u2 = 2 := m_le_tg hle15 ht12
  have ht19 : m_tg M14 u5 = 14 := m_le_tg hle15 ht13
  exact pw_zret X (m_nz hw.1) hw.2 dX0_isMember_19
theorem met_X0_isMember (G : Gp) (l : Launch) (M : Mem) (a0 : Nat) (x1 : Int32) (Q : Int32 → Mem → Prop) (hw : wp_X0_isMember G.2 M a0 x1 Q) : m_K G l yX0_isMember cX0_isMember 2 (some .boolean) 1 22 [vR (some a0), vI x1] M (va_Qi (m_q1 M Q) (m_W G) (m_A G)) := by
  refine m_met (by decide) (Nat.le_of_ble_eq_true rfl) (fun C e X => ?_)
  exact bk_X0_isMember_0 G C _ _ M Q X M a0 x1 hw
theorem nh_X0_isMember : m_nMH yX0_isMember 1 := by decide +kernel

def wp_X0_isPatrol (g : Nat → Nat) (M : Mem) (a0 : Nat) (x1 : Int32) (Q : Int32 → Mem → Prop) : Prop := m_tg M a0 = 1 ∧ ∃ u2 : Nat, (m_gr M a0 0) = some u2 ∧ m_tg M u2 = 2 ∧ ∃ u5 : Nat, (m_gr M u2 1) = some u5 ∧ m_tg M u5 = 14 ∧ wp_J2_size g M u5 (fun (r10 : Int32) (M8 : Mem) => m_le M M8 → wp_X0_inRange g M8 x1 0 (r10 - 1) (fun (r16 : Int32) (M14 : Mem) => m_le M8 M14 → ((r16 = 0 ∨ r16 = 1) ∧ Q r16 M14)))
theorem bk_X0_isPatrol_0 (G : Gp) (C : m_Cx) (n0 s0 : Nat) (M0 : Mem) (Q : Int32 → Mem → Prop) (X : m_in G C RX0 cX0_isPatrol 2 (some .boolean) "isPatrol" 1 22 n0 s0) (M : Mem) (a0 : Nat) (x1 : Int32) (hw : wp_X0_isPatrol G.2 M a0 x1 Q) : pW G C 2 n0 s0 M0 (m_Q G C n0 s0 (va_Qi (m_q1 M0 Q) (m_W G) (m_A G))) M 0 [(0, vR (some a0)), (1, vI x1)] [] := by
  refine pw_iload_n X dX0_isPatrol_0 rfl rfl ?_
  refine pw_iconst X 0 dX0_isPatrol_1 (by decide) ?_
  refine pw_aload_n X dX0_isPatrol_2 rfl rfl ?_
  obtain ⟨ht1, hw⟩ := hw
  obtain ⟨u2, he3, hw⟩ := hw
  refine pw_get X (q := (RX0, TX0, tyX0, 4)) (ci := 0) (k := 0) (ref := "PatrolDesk") (vR (some u2)) ht1 rfl (by decide) in_X0 q948 (Or.inl rfl) (by rw [he3]; rfl) dX0_isPatrol_3 ?_
  obtain ⟨ht4, hw⟩ := hw
  obtain ⟨u5, he6, hw⟩ := hw
  refine pw_getN X (q := (RX1, TX1, tyX1, 8)) (ci := 1) (k := 1) (ref := "PatrolDesk$State") (host := "PatrolDesk") (vR (some u5)) ht4 rfl (by decide) in_X1 q164 (Or.inl rfl) (by rw [he6]; rfl) dX0_isPatrol_6 ?_
  obtain ⟨ht7, hw⟩ := hw
  refine pw_runi X (m_cF X (b := u5) (ci := 13) (q := (RJ2, TJ2, tyJ2, 3)) (met_J2_size G C.2.1 M u5 _ hw) ht7 rfl (lw_app (lw_F q991 q994 q996 q82) (lw_meth q998)) (List.mem_of_getElem? (i := 6) rfl) (by decide +kernel : m_nMH ⟨"java/util/List", "size", "()I"⟩ 0) ⟨Nat.le_of_ble_eq_true rfl, Nat.le_of_ble_eq_true rfl⟩ rfl (Nat.le_of_ble_eq_true rfl) dX0_isPatrol_9) (fun r10 M8 hle9 hx => ?_)
  replace hw := hx hle9
  clear hx
  have ht11 : m_tg M8 a0 = 1 := m_le_tg hle9 ht1
  have ht12 : m_tg M8 u2 = 2 := m_le_tg hle9 ht4
  have ht13 : m_tg M8 u5 = 14 := m_le_tg hle9 ht7
  refine pw_iconst X 1 dX0_isPatrol_14 (by decide) ?_
  refine pw_isub X dX0_isPatrol_15 ?_
  refine pw_runi X (m_cS X (met_X0_inRange G C.2.1 M8 x1 0 (r10 - 1) _ hw) (lw_S q968 q969 q78 q970) nh_X0_inRange ⟨Nat.le_of_ble_eq_true rfl, Nat.le_of_ble_eq_true rfl⟩ rfl (Nat.le_of_ble_eq_true rfl) dX0_isPatrol_16) (fun r16 M14 hle15 hx => ?_)
  replace hw := hx hle15
  clear hx
  have ht17 : m_tg M14 a0 = 1 := m_le_tg hle15 ht11
  have ht18 : m_tg M14 u2 = 2 := m_le_tg hle15 ht12
  have ht19 : m_tg M14 u5 = 14 := m_le_tg hle15 ht13
  exact pw_zret X (m_nz hw.1) hw.2 dX0_isPatrol_19
theorem met_X0_isPatrol (G : Gp) (l : Launch) (M : Mem) (a0 : Nat) (x1 : Int32) (Q : Int32 → Mem → Prop) (hw : wp_X0_isPatrol G.2 M a0 x1 Q) : m_K G l yX0_isPatrol cX0_isPatrol 2 (some .boolean) 1 22 [vR (some a0), vI x1] M (va_Qi (m_q1 M Q) (m_W G) (m_A G)) := by
  refine m_met (by decide) (Nat.le_of_ble_eq_true rfl) (fun C e X => ?_)
  exact bk_X0_isPatrol_0 G C _ _ M Q X M a0 x1 hw
theorem nh_X0_isPatrol : m_nMH yX0_isPatrol 1 := by decide +kernel

def wp_X0_isGarage (g : Nat → Nat) (M : Mem) (a0 : Nat) (x1 : Int32) (Q : Int32 → Mem → Prop) : Prop := m_tg M a0 = 1 ∧ ∃ u2 : Nat, (m_gr M a0 0) = some u2 ∧ m_tg M u2 = 2 ∧ ∃ u5 : Nat, (m_gr M u2 2) = some u5 ∧ m_tg M u5 = 14 ∧ wp_J2_size g M u5 (fun (r10 : Int32) (M8 : Mem) => m_le M M8 → wp_X0_inRange g M8 x1 0 (r10 - 1) (fun (r16 : Int32) (M14 : Mem) => m_le M8 M14 → ((r16 = 0 ∨ r16 = 1) ∧ Q r16 M14)))
theorem bk_X0_isGarage_0 (G : Gp) (C : m_Cx) (n0 s0 : Nat) (M0 : Mem) (Q : Int32 → Mem → Prop) (X : m_in G C RX0 cX0_isGarage 2 (some .boolean) "isGarage" 1 22 n0 s0) (M : Mem) (a0 : Nat) (x1 : Int32) (hw : wp_X0_isGarage G.2 M a0 x1 Q) : pW G C 2 n0 s0 M0 (m_Q G C n0 s0 (va_Qi (m_q1 M0 Q) (m_W G) (m_A G))) M 0 [(0, vR (some a0)), (1, vI x1)] [] := by
  refine pw_iload_n X dX0_isGarage_0 rfl rfl ?_
  refine pw_iconst X 0 dX0_isGarage_1 (by decide) ?_
  refine pw_aload_n X dX0_isGarage_2 rfl rfl ?_
  obtain ⟨ht1, hw⟩ := hw
  obtain ⟨u2, he3, hw⟩ := hw
  refine pw_get X (q := (RX0, TX0, tyX0, 4)) (ci := 0) (k := 0) (ref := "PatrolDesk") (vR (some u2)) ht1 rfl (by decide) in_X0 q948 (Or.inl rfl) (by rw [he3]; rfl) dX0_isGarage_3 ?_
  obtain ⟨ht4, hw⟩ := hw
  obtain ⟨u5, he6, hw⟩ := hw
  refine pw_getN X (q := (RX1, TX1, tyX1, 8)) (ci := 1) (k := 2) (ref := "PatrolDesk$State") (host := "PatrolDesk") (vR (some u5)) ht4 rfl (by decide) in_X1 q166 (Or.inl rfl) (by rw [he6]; rfl) dX0_isGarage_6 ?_
  obtain ⟨ht7, hw⟩ := hw
  refine pw_runi X (m_cF X (b := u5) (ci := 13) (q := (RJ2, TJ2, tyJ2, 3)) (met_J2_size G C.2.1 M u5 _ hw) ht7 rfl (lw_app (lw_F q991 q994 q996 q82) (lw_meth q998)) (List.mem_of_getElem? (i := 6) rfl) (by decide +kernel : m_nMH ⟨"java/util/List", "size", "()I"⟩ 0) ⟨Nat.le_of_ble_eq_true rfl, Nat.le_of_ble_eq_true rfl⟩ rfl (Nat.le_of_ble_eq_true rfl) dX0_isGarage_9) (fun r10 M8 hle9 hx => ?_)
  replace hw := hx hle9
  clear hx
  have ht11 : m_tg M8 a0 = 1 := m_le_tg hle9 ht1
  have ht12 : m_tg M8 u2 = 2 := m_le_tg hle9 ht4
  have ht13 : m_tg M8 u5 = 14 := m_le_tg hle9 ht7
  refine pw_iconst X 1 dX0_isGarage_14 (by decide) ?_
  refine pw_isub X dX0_isGarage_15 ?_
  refine pw_runi X (m_cS X (met_X0_inRange G C.2.1 M8 x1 0 (r10 - 1) _ hw) (lw_S q968 q969 q78 q970) nh_X0_inRange ⟨Nat.le_of_ble_eq_true rfl, Nat.le_of_ble_eq_true rfl⟩ rfl (Nat.le_of_ble_eq_true rfl) dX0_isGarage_16) (fun r16 M14 hle15 hx => ?_)
  replace hw := hx hle15
  clear hx
  have ht17 : m_tg M14 a0 = 1 := m_le_tg hle15 ht11
  have ht18 : m_tg M14 u2 = 2 := m_le_tg hle15 ht12
  have ht19 : m_tg M14 u5 = 14 := m_le_tg hle15 ht13
  exact pw_zret X (m_nz hw.1) hw.2 dX0_isGarage_19
theorem met_X0_isGarage (G : Gp) (l : Launch) (M : Mem) (a0 : Nat) (x1 : Int32) (Q : Int32 → Mem → Prop) (hw : wp_X0_isGarage G.2 M a0 x1 Q) : m_K G l yX0_isGarage cX0_isGarage 2 (some .boolean) 1 22 [vR (some a0), vI x1] M (va_Qi (m_q1 M Q) (m_W G) (m_A G)) := by
  refine m_met (by decide) (Nat.le_of_ble_eq_true rfl) (fun C e X => ?_)
  exact bk_X0_isGarage_0 G C _ _ M Q X M a0 x1 hw
theorem nh_X0_isGarage : m_nMH yX0_isGarage 1 := by decide +kernel

def wp_X0_isCall (g : Nat → Nat) (M : Mem) (a0 : Nat) (x1 : Int32) (Q : Int32 → Mem → Prop) : Prop := m_tg M a0 = 1 ∧ ∃ u2 : Nat, (m_gr M a0 0) = some u2 ∧ m_tg M u2 = 2 ∧ ∃ u5 : Nat, (m_gr M u2 3) = some u5 ∧ m_tg M u5 = 14 ∧ wp_J2_size g M u5 (fun (r10 : Int32) (M8 : Mem) => m_le M M8 → wp_X0_inRange g M8 x1 0 (r10 - 1) (fun (r16 : Int32) (M14 : Mem) => m_le M8 M14 → ((r16 = 0 ∨ r16 = 1) ∧ Q r16 M14)))
theorem bk_X0_isCall_0 (G : Gp) (C : m_Cx) (n0 s0 : Nat) (M0 : Mem) (Q : Int32 → Mem → Prop) (X : m_in G C RX0 cX0_isCall 2 (some .boolean) "isCall" 1 22 n0 s0) (M : Mem) (a0 : Nat) (x1 : Int32) (hw : wp_X0_isCall G.2 M a0 x1 Q) : pW G C 2 n0 s0 M0 (m_Q G C n0 s0 (va_Qi (m_q1 M0 Q) (m_W G) (m_A G))) M 0 [(0, vR (some a0)), (1, vI x1)] [] := by
  refine pw_iload_n X dX0_isCall_0 rfl rfl ?_
  refine pw_iconst X 0 dX0_isCall_1 (by decide) ?_
  refine pw_aload_n X dX0_isCall_2 rfl rfl ?_
  obtain ⟨ht1, hw⟩ := hw
  obtain ⟨u2, he3, hw⟩ := hw
  refine pw_get X (q := (RX0, TX0, tyX0, 4)) (ci := 0) (k := 0) (ref := "PatrolDesk") (vR (some u2)) ht1 rfl (by decide) in_X0 q948 (Or.inl rfl) (by rw [he3]; rfl) dX0_isCall_3 ?_
  obtain ⟨ht4, hw⟩ := hw
  obtain ⟨u5, he6, hw⟩ := hw
  refine pw_getN X (q := (RX1, TX1, tyX1, 8)) (ci := 1) (k := 3) (ref := "PatrolDesk$State") (host := "PatrolDesk") (vR (some u5)) ht4 rfl (by decide) in_X1 q168 (Or.inl rfl) (by rw [he6]; rfl) dX0_isCall_6 ?_
  obtain ⟨ht7, hw⟩ := hw
  refine pw_runi X (m_cF X (b := u5) (ci := 13) (q := (RJ2, TJ2, tyJ2, 3)) (met_J2_size G C.2.1 M u5 _ hw) ht7 rfl (lw_app (lw_F q991 q994 q996 q82) (lw_meth q998)) (List.mem_of_getElem? (i := 6) rfl) (by decide +kernel : m_nMH ⟨"java/util/List", "size", "()I"⟩ 0) ⟨Nat.le_of_ble_eq_true rfl, Nat.le_of_ble_eq_true rfl⟩ rfl (Nat.le_of_ble_eq_true rfl) dX0_isCall_9) (fun r10 M8 hle9 hx => ?_)
  replace hw := hx hle9
  clear hx
  have ht11 : m_tg M8 a0 = 1 := m_le_tg hle9 ht1
  have ht12 : m_tg M8 u2 = 2 := m_le_tg hle9 ht4
  have ht13 : m_tg M8 u5 = 14 := m_le_tg hle9 ht7
  refine pw_iconst X 1 dX0_isCall_14 (by decide) ?_
  refine pw_isub X dX0_isCall_15 ?_
  refine pw_runi X (m_cS X (met_X0_inRange G C.2.1 M8 x1 0 (r10 - 1) _ hw) (lw_S q968 q969 q78 q970) nh_X0_inRange ⟨Nat.le_of_ble_eq_true rfl, Nat.le_of_ble_eq_true rfl⟩ rfl (Nat.le_of_ble_eq_true rfl) dX0_isCall_16) (fun r16 M14 hle15 hx => ?_)
  replace hw := hx hle15
  clear hx
  have ht17 : m_tg M14 a0 = 1 := m_le_tg hle15 ht11
  have ht18 : m_tg M14 u2 = 2 := m_le_tg hle15 ht12
  have ht19 : m_tg M14 u5 = 14 := m_le_tg hle15 ht13
  exact pw_zret X (m_nz hw.1) hw.2 dX0_isCall_19
theorem met_X0_isCall (G : Gp) (l : Launch) (M : Mem) (a0 : Nat) (x1 : Int32) (Q : Int32 → Mem → Prop) (hw : wp_X0_isCall G.2 M a0 x1 Q) : m_K G l yX0_isCall cX0_isCall 2 (some .boolean) 1 22 [vR (some a0), vI x1] M (va_Qi (m_q1 M Q) (m_W G) (m_A G)) := by
  refine m_met (by decide) (Nat.le_of_ble_eq_true rfl) (fun C e X => ?_)
  exact bk_X0_isCall_0 G C _ _ M Q X M a0 x1 hw
theorem nh_X0_isCall : m_nMH yX0_isCall 1 := by decide +kernel

def wp_X0_addRoad (g : Nat → Nat) (M : Mem) (a0 : Nat) (x1 : Int32) (x2 : Int32) (x3 : Int32) (Q : Int32 → Mem → Prop) : Prop := wp_X0_isArea g M x1 (fun (r3 : Int32) (M1 : Mem) => m_le M M1 → ((r3 = 0 → Q (-1) M1) ∧ (¬ r3 = 0 → wp_X0_isArea g M1 x2 (fun (r7 : Int32) (M5 : Mem) => m_le M1 M5 → ((¬ r7 = 0 → wp_X0_inRange g M5 x3 1 60 (fun (r11 : Int32) (M9 : Mem) => m_le M5 M9 → ((r11 = 0 → Q (-2) M9) ∧ (¬ r11 = 0 → ((¬ x1 = x2 → m_tg M9 a0 = 1 ∧ ∃ u15 : Nat, (m_gr M9 a0 0) = some u15 ∧ m_tg M9 u15 = 2 ∧ ∃ u18 : Nat, (m_gr M9 u15 5) = some u18 ∧ m_tg M9 u18 = 3 ∧ wp_X2_lengthOf g M9 u18 x1 x2 (fun (r23 : Int32) (M21 : Mem) => m_le M9 M21 → ((r23 = (-5) → ∃ u28 : Nat, (m_gr M21 a0 0) = some u28 ∧ m_tg M21 u28 = 2 ∧ ∃ u31 : Nat, (m_gr M21 u28 5) = some u31 ∧ m_tg M21 u31 = 3 ∧ ∃ u34 : Nat, (m_gr M21 u31 0) = some u34 ∧ m_tg M21 u34 = 17 ∧ wp_J8_sizeL g M21 u34 (fun (r39 : Int32) (M37 : Mem) => m_le M21 M37 → ((¬ r39 = 30 → wp_X0_record g M37 a0 (fun (M47 : Mem) => m_le M37 M47 → ∃ u55 : Nat, (m_gr M47 a0 0) = some u55 ∧ m_fits M47 4 ∧ ∀ u58 : Nat, m_tg M47 u58 = 0 → ∀ M60 : Mem, M60 = (m_al M47 u58 3 0 4) → ∃ u70 : Nat, (m_gr M60 a0 0) = some u70 ∧ m_tg M60 u70 = 2 ∧ ∃ u73 : Nat, (m_gr M60 u70 5) = some u73 ∧ m_fits M60 2 ∧ ∀ u76 : Nat, m_tg M60 u76 = 0 → ∀ M78 : Mem, M78 = (m_al M60 u76 4 0 2) → wp_X3_init g M78 u76 x1 x2 (fun (M90 : Mem) => m_le M78 M90 → wp_X2_init g M90 u58 (some u73) (some u76) x3 (fun (M101 : Mem) => m_le M90 M101 → m_tg M101 u55 = 2 ∧ ∀ M113 : Mem, M113 = (m_pr M101 u55 5 (some u58)) → Q r39 M113)))) ∧ (r39 = 30 → Q (-3) M37)))) ∧ (¬ r23 = (-5) → Q (-4) M21)))) ∧ (x1 = x2 → Q (-2) M9)))))) ∧ (r7 = 0 → Q (-1) M5))))))
theorem bk_X0_addRoad_0 (G : Gp) (C : m_Cx) (n0 s0 : Nat) (M0 : Mem) (Q : Int32 → Mem → Prop) (X : m_in G C RX0 cX0_addRoad 5 (some .int) "addRoad" 9 210 n0 s0) (M : Mem) (a0 : Nat) (x1 : Int32) (x2 : Int32) (x3 : Int32) (hw : wp_X0_addRoad G.2 M a0 x1 x2 x3 Q) : pW G C 5 n0 s0 M0 (m_Q G C n0 s0 (va_Qi (m_q1 M0 Q) (m_W G) (m_A G))) M 0 [(0, vR (some a0)), (1, vI x1), (2, vI x2), (3, vI x3)] [] := by
  refine pw_iload_n X dX0_addRoad_0 rfl rfl ?_
  refine pw_runi X (m_cS X (met_X0_isArea G C.2.1 M x1 _ hw) (lw_S q965 q966 q78 q967) nh_X0_isArea ⟨Nat.le_of_ble_eq_true rfl, Nat.le_of_ble_eq_true rfl⟩ rfl (Nat.le_of_ble_eq_true rfl) dX0_addRoad_1) (fun r3 M1 hle2 hx => ?_)
  replace hw := hx hle2
  clear hx
  refine pw_if_eq X 14 dX0_addRoad_4 (by decide) (fun c4 => ?_) (fun c4 => ?_)
  · replace hw := hw.1 c4
    refine pw_iconst X (-1) dX0_addRoad_14 (by decide) ?_
    exact pw_iret X hw dX0_addRoad_15
  · replace hw := hw.2 c4
    refine pw_iload_n X dX0_addRoad_7 rfl rfl ?_
    refine pw_runi X (m_cS X (met_X0_isArea G C.2.1 M1 x2 _ hw) (lw_S q965 q966 q78 q967) nh_X0_isArea ⟨Nat.le_of_ble_eq_true rfl, Nat.le_of_ble_eq_true rfl⟩ rfl (Nat.le_of_ble_eq_true rfl) dX0_addRoad_8) (fun r7 M5 hle6 hx => ?_)
    replace hw := hx hle6
    clear hx
    refine pw_if_ne X 16 dX0_addRoad_11 (by decide) (fun c8 => ?_) (fun c8 => ?_)
    · replace hw := hw.1 c8
      refine pw_iload_n X dX0_addRoad_16 rfl rfl ?_
      refine pw_iconst X 1 dX0_addRoad_17 (by decide) ?_
      refine pw_bipush X 60 dX0_addRoad_18 (by decide) ?_
      refine pw_runi X (m_cS X (met_X0_inRange G C.2.1 M5 x3 1 60 _ hw) (lw_S q968 q969 q78 q970) nh_X0_inRange ⟨Nat.le_of_ble_eq_true rfl, Nat.le_of_ble_eq_true rfl⟩ rfl (Nat.le_of_ble_eq_true rfl) dX0_addRoad_20) (fun r11 M9 hle10 hx => ?_)
      replace hw := hx hle10
      clear hx
      refine pw_if_eq X 31 dX0_addRoad_23 (by decide) (fun c12 => ?_) (fun c12 => ?_)
      · replace hw := hw.1 c12
        refine pw_bipush X (-2) dX0_addRoad_31 (by decide) ?_
        exact pw_iret X hw dX0_addRoad_33
      · replace hw := hw.2 c12
        refine pw_iload_n X dX0_addRoad_26 rfl rfl ?_
        refine pw_iload_n X dX0_addRoad_27 rfl rfl ?_
        refine pw_icmp_ne X 34 dX0_addRoad_28 (by decide) (fun c13 => ?_) (fun c13 => ?_)
        · replace hw := hw.1 c13
          refine pw_aload_n X dX0_addRoad_34 rfl rfl ?_
          obtain ⟨ht14, hw⟩ := hw
          obtain ⟨u15, he16, hw⟩ := hw
          refine pw_get X (q := (RX0, TX0, tyX0, 4)) (ci := 0) (k := 0) (ref := "PatrolDesk") (vR (some u15)) ht14 rfl (by decide) in_X0 q948 (Or.inl rfl) (by rw [he16]; rfl) dX0_addRoad_35 ?_
          obtain ⟨ht17, hw⟩ := hw
          obtain ⟨u18, he19, hw⟩ := hw
          refine pw_getN X (q := (RX1, TX1, tyX1, 8)) (ci := 1) (k := 5) (ref := "PatrolDesk$State") (host := "PatrolDesk") (vR (some u18)) ht17 rfl (by decide) in_X1 q172 (Or.inl rfl) (by rw [he19]; rfl) dX0_addRoad_38 ?_
          refine pw_iload_n X dX0_addRoad_41 rfl rfl ?_
          refine pw_iload_n X dX0_addRoad_42 rfl rfl ?_
          obtain ⟨ht20, hw⟩ := hw
          refine pw_runi X (m_cV X (b := u18) (ci := 2) (q := (RX2, TX2, tyX2, 4)) (met_X2_lengthOf G C.2.1 M9 u18 x1 x2 _ hw) ht20 rfl (lw_V q971 q972 q973 q87 q974) ⟨rfl, nh_X2_lengthOf⟩ ⟨Nat.le_of_ble_eq_true rfl, Nat.le_of_ble_eq_true rfl⟩ rfl (Nat.le_of_ble_eq_true rfl) dX0_addRoad_43) (fun r23 M21 hle22 hx => ?_)
          replace hw := hx hle22
          clear hx
          have ht24 : m_tg M21 a0 = 1 := m_le_tg hle22 ht14
          have ht25 : m_tg M21 u15 = 2 := m_le_tg hle22 ht17
          have ht26 : m_tg M21 u18 = 3 := m_le_tg hle22 ht20
          refine pw_bipush X (-5) dX0_addRoad_46 (by decide) ?_
          refine pw_icmp_eq X 54 dX0_addRoad_48 (by decide) (fun c27 => ?_) (fun c27 => ?_)
          · replace hw := hw.1 c27
            refine pw_aload_n X dX0_addRoad_54 rfl rfl ?_
            obtain ⟨u28, he29, hw⟩ := hw
            refine pw_get X (q := (RX0, TX0, tyX0, 4)) (ci := 0) (k := 0) (ref := "PatrolDesk") (vR (some u28)) ht24 rfl (by decide) in_X0 q948 (Or.inl rfl) (by rw [he29]; rfl) dX0_addRoad_55 ?_
            obtain ⟨ht30, hw⟩ := hw
            obtain ⟨u31, he32, hw⟩ := hw
            refine pw_getN X (q := (RX1, TX1, tyX1, 8)) (ci := 1) (k := 5) (ref := "PatrolDesk$State") (host := "PatrolDesk") (vR (some u31)) ht30 rfl (by decide) in_X1 q172 (Or.inl rfl) (by rw [he32]; rfl) dX0_addRoad_58 ?_
            obtain ⟨ht33, hw⟩ := hw
            obtain ⟨u34, he35, hw⟩ := hw
            refine pw_getN X (q := (RX2, TX2, tyX2, 4)) (ci := 2) (k := 0) (ref := "PatrolDesk$Roads") (host := "PatrolDesk") (vR (some u34)) ht33 rfl (by decide) in_X2 q934 (Or.inl rfl) (by rw [he35]; rfl) dX0_addRoad_61 ?_
            obtain ⟨ht36, hw⟩ := hw
            refine pw_runi X (m_cF X (b := u34) (ci := 16) (q := (RJ9, TJ9, tyJ9, 12)) (met_J8_sizeL G C.2.1 M21 u34 _ hw) ht36 rfl (lw_app (lw_F q976 q984 q981 q89) (lw_meth q983)) (List.mem_of_getElem? (i := 9) rfl) (by decide +kernel : m_nMH ⟨"java/util/Map", "size", "()I"⟩ 0) ⟨Nat.le_of_ble_eq_true rfl, Nat.le_of_ble_eq_true rfl⟩ rfl (Nat.le_of_ble_eq_true rfl) dX0_addRoad_64) (fun r39 M37 hle38 hx => ?_)
            replace hw := hx hle38
            clear hx
            have ht40 : m_tg M37 a0 = 1 := m_le_tg hle38 ht24
            have ht41 : m_tg M37 u15 = 2 := m_le_tg hle38 ht25
            have ht42 : m_tg M37 u18 = 3 := m_le_tg hle38 ht26
            have ht43 : m_tg M37 u28 = 2 := m_le_tg hle38 ht30
            have ht44 : m_tg M37 u31 = 3 := m_le_tg hle38 ht33
            have ht45 : m_tg M37 u34 = 17 := m_le_tg hle38 ht36
            refine pw_istore X [(0, vR (some a0)), (1, vI x1), (2, vI x2), (3, vI x3), (4, vI r39)] [1, 2, 3, 4, 0] dX0_addRoad_69 (by decide) rfl ?_
            refine pw_iload X dX0_addRoad_71 rfl ?_
            refine pw_bipush X 30 dX0_addRoad_73 (by decide) ?_
            refine pw_icmp_ne X 81 dX0_addRoad_75 (by decide) (fun c46 => ?_) (fun c46 => ?_)
            · replace hw := hw.1 c46
              refine pw_aload_n X dX0_addRoad_81 rfl rfl ?_
              refine pw_runv X (m_cV X (b := a0) (ci := 0) (q := (RX0, TX0, tyX0, 4)) (met_X0_record G C.2.1 M37 a0 _ hw) ht40 rfl (lw_V q986 q988 qs8 q78 q989) ⟨rfl, nh_X0_record⟩ ⟨Nat.le_of_ble_eq_true rfl, Nat.le_of_ble_eq_true rfl⟩ rfl (Nat.le_of_ble_eq_true rfl) dX0_addRoad_82) (fun M47 hle48 hx => ?_)
              replace hw := hx hle48
              clear hx
              have ht49 : m_tg M47 a0 = 1 := m_le_tg hle48 ht40
              have ht50 : m_tg M47 u15 = 2 := m_le_tg hle48 ht41
              have ht51 : m_tg M47 u18 = 3 := m_le_tg hle48 ht42
              have ht52 : m_tg M47 u28 = 2 := m_le_tg hle48 ht43
              have ht53 : m_tg M47 u31 = 3 := m_le_tg hle48 ht44
              have ht54 : m_tg M47 u34 = 17 := m_le_tg hle48 ht45
              refine pw_aload_n X dX0_addRoad_85 rfl rfl ?_
              obtain ⟨u55, he56, hw⟩ := hw
              refine pw_get X (q := (RX0, TX0, tyX0, 4)) (ci := 0) (k := 0) (ref := "PatrolDesk") (vR (some u55)) ht49 rfl (by decide) in_X0 q948 (Or.inl rfl) (by rw [he56]; rfl) dX0_addRoad_86 ?_
              obtain ⟨hf57, hw⟩ := hw
              refine pw_new X (ci := 2) (q := (RX2, TX2, tyX2, 4)) hf57 rfl in_X2 tyX2_ok q229 q230 q87 dX0_addRoad_89 (fun u58 h059 => ?_)
              obtain ⟨M60, hM61⟩ : ∃ z : Mem, z = (m_al M47 u58 3 0 4) := ⟨_, rfl⟩
              replace hw := hw u58 h059 M60 hM61
              have hle62 : m_le M47 M60 := by rw [hM61]; exact m_le_al h059
              change pW _ _ _ _ _ _ _ (m_al M47 u58 3 0 4) _ _ _
              rw [← hM61]
              have ht63 : m_tg M60 a0 = 1 := m_le_tg hle62 ht49
              have ht64 : m_tg M60 u15 = 2 := m_le_tg hle62 ht50
              have ht65 : m_tg M60 u18 = 3 := m_le_tg hle62 ht51
              have ht66 : m_tg M60 u28 = 2 := m_le_tg hle62 ht52
              have ht67 : m_tg M60 u31 = 3 := m_le_tg hle62 ht53
              have ht68 : m_tg M60 u34 = 17 := m_le_tg hle62 ht54
              have ht69 : m_tg M60 u58 = 3 := by rw [hM61, m_tg_al, if_pos rfl]
              refine pw_dup X dX0_addRoad_92 ?_
              refine pw_aload_n X dX0_addRoad_93 rfl rfl ?_
              obtain ⟨u70, he71, hw⟩ := hw
              refine pw_get X (q := (RX0, TX0, tyX0, 4)) (ci := 0) (k := 0) (ref := "PatrolDesk") (vR (some u70)) ht63 rfl (by decide) in_X0 q948 (Or.inl rfl) (by rw [he71]; rfl) dX0_addRoad_94 ?_
              obtain ⟨ht72, hw⟩ := hw
              obtain ⟨u73, he74, hw⟩ := hw
              refine pw_getN X (q := (RX1, TX1, tyX1, 8)) (ci := 1) (k := 5) (ref := "PatrolDesk$State") (host := "PatrolDesk") (vR (some u73)) ht72 rfl (by decide) in_X1 q172 (Or.inl rfl) (by rw [he74]; rfl) dX0_addRoad_97 ?_
              obtain ⟨hf75, hw⟩ := hw
              refine pw_new X (ci := 3) (q := (RX3, TX3, tyX3, 2)) hf75 rfl in_X3 tyX3_ok q1274 q289 q91 dX0_addRoad_100 (fun u76 h077 => ?_)
              obtain ⟨M78, hM79⟩ : ∃ z : Mem, z = (m_al M60 u76 4 0 2) := ⟨_, rfl⟩
              replace hw := hw u76 h077 M78 hM79
              have hle80 : m_le M60 M78 := by rw [hM79]; exact m_le_al h077
              change pW _ _ _ _ _ _ _ (m_al M60 u76 4 0 2) _ _ _
              rw [← hM79]
              have ht81 : m_tg M78 a0 = 1 := m_le_tg hle80 ht63
              have ht82 : m_tg M78 u15 = 2 := m_le_tg hle80 ht64
              have ht83 : m_tg M78 u18 = 3 := m_le_tg hle80 ht65
              have ht84 : m_tg M78 u28 = 2 := m_le_tg hle80 ht66
              have ht85 : m_tg M78 u31 = 3 := m_le_tg hle80 ht67
              have ht86 : m_tg M78 u34 = 17 := m_le_tg hle80 ht68
              have ht87 : m_tg M78 u58 = 3 := m_le_tg hle80 ht69
              have ht88 : m_tg M78 u70 = 2 := m_le_tg hle80 ht72
              have ht89 : m_tg M78 u76 = 4 := by rw [hM79, m_tg_al, if_pos rfl]
              refine pw_dup X dX0_addRoad_103 ?_
              refine pw_iload_n X dX0_addRoad_104 rfl rfl ?_
              refine pw_iload_n X dX0_addRoad_105 rfl rfl ?_
              refine pw_runv X (m_cI X (b := u76) (met_X3_init G C.2.1 M78 u76 x1 x2 _ hw) q292 q91 q1275 q291 rfl nh_X3_init ⟨Nat.le_of_ble_eq_true rfl, Nat.le_of_ble_eq_true rfl⟩ rfl (Nat.le_of_ble_eq_true rfl) dX0_addRoad_106) (fun M90 hle91 hx => ?_)
              replace hw := hx hle91
              clear hx
              have ht92 : m_tg M90 a0 = 1 := m_le_tg hle91 ht81
              have ht93 : m_tg M90 u15 = 2 := m_le_tg hle91 ht82
              have ht94 : m_tg M90 u18 = 3 := m_le_tg hle91 ht83
              have ht95 : m_tg M90 u28 = 2 := m_le_tg hle91 ht84
              have ht96 : m_tg M90 u31 = 3 := m_le_tg hle91 ht85
              have ht97 : m_tg M90 u34 = 17 := m_le_tg hle91 ht86
              have ht98 : m_tg M90 u58 = 3 := m_le_tg hle91 ht87
              have ht99 : m_tg M90 u70 = 2 := m_le_tg hle91 ht88
              have ht100 : m_tg M90 u76 = 4 := m_le_tg hle91 ht89
              refine pw_iload_n X dX0_addRoad_109 rfl rfl ?_
              refine pw_runv X (m_cI X (b := u58) (met_X2_init G C.2.1 M90 u58 (some u73) (some u76) x3 _ hw) q233 q87 q231 q232 rfl nh_X2_init ⟨Nat.le_of_ble_eq_true rfl, Nat.le_of_ble_eq_true rfl⟩ rfl (Nat.le_of_ble_eq_true rfl) dX0_addRoad_110) (fun M101 hle102 hx => ?_)
              replace hw := hx hle102
              clear hx
              have ht103 : m_tg M101 a0 = 1 := m_le_tg hle102 ht92
              have ht104 : m_tg M101 u15 = 2 := m_le_tg hle102 ht93
              have ht105 : m_tg M101 u18 = 3 := m_le_tg hle102 ht94
              have ht106 : m_tg M101 u28 = 2 := m_le_tg hle102 ht95
              have ht107 : m_tg M101 u31 = 3 := m_le_tg hle102 ht96
              have ht108 : m_tg M101 u34 = 17 := m_le_tg hle102 ht97
              have ht109 : m_tg M101 u58 = 3 := m_le_tg hle102 ht98
              have ht110 : m_tg M101 u70 = 2 := m_le_tg hle102 ht99
              have ht111 : m_tg M101 u76 = 4 := m_le_tg hle102 ht100
              obtain ⟨ht112, hw⟩ := hw
              obtain ⟨M113, hM114⟩ : ∃ z : Mem, z = (m_pr M101 u55 5 (some u58)) := ⟨_, rfl⟩
              replace hw := hw M113 hM114
              refine pw_putN X (q := (RX1, TX1, tyX1, 8)) (ci := 1) (k := 5) (ref := "PatrolDesk$State") (host := "PatrolDesk") M113 hM114.symm ht112 rfl (by decide) in_X1 tyX1_ok nmX1 q172 (Or.inl rfl) rfl (m_kd_r (fun _ _ => rfl)) m_no m_fo dX0_addRoad_113 ?_
              have hle115 : m_le M101 M113 := by rw [hM114]; exact m_le_pr
              have ht116 : m_tg M113 a0 = 1 := m_le_tg hle115 ht103
              have ht117 : m_tg M113 u15 = 2 := m_le_tg hle115 ht104
              have ht118 : m_tg M113 u18 = 3 := m_le_tg hle115 ht105
              have ht119 : m_tg M113 u28 = 2 := m_le_tg hle115 ht106
              have ht120 : m_tg M113 u31 = 3 := m_le_tg hle115 ht107
              have ht121 : m_tg M113 u34 = 17 := m_le_tg hle115 ht108
              have ht122 : m_tg M113 u58 = 3 := m_le_tg hle115 ht109
              have ht123 : m_tg M113 u70 = 2 := m_le_tg hle115 ht110
              have ht124 : m_tg M113 u76 = 4 := m_le_tg hle115 ht111
              have ht125 : m_tg M113 u55 = 2 := m_le_tg hle115 ht112
              refine pw_iload X dX0_addRoad_116 rfl ?_
              exact pw_iret X hw dX0_addRoad_118
            · replace hw := hw.2 c46
              refine pw_bipush X (-3) dX0_addRoad_78 (by decide) ?_
              exact pw_iret X hw dX0_addRoad_80
          · replace hw := hw.2 c27
            refine pw_bipush X (-4) dX0_addRoad_51 (by decide) ?_
            exact pw_iret X hw dX0_addRoad_53
        · replace hw := hw.2 c13
          refine pw_bipush X (-2) dX0_addRoad_31 (by decide) ?_
          exact pw_iret X hw dX0_addRoad_33
    · replace hw := hw.2 c8
      refine pw_iconst X (-1) dX0_addRoad_14 (by decide) ?_
      exact pw_iret X hw dX0_addRoad_15
theorem met_X0_addRoad (G : Gp) (l : Launch) (M : Mem) (a0 : Nat) (x1 : Int32) (x2 : Int32) (x3 : Int32) (Q : Int32 → Mem → Prop) (hw : wp_X0_addRoad G.2 M a0 x1 x2 x3 Q) : m_K G l yX0_addRoad cX0_addRoad 5 (some .int) 9 210 [vR (some a0), vI x1, vI x2, vI x3] M (va_Qi (m_q1 M Q) (m_W G) (m_A G)) := by
  refine m_met (by decide) (Nat.le_of_ble_eq_true rfl) (fun C e X => ?_)
  exact bk_X0_addRoad_0 G C _ _ M Q X M a0 x1 x2 x3 hw
theorem nh_X0_addRoad : m_nMH yX0_addRoad 3 := by decide +kernel

def wp_X0_addMember (g : Nat → Nat) (M : Mem) (a0 : Nat) (x1 : Int32) (Q : Int32 → Mem → Prop) : Prop := wp_X0_inRange g M x1 0 2 (fun (r3 : Int32) (M1 : Mem) => m_le M M1 → ((¬ r3 = 0 → m_tg M1 a0 = 1 ∧ ∃ u6 : Nat, (m_gr M1 a0 0) = some u6 ∧ m_tg M1 u6 = 2 ∧ ∃ u9 : Nat, (m_gr M1 u6 0) = some u9 ∧ m_tg M1 u9 = 14 ∧ wp_J2_size g M1 u9 (fun (r14 : Int32) (M12 : Mem) => m_le M1 M12 → ((¬ r14 = 20 → wp_X0_record g M12 a0 (fun (M19 : Mem) => m_le M12 M19 → ∃ u24 : Nat, (m_gr M19 a0 0) = some u24 ∧ m_tg M19 u24 = 2 ∧ ∃ u27 : Nat, (m_gr M19 u24 0) = some u27 ∧ m_fits M19 5 ∧ ∀ u30 : Nat, m_tg M19 u30 = 0 → ∀ M32 : Mem, M32 = (m_al M19 u30 6 0 5) → wp_X5_init g M32 u30 x1 (fun (M40 : Mem) => m_le M32 M40 → m_tg M40 u27 = 14 ∧ wp_J2_add g M40 u27 (some u30) (fun (r50 : Int32) (M48 : Mem) => m_le M40 M48 → ∃ u57 : Nat, (m_gr M48 a0 0) = some u57 ∧ m_tg M48 u57 = 2 ∧ ∃ u60 : Nat, (m_gr M48 u57 0) = some u60 ∧ m_tg M48 u60 = 14 ∧ wp_J2_size g M48 u60 (fun (r65 : Int32) (M63 : Mem) => m_le M48 M63 → Q (r65 - 1) M63))))) ∧ (r14 = 20 → Q (-3) M12)))) ∧ (r3 = 0 → Q (-2) M1)))
theorem bk_X0_addMember_0 (G : Gp) (C : m_Cx) (n0 s0 : Nat) (M0 : Mem) (Q : Int32 → Mem → Prop) (X : m_in G C RX0 cX0_addMember 2 (some .int) "addMember" 9 203 n0 s0) (M : Mem) (a0 : Nat) (x1 : Int32) (hw : wp_X0_addMember G.2 M a0 x1 Q) : pW G C 2 n0 s0 M0 (m_Q G C n0 s0 (va_Qi (m_q1 M0 Q) (m_W G) (m_A G))) M 0 [(0, vR (some a0)), (1, vI x1)] [] := by
  refine pw_iload_n X dX0_addMember_0 rfl rfl ?_
  refine pw_iconst X 0 dX0_addMember_1 (by decide) ?_
  refine pw_iconst X 2 dX0_addMember_2 (by decide) ?_
  refine pw_runi X (m_cS X (met_X0_inRange G C.2.1 M x1 0 2 _ hw) (lw_S q968 q969 q78 q970) nh_X0_inRange ⟨Nat.le_of_ble_eq_true rfl, Nat.le_of_ble_eq_true rfl⟩ rfl (Nat.le_of_ble_eq_true rfl) dX0_addMember_3) (fun r3 M1 hle2 hx => ?_)
  replace hw := hx hle2
  clear hx
  refine pw_if_ne X 12 dX0_addMember_6 (by decide) (fun c4 => ?_) (fun c4 => ?_)
  · replace hw := hw.1 c4
    refine pw_aload_n X dX0_addMember_12 rfl rfl ?_
    obtain ⟨ht5, hw⟩ := hw
    obtain ⟨u6, he7, hw⟩ := hw
    refine pw_get X (q := (RX0, TX0, tyX0, 4)) (ci := 0) (k := 0) (ref := "PatrolDesk") (vR (some u6)) ht5 rfl (by decide) in_X0 q948 (Or.inl rfl) (by rw [he7]; rfl) dX0_addMember_13 ?_
    obtain ⟨ht8, hw⟩ := hw
    obtain ⟨u9, he10, hw⟩ := hw
    refine pw_getN X (q := (RX1, TX1, tyX1, 8)) (ci := 1) (k := 0) (ref := "PatrolDesk$State") (host := "PatrolDesk") (vR (some u9)) ht8 rfl (by decide) in_X1 q162 (Or.inl rfl) (by rw [he10]; rfl) dX0_addMember_16 ?_
    obtain ⟨ht11, hw⟩ := hw
    refine pw_runi X (m_cF X (b := u9) (ci := 13) (q := (RJ2, TJ2, tyJ2, 3)) (met_J2_size G C.2.1 M1 u9 _ hw) ht11 rfl (lw_app (lw_F q991 q994 q996 q82) (lw_meth q998)) (List.mem_of_getElem? (i := 6) rfl) (by decide +kernel : m_nMH ⟨"java/util/List", "size", "()I"⟩ 0) ⟨Nat.le_of_ble_eq_true rfl, Nat.le_of_ble_eq_true rfl⟩ rfl (Nat.le_of_ble_eq_true rfl) dX0_addMember_19) (fun r14 M12 hle13 hx => ?_)
    replace hw := hx hle13
    clear hx
    have ht15 : m_tg M12 a0 = 1 := m_le_tg hle13 ht5
    have ht16 : m_tg M12 u6 = 2 := m_le_tg hle13 ht8
    have ht17 : m_tg M12 u9 = 14 := m_le_tg hle13 ht11
    refine pw_bipush X 20 dX0_addMember_24 (by decide) ?_
    refine pw_icmp_ne X 32 dX0_addMember_26 (by decide) (fun c18 => ?_) (fun c18 => ?_)
    · replace hw := hw.1 c18
      refine pw_aload_n X dX0_addMember_32 rfl rfl ?_
      refine pw_runv X (m_cV X (b := a0) (ci := 0) (q := (RX0, TX0, tyX0, 4)) (met_X0_record G C.2.1 M12 a0 _ hw) ht15 rfl (lw_V q986 q988 qs8 q78 q989) ⟨rfl, nh_X0_record⟩ ⟨Nat.le_of_ble_eq_true rfl, Nat.le_of_ble_eq_true rfl⟩ rfl (Nat.le_of_ble_eq_true rfl) dX0_addMember_33) (fun M19 hle20 hx => ?_)
      replace hw := hx hle20
      clear hx
      have ht21 : m_tg M19 a0 = 1 := m_le_tg hle20 ht15
      have ht22 : m_tg M19 u6 = 2 := m_le_tg hle20 ht16
      have ht23 : m_tg M19 u9 = 14 := m_le_tg hle20 ht17
      refine pw_aload_n X dX0_addMember_36 rfl rfl ?_
      obtain ⟨u24, he25, hw⟩ := hw
      refine pw_get X (q := (RX0, TX0, tyX0, 4)) (ci := 0) (k := 0) (ref := "PatrolDesk") (vR (some u24)) ht21 rfl (by decide) in_X0 q948 (Or.inl rfl) (by rw [he25]; rfl) dX0_addMember_37 ?_
      obtain ⟨ht26, hw⟩ := hw
      obtain ⟨u27, he28, hw⟩ := hw
      refine pw_getN X (q := (RX1, TX1, tyX1, 8)) (ci := 1) (k := 0) (ref := "PatrolDesk$State") (host := "PatrolDesk") (vR (some u27)) ht26 rfl (by decide) in_X1 q162 (Or.inl rfl) (by rw [he28]; rfl) dX0_addMember_40 ?_
      obtain ⟨hf29, hw⟩ := hw
      refine pw_new X (ci := 5) (q := (RX5, TX5, tyX5, 5)) hf29 rfl in_X5 tyX5_ok q1280 q1046 q109 dX0_addMember_43 (fun u30 h031 => ?_)
      obtain ⟨M32, hM33⟩ : ∃ z : Mem, z = (m_al M19 u30 6 0 5) := ⟨_, rfl⟩
      replace hw := hw u30 h031 M32 hM33
      have hle34 : m_le M19 M32 := by rw [hM33]; exact m_le_al h031
      change pW _ _ _ _ _ _ _ (m_al M19 u30 6 0 5) _ _ _
      rw [← hM33]
      have ht35 : m_tg M32 a0 = 1 := m_le_tg hle34 ht21
      have ht36 : m_tg M32 u6 = 2 := m_le_tg hle34 ht22
      have ht37 : m_tg M32 u9 = 14 := m_le_tg hle34 ht23
      have ht38 : m_tg M32 u24 = 2 := m_le_tg hle34 ht26
      have ht39 : m_tg M32 u30 = 6 := by rw [hM33, m_tg_al, if_pos rfl]
      refine pw_dup X dX0_addMember_46 ?_
      refine pw_iload_n X dX0_addMember_47 rfl rfl ?_
      refine pw_runv X (m_cI X (b := u30) (met_X5_init G C.2.1 M32 u30 x1 _ hw) q1049 q109 q1281 q1048 rfl nh_X5_init ⟨Nat.le_of_ble_eq_true rfl, Nat.le_of_ble_eq_true rfl⟩ rfl (Nat.le_of_ble_eq_true rfl) dX0_addMember_48) (fun M40 hle41 hx => ?_)
      replace hw := hx hle41
      clear hx
      have ht42 : m_tg M40 a0 = 1 := m_le_tg hle41 ht35
      have ht43 : m_tg M40 u6 = 2 := m_le_tg hle41 ht36
      have ht44 : m_tg M40 u9 = 14 := m_le_tg hle41 ht37
      have ht45 : m_tg M40 u24 = 2 := m_le_tg hle41 ht38
      have ht46 : m_tg M40 u30 = 6 := m_le_tg hle41 ht39
      obtain ⟨ht47, hw⟩ := hw
      refine pw_runi X (m_cF X (b := u27) (ci := 13) (q := (RJ2, TJ2, tyJ2, 3)) (met_J2_add G C.2.1 M40 u27 (some u30) _ hw) ht47 rfl (lw_app (lw_F q1273 q888 q890 q82) (lw_meth q892)) (List.mem_of_getElem? (i := 1) rfl) (by decide +kernel : m_nMH ⟨"java/util/List", "add", "(Ljava/lang/Object;)Z"⟩ 1) ⟨Nat.le_of_ble_eq_true rfl, Nat.le_of_ble_eq_true rfl⟩ rfl (Nat.le_of_ble_eq_true rfl) dX0_addMember_51) (fun r50 M48 hle49 hx => ?_)
      replace hw := hx hle49
      clear hx
      have ht51 : m_tg M48 a0 = 1 := m_le_tg hle49 ht42
      have ht52 : m_tg M48 u6 = 2 := m_le_tg hle49 ht43
      have ht53 : m_tg M48 u9 = 14 := m_le_tg hle49 ht44
      have ht54 : m_tg M48 u24 = 2 := m_le_tg hle49 ht45
      have ht55 : m_tg M48 u30 = 6 := m_le_tg hle49 ht46
      have ht56 : m_tg M48 u27 = 14 := m_le_tg hle49 ht47
      refine pw_pop X dX0_addMember_56 ?_
      refine pw_aload_n X dX0_addMember_57 rfl rfl ?_
      obtain ⟨u57, he58, hw⟩ := hw
      refine pw_get X (q := (RX0, TX0, tyX0, 4)) (ci := 0) (k := 0) (ref := "PatrolDesk") (vR (some u57)) ht51 rfl (by decide) in_X0 q948 (Or.inl rfl) (by rw [he58]; rfl) dX0_addMember_58 ?_
      obtain ⟨ht59, hw⟩ := hw
      obtain ⟨u60, he61, hw⟩ := hw
      refine pw_getN X (q := (RX1, TX1, tyX1, 8)) (ci := 1) (k := 0) (ref := "PatrolDesk$State") (host := "PatrolDesk") (vR (some u60)) ht59 rfl (by decide) in_X1 q162 (Or.inl rfl) (by rw [he61]; rfl) dX0_addMember_61 ?_
      obtain ⟨ht62, hw⟩ := hw
      refine pw_runi X (m_cF X (b := u60) (ci := 13) (q := (RJ2, TJ2, tyJ2, 3)) (met_J2_size G C.2.1 M48 u60 _ hw) ht62 rfl (lw_app (lw_F q991 q994 q996 q82) (lw_meth q998)) (List.mem_of_getElem? (i := 6) rfl) (by decide +kernel : m_nMH ⟨"java/util/List", "size", "()I"⟩ 0) ⟨Nat.le_of_ble_eq_true rfl, Nat.le_of_ble_eq_true rfl⟩ rfl (Nat.le_of_ble_eq_true rfl) dX0_addMember_64) (fun r65 M63 hle64 hx => ?_)
      replace hw := hx hle64
      clear hx
      have ht66 : m_tg M63 a0 = 1 := m_le_tg hle64 ht51
      have ht67 : m_tg M63 u6 = 2 := m_le_tg hle64 ht52
      have ht68 : m_tg M63 u9 = 14 := m_le_tg hle64 ht53
      have ht69 : m_tg M63 u24 = 2 := m_le_tg hle64 ht54
      have ht70 : m_tg M63 u30 = 6 := m_le_tg hle64 ht55
      have ht71 : m_tg M63 u27 = 14 := m_le_tg hle64 ht56
      have ht72 : m_tg M63 u57 = 2 := m_le_tg hle64 ht59
      have ht73 : m_tg M63 u60 = 14 := m_le_tg hle64 ht62
      refine pw_iconst X 1 dX0_addMember_69 (by decide) ?_
      refine pw_isub X dX0_addMember_70 ?_
      exact pw_iret X hw dX0_addMember_71
    · replace hw := hw.2 c18
      refine pw_bipush X (-3) dX0_addMember_29 (by decide) ?_
      exact pw_iret X hw dX0_addMember_31
  · replace hw := hw.2 c4
    refine pw_bipush X (-2) dX0_addMember_9 (by decide) ?_
    exact pw_iret X hw dX0_addMember_11
theorem met_X0_addMember (G : Gp) (l : Launch) (M : Mem) (a0 : Nat) (x1 : Int32) (Q : Int32 → Mem → Prop) (hw : wp_X0_addMember G.2 M a0 x1 Q) : m_K G l yX0_addMember cX0_addMember 2 (some .int) 9 203 [vR (some a0), vI x1] M (va_Qi (m_q1 M Q) (m_W G) (m_A G)) := by
  refine m_met (by decide) (Nat.le_of_ble_eq_true rfl) (fun C e X => ?_)
  exact bk_X0_addMember_0 G C _ _ M Q X M a0 x1 hw
theorem nh_X0_addMember : m_nMH yX0_addMember 1 := by decide +kernel

def wp_X0_addPatrol (g : Nat → Nat) (M : Mem) (a0 : Nat) (x1 : Int32) (x2 : Int32) (x3 : Int32) (Q : Int32 → Mem → Prop) : Prop := wp_X0_isArea g M x1 (fun (r3 : Int32) (M1 : Mem) => m_le M M1 → ((¬ r3 = 0 → wp_X0_inRange g M1 x2 1 9 (fun (r7 : Int32) (M5 : Mem) => m_le M1 M5 → ((¬ r7 = 0 → m_tg M5 a0 = 1 ∧ ∃ u10 : Nat, (m_gr M5 a0 0) = some u10 ∧ m_tg M5 u10 = 2 ∧ ∃ u13 : Nat, (m_gr M5 u10 1) = some u13 ∧ m_tg M5 u13 = 14 ∧ wp_J2_size g M5 u13 (fun (r18 : Int32) (M16 : Mem) => m_le M5 M16 → ((¬ r18 = 6 → wp_X0_record g M16 a0 (fun (M23 : Mem) => m_le M16 M23 → ∃ u28 : Nat, (m_gr M23 a0 0) = some u28 ∧ m_tg M23 u28 = 2 ∧ ∃ u31 : Nat, (m_gr M23 u28 1) = some u31 ∧ m_fits M23 15 ∧ ∀ u34 : Nat, m_tg M23 u34 = 0 → ∀ M36 : Mem, M36 = (m_al M23 u34 7 0 15) → wp_X6_init g M36 u34 r18 x1 x2 x3 (fun (M44 : Mem) => m_le M36 M44 → m_tg M44 u31 = 14 ∧ wp_J2_add g M44 u31 (some u34) (fun (r54 : Int32) (M52 : Mem) => m_le M44 M52 → Q r18 M52)))) ∧ (r18 = 6 → Q (-3) M16)))) ∧ (r7 = 0 → Q (-2) M5)))) ∧ (r3 = 0 → Q (-1) M1)))
theorem bk_X0_addPatrol_0 (G : Gp) (C : m_Cx) (n0 s0 : Nat) (M0 : Mem) (Q : Int32 → Mem → Prop) (X : m_in G C RX0 cX0_addPatrol 5 (some .int) "addPatrol" 9 203 n0 s0) (M : Mem) (a0 : Nat) (x1 : Int32) (x2 : Int32) (x3 : Int32) (hw : wp_X0_addPatrol G.2 M a0 x1 x2 x3 Q) : pW G C 5 n0 s0 M0 (m_Q G C n0 s0 (va_Qi (m_q1 M0 Q) (m_W G) (m_A G))) M 0 [(0, vR (some a0)), (1, vI x1), (2, vI x2), (3, vI x3)] [] := by
  refine pw_iload_n X dX0_addPatrol_0 rfl rfl ?_
  refine pw_runi X (m_cS X (met_X0_isArea G C.2.1 M x1 _ hw) (lw_S q965 q966 q78 q967) nh_X0_isArea ⟨Nat.le_of_ble_eq_true rfl, Nat.le_of_ble_eq_true rfl⟩ rfl (Nat.le_of_ble_eq_true rfl) dX0_addPatrol_1) (fun r3 M1 hle2 hx => ?_)
  replace hw := hx hle2
  clear hx
  refine pw_if_ne X 9 dX0_addPatrol_4 (by decide) (fun c4 => ?_) (fun c4 => ?_)
  · replace hw := hw.1 c4
    refine pw_iload_n X dX0_addPatrol_9 rfl rfl ?_
    refine pw_iconst X 1 dX0_addPatrol_10 (by decide) ?_
    refine pw_bipush X 9 dX0_addPatrol_11 (by decide) ?_
    refine pw_runi X (m_cS X (met_X0_inRange G C.2.1 M1 x2 1 9 _ hw) (lw_S q968 q969 q78 q970) nh_X0_inRange ⟨Nat.le_of_ble_eq_true rfl, Nat.le_of_ble_eq_true rfl⟩ rfl (Nat.le_of_ble_eq_true rfl) dX0_addPatrol_13) (fun r7 M5 hle6 hx => ?_)
    replace hw := hx hle6
    clear hx
    refine pw_if_ne X 22 dX0_addPatrol_16 (by decide) (fun c8 => ?_) (fun c8 => ?_)
    · replace hw := hw.1 c8
      refine pw_aload_n X dX0_addPatrol_22 rfl rfl ?_
      obtain ⟨ht9, hw⟩ := hw
      obtain ⟨u10, he11, hw⟩ := hw
      refine pw_get X (q := (RX0, TX0, tyX0, 4)) (ci := 0) (k := 0) (ref := "PatrolDesk") (vR (some u10)) ht9 rfl (by decide) in_X0 q948 (Or.inl rfl) (by rw [he11]; rfl) dX0_addPatrol_23 ?_
      obtain ⟨ht12, hw⟩ := hw
      obtain ⟨u13, he14, hw⟩ := hw
      refine pw_getN X (q := (RX1, TX1, tyX1, 8)) (ci := 1) (k := 1) (ref := "PatrolDesk$State") (host := "PatrolDesk") (vR (some u13)) ht12 rfl (by decide) in_X1 q164 (Or.inl rfl) (by rw [he14]; rfl) dX0_addPatrol_26 ?_
      obtain ⟨ht15, hw⟩ := hw
      refine pw_runi X (m_cF X (b := u13) (ci := 13) (q := (RJ2, TJ2, tyJ2, 3)) (met_J2_size G C.2.1 M5 u13 _ hw) ht15 rfl (lw_app (lw_F q991 q994 q996 q82) (lw_meth q998)) (List.mem_of_getElem? (i := 6) rfl) (by decide +kernel : m_nMH ⟨"java/util/List", "size", "()I"⟩ 0) ⟨Nat.le_of_ble_eq_true rfl, Nat.le_of_ble_eq_true rfl⟩ rfl (Nat.le_of_ble_eq_true rfl) dX0_addPatrol_29) (fun r18 M16 hle17 hx => ?_)
      replace hw := hx hle17
      clear hx
      have ht19 : m_tg M16 a0 = 1 := m_le_tg hle17 ht9
      have ht20 : m_tg M16 u10 = 2 := m_le_tg hle17 ht12
      have ht21 : m_tg M16 u13 = 14 := m_le_tg hle17 ht15
      refine pw_istore X [(0, vR (some a0)), (1, vI x1), (2, vI x2), (3, vI x3), (4, vI r18)] [1, 2, 3, 4, 0] dX0_addPatrol_34 (by decide) rfl ?_
      refine pw_iload X dX0_addPatrol_36 rfl ?_
      refine pw_bipush X 6 dX0_addPatrol_38 (by decide) ?_
      refine pw_icmp_ne X 46 dX0_addPatrol_40 (by decide) (fun c22 => ?_) (fun c22 => ?_)
      · replace hw := hw.1 c22
        refine pw_aload_n X dX0_addPatrol_46 rfl rfl ?_
        refine pw_runv X (m_cV X (b := a0) (ci := 0) (q := (RX0, TX0, tyX0, 4)) (met_X0_record G C.2.1 M16 a0 _ hw) ht19 rfl (lw_V q986 q988 qs8 q78 q989) ⟨rfl, nh_X0_record⟩ ⟨Nat.le_of_ble_eq_true rfl, Nat.le_of_ble_eq_true rfl⟩ rfl (Nat.le_of_ble_eq_true rfl) dX0_addPatrol_47) (fun M23 hle24 hx => ?_)
        replace hw := hx hle24
        clear hx
        have ht25 : m_tg M23 a0 = 1 := m_le_tg hle24 ht19
        have ht26 : m_tg M23 u10 = 2 := m_le_tg hle24 ht20
        have ht27 : m_tg M23 u13 = 14 := m_le_tg hle24 ht21
        refine pw_aload_n X dX0_addPatrol_50 rfl rfl ?_
        obtain ⟨u28, he29, hw⟩ := hw
        refine pw_get X (q := (RX0, TX0, tyX0, 4)) (ci := 0) (k := 0) (ref := "PatrolDesk") (vR (some u28)) ht25 rfl (by decide) in_X0 q948 (Or.inl rfl) (by rw [he29]; rfl) dX0_addPatrol_51 ?_
        obtain ⟨ht30, hw⟩ := hw
        obtain ⟨u31, he32, hw⟩ := hw
        refine pw_getN X (q := (RX1, TX1, tyX1, 8)) (ci := 1) (k := 1) (ref := "PatrolDesk$State") (host := "PatrolDesk") (vR (some u31)) ht30 rfl (by decide) in_X1 q164 (Or.inl rfl) (by rw [he32]; rfl) dX0_addPatrol_54 ?_
        obtain ⟨hf33, hw⟩ := hw
        refine pw_new X (ci := 6) (q := (RX6, TX6, tyX6, 15)) hf33 rfl in_X6 tyX6_ok q1286 q1083 q110 dX0_addPatrol_57 (fun u34 h035 => ?_)
        obtain ⟨M36, hM37⟩ : ∃ z : Mem, z = (m_al M23 u34 7 0 15) := ⟨_, rfl⟩
        replace hw := hw u34 h035 M36 hM37
        have hle38 : m_le M23 M36 := by rw [hM37]; exact m_le_al h035
        change pW _ _ _ _ _ _ _ (m_al M23 u34 7 0 15) _ _ _
        rw [← hM37]
        have ht39 : m_tg M36 a0 = 1 := m_le_tg hle38 ht25
        have ht40 : m_tg M36 u10 = 2 := m_le_tg hle38 ht26
        have ht41 : m_tg M36 u13 = 14 := m_le_tg hle38 ht27
        have ht42 : m_tg M36 u28 = 2 := m_le_tg hle38 ht30
        have ht43 : m_tg M36 u34 = 7 := by rw [hM37, m_tg_al, if_pos rfl]
        refine pw_dup X dX0_addPatrol_60 ?_
        refine pw_iload X dX0_addPatrol_61 rfl ?_
        refine pw_iload_n X dX0_addPatrol_63 rfl rfl ?_
        refine pw_iload_n X dX0_addPatrol_64 rfl rfl ?_
        refine pw_iload_n X dX0_addPatrol_65 rfl rfl ?_
        refine pw_runv X (m_cI X (b := u34) (met_X6_init G C.2.1 M36 u34 r18 x1 x2 x3 _ hw) q1086 q110 q1287 q1085 rfl nh_X6_init ⟨Nat.le_of_ble_eq_true rfl, Nat.le_of_ble_eq_true rfl⟩ rfl (Nat.le_of_ble_eq_true rfl) dX0_addPatrol_66) (fun M44 hle45 hx => ?_)
        replace hw := hx hle45
        clear hx
        have ht46 : m_tg M44 a0 = 1 := m_le_tg hle45 ht39
        have ht47 : m_tg M44 u10 = 2 := m_le_tg hle45 ht40
        have ht48 : m_tg M44 u13 = 14 := m_le_tg hle45 ht41
        have ht49 : m_tg M44 u28 = 2 := m_le_tg hle45 ht42
        have ht50 : m_tg M44 u34 = 7 := m_le_tg hle45 ht43
        obtain ⟨ht51, hw⟩ := hw
        refine pw_runi X (m_cF X (b := u31) (ci := 13) (q := (RJ2, TJ2, tyJ2, 3)) (met_J2_add G C.2.1 M44 u31 (some u34) _ hw) ht51 rfl (lw_app (lw_F q1273 q888 q890 q82) (lw_meth q892)) (List.mem_of_getElem? (i := 1) rfl) (by decide +kernel : m_nMH ⟨"java/util/List", "add", "(Ljava/lang/Object;)Z"⟩ 1) ⟨Nat.le_of_ble_eq_true rfl, Nat.le_of_ble_eq_true rfl⟩ rfl (Nat.le_of_ble_eq_true rfl) dX0_addPatrol_69) (fun r54 M52 hle53 hx => ?_)
        replace hw := hx hle53
        clear hx
        have ht55 : m_tg M52 a0 = 1 := m_le_tg hle53 ht46
        have ht56 : m_tg M52 u10 = 2 := m_le_tg hle53 ht47
        have ht57 : m_tg M52 u13 = 14 := m_le_tg hle53 ht48
        have ht58 : m_tg M52 u28 = 2 := m_le_tg hle53 ht49
        have ht59 : m_tg M52 u34 = 7 := m_le_tg hle53 ht50
        have ht60 : m_tg M52 u31 = 14 := m_le_tg hle53 ht51
        refine pw_pop X dX0_addPatrol_74 ?_
        refine pw_iload X dX0_addPatrol_75 rfl ?_
        exact pw_iret X hw dX0_addPatrol_77
      · replace hw := hw.2 c22
        refine pw_bipush X (-3) dX0_addPatrol_43 (by decide) ?_
        exact pw_iret X hw dX0_addPatrol_45
    · replace hw := hw.2 c8
      refine pw_bipush X (-2) dX0_addPatrol_19 (by decide) ?_
      exact pw_iret X hw dX0_addPatrol_21
  · replace hw := hw.2 c4
    refine pw_iconst X (-1) dX0_addPatrol_7 (by decide) ?_
    exact pw_iret X hw dX0_addPatrol_8
theorem met_X0_addPatrol (G : Gp) (l : Launch) (M : Mem) (a0 : Nat) (x1 : Int32) (x2 : Int32) (x3 : Int32) (Q : Int32 → Mem → Prop) (hw : wp_X0_addPatrol G.2 M a0 x1 x2 x3 Q) : m_K G l yX0_addPatrol cX0_addPatrol 5 (some .int) 9 203 [vR (some a0), vI x1, vI x2, vI x3] M (va_Qi (m_q1 M Q) (m_W G) (m_A G)) := by
  refine m_met (by decide) (Nat.le_of_ble_eq_true rfl) (fun C e X => ?_)
  exact bk_X0_addPatrol_0 G C _ _ M Q X M a0 x1 x2 x3 hw
theorem nh_X0_addPatrol : m_nMH yX0_addPatrol 3 := by decide +kernel

def wp_X0_addGarage (g : Nat → Nat) (M : Mem) (a0 : Nat) (x1 : Int32) (x2 : Int32) (Q : Int32 → Mem → Prop) : Prop := wp_X0_isArea g M x1 (fun (r3 : Int32) (M1 : Mem) => m_le M M1 → ((¬ r3 = 0 → wp_X0_inRange g M1 x2 1 9 (fun (r7 : Int32) (M5 : Mem) => m_le M1 M5 → ((¬ r7 = 0 → m_tg M5 a0 = 1 ∧ ∃ u10 : Nat, (m_gr M5 a0 0) = some u10 ∧ m_tg M5 u10 = 2 ∧ ∃ u13 : Nat, (m_gr M5 u10 2) = some u13 ∧ m_tg M5 u13 = 14 ∧ wp_J2_size g M5 u13 (fun (r18 : Int32) (M16 : Mem) => m_le M5 M16 → ((¬ r18 = 5 → wp_X0_record g M16 a0 (fun (M23 : Mem) => m_le M16 M23 → ∃ u28 : Nat, (m_gr M23 a0 0) = some u28 ∧ m_tg M23 u28 = 2 ∧ ∃ u31 : Nat, (m_gr M23 u28 2) = some u31 ∧ m_fits M23 5 ∧ ∀ u34 : Nat, m_tg M23 u34 = 0 → ∀ M36 : Mem, M36 = (m_al M23 u34 8 0 5) → wp_X7_init g M36 u34 x1 x2 (fun (M44 : Mem) => m_le M36 M44 → m_tg M44 u31 = 14 ∧ wp_J2_add g M44 u31 (some u34) (fun (r54 : Int32) (M52 : Mem) => m_le M44 M52 → ∃ u61 : Nat, (m_gr M52 a0 0) = some u61 ∧ m_tg M52 u61 = 2 ∧ ∃ u64 : Nat, (m_gr M52 u61 2) = some u64 ∧ m_tg M52 u64 = 14 ∧ wp_J2_size g M52 u64 (fun (r69 : Int32) (M67 : Mem) => m_le M52 M67 → Q (r69 - 1) M67))))) ∧ (r18 = 5 → Q (-3) M16)))) ∧ (r7 = 0 → Q (-2) M5)))) ∧ (r3 = 0 → Q (-1) M1)))
theorem bk_X0_addGarage_0 (G : Gp) (C : m_Cx) (n0 s0 : Nat) (M0 : Mem) (Q : Int32 → Mem → Prop) (X : m_in G C RX0 cX0_addGarage 3 (some .int) "addGarage" 9 203 n0 s0) (M : Mem) (a0 : Nat) (x1 : Int32) (x2 : Int32) (hw : wp_X0_addGarage G.2 M a0 x1 x2 Q) : pW G C 3 n0 s0 M0 (m_Q G C n0 s0 (va_Qi (m_q1 M0 Q) (m_W G) (m_A G))) M 0 [(0, vR (some a0)), (1, vI x1), (2, vI x2)] [] := by
  refine pw_iload_n X dX0_addGarage_0 rfl rfl ?_
  refine pw_runi X (m_cS X (met_X0_isArea G C.2.1 M x1 _ hw) (lw_S q965 q966 q78 q967) nh_X0_isArea ⟨Nat.le_of_ble_eq_true rfl, Nat.le_of_ble_eq_true rfl⟩ rfl (Nat.le_of_ble_eq_true rfl) dX0_addGarage_1) (fun r3 M1 hle2 hx => ?_)
  replace hw := hx hle2
  clear hx
  refine pw_if_ne X 9 dX0_addGarage_4 (by decide) (fun c4 => ?_) (fun c4 => ?_)
  · replace hw := hw.1 c4
    refine pw_iload_n X dX0_addGarage_9 rfl rfl ?_
    refine pw_iconst X 1 dX0_addGarage_10 (by decide) ?_
    refine pw_bipush X 9 dX0_addGarage_11 (by decide) ?_
    refine pw_runi X (m_cS X (met_X0_inRange G C.2.1 M1 x2 1 9 _ hw) (lw_S q968 q969 q78 q970) nh_X0_inRange ⟨Nat.le_of_ble_eq_true rfl, Nat.le_of_ble_eq_true rfl⟩ rfl (Nat.le_of_ble_eq_true rfl) dX0_addGarage_13) (fun r7 M5 hle6 hx => ?_)
    replace hw := hx hle6
    clear hx
    refine pw_if_ne X 22 dX0_addGarage_16 (by decide) (fun c8 => ?_) (fun c8 => ?_)
    · replace hw := hw.1 c8
      refine pw_aload_n X dX0_addGarage_22 rfl rfl ?_
      obtain ⟨ht9, hw⟩ := hw
      obtain ⟨u10, he11, hw⟩ := hw
      refine pw_get X (q := (RX0, TX0, tyX0, 4)) (ci := 0) (k := 0) (ref := "PatrolDesk") (vR (some u10)) ht9 rfl (by decide) in_X0 q948 (Or.inl rfl) (by rw [he11]; rfl) dX0_addGarage_23 ?_
      obtain ⟨ht12, hw⟩ := hw
      obtain ⟨u13, he14, hw⟩ := hw
      refine pw_getN X (q := (RX1, TX1, tyX1, 8)) (ci := 1) (k := 2) (ref := "PatrolDesk$State") (host := "PatrolDesk") (vR (some u13)) ht12 rfl (by decide) in_X1 q166 (Or.inl rfl) (by rw [he14]; rfl) dX0_addGarage_26 ?_
      obtain ⟨ht15, hw⟩ := hw
      refine pw_runi X (m_cF X (b := u13) (ci := 13) (q := (RJ2, TJ2, tyJ2, 3)) (met_J2_size G C.2.1 M5 u13 _ hw) ht15 rfl (lw_app (lw_F q991 q994 q996 q82) (lw_meth q998)) (List.mem_of_getElem? (i := 6) rfl) (by decide +kernel : m_nMH ⟨"java/util/List", "size", "()I"⟩ 0) ⟨Nat.le_of_ble_eq_true rfl, Nat.le_of_ble_eq_true rfl⟩ rfl (Nat.le_of_ble_eq_true rfl) dX0_addGarage_29) (fun r18 M16 hle17 hx => ?_)
      replace hw := hx hle17
      clear hx
      have ht19 : m_tg M16 a0 = 1 := m_le_tg hle17 ht9
      have ht20 : m_tg M16 u10 = 2 := m_le_tg hle17 ht12
      have ht21 : m_tg M16 u13 = 14 := m_le_tg hle17 ht15
      refine pw_iconst X 5 dX0_addGarage_34 (by decide) ?_
      refine pw_icmp_ne X 41 dX0_addGarage_35 (by decide) (fun c22 => ?_) (fun c22 => ?_)
      · replace hw := hw.1 c22
        refine pw_aload_n X dX0_addGarage_41 rfl rfl ?_
        refine pw_runv X (m_cV X (b := a0) (ci := 0) (q := (RX0, TX0, tyX0, 4)) (met_X0_record G C.2.1 M16 a0 _ hw) ht19 rfl (lw_V q986 q988 qs8 q78 q989) ⟨rfl, nh_X0_record⟩ ⟨Nat.le_of_ble_eq_true rfl, Nat.le_of_ble_eq_true rfl⟩ rfl (Nat.le_of_ble_eq_true rfl) dX0_addGarage_42) (fun M23 hle24 hx => ?_)
        replace hw := hx hle24
        clear hx
        have ht25 : m_tg M23 a0 = 1 := m_le_tg hle24 ht19
        have ht26 : m_tg M23 u10 = 2 := m_le_tg hle24 ht20
        have ht27 : m_tg M23 u13 = 14 := m_le_tg hle24 ht21
        refine pw_aload_n X dX0_addGarage_45 rfl rfl ?_
        obtain ⟨u28, he29, hw⟩ := hw
        refine pw_get X (q := (RX0, TX0, tyX0, 4)) (ci := 0) (k := 0) (ref := "PatrolDesk") (vR (some u28)) ht25 rfl (by decide) in_X0 q948 (Or.inl rfl) (by rw [he29]; rfl) dX0_addGarage_46 ?_
        obtain ⟨ht30, hw⟩ := hw
        obtain ⟨u31, he32, hw⟩ := hw
        refine pw_getN X (q := (RX1, TX1, tyX1, 8)) (ci := 1) (k := 2) (ref := "PatrolDesk$State") (host := "PatrolDesk") (vR (some u31)) ht30 rfl (by decide) in_X1 q166 (Or.inl rfl) (by rw [he32]; rfl) dX0_addGarage_49 ?_
        obtain ⟨hf33, hw⟩ := hw
        refine pw_new X (ci := 7) (q := (RX7, TX7, tyX7, 5)) hf33 rfl in_X7 tyX7_ok q1292 q1166 q111 dX0_addGarage_52 (fun u34 h035 => ?_)
        obtain ⟨M36, hM37⟩ : ∃ z : Mem, z = (m_al M23 u34 8 0 5) := ⟨_, rfl⟩
        replace hw := hw u34 h035 M36 hM37
        have hle38 : m_le M23 M36 := by rw [hM37]; exact m_le_al h035
        change pW _ _ _ _ _ _ _ (m_al M23 u34 8 0 5) _ _ _
        rw [← hM37]
        have ht39 : m_tg M36 a0 = 1 := m_le_tg hle38 ht25
        have ht40 : m_tg M36 u10 = 2 := m_le_tg hle38 ht26
        have ht41 : m_tg M36 u13 = 14 := m_le_tg hle38 ht27
        have ht42 : m_tg M36 u28 = 2 := m_le_tg hle38 ht30
        have ht43 : m_tg M36 u34 = 8 := by rw [hM37, m_tg_al, if_pos rfl]
        refine pw_dup X dX0_addGarage_55 ?_
        refine pw_iload_n X dX0_addGarage_56 rfl rfl ?_
        refine pw_iload_n X dX0_addGarage_57 rfl rfl ?_
        refine pw_runv X (m_cI X (b := u34) (met_X7_init G C.2.1 M36 u34 x1 x2 _ hw) q1169 q111 q1293 q1168 rfl nh_X7_init ⟨Nat.le_of_ble_eq_true rfl, Nat.le_of_ble_eq_true rfl⟩ rfl (Nat.le_of_ble_eq_true rfl) dX0_addGarage_58) (fun M44 hle45 hx => ?_)
        replace hw := hx hle45
        clear hx
        have ht46 : m_tg M44 a0 = 1 := m_le_tg hle45 ht39
        have ht47 : m_tg M44 u10 = 2 := m_le_tg hle45 ht40
        have ht48 : m_tg M44 u13 = 14 := m_le_tg hle45 ht41
        have ht49 : m_tg M44 u28 = 2 := m_le_tg hle45 ht42
        have ht50 : m_tg M44 u34 = 8 := m_le_tg hle45 ht43
        obtain ⟨ht51, hw⟩ := hw
        refine pw_runi X (m_cF X (b := u31) (ci := 13) (q := (RJ2, TJ2, tyJ2, 3)) (met_J2_add G C.2.1 M44 u31 (some u34) _ hw) ht51 rfl (lw_app (lw_F q1273 q888 q890 q82) (lw_meth q892)) (List.mem_of_getElem? (i := 1) rfl) (by decide +kernel : m_nMH ⟨"java/util/List", "add", "(Ljava/lang/Object;)Z"⟩ 1) ⟨Nat.le_of_ble_eq_true rfl, Nat.le_of_ble_eq_true rfl⟩ rfl (Nat.le_of_ble_eq_true rfl) dX0_addGarage_61) (fun r54 M52 hle53 hx => ?_)
        replace hw := hx hle53
        clear hx
        have ht55 : m_tg M52 a0 = 1 := m_le_tg hle53 ht46
        have ht56 : m_tg M52 u10 = 2 := m_le_tg hle53 ht47
        have ht57 : m_tg M52 u13 = 14 := m_le_tg hle53 ht48
        have ht58 : m_tg M52 u28 = 2 := m_le_tg hle53 ht49
        have ht59 : m_tg M52 u34 = 8 := m_le_tg hle53 ht50
        have ht60 : m_tg M52 u31 = 14 := m_le_tg hle53 ht51
        refine pw_pop X dX0_addGarage_66 ?_
        refine pw_aload_n X dX0_addGarage_67 rfl rfl ?_
        obtain ⟨u61, he62, hw⟩ := hw
        refine pw_get X (q := (RX0, TX0, tyX0, 4)) (ci := 0) (k := 0) (ref := "PatrolDesk") (vR (some u61)) ht55 rfl (by decide) in_X0 q948 (Or.inl rfl) (by rw [he62]; rfl) dX0_addGarage_68 ?_
        obtain ⟨ht63, hw⟩ := hw
        obtain ⟨u64, he65, hw⟩ := hw
        refine pw_getN X (q := (RX1, TX1, tyX1, 8)) (ci := 1) (k := 2) (ref := "PatrolDesk$State") (host := "PatrolDesk") (vR (some u64)) ht63 rfl (by decide) in_X1 q166 (Or.inl rfl) (by rw [he65]; rfl) dX0_addGarage_71 ?_
        obtain ⟨ht66, hw⟩ := hw
        refine pw_runi X (m_cF X (b := u64) (ci := 13) (q := (RJ2, TJ2, tyJ2, 3)) (met_J2_size G C.2.1 M52 u64 _ hw) ht66 rfl (lw_app (lw_F q991 q994 q996 q82) (lw_meth q998)) (List.mem_of_getElem? (i := 6) rfl) (by decide +kernel : m_nMH ⟨"java/util/List", "size", "()I"⟩ 0) ⟨Nat.le_of_ble_eq_true rfl, Nat.le_of_ble_eq_true rfl⟩ rfl (Nat.le_of_ble_eq_true rfl) dX0_addGarage_74) (fun r69 M67 hle68 hx => ?_)
        replace hw := hx hle68
        clear hx
        have ht70 : m_tg M67 a0 = 1 := m_le_tg hle68 ht55
        have ht71 : m_tg M67 u10 = 2 := m_le_tg hle68 ht56
        have ht72 : m_tg M67 u13 = 14 := m_le_tg hle68 ht57
        have ht73 : m_tg M67 u28 = 2 := m_le_tg hle68 ht58
        have ht74 : m_tg M67 u34 = 8 := m_le_tg hle68 ht59
        have ht75 : m_tg M67 u31 = 14 := m_le_tg hle68 ht60
        have ht76 : m_tg M67 u61 = 2 := m_le_tg hle68 ht63
        have ht77 : m_tg M67 u64 = 14 := m_le_tg hle68 ht66
        refine pw_iconst X 1 dX0_addGarage_79 (by decide) ?_
        refine pw_isub X dX0_addGarage_80 ?_
        exact pw_iret X hw dX0_addGarage_81
      · replace hw := hw.2 c22
        refine pw_bipush X (-3) dX0_addGarage_38 (by decide) ?_
        exact pw_iret X hw dX0_addGarage_40
    · replace hw := hw.2 c8
      refine pw_bipush X (-2) dX0_addGarage_19 (by decide) ?_
      exact pw_iret X hw dX0_addGarage_21
  · replace hw := hw.2 c4
    refine pw_iconst X (-1) dX0_addGarage_7 (by decide) ?_
    exact pw_iret X hw dX0_addGarage_8
theorem met_X0_addGarage (G : Gp) (l : Launch) (M : Mem) (a0 : Nat) (x1 : Int32) (x2 : Int32) (Q : Int32 → Mem → Prop) (hw : wp_X0_addGarage G.2 M a0 x1 x2 Q) : m_K G l yX0_addGarage cX0_addGarage 3 (some .int) 9 203 [vR (some a0), vI x1, vI x2] M (va_Qi (m_q1 M Q) (m_W G) (m_A G)) := by
  refine m_met (by decide) (Nat.le_of_ble_eq_true rfl) (fun C e X => ?_)
  exact bk_X0_addGarage_0 G C _ _ M Q X M a0 x1 x2 hw
theorem nh_X0_addGarage : m_nMH yX0_addGarage 2 := by decide +kernel

def wp_X0_setPromise (g : Nat → Nat) (M : Mem) (a0 : Nat) (x1 : Int32) (x2 : Int32) (Q : Int32 → Mem → Prop) : Prop := wp_X0_inRange g M x1 0 2 (fun (r3 : Int32) (M1 : Mem) => m_le M M1 → ((r3 = 0 → Q (-2) M1) ∧ (¬ r3 = 0 → wp_X0_inRange g M1 x2 10 240 (fun (r7 : Int32) (M5 : Mem) => m_le M1 M5 → ((¬ r7 = 0 → m_tg M5 a0 = 1 ∧ ∃ u10 : Nat, (m_gr M5 a0 0) = some u10 ∧ m_tg M5 u10 = 2 ∧ ∃ u13 : Nat, (m_gr M5 u10 4) = some u13 ∧ m_tg M5 u13 = 101 ∧ vp_in x1 (m_ln M5 u13) ∧ ((¬ (m_gi M5 u13 (Int32.toNatClampNeg x1)) = x2 → wp_X0_record g M5 a0 (fun (M18 : Mem) => m_le M5 M18 → ∃ u23 : Nat, (m_gr M18 a0 0) = some u23 ∧ m_tg M18 u23 = 2 ∧ ∃ u26 : Nat, (m_gr M18 u23 4) = some u26 ∧ m_tg M18 u26 = 101 ∧ vp_in x1 (m_ln M18 u26) ∧ ∀ M30 : Mem, M30 = (m_pi M18 u26 (Int32.toNatClampNeg x1) x2) → Q (m_gi M5 u13 (Int32.toNatClampNeg x1)) M30)) ∧ ((m_gi M5 u13 (Int32.toNatClampNeg x1)) = x2 → Q (-5) M5))) ∧ (r7 = 0 → Q (-2) M5))))))
theorem bk_X0_setPromise_0 (G : Gp) (C : m_Cx) (n0 s0 : Nat) (M0 : Mem) (Q : Int32 → Mem → Prop) (X : m_in G C RX0 cX0_setPromise 4 (some .int) "setPromise" 9 203 n0 s0) (M : Mem) (a0 : Nat) (x1 : Int32) (x2 : Int32) (hw : wp_X0_setPromise G.2 M a0 x1 x2 Q) : pW G C 4 n0 s0 M0 (m_Q G C n0 s0 (va_Qi (m_q1 M0 Q) (m_W G) (m_A G))) M 0 [(0, vR (some a0)), (1, vI x1), (2, vI x2)] [] := by
  refine pw_iload_n X dX0_setPromise_0 rfl rfl ?_
  refine pw_iconst X 0 dX0_setPromise_1 (by decide) ?_
  refine pw_iconst X 2 dX0_setPromise_2 (by decide) ?_
  refine pw_runi X (m_cS X (met_X0_inRange G C.2.1 M x1 0 2 _ hw) (lw_S q968 q969 q78 q970) nh_X0_inRange ⟨Nat.le_of_ble_eq_true rfl, Nat.le_of_ble_eq_true rfl⟩ rfl (Nat.le_of_ble_eq_true rfl) dX0_setPromise_3) (fun r3 M1 hle2 hx => ?_)
  replace hw := hx hle2
  clear hx
  refine pw_if_eq X 21 dX0_setPromise_6 (by decide) (fun c4 => ?_) (fun c4 => ?_)
  · replace hw := hw.1 c4
    refine pw_bipush X (-2) dX0_setPromise_21 (by decide) ?_
    exact pw_iret X hw dX0_setPromise_23
  · replace hw := hw.2 c4
    refine pw_iload_n X dX0_setPromise_9 rfl rfl ?_
    refine pw_bipush X 10 dX0_setPromise_10 (by decide) ?_
    refine pw_sipush X 240 dX0_setPromise_12 (by decide) ?_
    refine pw_runi X (m_cS X (met_X0_inRange G C.2.1 M1 x2 10 240 _ hw) (lw_S q968 q969 q78 q970) nh_X0_inRange ⟨Nat.le_of_ble_eq_true rfl, Nat.le_of_ble_eq_true rfl⟩ rfl (Nat.le_of_ble_eq_true rfl) dX0_setPromise_15) (fun r7 M5 hle6 hx => ?_)
    replace hw := hx hle6
    clear hx
    refine pw_if_ne X 24 dX0_setPromise_18 (by decide) (fun c8 => ?_) (fun c8 => ?_)
    · replace hw := hw.1 c8
      refine pw_aload_n X dX0_setPromise_24 rfl rfl ?_
      obtain ⟨ht9, hw⟩ := hw
      obtain ⟨u10, he11, hw⟩ := hw
      refine pw_get X (q := (RX0, TX0, tyX0, 4)) (ci := 0) (k := 0) (ref := "PatrolDesk") (vR (some u10)) ht9 rfl (by decide) in_X0 q948 (Or.inl rfl) (by rw [he11]; rfl) dX0_setPromise_25 ?_
      obtain ⟨ht12, hw⟩ := hw
      obtain ⟨u13, he14, hw⟩ := hw
      refine pw_getN X (q := (RX1, TX1, tyX1, 8)) (ci := 1) (k := 4) (ref := "PatrolDesk$State") (host := "PatrolDesk") (vR (some u13)) ht12 rfl (by decide) in_X1 q170 (Or.inl rfl) (by rw [he14]; rfl) dX0_setPromise_28 ?_
      refine pw_iload_n X dX0_setPromise_31 rfl rfl ?_
      obtain ⟨ht15, hw⟩ := hw
      obtain ⟨hi16, hw⟩ := hw
      refine pw_iald X ht15 hi16 dX0_setPromise_32 ?_
      refine pw_istore_n X [(0, vR (some a0)), (1, vI x1), (2, vI x2), (3, vI (m_gi M5 u13 (Int32.toNatClampNeg x1)))] [1, 2, 3, 0] dX0_setPromise_33 rfl (by decide) rfl ?_
      refine pw_iload_n X dX0_setPromise_34 rfl rfl ?_
      refine pw_iload_n X dX0_setPromise_35 rfl rfl ?_
      refine pw_icmp_ne X 42 dX0_setPromise_36 (by decide) (fun c17 => ?_) (fun c17 => ?_)
      · replace hw := hw.1 c17
        refine pw_aload_n X dX0_setPromise_42 rfl rfl ?_
        refine pw_runv X (m_cV X (b := a0) (ci := 0) (q := (RX0, TX0, tyX0, 4)) (met_X0_record G C.2.1 M5 a0 _ hw) ht9 rfl (lw_V q986 q988 qs8 q78 q989) ⟨rfl, nh_X0_record⟩ ⟨Nat.le_of_ble_eq_true rfl, Nat.le_of_ble_eq_true rfl⟩ rfl (Nat.le_of_ble_eq_true rfl) dX0_setPromise_43) (fun M18 hle19 hx => ?_)
        replace hw := hx hle19
        clear hx
        have ht20 : m_tg M18 a0 = 1 := m_le_tg hle19 ht9
        have ht21 : m_tg M18 u10 = 2 := m_le_tg hle19 ht12
        have ht22 : m_tg M18 u13 = 101 := m_le_tg hle19 ht15
        refine pw_aload_n X dX0_setPromise_46 rfl rfl ?_
        obtain ⟨u23, he24, hw⟩ := hw
        refine pw_get X (q := (RX0, TX0, tyX0, 4)) (ci := 0) (k := 0) (ref := "PatrolDesk") (vR (some u23)) ht20 rfl (by decide) in_X0 q948 (Or.inl rfl) (by rw [he24]; rfl) dX0_setPromise_47 ?_
        obtain ⟨ht25, hw⟩ := hw
        obtain ⟨u26, he27, hw⟩ := hw
        refine pw_getN X (q := (RX1, TX1, tyX1, 8)) (ci := 1) (k := 4) (ref := "PatrolDesk$State") (host := "PatrolDesk") (vR (some u26)) ht25 rfl (by decide) in_X1 q170 (Or.inl rfl) (by rw [he27]; rfl) dX0_setPromise_50 ?_
        refine pw_iload_n X dX0_setPromise_53 rfl rfl ?_
        refine pw_iload_n X dX0_setPromise_54 rfl rfl ?_
        obtain ⟨ht28, hw⟩ := hw
        obtain ⟨hi29, hw⟩ := hw
        obtain ⟨M30, hM31⟩ : ∃ z : Mem, z = (m_pi M18 u26 (Int32.toNatClampNeg x1) x2) := ⟨_, rfl⟩
        replace hw := hw M30 hM31
        have hle32 : m_le M18 M30 := by rw [hM31]; exact m_le_pi
        refine pw_iast X ht28 hi29 dX0_setPromise_55 ?_
        rw [← hM31]
        have ht33 : m_tg M30 a0 = 1 := m_le_tg hle32 ht20
        have ht34 : m_tg M30 u10 = 2 := m_le_tg hle32 ht21
        have ht35 : m_tg M30 u13 = 101 := m_le_tg hle32 ht22
        have ht36 : m_tg M30 u23 = 2 := m_le_tg hle32 ht25
        have ht37 : m_tg M30 u26 = 101 := m_le_tg hle32 ht28
        refine pw_iload_n X dX0_setPromise_56 rfl rfl ?_
        exact pw_iret X hw dX0_setPromise_57
      · replace hw := hw.2 c17
        refine pw_bipush X (-5) dX0_setPromise_39 (by decide) ?_
        exact pw_iret X hw dX0_setPromise_41
    · replace hw := hw.2 c8
      refine pw_bipush X (-2) dX0_setPromise_21 (by decide) ?_
      exact pw_iret X hw dX0_setPromise_23
theorem met_X0_setPromise (G : Gp) (l : Launch) (M : Mem) (a0 : Nat) (x1 : Int32) (x2 : Int32) (Q : Int32 → Mem → Prop) (hw : wp_X0_setPromise G.2 M a0 x1 x2 Q) : m_K G l yX0_setPromise cX0_setPromise 4 (some .int) 9 203 [vR (some a0), vI x1, vI x2] M (va_Qi (m_q1 M Q) (m_W G) (m_A G)) := by
  refine m_met (by decide) (Nat.le_of_ble_eq_true rfl) (fun C e X => ?_)
  exact bk_X0_setPromise_0 G C _ _ M Q X M a0 x1 x2 hw
theorem nh_X0_setPromise : m_nMH yX0_setPromise 2 := by decide +kernel

def wp_X0_setWeather (g : Nat → Nat) (M : Mem) (a0 : Nat) (x1 : Int32) (Q : Int32 → Mem → Prop) : Prop := wp_X0_inRange g M x1 0 5 (fun (r3 : Int32) (M1 : Mem) => m_le M M1 → ((¬ r3 = 0 → m_tg M1 a0 = 1 ∧ ∃ u6 : Nat, (m_gr M1 a0 0) = some u6 ∧ m_tg M1 u6 = 2 ∧ ((¬ (m_gi M1 u6 6) = x1 → wp_X0_record g M1 a0 (fun (M10 : Mem) => m_le M1 M10 → ∃ u14 : Nat, (m_gr M10 a0 0) = some u14 ∧ m_tg M10 u14 = 2 ∧ ∀ M17 : Mem, M17 = (m_pi M10 u14 6 x1) → Q (m_gi M1 u6 6) M17)) ∧ ((m_gi M1 u6 6) = x1 → Q (-5) M1))) ∧ (r3 = 0 → Q (-2) M1)))
theorem bk_X0_setWeather_0 (G : Gp) (C : m_Cx) (n0 s0 : Nat) (M0 : Mem) (Q : Int32 → Mem → Prop) (X : m_in G C RX0 cX0_setWeather 3 (some .int) "setWeather" 9 203 n0 s0) (M : Mem) (a0 : Nat) (x1 : Int32) (hw : wp_X0_setWeather G.2 M a0 x1 Q) : pW G C 3 n0 s0 M0 (m_Q G C n0 s0 (va_Qi (m_q1 M0 Q) (m_W G) (m_A G))) M 0 [(0, vR (some a0)), (1, vI x1)] [] := by
  refine pw_iload_n X dX0_setWeather_0 rfl rfl ?_
  refine pw_iconst X 0 dX0_setWeather_1 (by decide) ?_
  refine pw_iconst X 5 dX0_setWeather_2 (by decide) ?_
  refine pw_runi X (m_cS X (met_X0_inRange G C.2.1 M x1 0 5 _ hw) (lw_S q968 q969 q78 q970) nh_X0_inRange ⟨Nat.le_of_ble_eq_true rfl, Nat.le_of_ble_eq_true rfl⟩ rfl (Nat.le_of_ble_eq_true rfl) dX0_setWeather_3) (fun r3 M1 hle2 hx => ?_)
  replace hw := hx hle2
  clear hx
  refine pw_if_ne X 12 dX0_setWeather_6 (by decide) (fun c4 => ?_) (fun c4 => ?_)
  · replace hw := hw.1 c4
    refine pw_aload_n X dX0_setWeather_12 rfl rfl ?_
    obtain ⟨ht5, hw⟩ := hw
    obtain ⟨u6, he7, hw⟩ := hw
    refine pw_get X (q := (RX0, TX0, tyX0, 4)) (ci := 0) (k := 0) (ref := "PatrolDesk") (vR (some u6)) ht5 rfl (by decide) in_X0 q948 (Or.inl rfl) (by rw [he7]; rfl) dX0_setWeather_13 ?_
    obtain ⟨ht8, hw⟩ := hw
    refine pw_getN X (q := (RX1, TX1, tyX1, 8)) (ci := 1) (k := 6) (ref := "PatrolDesk$State") (host := "PatrolDesk") (vI (m_gi M1 u6 6)) ht8 rfl (by decide) in_X1 q174 (Or.inl rfl) rfl dX0_setWeather_16 ?_
    refine pw_istore_n X [(0, vR (some a0)), (1, vI x1), (2, vI (m_gi M1 u6 6))] [1, 2, 0] dX0_setWeather_19 rfl (by decide) rfl ?_
    refine pw_iload_n X dX0_setWeather_20 rfl rfl ?_
    refine pw_iload_n X dX0_setWeather_21 rfl rfl ?_
    refine pw_icmp_ne X 28 dX0_setWeather_22 (by decide) (fun c9 => ?_) (fun c9 => ?_)
    · replace hw := hw.1 c9
      refine pw_aload_n X dX0_setWeather_28 rfl rfl ?_
      refine pw_runv X (m_cV X (b := a0) (ci := 0) (q := (RX0, TX0, tyX0, 4)) (met_X0_record G C.2.1 M1 a0 _ hw) ht5 rfl (lw_V q986 q988 qs8 q78 q989) ⟨rfl, nh_X0_record⟩ ⟨Nat.le_of_ble_eq_true rfl, Nat.le_of_ble_eq_true rfl⟩ rfl (Nat.le_of_ble_eq_true rfl) dX0_setWeather_29) (fun M10 hle11 hx => ?_)
      replace hw := hx hle11
      clear hx
      have ht12 : m_tg M10 a0 = 1 := m_le_tg hle11 ht5
      have ht13 : m_tg M10 u6 = 2 := m_le_tg hle11 ht8
      refine pw_aload_n X dX0_setWeather_32 rfl rfl ?_
      obtain ⟨u14, he15, hw⟩ := hw
      refine pw_get X (q := (RX0, TX0, tyX0, 4)) (ci := 0) (k := 0) (ref := "PatrolDesk") (vR (some u14)) ht12 rfl (by decide) in_X0 q948 (Or.inl rfl) (by rw [he15]; rfl) dX0_setWeather_33 ?_
      refine pw_iload_n X dX0_setWeather_36 rfl rfl ?_
      obtain ⟨ht16, hw⟩ := hw
      obtain ⟨M17, hM18⟩ : ∃ z : Mem, z = (m_pi M10 u14 6 x1) := ⟨_, rfl⟩
      replace hw := hw M17 hM18
      refine pw_putN X (q := (RX1, TX1, tyX1, 8)) (ci := 1) (k := 6) (ref := "PatrolDesk$State") (host := "PatrolDesk") M17 hM18.symm ht16 rfl (by decide) in_X1 tyX1_ok nmX1 q174 (Or.inl rfl) rfl (m_kd_i (fun _ _ => rfl)) rfl rfl dX0_setWeather_37 ?_
      have hle19 : m_le M10 M17 := by rw [hM18]; exact m_le_pi
      have ht20 : m_tg M17 a0 = 1 := m_le_tg hle19 ht12
      have ht21 : m_tg M17 u6 = 2 := m_le_tg hle19 ht13
      have ht22 : m_tg M17 u14 = 2 := m_le_tg hle19 ht16
      refine pw_iload_n X dX0_setWeather_40 rfl rfl ?_
      exact pw_iret X hw dX0_setWeather_41
    · replace hw := hw.2 c9
      refine pw_bipush X (-5) dX0_setWeather_25 (by decide) ?_
      exact pw_iret X hw dX0_setWeather_27
  · replace hw := hw.2 c4
    refine pw_bipush X (-2) dX0_setWeather_9 (by decide) ?_
    exact pw_iret X hw dX0_setWeather_11
theorem met_X0_setWeather (G : Gp) (l : Launch) (M : Mem) (a0 : Nat) (x1 : Int32) (Q : Int32 → Mem → Prop) (hw : wp_X0_setWeather G.2 M a0 x1 Q) : m_K G l yX0_setWeather cX0_setWeather 3 (some .int) 9 203 [vR (some a0), vI x1] M (va_Qi (m_q1 M Q) (m_W G) (m_A G)) := by
  refine m_met (by decide) (Nat.le_of_ble_eq_true rfl) (fun C e X => ?_)
  exact bk_X0_setWeather_0 G C _ _ M Q X M a0 x1 hw
theorem nh_X0_setWeather : m_nMH yX0_setWeather 1 := by decide +kernel

def wp_X0_call (g : Nat → Nat) (M : Mem) (a0 : Nat) (x1 : Int32) (x2 : Int32) (x3 : Int32) (Q : Int32 → Mem → Prop) : Prop := m_tg M a0 = 1 ∧ ∃ u2 : Nat, (m_gr M a0 0) = some u2 ∧ m_tg M u2 = 2 ∧ wp_X1_check g M u2 x1 x2 x3 (fun (M9 : Mem) => m_le M M9 → wp_X0_record g M9 a0 (fun (M16 : Mem) => m_le M9 M16 → ∃ u20 : Nat, (m_gr M16 a0 0) = some u20 ∧ m_tg M16 u20 = 2 ∧ wp_X1_come g M16 u20 x1 x2 x3 (fun (M23 : Mem) => m_le M16 M23 → ∃ u28 : Nat, (m_gr M23 a0 0) = some u28 ∧ m_tg M23 u28 = 2 ∧ ∃ u31 : Nat, (m_gr M23 u28 3) = some u31 ∧ m_tg M23 u31 = 14 ∧ wp_J2_size g M23 u31 (fun (r36 : Int32) (M34 : Mem) => m_le M23 M34 → Q (r36 - 1) M34)))) (fun (u5 : Nat) (M6 : Mem) => m_le M M6 → m_tg M6 u5 = 10 → Q (m_gi M6 u5 6) M6)
theorem bk_X0_call_0 (G : Gp) (C : m_Cx) (n0 s0 : Nat) (M0 : Mem) (Q : Int32 → Mem → Prop) (X : m_in G C RX0 cX0_call 5 (some .int) "call" 9 203 n0 s0) (hl : C.2.1.stackTraces = false) (hT : (m_co C).exceptionTable.toList = tableOf [(0, 10, 13, 121)]) (M : Mem) (a0 : Nat) (x1 : Int32) (x2 : Int32) (x3 : Int32) (hw : wp_X0_call G.2 M a0 x1 x2 x3 Q) : pW G C 5 n0 s0 M0 (m_Q G C n0 s0 (va_Qi (m_q1 M0 Q) (m_W G) (m_A G))) M 0 [(0, vR (some a0)), (1, vI x1), (2, vI x2), (3, vI x3)] [] := by
  refine pw_aload_n X dX0_call_0 rfl rfl ?_
  obtain ⟨ht1, hw⟩ := hw
  obtain ⟨u2, he3, hw⟩ := hw
  refine pw_get X (q := (RX0, TX0, tyX0, 4)) (ci := 0) (k := 0) (ref := "PatrolDesk") (vR (some u2)) ht1 rfl (by decide) in_X0 q948 (Or.inl rfl) (by rw [he3]; rfl) dX0_call_1 ?_
  refine pw_iload_n X dX0_call_4 rfl rfl ?_
  refine pw_iload_n X dX0_call_5 rfl rfl ?_
  refine pw_iload_n X dX0_call_6 rfl rfl ?_
  obtain ⟨ht4, hw⟩ := hw
  refine pw_runXv X (m_cVNX X (b := u2) (ci := 1) (q := (RX1, TX1, tyX1, 8)) (met_X1_check G C.2.1 hl M u2 x1 x2 x3 _ _ hw) ht4 rfl q1310 q79 q1307 q1309 qs10 nh_X1_check ⟨Nat.le_of_ble_eq_true rfl, Nat.le_of_ble_eq_true rfl⟩ rfl (Nat.le_of_ble_eq_true rfl) dX0_call_7) (fun u5 M6 hle7 ht8 hx => ?_) (fun M9 hle10 hx => ?_)
  · replace hw := hx hle7 ht8
    clear hx
    have ht12 : m_tg M6 a0 = 1 := m_le_tg hle7 ht1
    have ht13 : m_tg M6 u2 = 2 := m_le_tg hle7 ht4
    refine px_catch X (c := (RX9, TX9, tyX9, 7)) [] ⟨0, 10, 13, 121⟩ [] (hT.trans rfl) (fun z hz => by cases hz) (by decide) (by decide) q1306 q1315 ht8 rfl 13 rfl ?_
    refine pw_lo [] rfl ?_
    refine pw_astore X [(4, vR (some u5))] [0] dX0_call_13 (by decide) rfl ?_
    refine pw_aload X dX0_call_15 rfl ?_
    refine pw_getN X (q := (RX9, TX9, tyX9, 7)) (ci := 9) (k := 6) (ref := "PatrolDesk$Refused") (host := "PatrolDesk") (vI (m_gi M6 u5 6)) ht8 rfl (by decide) in_X9 q1359 (Or.inl rfl) rfl dX0_call_17 ?_
    exact pw_iret X hw dX0_call_20
  · replace hw := hx hle10
    clear hx
    have ht14 : m_tg M9 a0 = 1 := m_le_tg hle10 ht1
    have ht15 : m_tg M9 u2 = 2 := m_le_tg hle10 ht4
    refine pw_goto X 21 dX0_call_10 (by decide) ?_
    refine pw_aload_n X dX0_call_21 rfl rfl ?_
    refine pw_runv X (m_cV X (b := a0) (ci := 0) (q := (RX0, TX0, tyX0, 4)) (met_X0_record G C.2.1 M9 a0 _ hw) ht14 rfl (lw_V q986 q988 qs8 q78 q989) ⟨rfl, nh_X0_record⟩ ⟨Nat.le_of_ble_eq_true rfl, Nat.le_of_ble_eq_true rfl⟩ rfl (Nat.le_of_ble_eq_true rfl) dX0_call_22) (fun M16 hle17 hx => ?_)
    replace hw := hx hle17
    clear hx
    have ht18 : m_tg M16 a0 = 1 := m_le_tg hle17 ht14
    have ht19 : m_tg M16 u2 = 2 := m_le_tg hle17 ht15
    refine pw_aload_n X dX0_call_25 rfl rfl ?_
    obtain ⟨u20, he21, hw⟩ := hw
    refine pw_get X (q := (RX0, TX0, tyX0, 4)) (ci := 0) (k := 0) (ref := "PatrolDesk") (vR (some u20)) ht18 rfl (by decide) in_X0 q948 (Or.inl rfl) (by rw [he21]; rfl) dX0_call_26 ?_
    refine pw_iload_n X dX0_call_29 rfl rfl ?_
    refine pw_iload_n X dX0_call_30 rfl rfl ?_
    refine pw_iload_n X dX0_call_31 rfl rfl ?_
    obtain ⟨ht22, hw⟩ := hw
    refine pw_runv X (m_cVN X (b := u20) (ci := 1) (q := (RX1, TX1, tyX1, 8)) (met_X1_come G C.2.1 M16 u20 x1 x2 x3 _ hw) ht22 rfl q1385 q79 q1382 q1384 qs12 nh_X1_come ⟨Nat.le_of_ble_eq_true rfl, Nat.le_of_ble_eq_true rfl⟩ rfl (Nat.le_of_ble_eq_true rfl) dX0_call_32) (fun M23 hle24 hx => ?_)
    replace hw := hx hle24
    clear hx
    have ht25 : m_tg M23 a0 = 1 := m_le_tg hle24 ht18
    have ht26 : m_tg M23 u2 = 2 := m_le_tg hle24 ht19
    have ht27 : m_tg M23 u20 = 2 := m_le_tg hle24 ht22
    refine pw_aload_n X dX0_call_35 rfl rfl ?_
    obtain ⟨u28, he29, hw⟩ := hw
    refine pw_get X (q := (RX0, TX0, tyX0, 4)) (ci := 0) (k := 0) (ref := "PatrolDesk") (vR (some u28)) ht25 rfl (by decide) in_X0 q948 (Or.inl rfl) (by rw [he29]; rfl) dX0_call_36 ?_
    obtain ⟨ht30, hw⟩ := hw
    obtain ⟨u31, he32, hw⟩ := hw
    refine pw_getN X (q := (RX1, TX1, tyX1, 8)) (ci := 1) (k := 3) (ref := "PatrolDesk$State") (host := "PatrolDesk") (vR (some u31)) ht30 rfl (by decide) in_X1 q168 (Or.inl rfl) (by rw [he32]; rfl) dX0_call_39 ?_
    obtain ⟨ht33, hw⟩ := hw
    refine pw_runi X (m_cF X (b := u31) (ci := 13) (q := (RJ2, TJ2, tyJ2, 3)) (met_J2_size G C.2.1 M23 u31 _ hw) ht33 rfl (lw_app (lw_F q991 q994 q996 q82) (lw_meth q998)) (List.mem_of_getElem? (i := 6) rfl) (by decide +kernel : m_nMH ⟨"java/util/List", "size", "()I"⟩ 0) ⟨Nat.le_of_ble_eq_true rfl, Nat.le_of_ble_eq_true rfl⟩ rfl (Nat.le_of_ble_eq_true rfl) dX0_call_42) (fun r36 M34 hle35 hx => ?_)
    replace hw := hx hle35
    clear hx
    have ht37 : m_tg M34 a0 = 1 := m_le_tg hle35 ht25
    have ht38 : m_tg M34 u2 = 2 := m_le_tg hle35 ht26
    have ht39 : m_tg M34 u20 = 2 := m_le_tg hle35 ht27
    have ht40 : m_tg M34 u28 = 2 := m_le_tg hle35 ht30
    have ht41 : m_tg M34 u31 = 14 := m_le_tg hle35 ht33
    refine pw_iconst X 1 dX0_call_47 (by decide) ?_
    refine pw_isub X dX0_call_48 ?_
    exact pw_iret X hw dX0_call_49
theorem met_X0_call (G : Gp) (l : Launch) (hl : l.stackTraces = false) (M : Mem) (a0 : Nat) (x1 : Int32) (x2 : Int32) (x3 : Int32) (Q : Int32 → Mem → Prop) (hw : wp_X0_call G.2 M a0 x1 x2 x3 Q) : m_KW G l yX0_call cX0_call 5 (some .int) [(0, 10, 13, 121)] 9 203 [vR (some a0), vI x1, vI x2, vI x3] M (va_Qi (m_q1 M Q) (m_W G) (m_A G)) := by
  refine m_metW (by decide) (Nat.le_of_ble_eq_true rfl) (fun C e X hT => ?_)
  exact bk_X0_call_0 G C _ _ M Q X (by rw [e]; exact hl) hT M a0 x1 x2 x3 hw
theorem nh_X0_call : m_nMH yX0_call 3 := by decide +kernel

def wp_X0_cancel_b88 (g : Nat → Nat) (M : Mem) (la0 : Nat) (la2 : Nat) (Q : Int32 → Mem → Prop) : Prop := m_tg M la0 = 1 ∧ ∃ u2 : Nat, (m_gr M la0 0) = some u2 ∧ m_tg M u2 = 2 ∧ m_tg M la2 = 9 ∧ ∀ M6 : Mem, M6 = (m_pi M la2 10 (m_gi M u2 7)) → ∃ u12 : Nat, (m_gr M6 la0 0) = some u12 ∧ m_tg M6 u12 = 2 ∧ wp_X8_end g M6 la2 7 (m_gi M6 u12 7) (fun (M15 : Mem) => m_le M6 M15 → ∃ u21 : Nat, (m_gr M15 la0 0) = some u21 ∧ m_tg M15 u21 = 2 ∧ wp_X8_waited g M15 la2 (m_gi M15 u21 7) (fun (r26 : Int32) (M24 : Mem) => m_le M15 M24 → Q r26 M24))
def wp_X0_cancel (g : Nat → Nat) (M : Mem) (a0 : Nat) (x1 : Int32) (Q : Int32 → Mem → Prop) : Prop := m_tg M a0 = 1 ∧ wp_X0_isCall g M a0 x1 (fun (r4 : Int32) (M2 : Mem) => m_le M M2 → ((¬ r4 = 0 → ∃ u7 : Nat, (m_gr M2 a0 0) = some u7 ∧ m_tg M2 u7 = 2 ∧ ∃ u10 : Nat, (m_gr M2 u7 3) = some u10 ∧ m_tg M2 u10 = 14 ∧ wp_J2_get g M2 u10 x1 (fun (r15 : Option Nat) (M13 : Mem) => m_le M2 M13 → ∃ u19 : Nat, r15 = some u19 ∧ m_tg M13 u19 = 9 ∧ (((m_gi M13 u19 7) ≤ 1 → wp_X0_record g M13 a0 (fun (M23 : Mem) => m_le M13 M23 → ∃ u29 : Nat, (m_gr M23 a0 0) = some u29 ∧ m_tg M23 u29 = 2 ∧ ∃ u32 : Nat, (m_gr M23 u29 3) = some u32 ∧ m_tg M23 u32 = 14 ∧ wp_J2_get g M23 u32 x1 (fun (r37 : Option Nat) (M35 : Mem) => m_le M23 M35 → ∃ u44 : Nat, r37 = some u44 ∧ m_tg M35 u44 = 9 ∧ (((m_gi M35 u44 8) = (-5) → wp_X0_cancel_b88 g M35 a0 u44 Q) ∧ (¬ (m_gi M35 u44 8) = (-5) → ∃ u48 : Nat, (m_gr M35 a0 0) = some u48 ∧ m_tg M35 u48 = 2 ∧ ∃ u51 : Nat, (m_gr M35 u48 1) = some u51 ∧ m_tg M35 u51 = 14 ∧ wp_J2_get g M35 u51 (m_gi M35 u44 8) (fun (r56 : Option Nat) (M54 : Mem) => m_le M35 M54 → ∃ u66 : Nat, r56 = some u66 ∧ m_tg M54 u66 = 7 ∧ wp_X6_becomeFree g M54 u66 (fun (M69 : Mem) => m_le M54 M69 → wp_X0_cancel_b88 g M69 a0 u44 Q))))))) ∧ (¬ (m_gi M13 u19 7) ≤ 1 → Q (-4) M13)))) ∧ (r4 = 0 → Q (-1) M2)))
theorem bk_X0_cancel_88 (G : Gp) (C : m_Cx) (n0 s0 : Nat) (M0 : Mem) (Q : Int32 → Mem → Prop) (X : m_in G C RX0 cX0_cancel 3 (some .int) "cancel" 9 203 n0 s0) (M : Mem) (la0 : Nat) (la2 : Nat) (hw : wp_X0_cancel_b88 G.2 M la0 la2 Q) : pW G C 3 n0 s0 M0 (m_Q G C n0 s0 (va_Qi (m_q1 M0 Q) (m_W G) (m_A G))) M 88 [(0, vR (some la0)), (2, vR (some la2))] [] := by
  refine pw_aload_n X dX0_cancel_88 rfl rfl ?_
  refine pw_aload_n X dX0_cancel_89 rfl rfl ?_
  obtain ⟨ht1, hw⟩ := hw
  obtain ⟨u2, he3, hw⟩ := hw
  refine pw_get X (q := (RX0, TX0, tyX0, 4)) (ci := 0) (k := 0) (ref := "PatrolDesk") (vR (some u2)) ht1 rfl (by decide) in_X0 q948 (Or.inl rfl) (by rw [he3]; rfl) dX0_cancel_90 ?_
  obtain ⟨ht4, hw⟩ := hw
  refine pw_getN X (q := (RX1, TX1, tyX1, 8)) (ci := 1) (k := 7) (ref := "PatrolDesk$State") (host := "PatrolDesk") (vI (m_gi M u2 7)) ht4 rfl (by decide) in_X1 q176 (Or.inl rfl) rfl dX0_cancel_93 ?_
  obtain ⟨ht5, hw⟩ := hw
  obtain ⟨M6, hM7⟩ : ∃ z : Mem, z = (m_pi M la2 10 (m_gi M u2 7)) := ⟨_, rfl⟩
  replace hw := hw M6 hM7
  refine pw_putN X (q := (RX8, TX8, tyX8, 13)) (ci := 8) (k := 10) (ref := "PatrolDesk$Call") (host := "PatrolDesk") M6 hM7.symm ht5 rfl (by decide) in_X8 tyX8_ok nmX8 q1238 (Or.inl rfl) rfl (m_kd_i (fun _ _ => rfl)) rfl rfl dX0_cancel_96 ?_
  have hle8 : m_le M M6 := by rw [hM7]; exact m_le_pi
  have ht9 : m_tg M6 la0 = 1 := m_le_tg hle8 ht1
  have ht10 : m_tg M6 u2 = 2 := m_le_tg hle8 ht4
  have ht11 : m_tg M6 la2 = 9 := m_le_tg hle8 ht5
  refine pw_aload_n X dX0_cancel_99 rfl rfl ?_
  refine pw_bipush X 7 dX0_cancel_100 (by decide) ?_
  refine pw_aload_n X dX0_cancel_102 rfl rfl ?_
  obtain ⟨u12, he13, hw⟩ := hw
  refine pw_get X (q := (RX0, TX0, tyX0, 4)) (ci := 0) (k := 0) (ref := "PatrolDesk") (vR (some u12)) ht9 rfl (by decide) in_X0 q948 (Or.inl rfl) (by rw [he13]; rfl) dX0_cancel_103 ?_
  obtain ⟨ht14, hw⟩ := hw
  refine pw_getN X (q := (RX1, TX1, tyX1, 8)) (ci := 1) (k := 7) (ref := "PatrolDesk$State") (host := "PatrolDesk") (vI (m_gi M6 u12 7)) ht14 rfl (by decide) in_X1 q176 (Or.inl rfl) rfl dX0_cancel_106 ?_
  refine pw_runv X (m_cV X (b := la2) (ci := 8) (q := (RX8, TX8, tyX8, 13)) (met_X8_end G C.2.1 M6 la2 7 (m_gi M6 u12 7) _ hw) ht11 rfl (lw_V q1406 q1407 q1408 q112 q1409) ⟨rfl, nh_X8_end⟩ ⟨Nat.le_of_ble_eq_true rfl, Nat.le_of_ble_eq_true rfl⟩ rfl (Nat.le_of_ble_eq_true rfl) dX0_cancel_109) (fun M15 hle16 hx => ?_)
  replace hw := hx hle16
  clear hx
  have ht17 : m_tg M15 la0 = 1 := m_le_tg hle16 ht9
  have ht18 : m_tg M15 u2 = 2 := m_le_tg hle16 ht10
  have ht19 : m_tg M15 la2 = 9 := m_le_tg hle16 ht11
  have ht20 : m_tg M15 u12 = 2 := m_le_tg hle16 ht14
  refine pw_aload_n X dX0_cancel_112 rfl rfl ?_
  refine pw_aload_n X dX0_cancel_113 rfl rfl ?_
  obtain ⟨u21, he22, hw⟩ := hw
  refine pw_get X (q := (RX0, TX0, tyX0, 4)) (ci := 0) (k := 0) (ref := "PatrolDesk") (vR (some u21)) ht17 rfl (by decide) in_X0 q948 (Or.inl rfl) (by rw [he22]; rfl) dX0_cancel_114 ?_
  obtain ⟨ht23, hw⟩ := hw
  refine pw_getN X (q := (RX1, TX1, tyX1, 8)) (ci := 1) (k := 7) (ref := "PatrolDesk$State") (host := "PatrolDesk") (vI (m_gi M15 u21 7)) ht23 rfl (by decide) in_X1 q176 (Or.inl rfl) rfl dX0_cancel_117 ?_
  refine pw_runi X (m_cV X (b := la2) (ci := 8) (q := (RX8, TX8, tyX8, 13)) (met_X8_waited G C.2.1 M15 la2 (m_gi M15 u21 7) _ hw) ht19 rfl (lw_V q1410 q1411 q1412 q112 q1413) ⟨rfl, nh_X8_waited⟩ ⟨Nat.le_of_ble_eq_true rfl, Nat.le_of_ble_eq_true rfl⟩ rfl (Nat.le_of_ble_eq_true rfl) dX0_cancel_120) (fun r26 M24 hle25 hx => ?_)
  replace hw := hx hle25
  clear hx
  have ht27 : m_tg M24 la0 = 1 := m_le_tg hle25 ht17
  have ht28 : m_tg M24 u2 = 2 := m_le_tg hle25 ht18
  have ht29 : m_tg M24 la2 = 9 := m_le_tg hle25 ht19
  have ht30 : m_tg M24 u12 = 2 := m_le_tg hle25 ht20
  have ht31 : m_tg M24 u21 = 2 := m_le_tg hle25 ht23
  exact pw_iret X hw dX0_cancel_123
theorem bk_X0_cancel_0 (G : Gp) (C : m_Cx) (n0 s0 : Nat) (M0 : Mem) (Q : Int32 → Mem → Prop) (X : m_in G C RX0 cX0_cancel 3 (some .int) "cancel" 9 203 n0 s0) (M : Mem) (a0 : Nat) (x1 : Int32) (hw : wp_X0_cancel G.2 M a0 x1 Q) : pW G C 3 n0 s0 M0 (m_Q G C n0 s0 (va_Qi (m_q1 M0 Q) (m_W G) (m_A G))) M 0 [(0, vR (some a0)), (1, vI x1)] [] := by
  refine pw_aload_n X dX0_cancel_0 rfl rfl ?_
  refine pw_iload_n X dX0_cancel_1 rfl rfl ?_
  obtain ⟨ht1, hw⟩ := hw
  refine pw_runi X (m_cV X (b := a0) (ci := 0) (q := (RX0, TX0, tyX0, 4)) (met_X0_isCall G C.2.1 M a0 x1 _ hw) ht1 rfl (lw_V q1395 q1397 qs13 q78 q1398) ⟨rfl, nh_X0_isCall⟩ ⟨Nat.le_of_ble_eq_true rfl, Nat.le_of_ble_eq_true rfl⟩ rfl (Nat.le_of_ble_eq_true rfl) dX0_cancel_2) (fun r4 M2 hle3 hx => ?_)
  replace hw := hx hle3
  clear hx
  have ht5 : m_tg M2 a0 = 1 := m_le_tg hle3 ht1
  refine pw_if_ne X 10 dX0_cancel_5 (by decide) (fun c6 => ?_) (fun c6 => ?_)
  · replace hw := hw.1 c6
    refine pw_aload_n X dX0_cancel_10 rfl rfl ?_
    obtain ⟨u7, he8, hw⟩ := hw
    refine pw_get X (q := (RX0, TX0, tyX0, 4)) (ci := 0) (k := 0) (ref := "PatrolDesk") (vR (some u7)) ht5 rfl (by decide) in_X0 q948 (Or.inl rfl) (by rw [he8]; rfl) dX0_cancel_11 ?_
    obtain ⟨ht9, hw⟩ := hw
    obtain ⟨u10, he11, hw⟩ := hw
    refine pw_getN X (q := (RX1, TX1, tyX1, 8)) (ci := 1) (k := 3) (ref := "PatrolDesk$State") (host := "PatrolDesk") (vR (some u10)) ht9 rfl (by decide) in_X1 q168 (Or.inl rfl) (by rw [he11]; rfl) dX0_cancel_14 ?_
    refine pw_iload_n X dX0_cancel_17 rfl rfl ?_
    obtain ⟨ht12, hw⟩ := hw
    refine pw_runq X (m_cF X (b := u10) (ci := 13) (q := (RJ2, TJ2, tyJ2, 3)) (met_J2_get G C.2.1 M2 u10 x1 _ hw) ht12 rfl (lw_app (lw_F q1400 q1031 q1033 q82) (lw_meth q1035)) (List.mem_of_getElem? (i := 2) rfl) (by decide +kernel : m_nMH ⟨"java/util/List", "get", "(I)Ljava/lang/Object;"⟩ 1) ⟨Nat.le_of_ble_eq_true rfl, Nat.le_of_ble_eq_true rfl⟩ rfl (Nat.le_of_ble_eq_true rfl) dX0_cancel_18) (fun r15 M13 hle14 hx => ?_)
    replace hw := hx hle14
    clear hx
    have ht16 : m_tg M13 a0 = 1 := m_le_tg hle14 ht5
    have ht17 : m_tg M13 u7 = 2 := m_le_tg hle14 ht9
    have ht18 : m_tg M13 u10 = 14 := m_le_tg hle14 ht12
    obtain ⟨u19, he20, hw⟩ := hw
    subst he20
    obtain ⟨ht21, hw⟩ := hw
    refine pw_cast X 8 (q := (RX8, TX8, tyX8, 13)) rfl (fun _ h => by cases h; exact ht21) q1401 dX0_cancel_23 ?_
    refine pw_getN X (q := (RX8, TX8, tyX8, 13)) (ci := 8) (k := 7) (ref := "PatrolDesk$Call") (host := "PatrolDesk") (vI (m_gi M13 u19 7)) ht21 rfl (by decide) in_X8 q1229 (Or.inl rfl) rfl dX0_cancel_26 ?_
    refine pw_iconst X 1 dX0_cancel_29 (by decide) ?_
    refine pw_icmp_le X 36 dX0_cancel_30 (by decide) (fun c22 => ?_) (fun c22 => ?_)
    · replace hw := hw.1 c22
      refine pw_aload_n X dX0_cancel_36 rfl rfl ?_
      refine pw_runv X (m_cV X (b := a0) (ci := 0) (q := (RX0, TX0, tyX0, 4)) (met_X0_record G C.2.1 M13 a0 _ hw) ht16 rfl (lw_V q986 q988 qs8 q78 q989) ⟨rfl, nh_X0_record⟩ ⟨Nat.le_of_ble_eq_true rfl, Nat.le_of_ble_eq_true rfl⟩ rfl (Nat.le_of_ble_eq_true rfl) dX0_cancel_37) (fun M23 hle24 hx => ?_)
      replace hw := hx hle24
      clear hx
      have ht25 : m_tg M23 a0 = 1 := m_le_tg hle24 ht16
      have ht26 : m_tg M23 u7 = 2 := m_le_tg hle24 ht17
      have ht27 : m_tg M23 u10 = 14 := m_le_tg hle24 ht18
      have ht28 : m_tg M23 u19 = 9 := m_le_tg hle24 ht21
      refine pw_aload_n X dX0_cancel_40 rfl rfl ?_
      obtain ⟨u29, he30, hw⟩ := hw
      refine pw_get X (q := (RX0, TX0, tyX0, 4)) (ci := 0) (k := 0) (ref := "PatrolDesk") (vR (some u29)) ht25 rfl (by decide) in_X0 q948 (Or.inl rfl) (by rw [he30]; rfl) dX0_cancel_41 ?_
      obtain ⟨ht31, hw⟩ := hw
      obtain ⟨u32, he33, hw⟩ := hw
      refine pw_getN X (q := (RX1, TX1, tyX1, 8)) (ci := 1) (k := 3) (ref := "PatrolDesk$State") (host := "PatrolDesk") (vR (some u32)) ht31 rfl (by decide) in_X1 q168 (Or.inl rfl) (by rw [he33]; rfl) dX0_cancel_44 ?_
      refine pw_iload_n X dX0_cancel_47 rfl rfl ?_
      obtain ⟨ht34, hw⟩ := hw
      refine pw_runq X (m_cF X (b := u32) (ci := 13) (q := (RJ2, TJ2, tyJ2, 3)) (met_J2_get G C.2.1 M23 u32 x1 _ hw) ht34 rfl (lw_app (lw_F q1400 q1031 q1033 q82) (lw_meth q1035)) (List.mem_of_getElem? (i := 2) rfl) (by decide +kernel : m_nMH ⟨"java/util/List", "get", "(I)Ljava/lang/Object;"⟩ 1) ⟨Nat.le_of_ble_eq_true rfl, Nat.le_of_ble_eq_true rfl⟩ rfl (Nat.le_of_ble_eq_true rfl) dX0_cancel_48) (fun r37 M35 hle36 hx => ?_)
      replace hw := hx hle36
      clear hx
      have ht38 : m_tg M35 a0 = 1 := m_le_tg hle36 ht25
      have ht39 : m_tg M35 u7 = 2 := m_le_tg hle36 ht26
      have ht40 : m_tg M35 u10 = 14 := m_le_tg hle36 ht27
      have ht41 : m_tg M35 u19 = 9 := m_le_tg hle36 ht28
      have ht42 : m_tg M35 u29 = 2 := m_le_tg hle36 ht31
      have ht43 : m_tg M35 u32 = 14 := m_le_tg hle36 ht34
      obtain ⟨u44, he45, hw⟩ := hw
      subst he45
      obtain ⟨ht46, hw⟩ := hw
      refine pw_cast X 8 (q := (RX8, TX8, tyX8, 13)) rfl (fun _ h => by cases h; exact ht46) q1401 dX0_cancel_53 ?_
      refine pw_astore_n X [(0, vR (some a0)), (2, vR (some u44))] [1, 0] dX0_cancel_56 rfl (by decide) rfl ?_
      refine pw_aload_n X dX0_cancel_57 rfl rfl ?_
      refine pw_getN X (q := (RX8, TX8, tyX8, 13)) (ci := 8) (k := 8) (ref := "PatrolDesk$Call") (host := "PatrolDesk") (vI (m_gi M35 u44 8)) ht46 rfl (by decide) in_X8 q1232 (Or.inl rfl) rfl dX0_cancel_58 ?_
      refine pw_bipush X (-5) dX0_cancel_61 (by decide) ?_
      refine pw_icmp_eq X 88 dX0_cancel_63 (by decide) (fun c47 => ?_) (fun c47 => ?_)
      · replace hw := hw.1 c47
        exact bk_X0_cancel_88 G C n0 s0 M0 Q X _ a0 u44 hw
      · replace hw := hw.2 c47
        refine pw_aload_n X dX0_cancel_66 rfl rfl ?_
        obtain ⟨u48, he49, hw⟩ := hw
        refine pw_get X (q := (RX0, TX0, tyX0, 4)) (ci := 0) (k := 0) (ref := "PatrolDesk") (vR (some u48)) ht38 rfl (by decide) in_X0 q948 (Or.inl rfl) (by rw [he49]; rfl) dX0_cancel_67 ?_
        obtain ⟨ht50, hw⟩ := hw
        obtain ⟨u51, he52, hw⟩ := hw
        refine pw_getN X (q := (RX1, TX1, tyX1, 8)) (ci := 1) (k := 1) (ref := "PatrolDesk$State") (host := "PatrolDesk") (vR (some u51)) ht50 rfl (by decide) in_X1 q164 (Or.inl rfl) (by rw [he52]; rfl) dX0_cancel_70 ?_
        refine pw_aload_n X dX0_cancel_73 rfl rfl ?_
        refine pw_getN X (q := (RX8, TX8, tyX8, 13)) (ci := 8) (k := 8) (ref := "PatrolDesk$Call") (host := "PatrolDesk") (vI (m_gi M35 u44 8)) ht46 rfl (by decide) in_X8 q1232 (Or.inl rfl) rfl dX0_cancel_74 ?_
        obtain ⟨ht53, hw⟩ := hw
        refine pw_runq X (m_cF X (b := u51) (ci := 13) (q := (RJ2, TJ2, tyJ2, 3)) (met_J2_get G C.2.1 M35 u51 (m_gi M35 u44 8) _ hw) ht53 rfl (lw_app (lw_F q1400 q1031 q1033 q82) (lw_meth q1035)) (List.mem_of_getElem? (i := 2) rfl) (by decide +kernel : m_nMH ⟨"java/util/List", "get", "(I)Ljava/lang/Object;"⟩ 1) ⟨Nat.le_of_ble_eq_true rfl, Nat.le_of_ble_eq_true rfl⟩ rfl (Nat.le_of_ble_eq_true rfl) dX0_cancel_77) (fun r56 M54 hle55 hx => ?_)
        replace hw := hx hle55
        clear hx
        have ht57 : m_tg M54 a0 = 1 := m_le_tg hle55 ht38
        have ht58 : m_tg M54 u7 = 2 := m_le_tg hle55 ht39
        have ht59 : m_tg M54 u10 = 14 := m_le_tg hle55 ht40
        have ht60 : m_tg M54 u19 = 9 := m_le_tg hle55 ht41
        have ht61 : m_tg M54 u29 = 2 := m_le_tg hle55 ht42
        have ht62 : m_tg M54 u32 = 14 := m_le_tg hle55 ht43
        have ht63 : m_tg M54 u44 = 9 := m_le_tg hle55 ht46
        have ht64 : m_tg M54 u48 = 2 := m_le_tg hle55 ht50
        have ht65 : m_tg M54 u51 = 14 := m_le_tg hle55 ht53
        obtain ⟨u66, he67, hw⟩ := hw
        subst he67
        obtain ⟨ht68, hw⟩ := hw
        refine pw_cast X 6 (q := (RX6, TX6, tyX6, 15)) rfl (fun _ h => by cases h; exact ht68) q1286 dX0_cancel_82 ?_
        refine pw_runv X (m_cV X (b := u66) (ci := 6) (q := (RX6, TX6, tyX6, 15)) (met_X6_becomeFree G C.2.1 M54 u66 _ hw) ht68 rfl (lw_V q1402 q1403 q1404 q110 q1405) ⟨rfl, nh_X6_becomeFree⟩ ⟨Nat.le_of_ble_eq_true rfl, Nat.le_of_ble_eq_true rfl⟩ rfl (Nat.le_of_ble_eq_true rfl) dX0_cancel_85) (fun M69 hle70 hx => ?_)
        replace hw := hx hle70
        clear hx
        have ht71 : m_tg M69 a0 = 1 := m_le_tg hle70 ht57
        have ht72 : m_tg M69 u7 = 2 := m_le_tg hle70 ht58
        have ht73 : m_tg M69 u10 = 14 := m_le_tg hle70 ht59
        have ht74 : m_tg M69 u19 = 9 := m_le_tg hle70 ht60
        have ht75 : m_tg M69 u29 = 2 := m_le_tg hle70 ht61
        have ht76 : m_tg M69 u32 = 14 := m_le_tg hle70 ht62
        have ht77 : m_tg M69 u44 = 9 := m_le_tg hle70 ht63
        have ht78 : m_tg M69 u48 = 2 := m_le_tg hle70 ht64
        have ht79 : m_tg M69 u51 = 14 := m_le_tg hle70 ht65
        have ht80 : m_tg M69 u66 = 7 := m_le_tg hle70 ht68
        exact bk_X0_cancel_88 G C n0 s0 M0 Q X _ a0 u44 hw
    · replace hw := hw.2 c22
      refine pw_bipush X (-4) dX0_cancel_33 (by decide) ?_
      exact pw_iret X hw dX0_cancel_35
  · replace hw := hw.2 c6
    refine pw_iconst X (-1) dX0_cancel_8 (by decide) ?_
    exact pw_iret X hw dX0_cancel_9
theorem met_X0_cancel (G : Gp) (l : Launch) (M : Mem) (a0 : Nat) (x1 : Int32) (Q : Int32 → Mem → Prop) (hw : wp_X0_cancel G.2 M a0 x1 Q) : m_K G l yX0_cancel cX0_cancel 3 (some .int) 9 203 [vR (some a0), vI x1] M (va_Qi (m_q1 M Q) (m_W G) (m_A G)) := by
  refine m_met (by decide) (Nat.le_of_ble_eq_true rfl) (fun C e X => ?_)
  exact bk_X0_cancel_0 G C _ _ M Q X M a0 x1 hw
theorem nh_X0_cancel : m_nMH yX0_cancel 1 := by decide +kernel

def wp_X0_onDuty_b4 (g : Nat → Nat) (Q : Int32 → Mem → Prop) : Nat → Mem → Nat → Int32 → Int32 → Prop
  | 0 => fun _ _ _ _ => False
  | n + 1 => fun M la0 lx1 lx2 => m_tg M la0 = 1 ∧ ∃ u2 : Nat, (m_gr M la0 0) = some u2 ∧ m_tg M u2 = 2 ∧ ∃ u5 : Nat, (m_gr M u2 1) = some u5 ∧ m_tg M u5 = 14 ∧ wp_J2_size g M u5 (fun (r10 : Int32) (M8 : Mem) => m_le M M8 → ((r10 ≤ lx2 → Q lx1 M8) ∧ (¬ r10 ≤ lx2 → ∃ u15 : Nat, (m_gr M8 la0 0) = some u15 ∧ m_tg M8 u15 = 2 ∧ ∃ u18 : Nat, (m_gr M8 u15 1) = some u18 ∧ m_tg M8 u18 = 14 ∧ wp_J2_get g M8 u18 lx2 (fun (r23 : Option Nat) (M21 : Mem) => m_le M8 M21 → ∃ u29 : Nat, r23 = some u29 ∧ m_tg M21 u29 = 7 ∧ ((¬ (m_gi M21 u29 5) = 4 → wp_X0_onDuty_b4 g Q n M21 la0 (lx1 + 1) (lx2 + 1)) ∧ ((m_gi M21 u29 5) = 4 → wp_X0_onDuty_b4 g Q n M21 la0 (lx1 + 0) (lx2 + 1)))))))
def wp_X0_onDuty (g : Nat → Nat) (M : Mem) (a0 : Nat) (Q : Int32 → Mem → Prop) : Prop := ∃ j4 : Nat, wp_X0_onDuty_b4 g Q j4 M a0 0 0
theorem bk_X0_onDuty_4 (G : Gp) (C : m_Cx) (n0 s0 : Nat) (M0 : Mem) (Q : Int32 → Mem → Prop) (X : m_in G C RX0 cX0_onDuty 3 (some .int) "onDuty" 3 64 n0 s0) : ∀ (n : Nat) (M : Mem) (la0 : Nat) (lx1 : Int32) (lx2 : Int32) (hw : wp_X0_onDuty_b4 G.2 Q n M la0 lx1 lx2), pW G C 3 n0 s0 M0 (m_Q G C n0 s0 (va_Qi (m_q1 M0 Q) (m_W G) (m_A G))) M 4 [(0, vR (some la0)), (1, vI lx1), (2, vI lx2)] [] := by
  intro n
  induction n with
  | zero => intro M la0 lx1 lx2 hw; exact hw.elim
  | succ n ih =>
    intro M la0 lx1 lx2 hw
    refine pw_iload_n X dX0_onDuty_4 rfl rfl ?_
    refine pw_aload_n X dX0_onDuty_5 rfl rfl ?_
    obtain ⟨ht1, hw⟩ := hw
    obtain ⟨u2, he3, hw⟩ := hw
    refine pw_get X (q := (RX0, TX0, tyX0, 4)) (ci := 0) (k := 0) (ref := "PatrolDesk") (vR (some u2)) ht1 rfl (by decide) in_X0 q948 (Or.inl rfl) (by rw [he3]; rfl) dX0_onDuty_6 ?_
    obtain ⟨ht4, hw⟩ := hw
    obtain ⟨u5, he6, hw⟩ := hw
    refine pw_getN X (q := (RX1, TX1, tyX1, 8)) (ci := 1) (k := 1) (ref := "PatrolDesk$State") (host := "PatrolDesk") (vR (some u5)) ht4 rfl (by decide) in_X1 q164 (Or.inl rfl) (by rw [he6]; rfl) dX0_onDuty_9 ?_
    obtain ⟨ht7, hw⟩ := hw
    refine pw_runi X (m_cF X (b := u5) (ci := 13) (q := (RJ2, TJ2, tyJ2, 3)) (met_J2_size G C.2.1 M u5 _ hw) ht7 rfl (lw_app (lw_F q991 q994 q996 q82) (lw_meth q998)) (List.mem_of_getElem? (i := 6) rfl) (by decide +kernel : m_nMH ⟨"java/util/List", "size", "()I"⟩ 0) ⟨Nat.le_of_ble_eq_true rfl, Nat.le_of_ble_eq_true rfl⟩ rfl (Nat.le_of_ble_eq_true rfl) dX0_onDuty_12) (fun r10 M8 hle9 hx => ?_)
    replace hw := hx hle9
    clear hx
    have ht11 : m_tg M8 la0 = 1 := m_le_tg hle9 ht1
    have ht12 : m_tg M8 u2 = 2 := m_le_tg hle9 ht4
    have ht13 : m_tg M8 u5 = 14 := m_le_tg hle9 ht7
    refine pw_icmp_ge X 57 dX0_onDuty_17 (by decide) (fun c14 => ?_) (fun c14 => ?_)
    · replace hw := hw.1 c14
      refine pw_iload_n X dX0_onDuty_57 rfl rfl ?_
      exact pw_iret X hw dX0_onDuty_58
    · replace hw := hw.2 c14
      refine pw_iload_n X dX0_onDuty_20 rfl rfl ?_
      refine pw_aload_n X dX0_onDuty_21 rfl rfl ?_
      obtain ⟨u15, he16, hw⟩ := hw
      refine pw_get X (q := (RX0, TX0, tyX0, 4)) (ci := 0) (k := 0) (ref := "PatrolDesk") (vR (some u15)) ht11 rfl (by decide) in_X0 q948 (Or.inl rfl) (by rw [he16]; rfl) dX0_onDuty_22 ?_
      obtain ⟨ht17, hw⟩ := hw
      obtain ⟨u18, he19, hw⟩ := hw
      refine pw_getN X (q := (RX1, TX1, tyX1, 8)) (ci := 1) (k := 1) (ref := "PatrolDesk$State") (host := "PatrolDesk") (vR (some u18)) ht17 rfl (by decide) in_X1 q164 (Or.inl rfl) (by rw [he19]; rfl) dX0_onDuty_25 ?_
      refine pw_iload_n X dX0_onDuty_28 rfl rfl ?_
      obtain ⟨ht20, hw⟩ := hw
      refine pw_runq X (m_cF X (b := u18) (ci := 13) (q := (RJ2, TJ2, tyJ2, 3)) (met_J2_get G C.2.1 M8 u18 lx2 _ hw) ht20 rfl (lw_app (lw_F q1400 q1031 q1033 q82) (lw_meth q1035)) (List.mem_of_getElem? (i := 2) rfl) (by decide +kernel : m_nMH ⟨"java/util/List", "get", "(I)Ljava/lang/Object;"⟩ 1) ⟨Nat.le_of_ble_eq_true rfl, Nat.le_of_ble_eq_true rfl⟩ rfl (Nat.le_of_ble_eq_true rfl) dX0_onDuty_29) (fun r23 M21 hle22 hx => ?_)
      replace hw := hx hle22
      clear hx
      have ht24 : m_tg M21 la0 = 1 := m_le_tg hle22 ht11
      have ht25 : m_tg M21 u2 = 2 := m_le_tg hle22 ht12
      have ht26 : m_tg M21 u5 = 14 := m_le_tg hle22 ht13
      have ht27 : m_tg M21 u15 = 2 := m_le_tg hle22 ht17
      have ht28 : m_tg M21 u18 = 14 := m_le_tg hle22 ht20
      obtain ⟨u29, he30, hw⟩ := hw
      subst he30
      obtain ⟨ht31, hw⟩ := hw
      refine pw_cast X 6 (q := (RX6, TX6, tyX6, 15)) rfl (fun _ h => by cases h; exact ht31) q1286 dX0_onDuty_34 ?_
      refine pw_getN X (q := (RX6, TX6, tyX6, 15)) (ci := 6) (k := 5) (ref := "PatrolDesk$Patrol") (host := "PatrolDesk") (vI (m_gi M21 u29 5)) ht31 rfl (by decide) in_X6 q1103 (Or.inl rfl) rfl dX0_onDuty_37 ?_
      refine pw_iconst X 4 dX0_onDuty_40 (by decide) ?_
      refine pw_icmp_ne X 48 dX0_onDuty_41 (by decide) (fun c32 => ?_) (fun c32 => ?_)
      · replace hw := hw.1 c32
        refine pw_iconst X 1 dX0_onDuty_48 (by decide) ?_
        refine pw_iadd X dX0_onDuty_49 ?_
        refine pw_istore_n X [(0, vR (some la0)), (1, vI (lx1 + 1)), (2, vI lx2)] [1, 0, 2] dX0_onDuty_50 rfl (by decide) rfl ?_
        refine pw_iinc X (lx2 + 1) [(0, vR (some la0)), (1, vI (lx1 + 1)), (2, vI (lx2 + 1))] [1, 2, 0] dX0_onDuty_51 rfl (by first | rfl | decide) (by decide) rfl ?_
        refine pw_goto X 4 dX0_onDuty_54 (by decide) ?_
        exact ih _ la0 (lx1 + 1) (lx2 + 1) hw
      · replace hw := hw.2 c32
        refine pw_iconst X 0 dX0_onDuty_44 (by decide) ?_
        refine pw_goto X 49 dX0_onDuty_45 (by decide) ?_
        refine pw_iadd X dX0_onDuty_49 ?_
        refine pw_istore_n X [(0, vR (some la0)), (1, vI (lx1 + 0)), (2, vI lx2)] [1, 0, 2] dX0_onDuty_50 rfl (by decide) rfl ?_
        refine pw_iinc X (lx2 + 1) [(0, vR (some la0)), (1, vI (lx1 + 0)), (2, vI (lx2 + 1))] [1, 2, 0] dX0_onDuty_51 rfl (by first | rfl | decide) (by decide) rfl ?_
        refine pw_goto X 4 dX0_onDuty_54 (by decide) ?_
        exact ih _ la0 (lx1 + 0) (lx2 + 1) hw
theorem bk_X0_onDuty_0 (G : Gp) (C : m_Cx) (n0 s0 : Nat) (M0 : Mem) (Q : Int32 → Mem → Prop) (X : m_in G C RX0 cX0_onDuty 3 (some .int) "onDuty" 3 64 n0 s0) (M : Mem) (a0 : Nat) (hw : wp_X0_onDuty G.2 M a0 Q) : pW G C 3 n0 s0 M0 (m_Q G C n0 s0 (va_Qi (m_q1 M0 Q) (m_W G) (m_A G))) M 0 [(0, vR (some a0))] [] := by
  refine pw_iconst X 0 dX0_onDuty_0 (by decide) ?_
  refine pw_istore_n X [(0, vR (some a0)), (1, vI 0)] [1, 0] dX0_onDuty_1 rfl (by decide) rfl ?_
  refine pw_iconst X 0 dX0_onDuty_2 (by decide) ?_
  refine pw_istore_n X [(0, vR (some a0)), (1, vI 0), (2, vI 0)] [1, 2, 0] dX0_onDuty_3 rfl (by decide) rfl ?_
  obtain ⟨n4, hw⟩ := hw
  exact bk_X0_onDuty_4 G C n0 s0 M0 Q X n4 _ a0 0 0 hw
theorem met_X0_onDuty (G : Gp) (l : Launch) (M : Mem) (a0 : Nat) (Q : Int32 → Mem → Prop) (hw : wp_X0_onDuty G.2 M a0 Q) : m_K G l yX0_onDuty cX0_onDuty 3 (some .int) 3 64 [vR (some a0)] M (va_Qi (m_q1 M Q) (m_W G) (m_A G)) := by
  refine m_met (by decide) (Nat.le_of_ble_eq_true rfl) (fun C e X => ?_)
  exact bk_X0_onDuty_0 G C _ _ M Q X M a0 hw
theorem nh_X0_onDuty : m_nMH yX0_onDuty 0 := by decide +kernel

def wp_X0_duty_b75 (g : Nat → Nat) (M : Mem) (la0 : Nat) (sa0 : Nat) (sx1 : Int32) (Q : Int32 → Mem → Prop) : Prop := m_tg M sa0 = 7 ∧ ∀ M2 : Mem, M2 = (m_pi M sa0 5 sx1) → m_tg M2 la0 = 1 ∧ wp_X0_onDuty g M2 la0 (fun (r9 : Int32) (M7 : Mem) => m_le M2 M7 → Q r9 M7)
def wp_X0_duty_b55 (g : Nat → Nat) (M : Mem) (la0 : Nat) (lx2 : Int32) (la3 : Nat) (sx0 : Int32) (sx1 : Int32) (Q : Int32 → Mem → Prop) : Prop := ((¬ sx0 = sx1 → m_tg M la0 = 1 ∧ wp_X0_record g M la0 (fun (M3 : Mem) => m_le M M3 → ((lx2 = 0 → wp_X0_duty_b75 g M3 la0 la3 4 Q) ∧ (¬ lx2 = 0 → wp_X0_duty_b75 g M3 la0 la3 0 Q)))) ∧ (sx0 = sx1 → Q (-5) M))
def wp_X0_duty_b41 (g : Nat → Nat) (M : Mem) (la0 : Nat) (lx2 : Int32) (la3 : Nat) (Q : Int32 → Mem → Prop) : Prop := m_tg M la3 = 7 ∧ (((m_gi M la3 5) = 4 → wp_X0_duty_b55 g M la0 lx2 la3 lx2 0 Q) ∧ (¬ (m_gi M la3 5) = 4 → wp_X0_duty_b55 g M la0 lx2 la3 lx2 1 Q))
def wp_X0_duty (g : Nat → Nat) (M : Mem) (a0 : Nat) (x1 : Int32) (x2 : Int32) (Q : Int32 → Mem → Prop) : Prop := m_tg M a0 = 1 ∧ wp_X0_isPatrol g M a0 x1 (fun (r4 : Int32) (M2 : Mem) => m_le M M2 → ((¬ r4 = 0 → ∃ u7 : Nat, (m_gr M2 a0 0) = some u7 ∧ m_tg M2 u7 = 2 ∧ ∃ u10 : Nat, (m_gr M2 u7 1) = some u10 ∧ m_tg M2 u10 = 14 ∧ wp_J2_get g M2 u10 x1 (fun (r15 : Option Nat) (M13 : Mem) => m_le M2 M13 → ∃ u19 : Nat, r15 = some u19 ∧ m_tg M13 u19 = 7 ∧ ((¬ x2 = 0 → wp_X0_duty_b41 g M13 a0 x2 u19 Q) ∧ (x2 = 0 → wp_X6_isBusy g M13 u19 (fun (r25 : Int32) (M23 : Mem) => m_le M13 M23 → ((r25 = 0 → wp_X0_duty_b41 g M23 a0 x2 u19 Q) ∧ (¬ r25 = 0 → Q (-4) M23))))))) ∧ (r4 = 0 → Q (-1) M2)))
theorem bk_X0_duty_75 (G : Gp) (C : m_Cx) (n0 s0 : Nat) (M0 : Mem) (Q : Int32 → Mem → Prop) (X : m_in G C RX0 cX0_duty 4 (some .int) "duty" 9 203 n0 s0) (M : Mem) (la0 : Nat) (sa0 : Nat) (sx1 : Int32) (hw : wp_X0_duty_b75 G.2 M la0 sa0 sx1 Q) : pW G C 4 n0 s0 M0 (m_Q G C n0 s0 (va_Qi (m_q1 M0 Q) (m_W G) (m_A G))) M 75 [(0, vR (some la0))] [vI sx1, vR (some sa0)] := by
  obtain ⟨ht1, hw⟩ := hw
  obtain ⟨M2, hM3⟩ : ∃ z : Mem, z = (m_pi M sa0 5 sx1) := ⟨_, rfl⟩
  replace hw := hw M2 hM3
  refine pw_putN X (q := (RX6, TX6, tyX6, 15)) (ci := 6) (k := 5) (ref := "PatrolDesk$Patrol") (host := "PatrolDesk") M2 hM3.symm ht1 rfl (by decide) in_X6 tyX6_ok nmX6 q1103 (Or.inl rfl) rfl (m_kd_i (fun _ _ => rfl)) rfl rfl dX0_duty_75 ?_
  have hle4 : m_le M M2 := by rw [hM3]; exact m_le_pi
  have ht5 : m_tg M2 sa0 = 7 := m_le_tg hle4 ht1
  refine pw_aload_n X dX0_duty_78 rfl rfl ?_
  obtain ⟨ht6, hw⟩ := hw
  refine pw_runi X (m_cV X (b := la0) (ci := 0) (q := (RX0, TX0, tyX0, 4)) (met_X0_onDuty G C.2.1 M2 la0 _ hw) ht6 rfl (lw_V q1427 q1429 qs15 q78 q1430) ⟨rfl, nh_X0_onDuty⟩ ⟨Nat.le_of_ble_eq_true rfl, Nat.le_of_ble_eq_true rfl⟩ rfl (Nat.le_of_ble_eq_true rfl) dX0_duty_79) (fun r9 M7 hle8 hx => ?_)
  replace hw := hx hle8
  clear hx
  have ht10 : m_tg M7 sa0 = 7 := m_le_tg hle8 ht5
  have ht11 : m_tg M7 la0 = 1 := m_le_tg hle8 ht6
  exact pw_iret X hw dX0_duty_82
theorem bk_X0_duty_55 (G : Gp) (C : m_Cx) (n0 s0 : Nat) (M0 : Mem) (Q : Int32 → Mem → Prop) (X : m_in G C RX0 cX0_duty 4 (some .int) "duty" 9 203 n0 s0) (M : Mem) (la0 : Nat) (lx2 : Int32) (la3 : Nat) (sx0 : Int32) (sx1 : Int32) (hw : wp_X0_duty_b55 G.2 M la0 lx2 la3 sx0 sx1 Q) : pW G C 4 n0 s0 M0 (m_Q G C n0 s0 (va_Qi (m_q1 M0 Q) (m_W G) (m_A G))) M 55 [(0, vR (some la0)), (2, vI lx2), (3, vR (some la3))] [vI sx1, vI sx0] := by
  refine pw_icmp_ne X 61 dX0_duty_55 (by decide) (fun c1 => ?_) (fun c1 => ?_)
  · replace hw := hw.1 c1
    refine pw_aload_n X dX0_duty_61 rfl rfl ?_
    obtain ⟨ht2, hw⟩ := hw
    refine pw_runv X (m_cV X (b := la0) (ci := 0) (q := (RX0, TX0, tyX0, 4)) (met_X0_record G C.2.1 M la0 _ hw) ht2 rfl (lw_V q986 q988 qs8 q78 q989) ⟨rfl, nh_X0_record⟩ ⟨Nat.le_of_ble_eq_true rfl, Nat.le_of_ble_eq_true rfl⟩ rfl (Nat.le_of_ble_eq_true rfl) dX0_duty_62) (fun M3 hle4 hx => ?_)
    replace hw := hx hle4
    clear hx
    have ht5 : m_tg M3 la0 = 1 := m_le_tg hle4 ht2
    refine pw_aload_n X dX0_duty_65 rfl rfl ?_
    refine pw_iload_n X dX0_duty_66 rfl rfl ?_
    refine pw_if_eq X 74 dX0_duty_67 (by decide) (fun c6 => ?_) (fun c6 => ?_)
    · replace hw := hw.1 c6
      refine pw_iconst X 4 dX0_duty_74 (by decide) ?_
      refine pw_lo [0] rfl ?_
      exact bk_X0_duty_75 G C n0 s0 M0 Q X _ la0 la3 4 hw
    · replace hw := hw.2 c6
      refine pw_iconst X 0 dX0_duty_70 (by decide) ?_
      refine pw_goto X 75 dX0_duty_71 (by decide) ?_
      refine pw_lo [0] rfl ?_
      exact bk_X0_duty_75 G C n0 s0 M0 Q X _ la0 la3 0 hw
  · replace hw := hw.2 c1
    refine pw_bipush X (-5) dX0_duty_58 (by decide) ?_
    exact pw_iret X hw dX0_duty_60
theorem bk_X0_duty_41 (G : Gp) (C : m_Cx) (n0 s0 : Nat) (M0 : Mem) (Q : Int32 → Mem → Prop) (X : m_in G C RX0 cX0_duty 4 (some .int) "duty" 9 203 n0 s0) (M : Mem) (la0 : Nat) (lx2 : Int32) (la3 : Nat) (hw : wp_X0_duty_b41 G.2 M la0 lx2 la3 Q) : pW G C 4 n0 s0 M0 (m_Q G C n0 s0 (va_Qi (m_q1 M0 Q) (m_W G) (m_A G))) M 41 [(0, vR (some la0)), (2, vI lx2), (3, vR (some la3))] [] := by
  refine pw_iload_n X dX0_duty_41 rfl rfl ?_
  refine pw_aload_n X dX0_duty_42 rfl rfl ?_
  obtain ⟨ht1, hw⟩ := hw
  refine pw_getN X (q := (RX6, TX6, tyX6, 15)) (ci := 6) (k := 5) (ref := "PatrolDesk$Patrol") (host := "PatrolDesk") (vI (m_gi M la3 5)) ht1 rfl (by decide) in_X6 q1103 (Or.inl rfl) rfl dX0_duty_43 ?_
  refine pw_iconst X 4 dX0_duty_46 (by decide) ?_
  refine pw_icmp_eq X 54 dX0_duty_47 (by decide) (fun c2 => ?_) (fun c2 => ?_)
  · replace hw := hw.1 c2
    refine pw_iconst X 0 dX0_duty_54 (by decide) ?_
    exact bk_X0_duty_55 G C n0 s0 M0 Q X _ la0 lx2 la3 lx2 0 hw
  · replace hw := hw.2 c2
    refine pw_iconst X 1 dX0_duty_50 (by decide) ?_
    refine pw_goto X 55 dX0_duty_51 (by decide) ?_
    exact bk_X0_duty_55 G C n0 s0 M0 Q X _ la0 lx2 la3 lx2 1 hw
theorem bk_X0_duty_0 (G : Gp) (C : m_Cx) (n0 s0 : Nat) (M0 : Mem) (Q : Int32 → Mem → Prop) (X : m_in G C RX0 cX0_duty 4 (some .int) "duty" 9 203 n0 s0) (M : Mem) (a0 : Nat) (x1 : Int32) (x2 : Int32) (hw : wp_X0_duty G.2 M a0 x1 x2 Q) : pW G C 4 n0 s0 M0 (m_Q G C n0 s0 (va_Qi (m_q1 M0 Q) (m_W G) (m_A G))) M 0 [(0, vR (some a0)), (1, vI x1), (2, vI x2)] [] := by
  refine pw_aload_n X dX0_duty_0 rfl rfl ?_
  refine pw_iload_n X dX0_duty_1 rfl rfl ?_
  obtain ⟨ht1, hw⟩ := hw
  refine pw_runi X (m_cV X (b := a0) (ci := 0) (q := (RX0, TX0, tyX0, 4)) (met_X0_isPatrol G C.2.1 M a0 x1 _ hw) ht1 rfl (lw_V q1418 q1420 qs14 q78 q1421) ⟨rfl, nh_X0_isPatrol⟩ ⟨Nat.le_of_ble_eq_true rfl, Nat.le_of_ble_eq_true rfl⟩ rfl (Nat.le_of_ble_eq_true rfl) dX0_duty_2) (fun r4 M2 hle3 hx => ?_)
  replace hw := hx hle3
  clear hx
  have ht5 : m_tg M2 a0 = 1 := m_le_tg hle3 ht1
  refine pw_if_ne X 10 dX0_duty_5 (by decide) (fun c6 => ?_) (fun c6 => ?_)
  · replace hw := hw.1 c6
    refine pw_aload_n X dX0_duty_10 rfl rfl ?_
    obtain ⟨u7, he8, hw⟩ := hw
    refine pw_get X (q := (RX0, TX0, tyX0, 4)) (ci := 0) (k := 0) (ref := "PatrolDesk") (vR (some u7)) ht5 rfl (by decide) in_X0 q948 (Or.inl rfl) (by rw [he8]; rfl) dX0_duty_11 ?_
    obtain ⟨ht9, hw⟩ := hw
    obtain ⟨u10, he11, hw⟩ := hw
    refine pw_getN X (q := (RX1, TX1, tyX1, 8)) (ci := 1) (k := 1) (ref := "PatrolDesk$State") (host := "PatrolDesk") (vR (some u10)) ht9 rfl (by decide) in_X1 q164 (Or.inl rfl) (by rw [he11]; rfl) dX0_duty_14 ?_
    refine pw_iload_n X dX0_duty_17 rfl rfl ?_
    obtain ⟨ht12, hw⟩ := hw
    refine pw_runq X (m_cF X (b := u10) (ci := 13) (q := (RJ2, TJ2, tyJ2, 3)) (met_J2_get G C.2.1 M2 u10 x1 _ hw) ht12 rfl (lw_app (lw_F q1400 q1031 q1033 q82) (lw_meth q1035)) (List.mem_of_getElem? (i := 2) rfl) (by decide +kernel : m_nMH ⟨"java/util/List", "get", "(I)Ljava/lang/Object;"⟩ 1) ⟨Nat.le_of_ble_eq_true rfl, Nat.le_of_ble_eq_true rfl⟩ rfl (Nat.le_of_ble_eq_true rfl) dX0_duty_18) (fun r15 M13 hle14 hx => ?_)
    replace hw := hx hle14
    clear hx
    have ht16 : m_tg M13 a0 = 1 := m_le_tg hle14 ht5
    have ht17 : m_tg M13 u7 = 2 := m_le_tg hle14 ht9
    have ht18 : m_tg M13 u10 = 14 := m_le_tg hle14 ht12
    obtain ⟨u19, he20, hw⟩ := hw
    subst he20
    obtain ⟨ht21, hw⟩ := hw
    refine pw_cast X 6 (q := (RX6, TX6, tyX6, 15)) rfl (fun _ h => by cases h; exact ht21) q1286 dX0_duty_23 ?_
    refine pw_astore_n X [(0, vR (some a0)), (2, vI x2), (3, vR (some u19))] [1, 3, 0] dX0_duty_26 rfl (by decide) rfl ?_
    refine pw_iload_n X dX0_duty_27 rfl rfl ?_
    refine pw_if_ne X 41 dX0_duty_28 (by decide) (fun c22 => ?_) (fun c22 => ?_)
    · replace hw := hw.1 c22
      exact bk_X0_duty_41 G C n0 s0 M0 Q X _ a0 x2 u19 hw
    · replace hw := hw.2 c22
      refine pw_aload_n X dX0_duty_31 rfl rfl ?_
      refine pw_runi X (m_cV X (b := u19) (ci := 6) (q := (RX6, TX6, tyX6, 15)) (met_X6_isBusy G C.2.1 M13 u19 _ hw) ht21 rfl (lw_V q1422 q1423 q1424 q110 q1425) ⟨rfl, nh_X6_isBusy⟩ ⟨Nat.le_of_ble_eq_true rfl, Nat.le_of_ble_eq_true rfl⟩ rfl (Nat.le_of_ble_eq_true rfl) dX0_duty_32) (fun r25 M23 hle24 hx => ?_)
      replace hw := hx hle24
      clear hx
      have ht26 : m_tg M23 a0 = 1 := m_le_tg hle24 ht16
      have ht27 : m_tg M23 u7 = 2 := m_le_tg hle24 ht17
      have ht28 : m_tg M23 u10 = 14 := m_le_tg hle24 ht18
      have ht29 : m_tg M23 u19 = 7 := m_le_tg hle24 ht21
      refine pw_if_eq X 41 dX0_duty_35 (by decide) (fun c30 => ?_) (fun c30 => ?_)
      · replace hw := hw.1 c30
        exact bk_X0_duty_41 G C n0 s0 M0 Q X _ a0 x2 u19 hw
      · replace hw := hw.2 c30
        refine pw_bipush X (-4) dX0_duty_38 (by decide) ?_
        exact pw_iret X hw dX0_duty_40
  · replace hw := hw.2 c6
    refine pw_iconst X (-1) dX0_duty_8 (by decide) ?_
    exact pw_iret X hw dX0_duty_9
theorem met_X0_duty (G : Gp) (l : Launch) (M : Mem) (a0 : Nat) (x1 : Int32) (x2 : Int32) (Q : Int32 → Mem → Prop) (hw : wp_X0_duty G.2 M a0 x1 x2 Q) : m_K G l yX0_duty cX0_duty 4 (some .int) 9 203 [vR (some a0), vI x1, vI x2] M (va_Qi (m_q1 M Q) (m_W G) (m_A G)) := by
  refine m_met (by decide) (Nat.le_of_ble_eq_true rfl) (fun C e X => ?_)
  exact bk_X0_duty_0 G C _ _ M Q X M a0 x1 x2 hw
theorem nh_X0_duty : m_nMH yX0_duty 2 := by decide +kernel

def wp_X0_goHome (g : Nat → Nat) (M : Mem) (a0 : Nat) (x1 : Int32) (Q : Int32 → Mem → Prop) : Prop := m_tg M a0 = 1 ∧ wp_X0_isPatrol g M a0 x1 (fun (r4 : Int32) (M2 : Mem) => m_le M M2 → ((¬ r4 = 0 → ∃ u7 : Nat, (m_gr M2 a0 0) = some u7 ∧ m_tg M2 u7 = 2 ∧ ∃ u10 : Nat, (m_gr M2 u7 1) = some u10 ∧ m_tg M2 u10 = 14 ∧ wp_J2_get g M2 u10 x1 (fun (r15 : Option Nat) (M13 : Mem) => m_le M2 M13 → ∃ u19 : Nat, r15 = some u19 ∧ m_tg M13 u19 = 7 ∧ ∃ u22 : Nat, (m_gr M13 a0 0) = some u22 ∧ m_tg M13 u22 = 2 ∧ wp_X1_far g M13 u22 (m_gi M13 u19 4) (m_gi M13 u19 1) (fun (r27 : Int32) (M25 : Mem) => m_le M13 M25 → ((¬ (m_gi M25 u19 5) = 0 → Q (-4) M25) ∧ ((m_gi M25 u19 5) = 0 → ((¬ r27 = (-5) → ((¬ (m_gi M25 u19 4) = (m_gi M25 u19 1) → wp_X0_record g M25 a0 (fun (M36 : Mem) => m_le M25 M36 → ∀ M43 : Mem, M43 = (m_pi M36 u19 4 (m_gi M36 u19 1)) → Q r27 M43)) ∧ ((m_gi M25 u19 4) = (m_gi M25 u19 1) → Q (-5) M25))) ∧ (r27 = (-5) → Q (-4) M25))))))) ∧ (r4 = 0 → Q (-1) M2)))
theorem bk_X0_goHome_0 (G : Gp) (C : m_Cx) (n0 s0 : Nat) (M0 : Mem) (Q : Int32 → Mem → Prop) (X : m_in G C RX0 cX0_goHome 4 (some .int) "goHome" 9 203 n0 s0) (M : Mem) (a0 : Nat) (x1 : Int32) (hw : wp_X0_goHome G.2 M a0 x1 Q) : pW G C 4 n0 s0 M0 (m_Q G C n0 s0 (va_Qi (m_q1 M0 Q) (m_W G) (m_A G))) M 0 [(0, vR (some a0)), (1, vI x1)] [] := by
  refine pw_aload_n X dX0_goHome_0 rfl rfl ?_
  refine pw_iload_n X dX0_goHome_1 rfl rfl ?_
  obtain ⟨ht1, hw⟩ := hw
  refine pw_runi X (m_cV X (b := a0) (ci := 0) (q := (RX0, TX0, tyX0, 4)) (met_X0_isPatrol G C.2.1 M a0 x1 _ hw) ht1 rfl (lw_V q1418 q1420 qs14 q78 q1421) ⟨rfl, nh_X0_isPatrol⟩ ⟨Nat.le_of_ble_eq_true rfl, Nat.le_of_ble_eq_true rfl⟩ rfl (Nat.le_of_ble_eq_true rfl) dX0_goHome_2) (fun r4 M2 hle3 hx => ?_)
  replace hw := hx hle3
  clear hx
  have ht5 : m_tg M2 a0 = 1 := m_le_tg hle3 ht1
  refine pw_if_ne X 10 dX0_goHome_5 (by decide) (fun c6 => ?_) (fun c6 => ?_)
  · replace hw := hw.1 c6
    refine pw_aload_n X dX0_goHome_10 rfl rfl ?_
    obtain ⟨u7, he8, hw⟩ := hw
    refine pw_get X (q := (RX0, TX0, tyX0, 4)) (ci := 0) (k := 0) (ref := "PatrolDesk") (vR (some u7)) ht5 rfl (by decide) in_X0 q948 (Or.inl rfl) (by rw [he8]; rfl) dX0_goHome_11 ?_
    obtain ⟨ht9, hw⟩ := hw
    obtain ⟨u10, he11, hw⟩ := hw
    refine pw_getN X (q := (RX1, TX1, tyX1, 8)) (ci := 1) (k := 1) (ref := "PatrolDesk$State") (host := "PatrolDesk") (vR (some u10)) ht9 rfl (by decide) in_X1 q164 (Or.inl rfl) (by rw [he11]; rfl) dX0_goHome_14 ?_
    refine pw_iload_n X dX0_goHome_17 rfl rfl ?_
    obtain ⟨ht12, hw⟩ := hw
    refine pw_runq X (m_cF X (b := u10) (ci := 13) (q := (RJ2, TJ2, tyJ2, 3)) (met_J2_get G C.2.1 M2 u10 x1 _ hw) ht12 rfl (lw_app (lw_F q1400 q1031 q1033 q82) (lw_meth q1035)) (List.mem_of_getElem? (i := 2) rfl) (by decide +kernel : m_nMH ⟨"java/util/List", "get", "(I)Ljava/lang/Object;"⟩ 1) ⟨Nat.le_of_ble_eq_true rfl, Nat.le_of_ble_eq_true rfl⟩ rfl (Nat.le_of_ble_eq_true rfl) dX0_goHome_18) (fun r15 M13 hle14 hx => ?_)
    replace hw := hx hle14
    clear hx
    have ht16 : m_tg M13 a0 = 1 := m_le_tg hle14 ht5
    have ht17 : m_tg M13 u7 = 2 := m_le_tg hle14 ht9
    have ht18 : m_tg M13 u10 = 14 := m_le_tg hle14 ht12
    obtain ⟨u19, he20, hw⟩ := hw
    subst he20
    obtain ⟨ht21, hw⟩ := hw
    refine pw_cast X 6 (q := (RX6, TX6, tyX6, 15)) rfl (fun _ h => by cases h; exact ht21) q1286 dX0_goHome_23 ?_
    refine pw_astore_n X [(0, vR (some a0)), (2, vR (some u19))] [1, 0] dX0_goHome_26 rfl (by decide) rfl ?_
    refine pw_aload_n X dX0_goHome_27 rfl rfl ?_
    obtain ⟨u22, he23, hw⟩ := hw
    refine pw_get X (q := (RX0, TX0, tyX0, 4)) (ci := 0) (k := 0) (ref := "PatrolDesk") (vR (some u22)) ht16 rfl (by decide) in_X0 q948 (Or.inl rfl) (by rw [he23]; rfl) dX0_goHome_28 ?_
    refine pw_aload_n X dX0_goHome_31 rfl rfl ?_
    refine pw_getN X (q := (RX6, TX6, tyX6, 15)) (ci := 6) (k := 4) (ref := "PatrolDesk$Patrol") (host := "PatrolDesk") (vI (m_gi M13 u19 4)) ht21 rfl (by decide) in_X6 q1100 (Or.inl rfl) rfl dX0_goHome_32 ?_
    refine pw_aload_n X dX0_goHome_35 rfl rfl ?_
    refine pw_getN X (q := (RX6, TX6, tyX6, 15)) (ci := 6) (k := 1) (ref := "PatrolDesk$Patrol") (host := "PatrolDesk") (vI (m_gi M13 u19 1)) ht21 rfl (by decide) in_X6 q1092 (Or.inl rfl) rfl dX0_goHome_36 ?_
    obtain ⟨ht24, hw⟩ := hw
    refine pw_runi X (m_cV X (b := u22) (ci := 1) (q := (RX1, TX1, tyX1, 8)) (met_X1_far G C.2.1 M13 u22 (m_gi M13 u19 4) (m_gi M13 u19 1) _ hw) ht24 rfl (lw_V q1435 q1436 q1437 q79 q1438) ⟨rfl, nh_X1_far⟩ ⟨Nat.le_of_ble_eq_true rfl, Nat.le_of_ble_eq_true rfl⟩ rfl (Nat.le_of_ble_eq_true rfl) dX0_goHome_39) (fun r27 M25 hle26 hx => ?_)
    replace hw := hx hle26
    clear hx
    have ht28 : m_tg M25 a0 = 1 := m_le_tg hle26 ht16
    have ht29 : m_tg M25 u7 = 2 := m_le_tg hle26 ht17
    have ht30 : m_tg M25 u10 = 14 := m_le_tg hle26 ht18
    have ht31 : m_tg M25 u19 = 7 := m_le_tg hle26 ht21
    have ht32 : m_tg M25 u22 = 2 := m_le_tg hle26 ht24
    refine pw_istore_n X [(0, vR (some a0)), (2, vR (some u19)), (3, vI r27)] [1, 2, 0] dX0_goHome_42 rfl (by decide) rfl ?_
    refine pw_aload_n X dX0_goHome_43 rfl rfl ?_
    refine pw_getN X (q := (RX6, TX6, tyX6, 15)) (ci := 6) (k := 5) (ref := "PatrolDesk$Patrol") (host := "PatrolDesk") (vI (m_gi M25 u19 5)) ht31 rfl (by decide) in_X6 q1103 (Or.inl rfl) rfl dX0_goHome_44 ?_
    refine pw_if_ne X 56 dX0_goHome_47 (by decide) (fun c33 => ?_) (fun c33 => ?_)
    · replace hw := hw.1 c33
      refine pw_bipush X (-4) dX0_goHome_56 (by decide) ?_
      exact pw_iret X hw dX0_goHome_58
    · replace hw := hw.2 c33
      refine pw_iload_n X dX0_goHome_50 rfl rfl ?_
      refine pw_bipush X (-5) dX0_goHome_51 (by decide) ?_
      refine pw_icmp_ne X 59 dX0_goHome_53 (by decide) (fun c34 => ?_) (fun c34 => ?_)
      · replace hw := hw.1 c34
        refine pw_aload_n X dX0_goHome_59 rfl rfl ?_
        refine pw_getN X (q := (RX6, TX6, tyX6, 15)) (ci := 6) (k := 4) (ref := "PatrolDesk$Patrol") (host := "PatrolDesk") (vI (m_gi M25 u19 4)) ht31 rfl (by decide) in_X6 q1100 (Or.inl rfl) rfl dX0_goHome_60 ?_
        refine pw_aload_n X dX0_goHome_63 rfl rfl ?_
        refine pw_getN X (q := (RX6, TX6, tyX6, 15)) (ci := 6) (k := 1) (ref := "PatrolDesk$Patrol") (host := "PatrolDesk") (vI (m_gi M25 u19 1)) ht31 rfl (by decide) in_X6 q1092 (Or.inl rfl) rfl dX0_goHome_64 ?_
        refine pw_icmp_ne X 73 dX0_goHome_67 (by decide) (fun c35 => ?_) (fun c35 => ?_)
        · replace hw := hw.1 c35
          refine pw_aload_n X dX0_goHome_73 rfl rfl ?_
          refine pw_runv X (m_cV X (b := a0) (ci := 0) (q := (RX0, TX0, tyX0, 4)) (met_X0_record G C.2.1 M25 a0 _ hw) ht28 rfl (lw_V q986 q988 qs8 q78 q989) ⟨rfl, nh_X0_record⟩ ⟨Nat.le_of_ble_eq_true rfl, Nat.le_of_ble_eq_true rfl⟩ rfl (Nat.le_of_ble_eq_true rfl) dX0_goHome_74) (fun M36 hle37 hx => ?_)
          replace hw := hx hle37
          clear hx
          have ht38 : m_tg M36 a0 = 1 := m_le_tg hle37 ht28
          have ht39 : m_tg M36 u7 = 2 := m_le_tg hle37 ht29
          have ht40 : m_tg M36 u10 = 14 := m_le_tg hle37 ht30
          have ht41 : m_tg M36 u19 = 7 := m_le_tg hle37 ht31
          have ht42 : m_tg M36 u22 = 2 := m_le_tg hle37 ht32
          refine pw_aload_n X dX0_goHome_77 rfl rfl ?_
          refine pw_aload_n X dX0_goHome_78 rfl rfl ?_
          refine pw_getN X (q := (RX6, TX6, tyX6, 15)) (ci := 6) (k := 1) (ref := "PatrolDesk$Patrol") (host := "PatrolDesk") (vI (m_gi M36 u19 1)) ht41 rfl (by decide) in_X6 q1092 (Or.inl rfl) rfl dX0_goHome_79 ?_
          obtain ⟨M43, hM44⟩ : ∃ z : Mem, z = (m_pi M36 u19 4 (m_gi M36 u19 1)) := ⟨_, rfl⟩
          replace hw := hw M43 hM44
          refine pw_putN X (q := (RX6, TX6, tyX6, 15)) (ci := 6) (k := 4) (ref := "PatrolDesk$Patrol") (host := "PatrolDesk") M43 hM44.symm ht41 rfl (by decide) in_X6 tyX6_ok nmX6 q1100 (Or.inl rfl) rfl (m_kd_i (fun _ _ => rfl)) rfl rfl dX0_goHome_82 ?_
          have hle45 : m_le M36 M43 := by rw [hM44]; exact m_le_pi
          have ht46 : m_tg M43 a0 = 1 := m_le_tg hle45 ht38
          have ht47 : m_tg M43 u7 = 2 := m_le_tg hle45 ht39
          have ht48 : m_tg M43 u10 = 14 := m_le_tg hle45 ht40
          have ht49 : m_tg M43 u19 = 7 := m_le_tg hle45 ht41
          have ht50 : m_tg M43 u22 = 2 := m_le_tg hle45 ht42
          refine pw_iload_n X dX0_goHome_85 rfl rfl ?_
          exact pw_iret X hw dX0_goHome_86
        · replace hw := hw.2 c35
          refine pw_bipush X (-5) dX0_goHome_70 (by decide) ?_
          exact pw_iret X hw dX0_goHome_72
      · replace hw := hw.2 c34
        refine pw_bipush X (-4) dX0_goHome_56 (by decide) ?_
        exact pw_iret X hw dX0_goHome_58
  · replace hw := hw.2 c6
    refine pw_iconst X (-1) dX0_goHome_8 (by decide) ?_
    exact pw_iret X hw dX0_goHome_9
theorem met_X0_goHome (G : Gp) (l : Launch) (M : Mem) (a0 : Nat) (x1 : Int32) (Q : Int32 → Mem → Prop) (hw : wp_X0_goHome G.2 M a0 x1 Q) : m_K G l yX0_goHome cX0_goHome 4 (some .int) 9 203 [vR (some a0), vI x1] M (va_Qi (m_q1 M Q) (m_W G) (m_A G)) := by
  refine m_met (by decide) (Nat.le_of_ble_eq_true rfl) (fun C e X => ?_)
  exact bk_X0_goHome_0 G C _ _ M Q X M a0 x1 hw
theorem nh_X0_goHome : m_nMH yX0_goHome 1 := by decide +kernel

def wp_X0_fetch (g : Nat → Nat) (M : Mem) (a0 : Nat) (x1 : Int32) (x2 : Int32) (Q : Int32 → Mem → Prop) : Prop := m_tg M a0 = 1 ∧ wp_X0_isGarage g M a0 x1 (fun (r4 : Int32) (M2 : Mem) => m_le M M2 → ((¬ r4 = 0 → wp_X0_inRange g M2 x2 1 9 (fun (r9 : Int32) (M7 : Mem) => m_le M2 M7 → ((¬ r9 = 0 → ∃ u12 : Nat, (m_gr M7 a0 0) = some u12 ∧ m_tg M7 u12 = 2 ∧ ∃ u15 : Nat, (m_gr M7 u12 2) = some u15 ∧ m_tg M7 u15 = 14 ∧ wp_J2_get g M7 u15 x1 (fun (r20 : Option Nat) (M18 : Mem) => m_le M7 M18 → ∃ u24 : Nat, r20 = some u24 ∧ m_tg M18 u24 = 8 ∧ ((x2 ≤ (m_gi M18 u24 2) → wp_X0_record g M18 a0 (fun (M28 : Mem) => m_le M18 M28 → ∃ u34 : Nat, (m_gr M28 a0 0) = some u34 ∧ m_tg M28 u34 = 2 ∧ ∃ u37 : Nat, (m_gr M28 u34 2) = some u37 ∧ m_tg M28 u37 = 14 ∧ wp_J2_get g M28 u37 x1 (fun (r42 : Option Nat) (M40 : Mem) => m_le M28 M40 → ∃ u49 : Nat, r42 = some u49 ∧ m_tg M40 u49 = 8 ∧ ∀ M52 : Mem, M52 = (m_pi M40 u49 2 ((m_gi M40 u49 2) - x2)) → ∃ u62 : Nat, (m_gr M52 a0 0) = some u62 ∧ m_tg M52 u62 = 2 ∧ ∃ u65 : Nat, (m_gr M52 u62 2) = some u65 ∧ m_tg M52 u65 = 14 ∧ wp_J2_get g M52 u65 x1 (fun (r70 : Option Nat) (M68 : Mem) => m_le M52 M68 → ∃ u80 : Nat, r70 = some u80 ∧ m_tg M68 u80 = 8 ∧ Q (m_gi M68 u80 2) M68)))) ∧ (¬ x2 ≤ (m_gi M18 u24 2) → Q (-4) M18)))) ∧ (r9 = 0 → Q (-2) M7)))) ∧ (r4 = 0 → Q (-1) M2)))
theorem bk_X0_fetch_0 (G : Gp) (C : m_Cx) (n0 s0 : Nat) (M0 : Mem) (Q : Int32 → Mem → Prop) (X : m_in G C RX0 cX0_fetch 3 (some .int) "fetch" 9 203 n0 s0) (M : Mem) (a0 : Nat) (x1 : Int32) (x2 : Int32) (hw : wp_X0_fetch G.2 M a0 x1 x2 Q) : pW G C 3 n0 s0 M0 (m_Q G C n0 s0 (va_Qi (m_q1 M0 Q) (m_W G) (m_A G))) M 0 [(0, vR (some a0)), (1, vI x1), (2, vI x2)] [] := by
  refine pw_aload_n X dX0_fetch_0 rfl rfl ?_
  refine pw_iload_n X dX0_fetch_1 rfl rfl ?_
  obtain ⟨ht1, hw⟩ := hw
  refine pw_runi X (m_cV X (b := a0) (ci := 0) (q := (RX0, TX0, tyX0, 4)) (met_X0_isGarage G C.2.1 M a0 x1 _ hw) ht1 rfl (lw_V q1443 q1445 qs16 q78 q1446) ⟨rfl, nh_X0_isGarage⟩ ⟨Nat.le_of_ble_eq_true rfl, Nat.le_of_ble_eq_true rfl⟩ rfl (Nat.le_of_ble_eq_true rfl) dX0_fetch_2) (fun r4 M2 hle3 hx => ?_)
  replace hw := hx hle3
  clear hx
  have ht5 : m_tg M2 a0 = 1 := m_le_tg hle3 ht1
  refine pw_if_ne X 10 dX0_fetch_5 (by decide) (fun c6 => ?_) (fun c6 => ?_)
  · replace hw := hw.1 c6
    refine pw_iload_n X dX0_fetch_10 rfl rfl ?_
    refine pw_iconst X 1 dX0_fetch_11 (by decide) ?_
    refine pw_bipush X 9 dX0_fetch_12 (by decide) ?_
    refine pw_runi X (m_cS X (met_X0_inRange G C.2.1 M2 x2 1 9 _ hw) (lw_S q968 q969 q78 q970) nh_X0_inRange ⟨Nat.le_of_ble_eq_true rfl, Nat.le_of_ble_eq_true rfl⟩ rfl (Nat.le_of_ble_eq_true rfl) dX0_fetch_14) (fun r9 M7 hle8 hx => ?_)
    replace hw := hx hle8
    clear hx
    have ht10 : m_tg M7 a0 = 1 := m_le_tg hle8 ht5
    refine pw_if_ne X 23 dX0_fetch_17 (by decide) (fun c11 => ?_) (fun c11 => ?_)
    · replace hw := hw.1 c11
      refine pw_aload_n X dX0_fetch_23 rfl rfl ?_
      obtain ⟨u12, he13, hw⟩ := hw
      refine pw_get X (q := (RX0, TX0, tyX0, 4)) (ci := 0) (k := 0) (ref := "PatrolDesk") (vR (some u12)) ht10 rfl (by decide) in_X0 q948 (Or.inl rfl) (by rw [he13]; rfl) dX0_fetch_24 ?_
      obtain ⟨ht14, hw⟩ := hw
      obtain ⟨u15, he16, hw⟩ := hw
      refine pw_getN X (q := (RX1, TX1, tyX1, 8)) (ci := 1) (k := 2) (ref := "PatrolDesk$State") (host := "PatrolDesk") (vR (some u15)) ht14 rfl (by decide) in_X1 q166 (Or.inl rfl) (by rw [he16]; rfl) dX0_fetch_27 ?_
      refine pw_iload_n X dX0_fetch_30 rfl rfl ?_
      obtain ⟨ht17, hw⟩ := hw
      refine pw_runq X (m_cF X (b := u15) (ci := 13) (q := (RJ2, TJ2, tyJ2, 3)) (met_J2_get G C.2.1 M7 u15 x1 _ hw) ht17 rfl (lw_app (lw_F q1400 q1031 q1033 q82) (lw_meth q1035)) (List.mem_of_getElem? (i := 2) rfl) (by decide +kernel : m_nMH ⟨"java/util/List", "get", "(I)Ljava/lang/Object;"⟩ 1) ⟨Nat.le_of_ble_eq_true rfl, Nat.le_of_ble_eq_true rfl⟩ rfl (Nat.le_of_ble_eq_true rfl) dX0_fetch_31) (fun r20 M18 hle19 hx => ?_)
      replace hw := hx hle19
      clear hx
      have ht21 : m_tg M18 a0 = 1 := m_le_tg hle19 ht10
      have ht22 : m_tg M18 u12 = 2 := m_le_tg hle19 ht14
      have ht23 : m_tg M18 u15 = 14 := m_le_tg hle19 ht17
      obtain ⟨u24, he25, hw⟩ := hw
      subst he25
      obtain ⟨ht26, hw⟩ := hw
      refine pw_cast X 7 (q := (RX7, TX7, tyX7, 5)) rfl (fun _ h => by cases h; exact ht26) q1292 dX0_fetch_36 ?_
      refine pw_getN X (q := (RX7, TX7, tyX7, 5)) (ci := 7) (k := 2) (ref := "PatrolDesk$Garage") (host := "PatrolDesk") (vI (m_gi M18 u24 2)) ht26 rfl (by decide) in_X7 q1178 (Or.inl rfl) rfl dX0_fetch_39 ?_
      refine pw_iload_n X dX0_fetch_42 rfl rfl ?_
      refine pw_icmp_ge X 49 dX0_fetch_43 (by decide) (fun c27 => ?_) (fun c27 => ?_)
      · replace hw := hw.1 c27
        refine pw_aload_n X dX0_fetch_49 rfl rfl ?_
        refine pw_runv X (m_cV X (b := a0) (ci := 0) (q := (RX0, TX0, tyX0, 4)) (met_X0_record G C.2.1 M18 a0 _ hw) ht21 rfl (lw_V q986 q988 qs8 q78 q989) ⟨rfl, nh_X0_record⟩ ⟨Nat.le_of_ble_eq_true rfl, Nat.le_of_ble_eq_true rfl⟩ rfl (Nat.le_of_ble_eq_true rfl) dX0_fetch_50) (fun M28 hle29 hx => ?_)
        replace hw := hx hle29
        clear hx
        have ht30 : m_tg M28 a0 = 1 := m_le_tg hle29 ht21
        have ht31 : m_tg M28 u12 = 2 := m_le_tg hle29 ht22
        have ht32 : m_tg M28 u15 = 14 := m_le_tg hle29 ht23
        have ht33 : m_tg M28 u24 = 8 := m_le_tg hle29 ht26
        refine pw_aload_n X dX0_fetch_53 rfl rfl ?_
        obtain ⟨u34, he35, hw⟩ := hw
        refine pw_get X (q := (RX0, TX0, tyX0, 4)) (ci := 0) (k := 0) (ref := "PatrolDesk") (vR (some u34)) ht30 rfl (by decide) in_X0 q948 (Or.inl rfl) (by rw [he35]; rfl) dX0_fetch_54 ?_
        obtain ⟨ht36, hw⟩ := hw
        obtain ⟨u37, he38, hw⟩ := hw
        refine pw_getN X (q := (RX1, TX1, tyX1, 8)) (ci := 1) (k := 2) (ref := "PatrolDesk$State") (host := "PatrolDesk") (vR (some u37)) ht36 rfl (by decide) in_X1 q166 (Or.inl rfl) (by rw [he38]; rfl) dX0_fetch_57 ?_
        refine pw_iload_n X dX0_fetch_60 rfl rfl ?_
        obtain ⟨ht39, hw⟩ := hw
        refine pw_runq X (m_cF X (b := u37) (ci := 13) (q := (RJ2, TJ2, tyJ2, 3)) (met_J2_get G C.2.1 M28 u37 x1 _ hw) ht39 rfl (lw_app (lw_F q1400 q1031 q1033 q82) (lw_meth q1035)) (List.mem_of_getElem? (i := 2) rfl) (by decide +kernel : m_nMH ⟨"java/util/List", "get", "(I)Ljava/lang/Object;"⟩ 1) ⟨Nat.le_of_ble_eq_true rfl, Nat.le_of_ble_eq_true rfl⟩ rfl (Nat.le_of_ble_eq_true rfl) dX0_fetch_61) (fun r42 M40 hle41 hx => ?_)
        replace hw := hx hle41
        clear hx
        have ht43 : m_tg M40 a0 = 1 := m_le_tg hle41 ht30
        have ht44 : m_tg M40 u12 = 2 := m_le_tg hle41 ht31
        have ht45 : m_tg M40 u15 = 14 := m_le_tg hle41 ht32
        have ht46 : m_tg M40 u24 = 8 := m_le_tg hle41 ht33
        have ht47 : m_tg M40 u34 = 2 := m_le_tg hle41 ht36
        have ht48 : m_tg M40 u37 = 14 := m_le_tg hle41 ht39
        obtain ⟨u49, he50, hw⟩ := hw
        subst he50
        obtain ⟨ht51, hw⟩ := hw
        refine pw_cast X 7 (q := (RX7, TX7, tyX7, 5)) rfl (fun _ h => by cases h; exact ht51) q1292 dX0_fetch_66 ?_
        refine pw_dup X dX0_fetch_69 ?_
        refine pw_getN X (q := (RX7, TX7, tyX7, 5)) (ci := 7) (k := 2) (ref := "PatrolDesk$Garage") (host := "PatrolDesk") (vI (m_gi M40 u49 2)) ht51 rfl (by decide) in_X7 q1178 (Or.inl rfl) rfl dX0_fetch_70 ?_
        refine pw_iload_n X dX0_fetch_73 rfl rfl ?_
        refine pw_isub X dX0_fetch_74 ?_
        obtain ⟨M52, hM53⟩ : ∃ z : Mem, z = (m_pi M40 u49 2 ((m_gi M40 u49 2) - x2)) := ⟨_, rfl⟩
        replace hw := hw M52 hM53
        refine pw_putN X (q := (RX7, TX7, tyX7, 5)) (ci := 7) (k := 2) (ref := "PatrolDesk$Garage") (host := "PatrolDesk") M52 hM53.symm ht51 rfl (by decide) in_X7 tyX7_ok nmX7 q1178 (Or.inl rfl) rfl (m_kd_i (fun _ _ => rfl)) rfl rfl dX0_fetch_75 ?_
        have hle54 : m_le M40 M52 := by rw [hM53]; exact m_le_pi
        have ht55 : m_tg M52 a0 = 1 := m_le_tg hle54 ht43
        have ht56 : m_tg M52 u12 = 2 := m_le_tg hle54 ht44
        have ht57 : m_tg M52 u15 = 14 := m_le_tg hle54 ht45
        have ht58 : m_tg M52 u24 = 8 := m_le_tg hle54 ht46
        have ht59 : m_tg M52 u34 = 2 := m_le_tg hle54 ht47
        have ht60 : m_tg M52 u37 = 14 := m_le_tg hle54 ht48
        have ht61 : m_tg M52 u49 = 8 := m_le_tg hle54 ht51
        refine pw_aload_n X dX0_fetch_78 rfl rfl ?_
        obtain ⟨u62, he63, hw⟩ := hw
        refine pw_get X (q := (RX0, TX0, tyX0, 4)) (ci := 0) (k := 0) (ref := "PatrolDesk") (vR (some u62)) ht55 rfl (by decide) in_X0 q948 (Or.inl rfl) (by rw [he63]; rfl) dX0_fetch_79 ?_
        obtain ⟨ht64, hw⟩ := hw
        obtain ⟨u65, he66, hw⟩ := hw
        refine pw_getN X (q := (RX1, TX1, tyX1, 8)) (ci := 1) (k := 2) (ref := "PatrolDesk$State") (host := "PatrolDesk") (vR (some u65)) ht64 rfl (by decide) in_X1 q166 (Or.inl rfl) (by rw [he66]; rfl) dX0_fetch_82 ?_
        refine pw_iload_n X dX0_fetch_85 rfl rfl ?_
        obtain ⟨ht67, hw⟩ := hw
        refine pw_runq X (m_cF X (b := u65) (ci := 13) (q := (RJ2, TJ2, tyJ2, 3)) (met_J2_get G C.2.1 M52 u65 x1 _ hw) ht67 rfl (lw_app (lw_F q1400 q1031 q1033 q82) (lw_meth q1035)) (List.mem_of_getElem? (i := 2) rfl) (by decide +kernel : m_nMH ⟨"java/util/List", "get", "(I)Ljava/lang/Object;"⟩ 1) ⟨Nat.le_of_ble_eq_true rfl, Nat.le_of_ble_eq_true rfl⟩ rfl (Nat.le_of_ble_eq_true rfl) dX0_fetch_86) (fun r70 M68 hle69 hx => ?_)
        replace hw := hx hle69
        clear hx
        have ht71 : m_tg M68 a0 = 1 := m_le_tg hle69 ht55
        have ht72 : m_tg M68 u12 = 2 := m_le_tg hle69 ht56
        have ht73 : m_tg M68 u15 = 14 := m_le_tg hle69 ht57
        have ht74 : m_tg M68 u24 = 8 := m_le_tg hle69 ht58
        have ht75 : m_tg M68 u34 = 2 := m_le_tg hle69 ht59
        have ht76 : m_tg M68 u37 = 14 := m_le_tg hle69 ht60
        have ht77 : m_tg M68 u49 = 8 := m_le_tg hle69 ht61
        have ht78 : m_tg M68 u62 = 2 := m_le_tg hle69 ht64
        have ht79 : m_tg M68 u65 = 14 := m_le_tg hle69 ht67
        obtain ⟨u80, he81, hw⟩ := hw
        subst he81
        obtain ⟨ht82, hw⟩ := hw
        refine pw_cast X 7 (q := (RX7, TX7, tyX7, 5)) rfl (fun _ h => by cases h; exact ht82) q1292 dX0_fetch_91 ?_
        refine pw_getN X (q := (RX7, TX7, tyX7, 5)) (ci := 7) (k := 2) (ref := "PatrolDesk$Garage") (host := "PatrolDesk") (vI (m_gi M68 u80 2)) ht82 rfl (by decide) in_X7 q1178 (Or.inl rfl) rfl dX0_fetch_94 ?_
        exact pw_iret X hw dX0_fetch_97
      · replace hw := hw.2 c27
        refine pw_bipush X (-4) dX0_fetch_46 (by decide) ?_
        exact pw_iret X hw dX0_fetch_48
    · replace hw := hw.2 c11
      refine pw_bipush X (-2) dX0_fetch_20 (by decide) ?_
      exact pw_iret X hw dX0_fetch_22
  · replace hw := hw.2 c6
    refine pw_iconst X (-1) dX0_fetch_8 (by decide) ?_
    exact pw_iret X hw dX0_fetch_9
theorem met_X0_fetch (G : Gp) (l : Launch) (M : Mem) (a0 : Nat) (x1 : Int32) (x2 : Int32) (Q : Int32 → Mem → Prop) (hw : wp_X0_fetch G.2 M a0 x1 x2 Q) : m_K G l yX0_fetch cX0_fetch 3 (some .int) 9 203 [vR (some a0), vI x1, vI x2] M (va_Qi (m_q1 M Q) (m_W G) (m_A G)) := by
  refine m_met (by decide) (Nat.le_of_ble_eq_true rfl) (fun C e X => ?_)
  exact bk_X0_fetch_0 G C _ _ M Q X M a0 x1 x2 hw
theorem nh_X0_fetch : m_nMH yX0_fetch 2 := by decide +kernel

def wp_X0_pass_b39 (g : Nat → Nat) (Q : Int32 → Mem → Prop) : Nat → Mem → Nat → Int32 → Int32 → Int32 → Prop
  | 0 => fun _ _ _ _ _ => False
  | n + 1 => fun M la0 lx1 lx2 lx3 => ((lx1 ≤ lx3 → Q lx2 M) ∧ (¬ lx1 ≤ lx3 → m_tg M la0 = 1 ∧ ∃ u3 : Nat, (m_gr M la0 0) = some u3 ∧ m_tg M u3 = 2 ∧ wp_X1_passMinute g M u3 (fun (r8 : Int32) (M6 : Mem) => m_le M M6 → wp_X0_pass_b39 g Q n M6 la0 lx1 (lx2 + r8) (lx3 + 1))))
def wp_X0_pass (g : Nat → Nat) (M : Mem) (a0 : Nat) (x1 : Int32) (Q : Int32 → Mem → Prop) : Prop := wp_X0_inRange g M x1 1 120 (fun (r3 : Int32) (M1 : Mem) => m_le M M1 → ((¬ r3 = 0 → m_tg M1 a0 = 1 ∧ ∃ u6 : Nat, (m_gr M1 a0 0) = some u6 ∧ m_tg M1 u6 = 2 ∧ ((((m_gi M1 u6 7) + x1) ≤ 2880 → wp_X0_record g M1 a0 (fun (M10 : Mem) => m_le M1 M10 → ∃ j39 : Nat, wp_X0_pass_b39 g Q j39 M10 a0 x1 0 0)) ∧ (¬ ((m_gi M1 u6 7) + x1) ≤ 2880 → Q (-4) M1))) ∧ (r3 = 0 → Q (-2) M1)))
theorem bk_X0_pass_39 (G : Gp) (C : m_Cx) (n0 s0 : Nat) (M0 : Mem) (Q : Int32 → Mem → Prop) (X : m_in G C RX0 cX0_pass 4 (some .int) "pass" 13 3143 n0 s0) : ∀ (n : Nat) (M : Mem) (la0 : Nat) (lx1 : Int32) (lx2 : Int32) (lx3 : Int32) (hw : wp_X0_pass_b39 G.2 Q n M la0 lx1 lx2 lx3), pW G C 4 n0 s0 M0 (m_Q G C n0 s0 (va_Qi (m_q1 M0 Q) (m_W G) (m_A G))) M 39 [(0, vR (some la0)), (1, vI lx1), (2, vI lx2), (3, vI lx3)] [] := by
  intro n
  induction n with
  | zero => intro M la0 lx1 lx2 lx3 hw; exact hw.elim
  | succ n ih =>
    intro M la0 lx1 lx2 lx3 hw
    refine pw_iload_n X dX0_pass_39 rfl rfl ?_
    refine pw_iload_n X dX0_pass_40 rfl rfl ?_
    refine pw_icmp_ge X 60 dX0_pass_41 (by decide) (fun c1 => ?_) (fun c1 => ?_)
    · replace hw := hw.1 c1
      refine pw_iload_n X dX0_pass_60 rfl rfl ?_
      exact pw_iret X hw dX0_pass_61
    · replace hw := hw.2 c1
      refine pw_iload_n X dX0_pass_44 rfl rfl ?_
      refine pw_aload_n X dX0_pass_45 rfl rfl ?_
      obtain ⟨ht2, hw⟩ := hw
      obtain ⟨u3, he4, hw⟩ := hw
      refine pw_get X (q := (RX0, TX0, tyX0, 4)) (ci := 0) (k := 0) (ref := "PatrolDesk") (vR (some u3)) ht2 rfl (by decide) in_X0 q948 (Or.inl rfl) (by rw [he4]; rfl) dX0_pass_46 ?_
      obtain ⟨ht5, hw⟩ := hw
      refine pw_runi X (m_cV X (b := u3) (ci := 1) (q := (RX1, TX1, tyX1, 8)) (met_X1_passMinute G C.2.1 M u3 _ hw) ht5 rfl (lw_V q1451 q1452 q1453 q79 q1454) ⟨rfl, nh_X1_passMinute⟩ ⟨Nat.le_of_ble_eq_true rfl, Nat.le_of_ble_eq_true rfl⟩ rfl (Nat.le_of_ble_eq_true rfl) dX0_pass_49) (fun r8 M6 hle7 hx => ?_)
      replace hw := hx hle7
      clear hx
      have ht9 : m_tg M6 la0 = 1 := m_le_tg hle7 ht2
      have ht10 : m_tg M6 u3 = 2 := m_le_tg hle7 ht5
      refine pw_iadd X dX0_pass_52 ?_
      refine pw_istore_n X [(0, vR (some la0)), (1, vI lx1), (2, vI (lx2 + r8)), (3, vI lx3)] [1, 2, 0, 3] dX0_pass_53 rfl (by decide) rfl ?_
      refine pw_iinc X (lx3 + 1) [(0, vR (some la0)), (1, vI lx1), (2, vI (lx2 + r8)), (3, vI (lx3 + 1))] [1, 2, 3, 0] dX0_pass_54 rfl (by first | rfl | decide) (by decide) rfl ?_
      refine pw_goto X 39 dX0_pass_57 (by decide) ?_
      exact ih _ la0 lx1 (lx2 + r8) (lx3 + 1) hw
theorem bk_X0_pass_0 (G : Gp) (C : m_Cx) (n0 s0 : Nat) (M0 : Mem) (Q : Int32 → Mem → Prop) (X : m_in G C RX0 cX0_pass 4 (some .int) "pass" 13 3143 n0 s0) (M : Mem) (a0 : Nat) (x1 : Int32) (hw : wp_X0_pass G.2 M a0 x1 Q) : pW G C 4 n0 s0 M0 (m_Q G C n0 s0 (va_Qi (m_q1 M0 Q) (m_W G) (m_A G))) M 0 [(0, vR (some a0)), (1, vI x1)] [] := by
  refine pw_iload_n X dX0_pass_0 rfl rfl ?_
  refine pw_iconst X 1 dX0_pass_1 (by decide) ?_
  refine pw_bipush X 120 dX0_pass_2 (by decide) ?_
  refine pw_runi X (m_cS X (met_X0_inRange G C.2.1 M x1 1 120 _ hw) (lw_S q968 q969 q78 q970) nh_X0_inRange ⟨Nat.le_of_ble_eq_true rfl, Nat.le_of_ble_eq_true rfl⟩ rfl (Nat.le_of_ble_eq_true rfl) dX0_pass_4) (fun r3 M1 hle2 hx => ?_)
  replace hw := hx hle2
  clear hx
  refine pw_if_ne X 13 dX0_pass_7 (by decide) (fun c4 => ?_) (fun c4 => ?_)
  · replace hw := hw.1 c4
    refine pw_aload_n X dX0_pass_13 rfl rfl ?_
    obtain ⟨ht5, hw⟩ := hw
    obtain ⟨u6, he7, hw⟩ := hw
    refine pw_get X (q := (RX0, TX0, tyX0, 4)) (ci := 0) (k := 0) (ref := "PatrolDesk") (vR (some u6)) ht5 rfl (by decide) in_X0 q948 (Or.inl rfl) (by rw [he7]; rfl) dX0_pass_14 ?_
    obtain ⟨ht8, hw⟩ := hw
    refine pw_getN X (q := (RX1, TX1, tyX1, 8)) (ci := 1) (k := 7) (ref := "PatrolDesk$State") (host := "PatrolDesk") (vI (m_gi M1 u6 7)) ht8 rfl (by decide) in_X1 q176 (Or.inl rfl) rfl dX0_pass_17 ?_
    refine pw_iload_n X dX0_pass_20 rfl rfl ?_
    refine pw_iadd X dX0_pass_21 ?_
    refine pw_sipush X 2880 dX0_pass_22 (by decide) ?_
    refine pw_icmp_le X 31 dX0_pass_25 (by decide) (fun c9 => ?_) (fun c9 => ?_)
    · replace hw := hw.1 c9
      refine pw_aload_n X dX0_pass_31 rfl rfl ?_
      refine pw_runv X (m_cV X (b := a0) (ci := 0) (q := (RX0, TX0, tyX0, 4)) (met_X0_record G C.2.1 M1 a0 _ hw) ht5 rfl (lw_V q986 q988 qs8 q78 q989) ⟨rfl, nh_X0_record⟩ ⟨Nat.le_of_ble_eq_true rfl, Nat.le_of_ble_eq_true rfl⟩ rfl (Nat.le_of_ble_eq_true rfl) dX0_pass_32) (fun M10 hle11 hx => ?_)
      replace hw := hx hle11
      clear hx
      have ht12 : m_tg M10 a0 = 1 := m_le_tg hle11 ht5
      have ht13 : m_tg M10 u6 = 2 := m_le_tg hle11 ht8
      refine pw_iconst X 0 dX0_pass_35 (by decide) ?_
      refine pw_istore_n X [(0, vR (some a0)), (1, vI x1), (2, vI 0)] [1, 2, 0] dX0_pass_36 rfl (by decide) rfl ?_
      refine pw_iconst X 0 dX0_pass_37 (by decide) ?_
      refine pw_istore_n X [(0, vR (some a0)), (1, vI x1), (2, vI 0), (3, vI 0)] [1, 2, 3, 0] dX0_pass_38 rfl (by decide) rfl ?_
      obtain ⟨n39, hw⟩ := hw
      exact bk_X0_pass_39 G C n0 s0 M0 Q X n39 _ a0 x1 0 0 hw
    · replace hw := hw.2 c9
      refine pw_bipush X (-4) dX0_pass_28 (by decide) ?_
      exact pw_iret X hw dX0_pass_30
  · replace hw := hw.2 c4
    refine pw_bipush X (-2) dX0_pass_10 (by decide) ?_
    exact pw_iret X hw dX0_pass_12
theorem met_X0_pass (G : Gp) (l : Launch) (M : Mem) (a0 : Nat) (x1 : Int32) (Q : Int32 → Mem → Prop) (hw : wp_X0_pass G.2 M a0 x1 Q) : m_K G l yX0_pass cX0_pass 4 (some .int) 13 3143 [vR (some a0), vI x1] M (va_Qi (m_q1 M Q) (m_W G) (m_A G)) := by
  refine m_met (by decide) (Nat.le_of_ble_eq_true rfl) (fun C e X => ?_)
  exact bk_X0_pass_0 G C _ _ M Q X M a0 x1 hw
theorem nh_X0_pass : m_nMH yX0_pass 1 := by decide +kernel

def wp_X0_type (g : Nat → Nat) (M : Mem) (a0 : Nat) (x1 : Int32) (Q : Int32 → Mem → Prop) : Prop := m_tg M a0 = 1 ∧ ∃ u2 : Nat, (m_gr M a0 3) = some u2 ∧ m_tg M u2 = 15 ∧ wp_J4_length g M u2 (fun (r7 : Int32) (M5 : Mem) => m_le M M5 → ((¬ r7 = 60 → ∃ u11 : Nat, (m_gr M5 a0 3) = some u11 ∧ m_tg M5 u11 = 15 ∧ wp_J4_append g M5 u11 x1 (fun (r16 : Option Nat) (M14 : Mem) => m_le M5 M14 → ∃ u20 : Nat, (m_gr M14 a0 3) = some u20 ∧ m_tg M14 u20 = 15 ∧ wp_J4_length g M14 u20 (fun (r25 : Int32) (M23 : Mem) => m_le M14 M23 → Q r25 M23))) ∧ (r7 = 60 → Q (-3) M5)))
theorem bk_X0_type_0 (G : Gp) (C : m_Cx) (n0 s0 : Nat) (M0 : Mem) (Q : Int32 → Mem → Prop) (X : m_in G C RX0 cX0_type 2 (some .int) "type" 8 179 n0 s0) (M : Mem) (a0 : Nat) (x1 : Int32) (hw : wp_X0_type G.2 M a0 x1 Q) : pW G C 2 n0 s0 M0 (m_Q G C n0 s0 (va_Qi (m_q1 M0 Q) (m_W G) (m_A G))) M 0 [(0, vR (some a0)), (1, vI x1)] [] := by
  refine pw_aload_n X dX0_type_0 rfl rfl ?_
  obtain ⟨ht1, hw⟩ := hw
  obtain ⟨u2, he3, hw⟩ := hw
  refine pw_get X (q := (RX0, TX0, tyX0, 4)) (ci := 0) (k := 3) (ref := "PatrolDesk") (vR (some u2)) ht1 rfl (by decide) in_X0 q951 (Or.inl rfl) (by rw [he3]; rfl) dX0_type_1 ?_
  obtain ⟨ht4, hw⟩ := hw
  refine pw_runi X (m_cV X (b := u2) (ci := 14) (q := (RJ4, TJ4, tyJ4, 4)) (met_J4_length G C.2.1 M u2 _ hw) ht4 rfl (lw_V q1651 q1652 q1653 q84 q1654) ⟨rfl, nh_J4_length⟩ ⟨Nat.le_of_ble_eq_true rfl, Nat.le_of_ble_eq_true rfl⟩ rfl (Nat.le_of_ble_eq_true rfl) dX0_type_4) (fun r7 M5 hle6 hx => ?_)
  replace hw := hx hle6
  clear hx
  have ht8 : m_tg M5 a0 = 1 := m_le_tg hle6 ht1
  have ht9 : m_tg M5 u2 = 15 := m_le_tg hle6 ht4
  refine pw_bipush X 60 dX0_type_7 (by decide) ?_
  refine pw_icmp_ne X 15 dX0_type_9 (by decide) (fun c10 => ?_) (fun c10 => ?_)
  · replace hw := hw.1 c10
    refine pw_aload_n X dX0_type_15 rfl rfl ?_
    obtain ⟨u11, he12, hw⟩ := hw
    refine pw_get X (q := (RX0, TX0, tyX0, 4)) (ci := 0) (k := 3) (ref := "PatrolDesk") (vR (some u11)) ht8 rfl (by decide) in_X0 q951 (Or.inl rfl) (by rw [he12]; rfl) dX0_type_16 ?_
    refine pw_iload_n X dX0_type_19 rfl rfl ?_
    obtain ⟨ht13, hw⟩ := hw
    refine pw_runq X (m_cV X (b := u11) (ci := 14) (q := (RJ4, TJ4, tyJ4, 4)) (met_J4_append G C.2.1 M5 u11 x1 _ hw) ht13 rfl (lw_V q1658 q1659 q1660 q84 q1661) ⟨rfl, nh_J4_append⟩ ⟨Nat.le_of_ble_eq_true rfl, Nat.le_of_ble_eq_true rfl⟩ rfl (Nat.le_of_ble_eq_true rfl) dX0_type_20) (fun r16 M14 hle15 hx => ?_)
    replace hw := hx hle15
    clear hx
    have ht17 : m_tg M14 a0 = 1 := m_le_tg hle15 ht8
    have ht18 : m_tg M14 u2 = 15 := m_le_tg hle15 ht9
    have ht19 : m_tg M14 u11 = 15 := m_le_tg hle15 ht13
    refine pw_pop X dX0_type_23 ?_
    refine pw_aload_n X dX0_type_24 rfl rfl ?_
    obtain ⟨u20, he21, hw⟩ := hw
    refine pw_get X (q := (RX0, TX0, tyX0, 4)) (ci := 0) (k := 3) (ref := "PatrolDesk") (vR (some u20)) ht17 rfl (by decide) in_X0 q951 (Or.inl rfl) (by rw [he21]; rfl) dX0_type_25 ?_
    obtain ⟨ht22, hw⟩ := hw
    refine pw_runi X (m_cV X (b := u20) (ci := 14) (q := (RJ4, TJ4, tyJ4, 4)) (met_J4_length G C.2.1 M14 u20 _ hw) ht22 rfl (lw_V q1651 q1652 q1653 q84 q1654) ⟨rfl, nh_J4_length⟩ ⟨Nat.le_of_ble_eq_true rfl, Nat.le_of_ble_eq_true rfl⟩ rfl (Nat.le_of_ble_eq_true rfl) dX0_type_28) (fun r25 M23 hle24 hx => ?_)
    replace hw := hx hle24
    clear hx
    have ht26 : m_tg M23 a0 = 1 := m_le_tg hle24 ht17
    have ht27 : m_tg M23 u2 = 15 := m_le_tg hle24 ht18
    have ht28 : m_tg M23 u11 = 15 := m_le_tg hle24 ht19
    have ht29 : m_tg M23 u20 = 15 := m_le_tg hle24 ht22
    exact pw_iret X hw dX0_type_31
  · replace hw := hw.2 c10
    refine pw_bipush X (-3) dX0_type_12 (by decide) ?_
    exact pw_iret X hw dX0_type_14
theorem met_X0_type (G : Gp) (l : Launch) (M : Mem) (a0 : Nat) (x1 : Int32) (Q : Int32 → Mem → Prop) (hw : wp_X0_type G.2 M a0 x1 Q) : m_K G l yX0_type cX0_type 2 (some .int) 8 179 [vR (some a0), vI x1] M (va_Qi (m_q1 M Q) (m_W G) (m_A G)) := by
  refine m_met (by decide) (Nat.le_of_ble_eq_true rfl) (fun C e X => ?_)
  exact bk_X0_type_0 G C _ _ M Q X M a0 x1 hw
theorem nh_X0_type : m_nMH yX0_type 1 := by decide +kernel

def wp_X0_clearText (g : Nat → Nat) (M : Mem) (a0 : Nat) (Q : Int32 → Mem → Prop) : Prop := m_tg M a0 = 1 ∧ ∃ u2 : Nat, (m_gr M a0 3) = some u2 ∧ m_tg M u2 = 15 ∧ wp_J4_length g M u2 (fun (r7 : Int32) (M5 : Mem) => m_le M M5 → ∃ u10 : Nat, (m_gr M5 a0 3) = some u10 ∧ m_tg M5 u10 = 15 ∧ wp_J4_setLength g M5 u10 0 (fun (M13 : Mem) => m_le M5 M13 → Q r7 M13))
theorem bk_X0_clearText_0 (G : Gp) (C : m_Cx) (n0 s0 : Nat) (M0 : Mem) (Q : Int32 → Mem → Prop) (X : m_in G C RX0 cX0_clearText 2 (some .int) "clearText" 6 126 n0 s0) (M : Mem) (a0 : Nat) (hw : wp_X0_clearText G.2 M a0 Q) : pW G C 2 n0 s0 M0 (m_Q G C n0 s0 (va_Qi (m_q1 M0 Q) (m_W G) (m_A G))) M 0 [(0, vR (some a0))] [] := by
  refine pw_aload_n X dX0_clearText_0 rfl rfl ?_
  obtain ⟨ht1, hw⟩ := hw
  obtain ⟨u2, he3, hw⟩ := hw
  refine pw_get X (q := (RX0, TX0, tyX0, 4)) (ci := 0) (k := 3) (ref := "PatrolDesk") (vR (some u2)) ht1 rfl (by decide) in_X0 q951 (Or.inl rfl) (by rw [he3]; rfl) dX0_clearText_1 ?_
  obtain ⟨ht4, hw⟩ := hw
  refine pw_runi X (m_cV X (b := u2) (ci := 14) (q := (RJ4, TJ4, tyJ4, 4)) (met_J4_length G C.2.1 M u2 _ hw) ht4 rfl (lw_V q1651 q1652 q1653 q84 q1654) ⟨rfl, nh_J4_length⟩ ⟨Nat.le_of_ble_eq_true rfl, Nat.le_of_ble_eq_true rfl⟩ rfl (Nat.le_of_ble_eq_true rfl) dX0_clearText_4) (fun r7 M5 hle6 hx => ?_)
  replace hw := hx hle6
  clear hx
  have ht8 : m_tg M5 a0 = 1 := m_le_tg hle6 ht1
  have ht9 : m_tg M5 u2 = 15 := m_le_tg hle6 ht4
  refine pw_istore_n X [(0, vR (some a0)), (1, vI r7)] [1, 0] dX0_clearText_7 rfl (by decide) rfl ?_
  refine pw_aload_n X dX0_clearText_8 rfl rfl ?_
  obtain ⟨u10, he11, hw⟩ := hw
  refine pw_get X (q := (RX0, TX0, tyX0, 4)) (ci := 0) (k := 3) (ref := "PatrolDesk") (vR (some u10)) ht8 rfl (by decide) in_X0 q951 (Or.inl rfl) (by rw [he11]; rfl) dX0_clearText_9 ?_
  refine pw_iconst X 0 dX0_clearText_12 (by decide) ?_
  obtain ⟨ht12, hw⟩ := hw
  refine pw_runv X (m_cV X (b := u10) (ci := 14) (q := (RJ4, TJ4, tyJ4, 4)) (met_J4_setLength G C.2.1 M5 u10 0 _ hw) ht12 rfl (lw_V q1724 q1725 q1726 q84 q1727) ⟨rfl, nh_J4_setLength⟩ ⟨Nat.le_of_ble_eq_true rfl, Nat.le_of_ble_eq_true rfl⟩ rfl (Nat.le_of_ble_eq_true rfl) dX0_clearText_13) (fun M13 hle14 hx => ?_)
  replace hw := hx hle14
  clear hx
  have ht15 : m_tg M13 a0 = 1 := m_le_tg hle14 ht8
  have ht16 : m_tg M13 u2 = 15 := m_le_tg hle14 ht9
  have ht17 : m_tg M13 u10 = 15 := m_le_tg hle14 ht12
  refine pw_iload_n X dX0_clearText_16 rfl rfl ?_
  exact pw_iret X hw dX0_clearText_17
theorem met_X0_clearText (G : Gp) (l : Launch) (M : Mem) (a0 : Nat) (Q : Int32 → Mem → Prop) (hw : wp_X0_clearText G.2 M a0 Q) : m_K G l yX0_clearText cX0_clearText 2 (some .int) 6 126 [vR (some a0)] M (va_Qi (m_q1 M Q) (m_W G) (m_A G)) := by
  refine m_met (by decide) (Nat.le_of_ble_eq_true rfl) (fun C e X => ?_)
  exact bk_X0_clearText_0 G C _ _ M Q X M a0 hw
theorem nh_X0_clearText : m_nMH yX0_clearText 0 := by decide +kernel

def wp_X0_readCalls_b28 (g : Nat → Nat) (Q : Int32 → Mem → Prop) : Nat → Mem → Nat → Option Nat → Int32 → Option Nat → Int32 → Prop
  | 0 => fun _ _ _ _ _ _ => False
  | n + 1 => fun M la0 lr1 lx2 lr3 lx4 => ∃ u1 : Nat, lr3 = some u1 ∧ m_tg M u1 = 14 ∧ wp_J2_size g M u1 (fun (r6 : Int32) (M4 : Mem) => m_le M M4 → ((r6 ≤ lx4 → m_tg M4 la0 = 1 ∧ wp_X0_record g M4 la0 (fun (M10 : Mem) => m_le M4 M10 → ∀ M14 : Mem, M14 = (m_pr M10 la0 0 lr1) → Q lx2 M14)) ∧ (¬ r6 ≤ lx4 → wp_J2_get g M4 u1 lx4 (fun (r21 : Option Nat) (M19 : Mem) => m_le M4 M19 → ∃ u23 : Nat, r21 = some u23 ∧ m_tg M19 u23 = 150 ∧ wp_J12_intValue g M19 u23 (fun (r28 : Int32) (M26 : Mem) => m_le M19 M26 → wp_J2_get g M26 u1 (lx4 + 1) (fun (r33 : Option Nat) (M31 : Mem) => m_le M26 M31 → ∃ u36 : Nat, r33 = some u36 ∧ m_tg M31 u36 = 150 ∧ wp_J12_intValue g M31 u36 (fun (r41 : Int32) (M39 : Mem) => m_le M31 M39 → wp_J2_get g M39 u1 (lx4 + 2) (fun (r47 : Option Nat) (M45 : Mem) => m_le M39 M45 → ∃ u51 : Nat, r47 = some u51 ∧ m_tg M45 u51 = 150 ∧ wp_J12_intValue g M45 u51 (fun (r56 : Int32) (M54 : Mem) => m_le M45 M54 → ∃ u61 : Nat, lr1 = some u61 ∧ m_tg M54 u61 = 2 ∧ wp_X1_check g M54 u61 r28 r41 r56 (fun (M68 : Mem) => m_le M54 M68 → wp_J2_get g M68 u1 lx4 (fun (r83 : Option Nat) (M81 : Mem) => m_le M68 M81 → ∃ u89 : Nat, r83 = some u89 ∧ m_tg M81 u89 = 150 ∧ wp_J12_intValue g M81 u89 (fun (r94 : Int32) (M92 : Mem) => m_le M81 M92 → wp_J2_get g M92 u1 (lx4 + 1) (fun (r103 : Option Nat) (M101 : Mem) => m_le M92 M101 → ∃ u110 : Nat, r103 = some u110 ∧ m_tg M101 u110 = 150 ∧ wp_J12_intValue g M101 u110 (fun (r115 : Int32) (M113 : Mem) => m_le M101 M113 → wp_J2_get g M113 u1 (lx4 + 2) (fun (r125 : Option Nat) (M123 : Mem) => m_le M113 M123 → ∃ u133 : Nat, r125 = some u133 ∧ m_tg M123 u133 = 150 ∧ wp_J12_intValue g M123 u133 (fun (r138 : Int32) (M136 : Mem) => m_le M123 M136 → wp_X1_come g M136 u61 r94 r115 r138 (fun (M147 : Mem) => m_le M136 M147 → wp_X0_readCalls_b28 g Q n M147 la0 (some u61) (lx2 + 1) (some u1) (lx4 + 3))))))))) (fun (u64 : Nat) (M65 : Mem) => m_le M54 M65 → m_tg M65 u64 = 10 → Q (m_gi M65 u64 6) M65))))))))))
def wp_X0_readCalls (g : Nat → Nat) (M : Mem) (a0 : Nat) (Q : Int32 → Mem → Prop) : Prop := m_tg M a0 = 1 ∧ ∃ u2 : Nat, (m_gr M a0 0) = some u2 ∧ m_tg M u2 = 2 ∧ wp_X1_copy g M u2 (fun (r7 : Option Nat) (M5 : Mem) => m_le M M5 → m_fits M5 2 ∧ ∀ u11 : Nat, m_tg M5 u11 = 0 → ∀ M13 : Mem, M13 = (m_al M5 u11 12 0 2) → ∃ u19 : Nat, (m_gr M13 a0 3) = some u19 ∧ wp_X11_init g M13 u11 u19 (fun (M21 : Mem) => m_le M13 M21 → wp_X11_read g M21 u11 (fun (r32 : Option Nat) (M30 : Mem) => m_le M21 M30 → ∃ j28 : Nat, wp_X0_readCalls_b28 g Q j28 M30 a0 r7 0 r32 0) (fun (u26 : Nat) (M27 : Mem) => m_le M21 M27 → m_tg M27 u26 = 13 → Q ((-100) - (m_gi M27 u26 6)) M27)))
theorem bk_X0_readCalls_28 (G : Gp) (C : m_Cx) (n0 s0 : Nat) (M0 : Mem) (Q : Int32 → Mem → Prop) (X : m_in G C RX0 cX0_readCalls 5 (some .int) "readCalls" 9 203 n0 s0) (hl : C.2.1.stackTraces = false) (hT : (m_co C).exceptionTable.toList = tableOf [(10, 148, 151, 213), (10, 148, 160, 121)]) : ∀ (n : Nat) (M : Mem) (la0 : Nat) (lr1 : Option Nat) (lx2 : Int32) (lr3 : Option Nat) (lx4 : Int32) (hw : wp_X0_readCalls_b28 G.2 Q n M la0 lr1 lx2 lr3 lx4), pW G C 5 n0 s0 M0 (m_Q G C n0 s0 (va_Qi (m_q1 M0 Q) (m_W G) (m_A G))) M 28 [(0, vR (some la0)), (1, vR lr1), (2, vI lx2), (3, vR lr3), (4, vI lx4)] [] := by
  intro n
  induction n with
  | zero => intro M la0 lr1 lx2 lr3 lx4 hw; exact hw.elim
  | succ n ih =>
    intro M la0 lr1 lx2 lr3 lx4 hw
    refine pw_iload X dX0_readCalls_28 rfl ?_
    refine pw_aload_n X dX0_readCalls_30 rfl rfl ?_
    obtain ⟨u1, he2, hw⟩ := hw
    subst he2
    obtain ⟨ht3, hw⟩ := hw
    refine pw_runi X (m_cF X (b := u1) (ci := 13) (q := (RJ2, TJ2, tyJ2, 3)) (met_J2_size G C.2.1 M u1 _ hw) ht3 rfl (lw_app (lw_F q991 q994 q996 q82) (lw_meth q998)) (List.mem_of_getElem? (i := 6) rfl) (by decide +kernel : m_nMH ⟨"java/util/List", "size", "()I"⟩ 0) ⟨Nat.le_of_ble_eq_true rfl, Nat.le_of_ble_eq_true rfl⟩ rfl (Nat.le_of_ble_eq_true rfl) dX0_readCalls_31) (fun r6 M4 hle5 hx => ?_)
    replace hw := hx hle5
    clear hx
    have ht7 : m_tg M4 u1 = 14 := m_le_tg hle5 ht3
    refine pw_icmp_ge X 148 dX0_readCalls_36 (by decide) (fun c8 => ?_) (fun c8 => ?_)
    · replace hw := hw.1 c8
      refine pw_goto X 166 dX0_readCalls_148 (by decide) ?_
      refine pw_aload_n X dX0_readCalls_166 rfl rfl ?_
      obtain ⟨ht9, hw⟩ := hw
      refine pw_runv X (m_cV X (b := la0) (ci := 0) (q := (RX0, TX0, tyX0, 4)) (met_X0_record G C.2.1 M4 la0 _ hw) ht9 rfl (lw_V q986 q988 qs8 q78 q989) ⟨rfl, nh_X0_record⟩ ⟨Nat.le_of_ble_eq_true rfl, Nat.le_of_ble_eq_true rfl⟩ rfl (Nat.le_of_ble_eq_true rfl) dX0_readCalls_167) (fun M10 hle11 hx => ?_)
      replace hw := hx hle11
      clear hx
      have ht12 : m_tg M10 u1 = 14 := m_le_tg hle11 ht7
      have ht13 : m_tg M10 la0 = 1 := m_le_tg hle11 ht9
      refine pw_aload_n X dX0_readCalls_170 rfl rfl ?_
      refine pw_aload_n X dX0_readCalls_171 rfl rfl ?_
      obtain ⟨M14, hM15⟩ : ∃ z : Mem, z = (m_pr M10 la0 0 lr1) := ⟨_, rfl⟩
      replace hw := hw M14 hM15
      refine pw_put X (q := (RX0, TX0, tyX0, 4)) (ci := 0) (k := 0) (ref := "PatrolDesk") M14 hM15.symm ht13 rfl (by decide) in_X0 tyX0_ok nmX0 q948 (Or.inl rfl) rfl (m_kd_r (fun _ _ => rfl)) m_no m_fo dX0_readCalls_172 ?_
      have hle16 : m_le M10 M14 := by rw [hM15]; exact m_le_pr
      have ht17 : m_tg M14 u1 = 14 := m_le_tg hle16 ht12
      have ht18 : m_tg M14 la0 = 1 := m_le_tg hle16 ht13
      refine pw_iload_n X dX0_readCalls_175 rfl rfl ?_
      exact pw_iret X hw dX0_readCalls_176
    · replace hw := hw.2 c8
      refine pw_aload_n X dX0_readCalls_39 rfl rfl ?_
      refine pw_aload_n X dX0_readCalls_40 rfl rfl ?_
      refine pw_iload X dX0_readCalls_41 rfl ?_
      refine pw_runq X (m_cF X (b := u1) (ci := 13) (q := (RJ2, TJ2, tyJ2, 3)) (met_J2_get G C.2.1 M4 u1 lx4 _ hw) ht7 rfl (lw_app (lw_F q1400 q1031 q1033 q82) (lw_meth q1035)) (List.mem_of_getElem? (i := 2) rfl) (by decide +kernel : m_nMH ⟨"java/util/List", "get", "(I)Ljava/lang/Object;"⟩ 1) ⟨Nat.le_of_ble_eq_true rfl, Nat.le_of_ble_eq_true rfl⟩ rfl (Nat.le_of_ble_eq_true rfl) dX0_readCalls_43) (fun r21 M19 hle20 hx => ?_)
      replace hw := hx hle20
      clear hx
      have ht22 : m_tg M19 u1 = 14 := m_le_tg hle20 ht7
      obtain ⟨u23, he24, hw⟩ := hw
      subst he24
      obtain ⟨ht25, hw⟩ := hw
      refine pw_castI X (fun _ h => by cases h; exact ht25) q1833 q866 dX0_readCalls_48 ?_
      refine pw_runi X (m_cVI X (b := u23) (met_J12_intValue G C.2.1 M19 u23 _ hw) ht25 (lw_V q1834 q388 q389 q94 q390) ⟨rfl, nh_J12_intValue⟩ ⟨Nat.le_of_ble_eq_true rfl, Nat.le_of_ble_eq_true rfl⟩ rfl (Nat.le_of_ble_eq_true rfl) dX0_readCalls_51) (fun r28 M26 hle27 hx => ?_)
      replace hw := hx hle27
      clear hx
      have ht29 : m_tg M26 u1 = 14 := m_le_tg hle27 ht22
      have ht30 : m_tg M26 u23 = 150 := m_le_tg hle27 ht25
      refine pw_aload_n X dX0_readCalls_54 rfl rfl ?_
      refine pw_iload X dX0_readCalls_55 rfl ?_
      refine pw_iconst X 1 dX0_readCalls_57 (by decide) ?_
      refine pw_iadd X dX0_readCalls_58 ?_
      refine pw_runq X (m_cF X (b := u1) (ci := 13) (q := (RJ2, TJ2, tyJ2, 3)) (met_J2_get G C.2.1 M26 u1 (lx4 + 1) _ hw) ht29 rfl (lw_app (lw_F q1400 q1031 q1033 q82) (lw_meth q1035)) (List.mem_of_getElem? (i := 2) rfl) (by decide +kernel : m_nMH ⟨"java/util/List", "get", "(I)Ljava/lang/Object;"⟩ 1) ⟨Nat.le_of_ble_eq_true rfl, Nat.le_of_ble_eq_true rfl⟩ rfl (Nat.le_of_ble_eq_true rfl) dX0_readCalls_59) (fun r33 M31 hle32 hx => ?_)
      replace hw := hx hle32
      clear hx
      have ht34 : m_tg M31 u1 = 14 := m_le_tg hle32 ht29
      have ht35 : m_tg M31 u23 = 150 := m_le_tg hle32 ht30
      obtain ⟨u36, he37, hw⟩ := hw
      subst he37
      obtain ⟨ht38, hw⟩ := hw
      refine pw_castI X (fun _ h => by cases h; exact ht38) q1833 q866 dX0_readCalls_64 ?_
      refine pw_runi X (m_cVI X (b := u36) (met_J12_intValue G C.2.1 M31 u36 _ hw) ht38 (lw_V q1834 q388 q389 q94 q390) ⟨rfl, nh_J12_intValue⟩ ⟨Nat.le_of_ble_eq_true rfl, Nat.le_of_ble_eq_true rfl⟩ rfl (Nat.le_of_ble_eq_true rfl) dX0_readCalls_67) (fun r41 M39 hle40 hx => ?_)
      replace hw := hx hle40
      clear hx
      have ht42 : m_tg M39 u1 = 14 := m_le_tg hle40 ht34
      have ht43 : m_tg M39 u23 = 150 := m_le_tg hle40 ht35
      have ht44 : m_tg M39 u36 = 150 := m_le_tg hle40 ht38
      refine pw_aload_n X dX0_readCalls_70 rfl rfl ?_
      refine pw_iload X dX0_readCalls_71 rfl ?_
      refine pw_iconst X 2 dX0_readCalls_73 (by decide) ?_
      refine pw_iadd X dX0_readCalls_74 ?_
      refine pw_runq X (m_cF X (b := u1) (ci := 13) (q := (RJ2, TJ2, tyJ2, 3)) (met_J2_get G C.2.1 M39 u1 (lx4 + 2) _ hw) ht42 rfl (lw_app (lw_F q1400 q1031 q1033 q82) (lw_meth q1035)) (List.mem_of_getElem? (i := 2) rfl) (by decide +kernel : m_nMH ⟨"java/util/List", "get", "(I)Ljava/lang/Object;"⟩ 1) ⟨Nat.le_of_ble_eq_true rfl, Nat.le_of_ble_eq_true rfl⟩ rfl (Nat.le_of_ble_eq_true rfl) dX0_readCalls_75) (fun r47 M45 hle46 hx => ?_)
      replace hw := hx hle46
      clear hx
      have ht48 : m_tg M45 u1 = 14 := m_le_tg hle46 ht42
      have ht49 : m_tg M45 u23 = 150 := m_le_tg hle46 ht43
      have ht50 : m_tg M45 u36 = 150 := m_le_tg hle46 ht44
      obtain ⟨u51, he52, hw⟩ := hw
      subst he52
      obtain ⟨ht53, hw⟩ := hw
      refine pw_castI X (fun _ h => by cases h; exact ht53) q1833 q866 dX0_readCalls_80 ?_
      refine pw_runi X (m_cVI X (b := u51) (met_J12_intValue G C.2.1 M45 u51 _ hw) ht53 (lw_V q1834 q388 q389 q94 q390) ⟨rfl, nh_J12_intValue⟩ ⟨Nat.le_of_ble_eq_true rfl, Nat.le_of_ble_eq_true rfl⟩ rfl (Nat.le_of_ble_eq_true rfl) dX0_readCalls_83) (fun r56 M54 hle55 hx => ?_)
      replace hw := hx hle55
      clear hx
      have ht57 : m_tg M54 u1 = 14 := m_le_tg hle55 ht48
      have ht58 : m_tg M54 u23 = 150 := m_le_tg hle55 ht49
      have ht59 : m_tg M54 u36 = 150 := m_le_tg hle55 ht50
      have ht60 : m_tg M54 u51 = 150 := m_le_tg hle55 ht53
      obtain ⟨u61, he62, hw⟩ := hw
      subst he62
      obtain ⟨ht63, hw⟩ := hw
      refine pw_runXv X (m_cVNX X (b := u61) (ci := 1) (q := (RX1, TX1, tyX1, 8)) (met_X1_check G C.2.1 hl M54 u61 r28 r41 r56 _ _ hw) ht63 rfl q1310 q79 q1307 q1309 qs10 nh_X1_check ⟨Nat.le_of_ble_eq_true rfl, Nat.le_of_ble_eq_true rfl⟩ rfl (Nat.le_of_ble_eq_true rfl) dX0_readCalls_86) (fun u64 M65 hle66 ht67 hx => ?_) (fun M68 hle69 hx => ?_)
      · replace hw := hx hle66 ht67
        clear hx
        have ht71 : m_tg M65 u1 = 14 := m_le_tg hle66 ht57
        have ht72 : m_tg M65 u23 = 150 := m_le_tg hle66 ht58
        have ht73 : m_tg M65 u36 = 150 := m_le_tg hle66 ht59
        have ht74 : m_tg M65 u51 = 150 := m_le_tg hle66 ht60
        have ht75 : m_tg M65 u61 = 2 := m_le_tg hle66 ht63
        refine px_catch X (c := (RX9, TX9, tyX9, 7)) [⟨10, 148, 151, 213⟩] ⟨10, 148, 160, 121⟩ [] (hT.trans rfl) (fun z hz => by cases List.mem_singleton.mp hz; exact Or.inr ⟨by decide, "PatrolDesk$TextFault", q1748, X.2.2.2.2.2.2.2.2.1.2.2.2.2.2.2.2.2.2.2.2.2.1⟩) (by decide) (by decide) q1306 q1315 ht67 rfl 160 rfl ?_
        refine pw_lo [] rfl ?_
        refine pw_astore_n X [(3, vR (some u64))] [0] dX0_readCalls_160 rfl (by decide) rfl ?_
        refine pw_aload_n X dX0_readCalls_161 rfl rfl ?_
        refine pw_getN X (q := (RX9, TX9, tyX9, 7)) (ci := 9) (k := 6) (ref := "PatrolDesk$Refused") (host := "PatrolDesk") (vI (m_gi M65 u64 6)) ht67 rfl (by decide) in_X9 q1359 (Or.inl rfl) rfl dX0_readCalls_162 ?_
        exact pw_iret X hw dX0_readCalls_165
      · replace hw := hx hle69
        clear hx
        have ht76 : m_tg M68 u1 = 14 := m_le_tg hle69 ht57
        have ht77 : m_tg M68 u23 = 150 := m_le_tg hle69 ht58
        have ht78 : m_tg M68 u36 = 150 := m_le_tg hle69 ht59
        have ht79 : m_tg M68 u51 = 150 := m_le_tg hle69 ht60
        have ht80 : m_tg M68 u61 = 2 := m_le_tg hle69 ht63
        refine pw_aload_n X dX0_readCalls_89 rfl rfl ?_
        refine pw_aload_n X dX0_readCalls_90 rfl rfl ?_
        refine pw_iload X dX0_readCalls_91 rfl ?_
        refine pw_runq X (m_cF X (b := u1) (ci := 13) (q := (RJ2, TJ2, tyJ2, 3)) (met_J2_get G C.2.1 M68 u1 lx4 _ hw) ht76 rfl (lw_app (lw_F q1400 q1031 q1033 q82) (lw_meth q1035)) (List.mem_of_getElem? (i := 2) rfl) (by decide +kernel : m_nMH ⟨"java/util/List", "get", "(I)Ljava/lang/Object;"⟩ 1) ⟨Nat.le_of_ble_eq_true rfl, Nat.le_of_ble_eq_true rfl⟩ rfl (Nat.le_of_ble_eq_true rfl) dX0_readCalls_93) (fun r83 M81 hle82 hx => ?_)
        replace hw := hx hle82
        clear hx
        have ht84 : m_tg M81 u1 = 14 := m_le_tg hle82 ht76
        have ht85 : m_tg M81 u23 = 150 := m_le_tg hle82 ht77
        have ht86 : m_tg M81 u36 = 150 := m_le_tg hle82 ht78
        have ht87 : m_tg M81 u51 = 150 := m_le_tg hle82 ht79
        have ht88 : m_tg M81 u61 = 2 := m_le_tg hle82 ht80
        obtain ⟨u89, he90, hw⟩ := hw
        subst he90
        obtain ⟨ht91, hw⟩ := hw
        refine pw_castI X (fun _ h => by cases h; exact ht91) q1833 q866 dX0_readCalls_98 ?_
        refine pw_runi X (m_cVI X (b := u89) (met_J12_intValue G C.2.1 M81 u89 _ hw) ht91 (lw_V q1834 q388 q389 q94 q390) ⟨rfl, nh_J12_intValue⟩ ⟨Nat.le_of_ble_eq_true rfl, Nat.le_of_ble_eq_true rfl⟩ rfl (Nat.le_of_ble_eq_true rfl) dX0_readCalls_101) (fun r94 M92 hle93 hx => ?_)
        replace hw := hx hle93
        clear hx
        have ht95 : m_tg M92 u1 = 14 := m_le_tg hle93 ht84
        have ht96 : m_tg M92 u23 = 150 := m_le_tg hle93 ht85
        have ht97 : m_tg M92 u36 = 150 := m_le_tg hle93 ht86
        have ht98 : m_tg M92 u51 = 150 := m_le_tg hle93 ht87
        have ht99 : m_tg M92 u61 = 2 := m_le_tg hle93 ht88
        have ht100 : m_tg M92 u89 = 150 := m_le_tg hle93 ht91
        refine pw_aload_n X dX0_readCalls_104 rfl rfl ?_
        refine pw_iload X dX0_readCalls_105 rfl ?_
        refine pw_iconst X 1 dX0_readCalls_107 (by decide) ?_
        refine pw_iadd X dX0_readCalls_108 ?_
        refine pw_runq X (m_cF X (b := u1) (ci := 13) (q := (RJ2, TJ2, tyJ2, 3)) (met_J2_get G C.2.1 M92 u1 (lx4 + 1) _ hw) ht95 rfl (lw_app (lw_F q1400 q1031 q1033 q82) (lw_meth q1035)) (List.mem_of_getElem? (i := 2) rfl) (by decide +kernel : m_nMH ⟨"java/util/List", "get", "(I)Ljava/lang/Object;"⟩ 1) ⟨Nat.le_of_ble_eq_true rfl, Nat.le_of_ble_eq_true rfl⟩ rfl (Nat.le_of_ble_eq_true rfl) dX0_readCalls_109) (fun r103 M101 hle102 hx => ?_)
        replace hw := hx hle102
        clear hx
        have ht104 : m_tg M101 u1 = 14 := m_le_tg hle102 ht95
        have ht105 : m_tg M101 u23 = 150 := m_le_tg hle102 ht96
        have ht106 : m_tg M101 u36 = 150 := m_le_tg hle102 ht97
        have ht107 : m_tg M101 u51 = 150 := m_le_tg hle102 ht98
        have ht108 : m_tg M101 u61 = 2 := m_le_tg hle102 ht99
        have ht109 : m_tg M101 u89 = 150 := m_le_tg hle102 ht100
        obtain ⟨u110, he111, hw⟩ := hw
        subst he111
        obtain ⟨ht112, hw⟩ := hw
        refine pw_castI X (fun _ h => by cases h; exact ht112) q1833 q866 dX0_readCalls_114 ?_
        refine pw_runi X (m_cVI X (b := u110) (met_J12_intValue G C.2.1 M101 u110 _ hw) ht112 (lw_V q1834 q388 q389 q94 q390) ⟨rfl, nh_J12_intValue⟩ ⟨Nat.le_of_ble_eq_true rfl, Nat.le_of_ble_eq_true rfl⟩ rfl (Nat.le_of_ble_eq_true rfl) dX0_readCalls_117) (fun r115 M113 hle114 hx => ?_)
        replace hw := hx hle114
        clear hx
        have ht116 : m_tg M113 u1 = 14 := m_le_tg hle114 ht104
        have ht117 : m_tg M113 u23 = 150 := m_le_tg hle114 ht105
        have ht118 : m_tg M113 u36 = 150 := m_le_tg hle114 ht106
        have ht119 : m_tg M113 u51 = 150 := m_le_tg hle114 ht107
        have ht120 : m_tg M113 u61 = 2 := m_le_tg hle114 ht108
        have ht121 : m_tg M113 u89 = 150 := m_le_tg hle114 ht109
        have ht122 : m_tg M113 u110 = 150 := m_le_tg hle114 ht112
        refine pw_aload_n X dX0_readCalls_120 rfl rfl ?_
        refine pw_iload X dX0_readCalls_121 rfl ?_
        refine pw_iconst X 2 dX0_readCalls_123 (by decide) ?_
        refine pw_iadd X dX0_readCalls_124 ?_
        refine pw_runq X (m_cF X (b := u1) (ci := 13) (q := (RJ2, TJ2, tyJ2, 3)) (met_J2_get G C.2.1 M113 u1 (lx4 + 2) _ hw) ht116 rfl (lw_app (lw_F q1400 q1031 q1033 q82) (lw_meth q1035)) (List.mem_of_getElem? (i := 2) rfl) (by decide +kernel : m_nMH ⟨"java/util/List", "get", "(I)Ljava/lang/Object;"⟩ 1) ⟨Nat.le_of_ble_eq_true rfl, Nat.le_of_ble_eq_true rfl⟩ rfl (Nat.le_of_ble_eq_true rfl) dX0_readCalls_125) (fun r125 M123 hle124 hx => ?_)
        replace hw := hx hle124
        clear hx
        have ht126 : m_tg M123 u1 = 14 := m_le_tg hle124 ht116
        have ht127 : m_tg M123 u23 = 150 := m_le_tg hle124 ht117
        have ht128 : m_tg M123 u36 = 150 := m_le_tg hle124 ht118
        have ht129 : m_tg M123 u51 = 150 := m_le_tg hle124 ht119
        have ht130 : m_tg M123 u61 = 2 := m_le_tg hle124 ht120
        have ht131 : m_tg M123 u89 = 150 := m_le_tg hle124 ht121
        have ht132 : m_tg M123 u110 = 150 := m_le_tg hle124 ht122
        obtain ⟨u133, he134, hw⟩ := hw
        subst he134
        obtain ⟨ht135, hw⟩ := hw
        refine pw_castI X (fun _ h => by cases h; exact ht135) q1833 q866 dX0_readCalls_130 ?_
        refine pw_runi X (m_cVI X (b := u133) (met_J12_intValue G C.2.1 M123 u133 _ hw) ht135 (lw_V q1834 q388 q389 q94 q390) ⟨rfl, nh_J12_intValue⟩ ⟨Nat.le_of_ble_eq_true rfl, Nat.le_of_ble_eq_true rfl⟩ rfl (Nat.le_of_ble_eq_true rfl) dX0_readCalls_133) (fun r138 M136 hle137 hx => ?_)
        replace hw := hx hle137
        clear hx
        have ht139 : m_tg M136 u1 = 14 := m_le_tg hle137 ht126
        have ht140 : m_tg M136 u23 = 150 := m_le_tg hle137 ht127
        have ht141 : m_tg M136 u36 = 150 := m_le_tg hle137 ht128
        have ht142 : m_tg M136 u51 = 150 := m_le_tg hle137 ht129
        have ht143 : m_tg M136 u61 = 2 := m_le_tg hle137 ht130
        have ht144 : m_tg M136 u89 = 150 := m_le_tg hle137 ht131
        have ht145 : m_tg M136 u110 = 150 := m_le_tg hle137 ht132
        have ht146 : m_tg M136 u133 = 150 := m_le_tg hle137 ht135
        refine pw_runv X (m_cVN X (b := u61) (ci := 1) (q := (RX1, TX1, tyX1, 8)) (met_X1_come G C.2.1 M136 u61 r94 r115 r138 _ hw) ht143 rfl q1385 q79 q1382 q1384 qs12 nh_X1_come ⟨Nat.le_of_ble_eq_true rfl, Nat.le_of_ble_eq_true rfl⟩ rfl (Nat.le_of_ble_eq_true rfl) dX0_readCalls_136) (fun M147 hle148 hx => ?_)
        replace hw := hx hle148
        clear hx
        have ht149 : m_tg M147 u1 = 14 := m_le_tg hle148 ht139
        have ht150 : m_tg M147 u23 = 150 := m_le_tg hle148 ht140
        have ht151 : m_tg M147 u36 = 150 := m_le_tg hle148 ht141
        have ht152 : m_tg M147 u51 = 150 := m_le_tg hle148 ht142
        have ht153 : m_tg M147 u61 = 2 := m_le_tg hle148 ht143
        have ht154 : m_tg M147 u89 = 150 := m_le_tg hle148 ht144
        have ht155 : m_tg M147 u110 = 150 := m_le_tg hle148 ht145
        have ht156 : m_tg M147 u133 = 150 := m_le_tg hle148 ht146
        refine pw_iinc X (lx2 + 1) [(0, vR (some la0)), (1, vR (some u61)), (2, vI (lx2 + 1)), (3, vR (some u1)), (4, vI lx4)] [1, 2, 0, 3, 4] dX0_readCalls_139 rfl (by first | rfl | decide) (by decide) rfl ?_
        refine pw_iinc X (lx4 + 3) [(0, vR (some la0)), (1, vR (some u61)), (2, vI (lx2 + 1)), (3, vR (some u1)), (4, vI (lx4 + 3))] [1, 2, 3, 4, 0] dX0_readCalls_142 rfl (by first | rfl | decide) (by decide) rfl ?_
        refine pw_goto X 28 dX0_readCalls_145 (by decide) ?_
        exact ih _ la0 (some u61) (lx2 + 1) (some u1) (lx4 + 3) hw
theorem bk_X0_readCalls_0 (G : Gp) (C : m_Cx) (n0 s0 : Nat) (M0 : Mem) (Q : Int32 → Mem → Prop) (X : m_in G C RX0 cX0_readCalls 5 (some .int) "readCalls" 9 203 n0 s0) (hl : C.2.1.stackTraces = false) (hT : (m_co C).exceptionTable.toList = tableOf [(10, 148, 151, 213), (10, 148, 160, 121)]) (M : Mem) (a0 : Nat) (hw : wp_X0_readCalls G.2 M a0 Q) : pW G C 5 n0 s0 M0 (m_Q G C n0 s0 (va_Qi (m_q1 M0 Q) (m_W G) (m_A G))) M 0 [(0, vR (some a0))] [] := by
  refine pw_aload_n X dX0_readCalls_0 rfl rfl ?_
  obtain ⟨ht1, hw⟩ := hw
  obtain ⟨u2, he3, hw⟩ := hw
  refine pw_get X (q := (RX0, TX0, tyX0, 4)) (ci := 0) (k := 0) (ref := "PatrolDesk") (vR (some u2)) ht1 rfl (by decide) in_X0 q948 (Or.inl rfl) (by rw [he3]; rfl) dX0_readCalls_1 ?_
  obtain ⟨ht4, hw⟩ := hw
  refine pw_runq X (m_cV X (b := u2) (ci := 1) (q := (RX1, TX1, tyX1, 8)) (met_X1_copy G C.2.1 M u2 _ hw) ht4 rfl (lw_V q1019 q1020 q1021 q79 q1022) ⟨rfl, nh_X1_copy⟩ ⟨Nat.le_of_ble_eq_true rfl, Nat.le_of_ble_eq_true rfl⟩ rfl (Nat.le_of_ble_eq_true rfl) dX0_readCalls_4) (fun r7 M5 hle6 hx => ?_)
  replace hw := hx hle6
  clear hx
  have ht8 : m_tg M5 a0 = 1 := m_le_tg hle6 ht1
  have ht9 : m_tg M5 u2 = 2 := m_le_tg hle6 ht4
  refine pw_astore_n X [(0, vR (some a0)), (1, vR r7)] [1, 0] dX0_readCalls_7 rfl (by decide) rfl ?_
  refine pw_iconst X 0 dX0_readCalls_8 (by decide) ?_
  refine pw_istore_n X [(0, vR (some a0)), (1, vR r7), (2, vI 0)] [1, 2, 0] dX0_readCalls_9 rfl (by decide) rfl ?_
  obtain ⟨hf10, hw⟩ := hw
  refine pw_new X (ci := 11) (q := (RX11, TX11, tyX11, 2)) hf10 rfl in_X11 tyX11_ok q1749 q1750 q119 dX0_readCalls_10 (fun u11 h012 => ?_)
  obtain ⟨M13, hM14⟩ : ∃ z : Mem, z = (m_al M5 u11 12 0 2) := ⟨_, rfl⟩
  replace hw := hw u11 h012 M13 hM14
  have hle15 : m_le M5 M13 := by rw [hM14]; exact m_le_al h012
  change pW _ _ _ _ _ _ _ (m_al M5 u11 12 0 2) _ _ _
  rw [← hM14]
  have ht16 : m_tg M13 a0 = 1 := m_le_tg hle15 ht8
  have ht17 : m_tg M13 u2 = 2 := m_le_tg hle15 ht9
  have ht18 : m_tg M13 u11 = 12 := by rw [hM14, m_tg_al, if_pos rfl]
  refine pw_dup X dX0_readCalls_13 ?_
  refine pw_aload_n X dX0_readCalls_14 rfl rfl ?_
  obtain ⟨u19, he20, hw⟩ := hw
  refine pw_get X (q := (RX0, TX0, tyX0, 4)) (ci := 0) (k := 3) (ref := "PatrolDesk") (vR (some u19)) ht16 rfl (by decide) in_X0 q951 (Or.inl rfl) (by rw [he20]; rfl) dX0_readCalls_15 ?_
  refine pw_runv X (m_cI X (b := u11) (met_X11_init G C.2.1 M13 u11 u19 _ hw) q1753 q119 q1751 q1752 rfl nh_X11_init ⟨Nat.le_of_ble_eq_true rfl, Nat.le_of_ble_eq_true rfl⟩ rfl (Nat.le_of_ble_eq_true rfl) dX0_readCalls_18) (fun M21 hle22 hx => ?_)
  replace hw := hx hle22
  clear hx
  have ht23 : m_tg M21 a0 = 1 := m_le_tg hle22 ht16
  have ht24 : m_tg M21 u2 = 2 := m_le_tg hle22 ht17
  have ht25 : m_tg M21 u11 = 12 := m_le_tg hle22 ht18
  refine pw_runXq X (m_cVX X (b := u11) (ci := 11) (q := (RX11, TX11, tyX11, 2)) (met_X11_read G C.2.1 hl M21 u11 _ _ hw) ht25 rfl (lw_V q1762 q1763 q1764 q119 q1765) ⟨rfl, nh_X11_read⟩ ⟨Nat.le_of_ble_eq_true rfl, Nat.le_of_ble_eq_true rfl⟩ rfl (Nat.le_of_ble_eq_true rfl) dX0_readCalls_21) (fun u26 M27 hle28 ht29 hx => ?_) (fun r32 M30 hle31 hx => ?_)
  · replace hw := hx hle28 ht29
    clear hx
    have ht33 : m_tg M27 a0 = 1 := m_le_tg hle28 ht23
    have ht34 : m_tg M27 u2 = 2 := m_le_tg hle28 ht24
    have ht35 : m_tg M27 u11 = 12 := m_le_tg hle28 ht25
    refine px_catch X (c := (RX12, TX12, tyX12, 7)) [] ⟨10, 148, 151, 213⟩ [⟨10, 148, 160, 121⟩] (hT.trans rfl) (fun z hz => by cases hz) (by decide) (by decide) q1748 q1805 ht29 rfl 151 rfl ?_
    refine pw_lo [] rfl ?_
    refine pw_astore_n X [(3, vR (some u26))] [0] dX0_readCalls_151 rfl (by decide) rfl ?_
    refine pw_bipush X (-100) dX0_readCalls_152 (by decide) ?_
    refine pw_aload_n X dX0_readCalls_154 rfl rfl ?_
    refine pw_getN X (q := (RX12, TX12, tyX12, 7)) (ci := 12) (k := 6) (ref := "PatrolDesk$TextFault") (host := "PatrolDesk") (vI (m_gi M27 u26 6)) ht29 rfl (by decide) in_X12 q1817 (Or.inl rfl) rfl dX0_readCalls_155 ?_
    refine pw_isub X dX0_readCalls_158 ?_
    exact pw_iret X hw dX0_readCalls_159
  · replace hw := hx hle31
    clear hx
    have ht36 : m_tg M30 a0 = 1 := m_le_tg hle31 ht23
    have ht37 : m_tg M30 u2 = 2 := m_le_tg hle31 ht24
    have ht38 : m_tg M30 u11 = 12 := m_le_tg hle31 ht25
    refine pw_astore_n X [(0, vR (some a0)), (1, vR r7), (2, vI 0), (3, vR r32)] [1, 2, 3, 0] dX0_readCalls_24 rfl (by decide) rfl ?_
    refine pw_iconst X 0 dX0_readCalls_25 (by decide) ?_
    refine pw_istore X [(0, vR (some a0)), (1, vR r7), (2, vI 0), (3, vR r32), (4, vI 0)] [1, 2, 3, 4, 0] dX0_readCalls_26 (by decide) rfl ?_
    obtain ⟨n28, hw⟩ := hw
    exact bk_X0_readCalls_28 G C n0 s0 M0 Q X hl hT n28 _ a0 r7 0 r32 0 hw
theorem met_X0_readCalls (G : Gp) (l : Launch) (hl : l.stackTraces = false) (M : Mem) (a0 : Nat) (Q : Int32 → Mem → Prop) (hw : wp_X0_readCalls G.2 M a0 Q) : m_KW G l yX0_readCalls cX0_readCalls 5 (some .int) [(10, 148, 151, 213), (10, 148, 160, 121)] 9 203 [vR (some a0)] M (va_Qi (m_q1 M Q) (m_W G) (m_A G)) := by
  refine m_metW (by decide) (Nat.le_of_ble_eq_true rfl) (fun C e X hT => ?_)
  exact bk_X0_readCalls_0 G C _ _ M Q X (by rw [e]; exact hl) hT M a0 hw
theorem nh_X0_readCalls : m_nMH yX0_readCalls 0 := by decide +kernel

def wp_X0_undo (g : Nat → Nat) (M : Mem) (a0 : Nat) (Q : Int32 → Mem → Prop) : Prop := m_tg M a0 = 1 ∧ ∃ u2 : Nat, (m_gr M a0 2) = some u2 ∧ m_tg M u2 = 14 ∧ wp_J2_isEmpty g M u2 (fun (r7 : Int32) (M5 : Mem) => m_le M M5 → ((r7 = 0 → ∃ u11 : Nat, (m_gr M5 a0 2) = some u11 ∧ ∃ u13 : Nat, (m_gr M5 a0 2) = some u13 ∧ m_tg M5 u13 = 14 ∧ wp_J2_size g M5 u13 (fun (r18 : Int32) (M16 : Mem) => m_le M5 M16 → m_tg M16 u11 = 14 ∧ wp_J2_remove g M16 u11 (r18 - 1) (fun (r25 : Option Nat) (M23 : Mem) => m_le M16 M23 → ∃ u30 : Nat, r25 = some u30 ∧ m_tg M23 u30 = 2 ∧ ∀ M33 : Mem, M33 = (m_pr M23 a0 0 (some u30)) → ∃ u41 : Nat, (m_gr M33 a0 2) = some u41 ∧ m_tg M33 u41 = 14 ∧ wp_J2_size g M33 u41 (fun (r46 : Int32) (M44 : Mem) => m_le M33 M44 → Q r46 M44)))) ∧ (¬ r7 = 0 → Q (-5) M5)))
theorem bk_X0_undo_0 (G : Gp) (C : m_Cx) (n0 s0 : Nat) (M0 : Mem) (Q : Int32 → Mem → Prop) (X : m_in G C RX0 cX0_undo 1 (some .int) "undo" 3 76 n0 s0) (M : Mem) (a0 : Nat) (hw : wp_X0_undo G.2 M a0 Q) : pW G C 1 n0 s0 M0 (m_Q G C n0 s0 (va_Qi (m_q1 M0 Q) (m_W G) (m_A G))) M 0 [(0, vR (some a0))] [] := by
  refine pw_aload_n X dX0_undo_0 rfl rfl ?_
  obtain ⟨ht1, hw⟩ := hw
  obtain ⟨u2, he3, hw⟩ := hw
  refine pw_get X (q := (RX0, TX0, tyX0, 4)) (ci := 0) (k := 2) (ref := "PatrolDesk") (vR (some u2)) ht1 rfl (by decide) in_X0 q950 (Or.inl rfl) (by rw [he3]; rfl) dX0_undo_1 ?_
  obtain ⟨ht4, hw⟩ := hw
  refine pw_runi X (m_cF X (b := u2) (ci := 13) (q := (RJ2, TJ2, tyJ2, 3)) (met_J2_isEmpty G C.2.1 M u2 _ hw) ht4 rfl (lw_app (lw_F q1840 q1843 q1845 q82) (lw_meth q1847)) (List.mem_of_getElem? (i := 3) rfl) (by decide +kernel : m_nMH ⟨"java/util/List", "isEmpty", "()Z"⟩ 0) ⟨Nat.le_of_ble_eq_true rfl, Nat.le_of_ble_eq_true rfl⟩ rfl (Nat.le_of_ble_eq_true rfl) dX0_undo_4) (fun r7 M5 hle6 hx => ?_)
  replace hw := hx hle6
  clear hx
  have ht8 : m_tg M5 a0 = 1 := m_le_tg hle6 ht1
  have ht9 : m_tg M5 u2 = 14 := m_le_tg hle6 ht4
  refine pw_if_eq X 15 dX0_undo_9 (by decide) (fun c10 => ?_) (fun c10 => ?_)
  · replace hw := hw.1 c10
    refine pw_aload_n X dX0_undo_15 rfl rfl ?_
    refine pw_aload_n X dX0_undo_16 rfl rfl ?_
    obtain ⟨u11, he12, hw⟩ := hw
    refine pw_get X (q := (RX0, TX0, tyX0, 4)) (ci := 0) (k := 2) (ref := "PatrolDesk") (vR (some u11)) ht8 rfl (by decide) in_X0 q950 (Or.inl rfl) (by rw [he12]; rfl) dX0_undo_17 ?_
    refine pw_aload_n X dX0_undo_20 rfl rfl ?_
    obtain ⟨u13, he14, hw⟩ := hw
    refine pw_get X (q := (RX0, TX0, tyX0, 4)) (ci := 0) (k := 2) (ref := "PatrolDesk") (vR (some u13)) ht8 rfl (by decide) in_X0 q950 (Or.inl rfl) (by rw [he14]; rfl) dX0_undo_21 ?_
    obtain ⟨ht15, hw⟩ := hw
    refine pw_runi X (m_cF X (b := u13) (ci := 13) (q := (RJ2, TJ2, tyJ2, 3)) (met_J2_size G C.2.1 M5 u13 _ hw) ht15 rfl (lw_app (lw_F q991 q994 q996 q82) (lw_meth q998)) (List.mem_of_getElem? (i := 6) rfl) (by decide +kernel : m_nMH ⟨"java/util/List", "size", "()I"⟩ 0) ⟨Nat.le_of_ble_eq_true rfl, Nat.le_of_ble_eq_true rfl⟩ rfl (Nat.le_of_ble_eq_true rfl) dX0_undo_24) (fun r18 M16 hle17 hx => ?_)
    replace hw := hx hle17
    clear hx
    have ht19 : m_tg M16 a0 = 1 := m_le_tg hle17 ht8
    have ht20 : m_tg M16 u2 = 14 := m_le_tg hle17 ht9
    have ht21 : m_tg M16 u13 = 14 := m_le_tg hle17 ht15
    refine pw_iconst X 1 dX0_undo_29 (by decide) ?_
    refine pw_isub X dX0_undo_30 ?_
    obtain ⟨ht22, hw⟩ := hw
    refine pw_runq X (m_cF X (b := u11) (ci := 13) (q := (RJ2, TJ2, tyJ2, 3)) (met_J2_remove G C.2.1 M16 u11 (r18 - 1) _ hw) ht22 rfl (lw_app (lw_F q1000 q1003 q1005 q82) (lw_meth q1007)) (List.mem_of_getElem? (i := 4) rfl) (by decide +kernel : m_nMH ⟨"java/util/List", "remove", "(I)Ljava/lang/Object;"⟩ 1) ⟨Nat.le_of_ble_eq_true rfl, Nat.le_of_ble_eq_true rfl⟩ rfl (Nat.le_of_ble_eq_true rfl) dX0_undo_31) (fun r25 M23 hle24 hx => ?_)
    replace hw := hx hle24
    clear hx
    have ht26 : m_tg M23 a0 = 1 := m_le_tg hle24 ht19
    have ht27 : m_tg M23 u2 = 14 := m_le_tg hle24 ht20
    have ht28 : m_tg M23 u13 = 14 := m_le_tg hle24 ht21
    have ht29 : m_tg M23 u11 = 14 := m_le_tg hle24 ht22
    obtain ⟨u30, he31, hw⟩ := hw
    subst he31
    obtain ⟨ht32, hw⟩ := hw
    refine pw_cast X 1 (q := (RX1, TX1, tyX1, 8)) rfl (fun _ h => by cases h; exact ht32) q129 dX0_undo_36 ?_
    obtain ⟨M33, hM34⟩ : ∃ z : Mem, z = (m_pr M23 a0 0 (some u30)) := ⟨_, rfl⟩
    replace hw := hw M33 hM34
    refine pw_put X (q := (RX0, TX0, tyX0, 4)) (ci := 0) (k := 0) (ref := "PatrolDesk") M33 hM34.symm ht26 rfl (by decide) in_X0 tyX0_ok nmX0 q948 (Or.inl rfl) rfl (m_kd_r (fun _ _ => rfl)) m_no m_fo dX0_undo_39 ?_
    have hle35 : m_le M23 M33 := by rw [hM34]; exact m_le_pr
    have ht36 : m_tg M33 a0 = 1 := m_le_tg hle35 ht26
    have ht37 : m_tg M33 u2 = 14 := m_le_tg hle35 ht27
    have ht38 : m_tg M33 u13 = 14 := m_le_tg hle35 ht28
    have ht39 : m_tg M33 u11 = 14 := m_le_tg hle35 ht29
    have ht40 : m_tg M33 u30 = 2 := m_le_tg hle35 ht32
    refine pw_aload_n X dX0_undo_42 rfl rfl ?_
    obtain ⟨u41, he42, hw⟩ := hw
    refine pw_get X (q := (RX0, TX0, tyX0, 4)) (ci := 0) (k := 2) (ref := "PatrolDesk") (vR (some u41)) ht36 rfl (by decide) in_X0 q950 (Or.inl rfl) (by rw [he42]; rfl) dX0_undo_43 ?_
    obtain ⟨ht43, hw⟩ := hw
    refine pw_runi X (m_cF X (b := u41) (ci := 13) (q := (RJ2, TJ2, tyJ2, 3)) (met_J2_size G C.2.1 M33 u41 _ hw) ht43 rfl (lw_app (lw_F q991 q994 q996 q82) (lw_meth q998)) (List.mem_of_getElem? (i := 6) rfl) (by decide +kernel : m_nMH ⟨"java/util/List", "size", "()I"⟩ 0) ⟨Nat.le_of_ble_eq_true rfl, Nat.le_of_ble_eq_true rfl⟩ rfl (Nat.le_of_ble_eq_true rfl) dX0_undo_46) (fun r46 M44 hle45 hx => ?_)
    replace hw := hx hle45
    clear hx
    have ht47 : m_tg M44 a0 = 1 := m_le_tg hle45 ht36
    have ht48 : m_tg M44 u2 = 14 := m_le_tg hle45 ht37
    have ht49 : m_tg M44 u13 = 14 := m_le_tg hle45 ht38
    have ht50 : m_tg M44 u11 = 14 := m_le_tg hle45 ht39
    have ht51 : m_tg M44 u30 = 2 := m_le_tg hle45 ht40
    have ht52 : m_tg M44 u41 = 14 := m_le_tg hle45 ht43
    exact pw_iret X hw dX0_undo_51
  · replace hw := hw.2 c10
    refine pw_bipush X (-5) dX0_undo_12 (by decide) ?_
    exact pw_iret X hw dX0_undo_14
theorem met_X0_undo (G : Gp) (l : Launch) (M : Mem) (a0 : Nat) (Q : Int32 → Mem → Prop) (hw : wp_X0_undo G.2 M a0 Q) : m_K G l yX0_undo cX0_undo 1 (some .int) 3 76 [vR (some a0)] M (va_Qi (m_q1 M Q) (m_W G) (m_A G)) := by
  refine m_met (by decide) (Nat.le_of_ble_eq_true rfl) (fun C e X => ?_)
  exact bk_X0_undo_0 G C _ _ M Q X M a0 hw
theorem nh_X0_undo : m_nMH yX0_undo 0 := by decide +kernel

def wp_X0_keep (g : Nat → Nat) (M : Mem) (a0 : Nat) (Q : Int32 → Mem → Prop) : Prop := m_tg M a0 = 1 ∧ ∃ u2 : Nat, (m_gr M a0 0) = some u2 ∧ m_tg M u2 = 2 ∧ wp_X1_copy g M u2 (fun (r7 : Option Nat) (M5 : Mem) => m_le M M5 → ∀ M10 : Mem, M10 = (m_pr M5 a0 1 r7) → ∃ u15 : Nat, (m_gr M10 a0 0) = some u15 ∧ m_tg M10 u15 = 2 ∧ Q (m_gi M10 u15 7) M10)
theorem bk_X0_keep_0 (G : Gp) (C : m_Cx) (n0 s0 : Nat) (M0 : Mem) (Q : Int32 → Mem → Prop) (X : m_in G C RX0 cX0_keep 1 (some .int) "keep" 8 183 n0 s0) (M : Mem) (a0 : Nat) (hw : wp_X0_keep G.2 M a0 Q) : pW G C 1 n0 s0 M0 (m_Q G C n0 s0 (va_Qi (m_q1 M0 Q) (m_W G) (m_A G))) M 0 [(0, vR (some a0))] [] := by
  refine pw_aload_n X dX0_keep_0 rfl rfl ?_
  refine pw_aload_n X dX0_keep_1 rfl rfl ?_
  obtain ⟨ht1, hw⟩ := hw
  obtain ⟨u2, he3, hw⟩ := hw
  refine pw_get X (q := (RX0, TX0, tyX0, 4)) (ci := 0) (k := 0) (ref := "PatrolDesk") (vR (some u2)) ht1 rfl (by decide) in_X0 q948 (Or.inl rfl) (by rw [he3]; rfl) dX0_keep_2 ?_
  obtain ⟨ht4, hw⟩ := hw
  refine pw_runq X (m_cV X (b := u2) (ci := 1) (q := (RX1, TX1, tyX1, 8)) (met_X1_copy G C.2.1 M u2 _ hw) ht4 rfl (lw_V q1019 q1020 q1021 q79 q1022) ⟨rfl, nh_X1_copy⟩ ⟨Nat.le_of_ble_eq_true rfl, Nat.le_of_ble_eq_true rfl⟩ rfl (Nat.le_of_ble_eq_true rfl) dX0_keep_5) (fun r7 M5 hle6 hx => ?_)
  replace hw := hx hle6
  clear hx
  have ht8 : m_tg M5 a0 = 1 := m_le_tg hle6 ht1
  have ht9 : m_tg M5 u2 = 2 := m_le_tg hle6 ht4
  obtain ⟨M10, hM11⟩ : ∃ z : Mem, z = (m_pr M5 a0 1 r7) := ⟨_, rfl⟩
  replace hw := hw M10 hM11
  refine pw_put X (q := (RX0, TX0, tyX0, 4)) (ci := 0) (k := 1) (ref := "PatrolDesk") M10 hM11.symm ht8 rfl (by decide) in_X0 tyX0_ok nmX0 q949 (Or.inl rfl) rfl (m_kd_r (fun _ _ => rfl)) m_no m_fo dX0_keep_8 ?_
  have hle12 : m_le M5 M10 := by rw [hM11]; exact m_le_pr
  have ht13 : m_tg M10 a0 = 1 := m_le_tg hle12 ht8
  have ht14 : m_tg M10 u2 = 2 := m_le_tg hle12 ht9
  refine pw_aload_n X dX0_keep_11 rfl rfl ?_
  obtain ⟨u15, he16, hw⟩ := hw
  refine pw_get X (q := (RX0, TX0, tyX0, 4)) (ci := 0) (k := 0) (ref := "PatrolDesk") (vR (some u15)) ht13 rfl (by decide) in_X0 q948 (Or.inl rfl) (by rw [he16]; rfl) dX0_keep_12 ?_
  obtain ⟨ht17, hw⟩ := hw
  refine pw_getN X (q := (RX1, TX1, tyX1, 8)) (ci := 1) (k := 7) (ref := "PatrolDesk$State") (host := "PatrolDesk") (vI (m_gi M10 u15 7)) ht17 rfl (by decide) in_X1 q176 (Or.inl rfl) rfl dX0_keep_15 ?_
  exact pw_iret X hw dX0_keep_18
theorem met_X0_keep (G : Gp) (l : Launch) (M : Mem) (a0 : Nat) (Q : Int32 → Mem → Prop) (hw : wp_X0_keep G.2 M a0 Q) : m_K G l yX0_keep cX0_keep 1 (some .int) 8 183 [vR (some a0)] M (va_Qi (m_q1 M Q) (m_W G) (m_A G)) := by
  refine m_met (by decide) (Nat.le_of_ble_eq_true rfl) (fun C e X => ?_)
  exact bk_X0_keep_0 G C _ _ M Q X M a0 hw
theorem nh_X0_keep : m_nMH yX0_keep 0 := by decide +kernel

def wp_X0_restore (g : Nat → Nat) (M : Mem) (a0 : Nat) (Q : Int32 → Mem → Prop) : Prop := m_tg M a0 = 1 ∧ ∀ r2 : Option Nat, r2 = (m_gr M a0 1) → ((r2 = none → Q (-5) M) ∧ (∀ u4 : Nat, r2 = some u4 → wp_X0_record g M a0 (fun (M6 : Mem) => m_le M M6 → ∀ r9 : Option Nat, r9 = (m_gr M6 a0 1) → ∃ u11 : Nat, r9 = some u11 ∧ m_tg M6 u11 = 2 ∧ wp_X1_copy g M6 u11 (fun (r16 : Option Nat) (M14 : Mem) => m_le M6 M14 → ∀ M19 : Mem, M19 = (m_pr M14 a0 0 r16) → ∃ u24 : Nat, (m_gr M19 a0 0) = some u24 ∧ m_tg M19 u24 = 2 ∧ Q (m_gi M19 u24 7) M19))))
theorem bk_X0_restore_0 (G : Gp) (C : m_Cx) (n0 s0 : Nat) (M0 : Mem) (Q : Int32 → Mem → Prop) (X : m_in G C RX0 cX0_restore 1 (some .int) "restore" 9 203 n0 s0) (M : Mem) (a0 : Nat) (hw : wp_X0_restore G.2 M a0 Q) : pW G C 1 n0 s0 M0 (m_Q G C n0 s0 (va_Qi (m_q1 M0 Q) (m_W G) (m_A G))) M 0 [(0, vR (some a0))] [] := by
  refine pw_aload_n X dX0_restore_0 rfl rfl ?_
  obtain ⟨ht1, hw⟩ := hw
  obtain ⟨r2, hr3⟩ : ∃ z : Option Nat, z = (m_gr M a0 1) := ⟨_, rfl⟩
  replace hw := hw r2 hr3
  refine pw_get X (q := (RX0, TX0, tyX0, 4)) (ci := 0) (k := 1) (ref := "PatrolDesk") (vR r2) ht1 rfl (by decide) in_X0 q949 (Or.inl rfl) (by rw [hr3]; rfl) dX0_restore_1 ?_
  refine pw_ifnonnull X 10 dX0_restore_4 (by decide) (fun u4 he5 => ?_) (fun he5 => ?_)
  · replace hw := hw.2 u4 he5
    subst he5
    refine pw_aload_n X dX0_restore_10 rfl rfl ?_
    refine pw_runv X (m_cV X (b := a0) (ci := 0) (q := (RX0, TX0, tyX0, 4)) (met_X0_record G C.2.1 M a0 _ hw) ht1 rfl (lw_V q986 q988 qs8 q78 q989) ⟨rfl, nh_X0_record⟩ ⟨Nat.le_of_ble_eq_true rfl, Nat.le_of_ble_eq_true rfl⟩ rfl (Nat.le_of_ble_eq_true rfl) dX0_restore_11) (fun M6 hle7 hx => ?_)
    replace hw := hx hle7
    clear hx
    have ht8 : m_tg M6 a0 = 1 := m_le_tg hle7 ht1
    refine pw_aload_n X dX0_restore_14 rfl rfl ?_
    refine pw_aload_n X dX0_restore_15 rfl rfl ?_
    obtain ⟨r9, hr10⟩ : ∃ z : Option Nat, z = (m_gr M6 a0 1) := ⟨_, rfl⟩
    replace hw := hw r9 hr10
    refine pw_get X (q := (RX0, TX0, tyX0, 4)) (ci := 0) (k := 1) (ref := "PatrolDesk") (vR r9) ht8 rfl (by decide) in_X0 q949 (Or.inl rfl) (by rw [hr10]; rfl) dX0_restore_16 ?_
    obtain ⟨u11, he12, hw⟩ := hw
    subst he12
    obtain ⟨ht13, hw⟩ := hw
    refine pw_runq X (m_cV X (b := u11) (ci := 1) (q := (RX1, TX1, tyX1, 8)) (met_X1_copy G C.2.1 M6 u11 _ hw) ht13 rfl (lw_V q1019 q1020 q1021 q79 q1022) ⟨rfl, nh_X1_copy⟩ ⟨Nat.le_of_ble_eq_true rfl, Nat.le_of_ble_eq_true rfl⟩ rfl (Nat.le_of_ble_eq_true rfl) dX0_restore_19) (fun r16 M14 hle15 hx => ?_)
    replace hw := hx hle15
    clear hx
    have ht17 : m_tg M14 a0 = 1 := m_le_tg hle15 ht8
    have ht18 : m_tg M14 u11 = 2 := m_le_tg hle15 ht13
    obtain ⟨M19, hM20⟩ : ∃ z : Mem, z = (m_pr M14 a0 0 r16) := ⟨_, rfl⟩
    replace hw := hw M19 hM20
    refine pw_put X (q := (RX0, TX0, tyX0, 4)) (ci := 0) (k := 0) (ref := "PatrolDesk") M19 hM20.symm ht17 rfl (by decide) in_X0 tyX0_ok nmX0 q948 (Or.inl rfl) rfl (m_kd_r (fun _ _ => rfl)) m_no m_fo dX0_restore_22 ?_
    have hle21 : m_le M14 M19 := by rw [hM20]; exact m_le_pr
    have ht22 : m_tg M19 a0 = 1 := m_le_tg hle21 ht17
    have ht23 : m_tg M19 u11 = 2 := m_le_tg hle21 ht18
    refine pw_aload_n X dX0_restore_25 rfl rfl ?_
    obtain ⟨u24, he25, hw⟩ := hw
    refine pw_get X (q := (RX0, TX0, tyX0, 4)) (ci := 0) (k := 0) (ref := "PatrolDesk") (vR (some u24)) ht22 rfl (by decide) in_X0 q948 (Or.inl rfl) (by rw [he25]; rfl) dX0_restore_26 ?_
    obtain ⟨ht26, hw⟩ := hw
    refine pw_getN X (q := (RX1, TX1, tyX1, 8)) (ci := 1) (k := 7) (ref := "PatrolDesk$State") (host := "PatrolDesk") (vI (m_gi M19 u24 7)) ht26 rfl (by decide) in_X1 q176 (Or.inl rfl) rfl dX0_restore_29 ?_
    exact pw_iret X hw dX0_restore_32
  · replace hw := hw.1 he5
    subst he5
    refine pw_bipush X (-5) dX0_restore_7 (by decide) ?_
    exact pw_iret X hw dX0_restore_9
theorem met_X0_restore (G : Gp) (l : Launch) (M : Mem) (a0 : Nat) (Q : Int32 → Mem → Prop) (hw : wp_X0_restore G.2 M a0 Q) : m_K G l yX0_restore cX0_restore 1 (some .int) 9 203 [vR (some a0)] M (va_Qi (m_q1 M Q) (m_W G) (m_A G)) := by
  refine m_met (by decide) (Nat.le_of_ble_eq_true rfl) (fun C e X => ?_)
  exact bk_X0_restore_0 G C _ _ M Q X M a0 hw
theorem nh_X0_restore : m_nMH yX0_restore 0 := by decide +kernel

def wp_X0_distance (g : Nat → Nat) (M : Mem) (a0 : Nat) (x1 : Int32) (x2 : Int32) (Q : Int32 → Mem → Prop) : Prop := wp_X0_isArea g M x1 (fun (r3 : Int32) (M1 : Mem) => m_le M M1 → ((r3 = 0 → Q (-1) M1) ∧ (¬ r3 = 0 → wp_X0_isArea g M1 x2 (fun (r7 : Int32) (M5 : Mem) => m_le M1 M5 → ((r7 = 0 → Q (-1) M5) ∧ (¬ r7 = 0 → m_tg M5 a0 = 1 ∧ ∃ u10 : Nat, (m_gr M5 a0 0) = some u10 ∧ m_tg M5 u10 = 2 ∧ wp_X1_far g M5 u10 x1 x2 (fun (r15 : Int32) (M13 : Mem) => m_le M5 M13 → Q r15 M13)))))))
theorem bk_X0_distance_0 (G : Gp) (C : m_Cx) (n0 s0 : Nat) (M0 : Mem) (Q : Int32 → Mem → Prop) (X : m_in G C RX0 cX0_distance 3 (some .int) "distance" 2 42 n0 s0) (M : Mem) (a0 : Nat) (x1 : Int32) (x2 : Int32) (hw : wp_X0_distance G.2 M a0 x1 x2 Q) : pW G C 3 n0 s0 M0 (m_Q G C n0 s0 (va_Qi (m_q1 M0 Q) (m_W G) (m_A G))) M 0 [(0, vR (some a0)), (1, vI x1), (2, vI x2)] [] := by
  refine pw_iload_n X dX0_distance_0 rfl rfl ?_
  refine pw_runi X (m_cS X (met_X0_isArea G C.2.1 M x1 _ hw) (lw_S q965 q966 q78 q967) nh_X0_isArea ⟨Nat.le_of_ble_eq_true rfl, Nat.le_of_ble_eq_true rfl⟩ rfl (Nat.le_of_ble_eq_true rfl) dX0_distance_1) (fun r3 M1 hle2 hx => ?_)
  replace hw := hx hle2
  clear hx
  refine pw_if_eq X 26 dX0_distance_4 (by decide) (fun c4 => ?_) (fun c4 => ?_)
  · replace hw := hw.1 c4
    refine pw_iconst X (-1) dX0_distance_26 (by decide) ?_
    exact pw_iret X hw dX0_distance_27
  · replace hw := hw.2 c4
    refine pw_iload_n X dX0_distance_7 rfl rfl ?_
    refine pw_runi X (m_cS X (met_X0_isArea G C.2.1 M1 x2 _ hw) (lw_S q965 q966 q78 q967) nh_X0_isArea ⟨Nat.le_of_ble_eq_true rfl, Nat.le_of_ble_eq_true rfl⟩ rfl (Nat.le_of_ble_eq_true rfl) dX0_distance_8) (fun r7 M5 hle6 hx => ?_)
    replace hw := hx hle6
    clear hx
    refine pw_if_eq X 26 dX0_distance_11 (by decide) (fun c8 => ?_) (fun c8 => ?_)
    · replace hw := hw.1 c8
      refine pw_iconst X (-1) dX0_distance_26 (by decide) ?_
      exact pw_iret X hw dX0_distance_27
    · replace hw := hw.2 c8
      refine pw_aload_n X dX0_distance_14 rfl rfl ?_
      obtain ⟨ht9, hw⟩ := hw
      obtain ⟨u10, he11, hw⟩ := hw
      refine pw_get X (q := (RX0, TX0, tyX0, 4)) (ci := 0) (k := 0) (ref := "PatrolDesk") (vR (some u10)) ht9 rfl (by decide) in_X0 q948 (Or.inl rfl) (by rw [he11]; rfl) dX0_distance_15 ?_
      refine pw_iload_n X dX0_distance_18 rfl rfl ?_
      refine pw_iload_n X dX0_distance_19 rfl rfl ?_
      obtain ⟨ht12, hw⟩ := hw
      refine pw_runi X (m_cV X (b := u10) (ci := 1) (q := (RX1, TX1, tyX1, 8)) (met_X1_far G C.2.1 M5 u10 x1 x2 _ hw) ht12 rfl (lw_V q1435 q1436 q1437 q79 q1438) ⟨rfl, nh_X1_far⟩ ⟨Nat.le_of_ble_eq_true rfl, Nat.le_of_ble_eq_true rfl⟩ rfl (Nat.le_of_ble_eq_true rfl) dX0_distance_20) (fun r15 M13 hle14 hx => ?_)
      replace hw := hx hle14
      clear hx
      have ht16 : m_tg M13 a0 = 1 := m_le_tg hle14 ht9
      have ht17 : m_tg M13 u10 = 2 := m_le_tg hle14 ht12
      refine pw_goto X 27 dX0_distance_23 (by decide) ?_
      exact pw_iret X hw dX0_distance_27
theorem met_X0_distance (G : Gp) (l : Launch) (M : Mem) (a0 : Nat) (x1 : Int32) (x2 : Int32) (Q : Int32 → Mem → Prop) (hw : wp_X0_distance G.2 M a0 x1 x2 Q) : m_K G l yX0_distance cX0_distance 3 (some .int) 2 42 [vR (some a0), vI x1, vI x2] M (va_Qi (m_q1 M Q) (m_W G) (m_A G)) := by
  refine m_met (by decide) (Nat.le_of_ble_eq_true rfl) (fun C e X => ?_)
  exact bk_X0_distance_0 G C _ _ M Q X M a0 x1 x2 hw
theorem nh_X0_distance : m_nMH yX0_distance 2 := by decide +kernel

def wp_X0_wayAt (g : Nat → Nat) (M : Mem) (a0 : Nat) (x1 : Int32) (x2 : Int32) (x3 : Int32) (Q : Int32 → Mem → Prop) : Prop := wp_X0_isArea g M x1 (fun (r3 : Int32) (M1 : Mem) => m_le M M1 → ((r3 = 0 → Q (-1) M1) ∧ (¬ r3 = 0 → wp_X0_isArea g M1 x2 (fun (r7 : Int32) (M5 : Mem) => m_le M1 M5 → ((¬ r7 = 0 → ((0 ≤ x3 → m_tg M5 a0 = 1 ∧ ∃ u11 : Nat, (m_gr M5 a0 0) = some u11 ∧ m_tg M5 u11 = 2 ∧ ∃ u14 : Nat, (m_gr M5 u11 5) = some u14 ∧ m_tg M5 u14 = 3 ∧ wp_X2_way g M5 u14 x1 x2 (fun (r19 : Option Nat) (M17 : Mem) => m_le M5 M17 → ∃ u23 : Nat, r19 = some u23 ∧ m_tg M17 u23 = 14 ∧ wp_J2_size g M17 u23 (fun (r28 : Int32) (M26 : Mem) => m_le M17 M26 → ((r28 ≤ x3 → Q (-5) M26) ∧ (¬ r28 ≤ x3 → wp_J2_get g M26 u23 x3 (fun (r36 : Option Nat) (M34 : Mem) => m_le M26 M34 → ∃ u41 : Nat, r36 = some u41 ∧ m_tg M34 u41 = 150 ∧ wp_J12_intValue g M34 u41 (fun (r46 : Int32) (M44 : Mem) => m_le M34 M44 → Q r46 M44))))))) ∧ (¬ 0 ≤ x3 → Q (-2) M5))) ∧ (r7 = 0 → Q (-1) M5))))))
theorem bk_X0_wayAt_0 (G : Gp) (C : m_Cx) (n0 s0 : Nat) (M0 : Mem) (Q : Int32 → Mem → Prop) (X : m_in G C RX0 cX0_wayAt 5 (some .int) "wayAt" 9 208 n0 s0) (M : Mem) (a0 : Nat) (x1 : Int32) (x2 : Int32) (x3 : Int32) (hw : wp_X0_wayAt G.2 M a0 x1 x2 x3 Q) : pW G C 5 n0 s0 M0 (m_Q G C n0 s0 (va_Qi (m_q1 M0 Q) (m_W G) (m_A G))) M 0 [(0, vR (some a0)), (1, vI x1), (2, vI x2), (3, vI x3)] [] := by
  refine pw_iload_n X dX0_wayAt_0 rfl rfl ?_
  refine pw_runi X (m_cS X (met_X0_isArea G C.2.1 M x1 _ hw) (lw_S q965 q966 q78 q967) nh_X0_isArea ⟨Nat.le_of_ble_eq_true rfl, Nat.le_of_ble_eq_true rfl⟩ rfl (Nat.le_of_ble_eq_true rfl) dX0_wayAt_1) (fun r3 M1 hle2 hx => ?_)
  replace hw := hx hle2
  clear hx
  refine pw_if_eq X 14 dX0_wayAt_4 (by decide) (fun c4 => ?_) (fun c4 => ?_)
  · replace hw := hw.1 c4
    refine pw_iconst X (-1) dX0_wayAt_14 (by decide) ?_
    exact pw_iret X hw dX0_wayAt_15
  · replace hw := hw.2 c4
    refine pw_iload_n X dX0_wayAt_7 rfl rfl ?_
    refine pw_runi X (m_cS X (met_X0_isArea G C.2.1 M1 x2 _ hw) (lw_S q965 q966 q78 q967) nh_X0_isArea ⟨Nat.le_of_ble_eq_true rfl, Nat.le_of_ble_eq_true rfl⟩ rfl (Nat.le_of_ble_eq_true rfl) dX0_wayAt_8) (fun r7 M5 hle6 hx => ?_)
    replace hw := hx hle6
    clear hx
    refine pw_if_ne X 16 dX0_wayAt_11 (by decide) (fun c8 => ?_) (fun c8 => ?_)
    · replace hw := hw.1 c8
      refine pw_iload_n X dX0_wayAt_16 rfl rfl ?_
      refine pw_if_ge X 23 dX0_wayAt_17 (by decide) (fun c9 => ?_) (fun c9 => ?_)
      · replace hw := hw.1 c9
        refine pw_aload_n X dX0_wayAt_23 rfl rfl ?_
        obtain ⟨ht10, hw⟩ := hw
        obtain ⟨u11, he12, hw⟩ := hw
        refine pw_get X (q := (RX0, TX0, tyX0, 4)) (ci := 0) (k := 0) (ref := "PatrolDesk") (vR (some u11)) ht10 rfl (by decide) in_X0 q948 (Or.inl rfl) (by rw [he12]; rfl) dX0_wayAt_24 ?_
        obtain ⟨ht13, hw⟩ := hw
        obtain ⟨u14, he15, hw⟩ := hw
        refine pw_getN X (q := (RX1, TX1, tyX1, 8)) (ci := 1) (k := 5) (ref := "PatrolDesk$State") (host := "PatrolDesk") (vR (some u14)) ht13 rfl (by decide) in_X1 q172 (Or.inl rfl) (by rw [he15]; rfl) dX0_wayAt_27 ?_
        refine pw_iload_n X dX0_wayAt_30 rfl rfl ?_
        refine pw_iload_n X dX0_wayAt_31 rfl rfl ?_
        obtain ⟨ht16, hw⟩ := hw
        refine pw_runq X (m_cV X (b := u14) (ci := 2) (q := (RX2, TX2, tyX2, 4)) (met_X2_way G C.2.1 M5 u14 x1 x2 _ hw) ht16 rfl (lw_V q1864 q1483 q1484 q87 q1485) ⟨rfl, nh_X2_way⟩ ⟨Nat.le_of_ble_eq_true rfl, Nat.le_of_ble_eq_true rfl⟩ rfl (Nat.le_of_ble_eq_true rfl) dX0_wayAt_32) (fun r19 M17 hle18 hx => ?_)
        replace hw := hx hle18
        clear hx
        have ht20 : m_tg M17 a0 = 1 := m_le_tg hle18 ht10
        have ht21 : m_tg M17 u11 = 2 := m_le_tg hle18 ht13
        have ht22 : m_tg M17 u14 = 3 := m_le_tg hle18 ht16
        refine pw_astore X [(3, vI x3), (4, vR r19)] [4, 0] dX0_wayAt_35 (by decide) rfl ?_
        refine pw_iload_n X dX0_wayAt_37 rfl rfl ?_
        refine pw_aload X dX0_wayAt_38 rfl ?_
        obtain ⟨u23, he24, hw⟩ := hw
        subst he24
        obtain ⟨ht25, hw⟩ := hw
        refine pw_runi X (m_cF X (b := u23) (ci := 13) (q := (RJ2, TJ2, tyJ2, 3)) (met_J2_size G C.2.1 M17 u23 _ hw) ht25 rfl (lw_app (lw_F q991 q994 q996 q82) (lw_meth q998)) (List.mem_of_getElem? (i := 6) rfl) (by decide +kernel : m_nMH ⟨"java/util/List", "size", "()I"⟩ 0) ⟨Nat.le_of_ble_eq_true rfl, Nat.le_of_ble_eq_true rfl⟩ rfl (Nat.le_of_ble_eq_true rfl) dX0_wayAt_40) (fun r28 M26 hle27 hx => ?_)
        replace hw := hx hle27
        clear hx
        have ht29 : m_tg M26 a0 = 1 := m_le_tg hle27 ht20
        have ht30 : m_tg M26 u11 = 2 := m_le_tg hle27 ht21
        have ht31 : m_tg M26 u14 = 3 := m_le_tg hle27 ht22
        have ht32 : m_tg M26 u23 = 14 := m_le_tg hle27 ht25
        refine pw_icmp_ge X 65 dX0_wayAt_45 (by decide) (fun c33 => ?_) (fun c33 => ?_)
        · replace hw := hw.1 c33
          refine pw_bipush X (-5) dX0_wayAt_65 (by decide) ?_
          exact pw_iret X hw dX0_wayAt_67
        · replace hw := hw.2 c33
          refine pw_aload X dX0_wayAt_48 rfl ?_
          refine pw_iload_n X dX0_wayAt_50 rfl rfl ?_
          refine pw_runq X (m_cF X (b := u23) (ci := 13) (q := (RJ2, TJ2, tyJ2, 3)) (met_J2_get G C.2.1 M26 u23 x3 _ hw) ht32 rfl (lw_app (lw_F q1400 q1031 q1033 q82) (lw_meth q1035)) (List.mem_of_getElem? (i := 2) rfl) (by decide +kernel : m_nMH ⟨"java/util/List", "get", "(I)Ljava/lang/Object;"⟩ 1) ⟨Nat.le_of_ble_eq_true rfl, Nat.le_of_ble_eq_true rfl⟩ rfl (Nat.le_of_ble_eq_true rfl) dX0_wayAt_51) (fun r36 M34 hle35 hx => ?_)
          replace hw := hx hle35
          clear hx
          have ht37 : m_tg M34 a0 = 1 := m_le_tg hle35 ht29
          have ht38 : m_tg M34 u11 = 2 := m_le_tg hle35 ht30
          have ht39 : m_tg M34 u14 = 3 := m_le_tg hle35 ht31
          have ht40 : m_tg M34 u23 = 14 := m_le_tg hle35 ht32
          obtain ⟨u41, he42, hw⟩ := hw
          subst he42
          obtain ⟨ht43, hw⟩ := hw
          refine pw_castI X (fun _ h => by cases h; exact ht43) q1833 q866 dX0_wayAt_56 ?_
          refine pw_runi X (m_cVI X (b := u41) (met_J12_intValue G C.2.1 M34 u41 _ hw) ht43 (lw_V q1834 q388 q389 q94 q390) ⟨rfl, nh_J12_intValue⟩ ⟨Nat.le_of_ble_eq_true rfl, Nat.le_of_ble_eq_true rfl⟩ rfl (Nat.le_of_ble_eq_true rfl) dX0_wayAt_59) (fun r46 M44 hle45 hx => ?_)
          replace hw := hx hle45
          clear hx
          have ht47 : m_tg M44 a0 = 1 := m_le_tg hle45 ht37
          have ht48 : m_tg M44 u11 = 2 := m_le_tg hle45 ht38
          have ht49 : m_tg M44 u14 = 3 := m_le_tg hle45 ht39
          have ht50 : m_tg M44 u23 = 14 := m_le_tg hle45 ht40
          have ht51 : m_tg M44 u41 = 150 := m_le_tg hle45 ht43
          refine pw_goto X 67 dX0_wayAt_62 (by decide) ?_
          exact pw_iret X hw dX0_wayAt_67
      · replace hw := hw.2 c9
        refine pw_bipush X (-2) dX0_wayAt_20 (by decide) ?_
        exact pw_iret X hw dX0_wayAt_22
    · replace hw := hw.2 c8
      refine pw_iconst X (-1) dX0_wayAt_14 (by decide) ?_
      exact pw_iret X hw dX0_wayAt_15
theorem met_X0_wayAt (G : Gp) (l : Launch) (M : Mem) (a0 : Nat) (x1 : Int32) (x2 : Int32) (x3 : Int32) (Q : Int32 → Mem → Prop) (hw : wp_X0_wayAt G.2 M a0 x1 x2 x3 Q) : m_K G l yX0_wayAt cX0_wayAt 5 (some .int) 9 208 [vR (some a0), vI x1, vI x2, vI x3] M (va_Qi (m_q1 M Q) (m_W G) (m_A G)) := by
  refine m_met (by decide) (Nat.le_of_ble_eq_true rfl) (fun C e X => ?_)
  exact bk_X0_wayAt_0 G C _ _ M Q X M a0 x1 x2 x3 hw
theorem nh_X0_wayAt : m_nMH yX0_wayAt 3 := by decide +kernel

def wp_X0_member (g : Nat → Nat) (M : Mem) (a0 : Nat) (x1 : Int32) (x2 : Int32) (Q : Int32 → Mem → Prop) : Prop := m_tg M a0 = 1 ∧ wp_X0_isMember g M a0 x1 (fun (r4 : Int32) (M2 : Mem) => m_le M M2 → ((¬ r4 = 0 → ∃ u7 : Nat, (m_gr M2 a0 0) = some u7 ∧ m_tg M2 u7 = 2 ∧ ∃ u10 : Nat, (m_gr M2 u7 0) = some u10 ∧ m_tg M2 u10 = 14 ∧ wp_J2_get g M2 u10 x1 (fun (r15 : Option Nat) (M13 : Mem) => m_le M2 M13 → ∃ u19 : Nat, r15 = some u19 ∧ m_tg M13 u19 = 6 ∧ ∃ u22 : Nat, (m_gr M13 a0 0) = some u22 ∧ m_tg M13 u22 = 2 ∧ wp_X1_openCall g M13 u22 x1 (fun (r27 : Option Nat) (M25 : Mem) => m_le M13 M25 → ((x2 = 0 → Q (m_gi M25 u19 0) M25) ∧ (¬ x2 = 0 → ((x2 = 1 → ∃ u35 : Nat, (m_gr M25 a0 0) = some u35 ∧ m_fits M25 1 ∧ ∀ u38 : Nat, m_tg M25 u38 = 0 → ∀ M40 : Mem, M40 = (m_lmI M25 2 u38 x1) → m_tg M40 u35 = 2 ∧ wp_X1_sum g M40 u35 u38 (fun (r52 : Int32) (M50 : Mem) => m_le M40 M50 → Q r52 M50)) ∧ (¬ x2 = 1 → ((x2 = 2 → ((r27 = none → Q (-5) M25) ∧ (∀ u61 : Nat, r27 = some u61 → m_tg M25 u61 = 9 ∧ Q (m_gi M25 u61 0) M25))) ∧ (¬ x2 = 2 → ((x2 = 3 → ∃ u65 : Nat, (m_gr M25 a0 0) = some u65 ∧ m_fits M25 2 ∧ ∀ u68 : Nat, m_tg M25 u68 = 0 → ∀ M70 : Mem, M70 = (m_lmRI M25 3 u68 a0 x1) → m_tg M70 u65 = 2 ∧ wp_X1_sum g M70 u65 u68 (fun (r82 : Int32) (M80 : Mem) => m_le M70 M80 → Q r82 M80)) ∧ (¬ x2 = 3 → ((x2 = 4 → Q (((m_gi M25 u19 1) - (m_gi M25 u19 2)) + 1000) M25) ∧ (¬ x2 = 4 → ((x2 = 5 → ∃ u92 : Nat, (m_gr M25 a0 0) = some u92 ∧ m_fits M25 1 ∧ ∀ u95 : Nat, m_tg M25 u95 = 0 → ∀ M97 : Mem, M97 = (m_lmI M25 4 u95 x1) → m_tg M97 u92 = 2 ∧ wp_X1_sum g M97 u92 u95 (fun (r109 : Int32) (M107 : Mem) => m_le M97 M107 → Q r109 M107)) ∧ (¬ x2 = 5 → ((x2 = 6 → ∃ u118 : Nat, (m_gr M25 a0 0) = some u118 ∧ m_fits M25 1 ∧ ∀ u121 : Nat, m_tg M25 u121 = 0 → ∀ M123 : Mem, M123 = (m_lmI M25 5 u121 x1) → m_tg M123 u118 = 2 ∧ wp_X1_sum g M123 u118 u121 (fun (r135 : Int32) (M133 : Mem) => m_le M123 M133 → Q r135 M133)) ∧ (¬ x2 = 6 → Q (-2) M25))))))))))))))))) ∧ (r4 = 0 → Q (-1) M2)))
theorem bk_X0_member_0 (G : Gp) (C : m_Cx) (n0 s0 : Nat) (M0 : Mem) (Q : Int32 → Mem → Prop) (X : m_in G C RX0 cX0_member 5 (some .int) "member" 6 3075 n0 s0) (hN : (m_s C).methodNamed? yX0_member = some (m_mi C)) (M : Mem) (a0 : Nat) (x1 : Int32) (x2 : Int32) (hw : wp_X0_member G.2 M a0 x1 x2 Q) : pW G C 5 n0 s0 M0 (m_Q G C n0 s0 (va_Qi (m_q1 M0 Q) (m_W G) (m_A G))) M 0 [(0, vR (some a0)), (1, vI x1), (2, vI x2)] [] := by
  refine pw_aload_n X dX0_member_0 rfl rfl ?_
  refine pw_iload_n X dX0_member_1 rfl rfl ?_
  obtain ⟨ht1, hw⟩ := hw
  refine pw_runi X (m_cV X (b := a0) (ci := 0) (q := (RX0, TX0, tyX0, 4)) (met_X0_isMember G C.2.1 M a0 x1 _ hw) ht1 rfl (lw_V q1869 q1871 qs33 q78 q1872) ⟨rfl, nh_X0_isMember⟩ ⟨Nat.le_of_ble_eq_true rfl, Nat.le_of_ble_eq_true rfl⟩ rfl (Nat.le_of_ble_eq_true rfl) dX0_member_2) (fun r4 M2 hle3 hx => ?_)
  replace hw := hx hle3
  clear hx
  have ht5 : m_tg M2 a0 = 1 := m_le_tg hle3 ht1
  refine pw_if_ne X 10 dX0_member_5 (by decide) (fun c6 => ?_) (fun c6 => ?_)
  · replace hw := hw.1 c6
    refine pw_aload_n X dX0_member_10 rfl rfl ?_
    obtain ⟨u7, he8, hw⟩ := hw
    refine pw_get X (q := (RX0, TX0, tyX0, 4)) (ci := 0) (k := 0) (ref := "PatrolDesk") (vR (some u7)) ht5 rfl (by decide) in_X0 q948 (Or.inl rfl) (by rw [he8]; rfl) dX0_member_11 ?_
    obtain ⟨ht9, hw⟩ := hw
    obtain ⟨u10, he11, hw⟩ := hw
    refine pw_getN X (q := (RX1, TX1, tyX1, 8)) (ci := 1) (k := 0) (ref := "PatrolDesk$State") (host := "PatrolDesk") (vR (some u10)) ht9 rfl (by decide) in_X1 q162 (Or.inl rfl) (by rw [he11]; rfl) dX0_member_14 ?_
    refine pw_iload_n X dX0_member_17 rfl rfl ?_
    obtain ⟨ht12, hw⟩ := hw
    refine pw_runq X (m_cF X (b := u10) (ci := 13) (q := (RJ2, TJ2, tyJ2, 3)) (met_J2_get G C.2.1 M2 u10 x1 _ hw) ht12 rfl (lw_app (lw_F q1400 q1031 q1033 q82) (lw_meth q1035)) (List.mem_of_getElem? (i := 2) rfl) (by decide +kernel : m_nMH ⟨"java/util/List", "get", "(I)Ljava/lang/Object;"⟩ 1) ⟨Nat.le_of_ble_eq_true rfl, Nat.le_of_ble_eq_true rfl⟩ rfl (Nat.le_of_ble_eq_true rfl) dX0_member_18) (fun r15 M13 hle14 hx => ?_)
    replace hw := hx hle14
    clear hx
    have ht16 : m_tg M13 a0 = 1 := m_le_tg hle14 ht5
    have ht17 : m_tg M13 u7 = 2 := m_le_tg hle14 ht9
    have ht18 : m_tg M13 u10 = 14 := m_le_tg hle14 ht12
    obtain ⟨u19, he20, hw⟩ := hw
    subst he20
    obtain ⟨ht21, hw⟩ := hw
    refine pw_cast X 5 (q := (RX5, TX5, tyX5, 5)) rfl (fun _ h => by cases h; exact ht21) q1280 dX0_member_23 ?_
    refine pw_astore_n X [(0, vR (some a0)), (1, vI x1), (2, vI x2), (3, vR (some u19))] [1, 2, 3, 0] dX0_member_26 rfl (by decide) rfl ?_
    refine pw_aload_n X dX0_member_27 rfl rfl ?_
    obtain ⟨u22, he23, hw⟩ := hw
    refine pw_get X (q := (RX0, TX0, tyX0, 4)) (ci := 0) (k := 0) (ref := "PatrolDesk") (vR (some u22)) ht16 rfl (by decide) in_X0 q948 (Or.inl rfl) (by rw [he23]; rfl) dX0_member_28 ?_
    refine pw_iload_n X dX0_member_31 rfl rfl ?_
    obtain ⟨ht24, hw⟩ := hw
    refine pw_runq X (m_cV X (b := u22) (ci := 1) (q := (RX1, TX1, tyX1, 8)) (met_X1_openCall G C.2.1 M13 u22 x1 _ hw) ht24 rfl (lw_V q1873 q1375 q1376 q79 q1377) ⟨rfl, nh_X1_openCall⟩ ⟨Nat.le_of_ble_eq_true rfl, Nat.le_of_ble_eq_true rfl⟩ rfl (Nat.le_of_ble_eq_true rfl) dX0_member_32) (fun r27 M25 hle26 hx => ?_)
    replace hw := hx hle26
    clear hx
    have ht28 : m_tg M25 a0 = 1 := m_le_tg hle26 ht16
    have ht29 : m_tg M25 u7 = 2 := m_le_tg hle26 ht17
    have ht30 : m_tg M25 u10 = 14 := m_le_tg hle26 ht18
    have ht31 : m_tg M25 u19 = 6 := m_le_tg hle26 ht21
    have ht32 : m_tg M25 u22 = 2 := m_le_tg hle26 ht24
    refine pw_astore X [(0, vR (some a0)), (1, vI x1), (2, vI x2), (3, vR (some u19)), (4, vR r27)] [1, 2, 3, 4, 0] dX0_member_35 (by decide) rfl ?_
    refine pw_iload_n X dX0_member_37 rfl rfl ?_
    by_cases c33 : x2 = 0
    · replace hw := hw.1 c33
      refine pw_tableIn X 0 80 dX0_member_38 c33 (by decide) (by decide) rfl (by decide) ?_
      refine pw_aload_n X dX0_member_80 rfl rfl ?_
      refine pw_getN X (q := (RX5, TX5, tyX5, 5)) (ci := 5) (k := 0) (ref := "PatrolDesk$Member") (host := "PatrolDesk") (vI (m_gi M25 u19 0)) ht31 rfl (by decide) in_X5 q1053 (Or.inl rfl) rfl dX0_member_81 ?_
      exact pw_iret X hw dX0_member_84
    replace hw := hw.2 c33
    by_cases c34 : x2 = 1
    · replace hw := hw.1 c34
      refine pw_tableIn X 1 85 dX0_member_38 c34 (by decide) (by decide) rfl (by decide) ?_
      refine pw_aload_n X dX0_member_85 rfl rfl ?_
      obtain ⟨u35, he36, hw⟩ := hw
      refine pw_get X (q := (RX0, TX0, tyX0, 4)) (ci := 0) (k := 0) (ref := "PatrolDesk") (vR (some u35)) ht28 rfl (by decide) in_X0 q948 (Or.inl rfl) (by rw [he36]; rfl) dX0_member_86 ?_
      refine pw_iload_n X dX0_member_89 rfl rfl ?_
      obtain ⟨hf37, hw⟩ := hw
      refine pw_lamI X hN lsh2 (by decide) lsK2 rfl lsT2 (Nat.le_of_ble_eq_true rfl) dX0_member_90 hf37 (fun u38 h039 => ?_)
      obtain ⟨M40, hM41⟩ : ∃ z : Mem, z = (m_lmI M25 2 u38 x1) := ⟨_, rfl⟩
      replace hw := hw u38 h039 M40 hM41
      have hle42 : m_le M25 M40 := by rw [hM41]; exact m_le_lmI h039
      rw [← hM41]
      have ht43 : m_tg M40 a0 = 1 := m_le_tg hle42 ht28
      have ht44 : m_tg M40 u7 = 2 := m_le_tg hle42 ht29
      have ht45 : m_tg M40 u10 = 14 := m_le_tg hle42 ht30
      have ht46 : m_tg M40 u19 = 6 := m_le_tg hle42 ht31
      have ht47 : m_tg M40 u22 = 2 := m_le_tg hle42 ht32
      have ht48 : m_tg M40 u38 = 203 := by rw [hM41, m_tg_lmI, if_pos rfl]
      obtain ⟨ht49, hw⟩ := hw
      refine pw_runi X (m_cV X (b := u35) (ci := 1) (q := (RX1, TX1, tyX1, 8)) (met_X1_sum G C.2.1 M40 u35 u38 _ hw) ht49 rfl (lw_V q1876 q1877 q1878 q79 q1879) ⟨rfl, nh_X1_sum⟩ ⟨Nat.le_of_ble_eq_true rfl, Nat.le_of_ble_eq_true rfl⟩ rfl (Nat.le_of_ble_eq_true rfl) dX0_member_95) (fun r52 M50 hle51 hx => ?_)
      replace hw := hx hle51
      clear hx
      have ht53 : m_tg M50 a0 = 1 := m_le_tg hle51 ht43
      have ht54 : m_tg M50 u7 = 2 := m_le_tg hle51 ht44
      have ht55 : m_tg M50 u10 = 14 := m_le_tg hle51 ht45
      have ht56 : m_tg M50 u19 = 6 := m_le_tg hle51 ht46
      have ht57 : m_tg M50 u22 = 2 := m_le_tg hle51 ht47
      have ht58 : m_tg M50 u38 = 203 := m_le_tg hle51 ht48
      have ht59 : m_tg M50 u35 = 2 := m_le_tg hle51 ht49
      exact pw_iret X hw dX0_member_98
    replace hw := hw.2 c34
    by_cases c60 : x2 = 2
    · replace hw := hw.1 c60
      refine pw_tableIn X 2 99 dX0_member_38 c60 (by decide) (by decide) rfl (by decide) ?_
      refine pw_aload X dX0_member_99 rfl ?_
      refine pw_ifnonnull X 109 dX0_member_101 (by decide) (fun u61 he62 => ?_) (fun he62 => ?_)
      · replace hw := hw.2 u61 he62
        subst he62
        refine pw_aload X dX0_member_109 rfl ?_
        obtain ⟨ht63, hw⟩ := hw
        refine pw_getN X (q := (RX8, TX8, tyX8, 13)) (ci := 8) (k := 0) (ref := "PatrolDesk$Call") (host := "PatrolDesk") (vI (m_gi M25 u61 0)) ht63 rfl (by decide) in_X8 q1209 (Or.inl rfl) rfl dX0_member_111 ?_
        exact pw_iret X hw dX0_member_114
      · replace hw := hw.1 he62
        subst he62
        refine pw_bipush X (-5) dX0_member_104 (by decide) ?_
        refine pw_goto X 114 dX0_member_106 (by decide) ?_
        exact pw_iret X hw dX0_member_114
    replace hw := hw.2 c60
    by_cases c64 : x2 = 3
    · replace hw := hw.1 c64
      refine pw_tableIn X 3 115 dX0_member_38 c64 (by decide) (by decide) rfl (by decide) ?_
      refine pw_aload_n X dX0_member_115 rfl rfl ?_
      obtain ⟨u65, he66, hw⟩ := hw
      refine pw_get X (q := (RX0, TX0, tyX0, 4)) (ci := 0) (k := 0) (ref := "PatrolDesk") (vR (some u65)) ht28 rfl (by decide) in_X0 q948 (Or.inl rfl) (by rw [he66]; rfl) dX0_member_116 ?_
      refine pw_aload_n X dX0_member_119 rfl rfl ?_
      refine pw_iload_n X dX0_member_120 rfl rfl ?_
      obtain ⟨hf67, hw⟩ := hw
      refine pw_lamRI X hN lsh3 lsK3 rfl lsT3 (Nat.le_of_ble_eq_true rfl) dX0_member_121 hf67 (fun u68 h069 => ?_)
      obtain ⟨M70, hM71⟩ : ∃ z : Mem, z = (m_lmRI M25 3 u68 a0 x1) := ⟨_, rfl⟩
      replace hw := hw u68 h069 M70 hM71
      have hle72 : m_le M25 M70 := by rw [hM71]; exact m_le_lmRI h069
      rw [← hM71]
      have ht73 : m_tg M70 a0 = 1 := m_le_tg hle72 ht28
      have ht74 : m_tg M70 u7 = 2 := m_le_tg hle72 ht29
      have ht75 : m_tg M70 u10 = 14 := m_le_tg hle72 ht30
      have ht76 : m_tg M70 u19 = 6 := m_le_tg hle72 ht31
      have ht77 : m_tg M70 u22 = 2 := m_le_tg hle72 ht32
      have ht78 : m_tg M70 u68 = 204 := by rw [hM71, m_tg_lmRI, if_pos rfl]
      obtain ⟨ht79, hw⟩ := hw
      refine pw_runi X (m_cV X (b := u65) (ci := 1) (q := (RX1, TX1, tyX1, 8)) (met_X1_sum G C.2.1 M70 u65 u68 _ hw) ht79 rfl (lw_V q1876 q1877 q1878 q79 q1879) ⟨rfl, nh_X1_sum⟩ ⟨Nat.le_of_ble_eq_true rfl, Nat.le_of_ble_eq_true rfl⟩ rfl (Nat.le_of_ble_eq_true rfl) dX0_member_126) (fun r82 M80 hle81 hx => ?_)
      replace hw := hx hle81
      clear hx
      have ht83 : m_tg M80 a0 = 1 := m_le_tg hle81 ht73
      have ht84 : m_tg M80 u7 = 2 := m_le_tg hle81 ht74
      have ht85 : m_tg M80 u10 = 14 := m_le_tg hle81 ht75
      have ht86 : m_tg M80 u19 = 6 := m_le_tg hle81 ht76
      have ht87 : m_tg M80 u22 = 2 := m_le_tg hle81 ht77
      have ht88 : m_tg M80 u68 = 204 := m_le_tg hle81 ht78
      have ht89 : m_tg M80 u65 = 2 := m_le_tg hle81 ht79
      exact pw_iret X hw dX0_member_129
    replace hw := hw.2 c64
    by_cases c90 : x2 = 4
    · replace hw := hw.1 c90
      refine pw_tableIn X 4 130 dX0_member_38 c90 (by decide) (by decide) rfl (by decide) ?_
      refine pw_aload_n X dX0_member_130 rfl rfl ?_
      refine pw_getN X (q := (RX5, TX5, tyX5, 5)) (ci := 5) (k := 1) (ref := "PatrolDesk$Member") (host := "PatrolDesk") (vI (m_gi M25 u19 1)) ht31 rfl (by decide) in_X5 q1056 (Or.inl rfl) rfl dX0_member_131 ?_
      refine pw_aload_n X dX0_member_134 rfl rfl ?_
      refine pw_getN X (q := (RX5, TX5, tyX5, 5)) (ci := 5) (k := 2) (ref := "PatrolDesk$Member") (host := "PatrolDesk") (vI (m_gi M25 u19 2)) ht31 rfl (by decide) in_X5 q1059 (Or.inl rfl) rfl dX0_member_135 ?_
      refine pw_isub X dX0_member_138 ?_
      refine pw_sipush X 1000 dX0_member_139 (by decide) ?_
      refine pw_iadd X dX0_member_142 ?_
      exact pw_iret X hw dX0_member_143
    replace hw := hw.2 c90
    by_cases c91 : x2 = 5
    · replace hw := hw.1 c91
      refine pw_tableIn X 5 144 dX0_member_38 c91 (by decide) (by decide) rfl (by decide) ?_
      refine pw_aload_n X dX0_member_144 rfl rfl ?_
      obtain ⟨u92, he93, hw⟩ := hw
      refine pw_get X (q := (RX0, TX0, tyX0, 4)) (ci := 0) (k := 0) (ref := "PatrolDesk") (vR (some u92)) ht28 rfl (by decide) in_X0 q948 (Or.inl rfl) (by rw [he93]; rfl) dX0_member_145 ?_
      refine pw_iload_n X dX0_member_148 rfl rfl ?_
      obtain ⟨hf94, hw⟩ := hw
      refine pw_lamI X hN lsh4 (by decide) lsK4 rfl lsT4 (Nat.le_of_ble_eq_true rfl) dX0_member_149 hf94 (fun u95 h096 => ?_)
      obtain ⟨M97, hM98⟩ : ∃ z : Mem, z = (m_lmI M25 4 u95 x1) := ⟨_, rfl⟩
      replace hw := hw u95 h096 M97 hM98
      have hle99 : m_le M25 M97 := by rw [hM98]; exact m_le_lmI h096
      rw [← hM98]
      have ht100 : m_tg M97 a0 = 1 := m_le_tg hle99 ht28
      have ht101 : m_tg M97 u7 = 2 := m_le_tg hle99 ht29
      have ht102 : m_tg M97 u10 = 14 := m_le_tg hle99 ht30
      have ht103 : m_tg M97 u19 = 6 := m_le_tg hle99 ht31
      have ht104 : m_tg M97 u22 = 2 := m_le_tg hle99 ht32
      have ht105 : m_tg M97 u95 = 205 := by rw [hM98, m_tg_lmI, if_pos rfl]
      obtain ⟨ht106, hw⟩ := hw
      refine pw_runi X (m_cV X (b := u92) (ci := 1) (q := (RX1, TX1, tyX1, 8)) (met_X1_sum G C.2.1 M97 u92 u95 _ hw) ht106 rfl (lw_V q1876 q1877 q1878 q79 q1879) ⟨rfl, nh_X1_sum⟩ ⟨Nat.le_of_ble_eq_true rfl, Nat.le_of_ble_eq_true rfl⟩ rfl (Nat.le_of_ble_eq_true rfl) dX0_member_154) (fun r109 M107 hle108 hx => ?_)
      replace hw := hx hle108
      clear hx
      have ht110 : m_tg M107 a0 = 1 := m_le_tg hle108 ht100
      have ht111 : m_tg M107 u7 = 2 := m_le_tg hle108 ht101
      have ht112 : m_tg M107 u10 = 14 := m_le_tg hle108 ht102
      have ht113 : m_tg M107 u19 = 6 := m_le_tg hle108 ht103
      have ht114 : m_tg M107 u22 = 2 := m_le_tg hle108 ht104
      have ht115 : m_tg M107 u95 = 205 := m_le_tg hle108 ht105
      have ht116 : m_tg M107 u92 = 2 := m_le_tg hle108 ht106
      exact pw_iret X hw dX0_member_157
    replace hw := hw.2 c91
    by_cases c117 : x2 = 6
    · replace hw := hw.1 c117
      refine pw_tableIn X 6 158 dX0_member_38 c117 (by decide) (by decide) rfl (by decide) ?_
      refine pw_aload_n X dX0_member_158 rfl rfl ?_
      obtain ⟨u118, he119, hw⟩ := hw
      refine pw_get X (q := (RX0, TX0, tyX0, 4)) (ci := 0) (k := 0) (ref := "PatrolDesk") (vR (some u118)) ht28 rfl (by decide) in_X0 q948 (Or.inl rfl) (by rw [he119]; rfl) dX0_member_159 ?_
      refine pw_iload_n X dX0_member_162 rfl rfl ?_
      obtain ⟨hf120, hw⟩ := hw
      refine pw_lamI X hN lsh5 (by decide) lsK5 rfl lsT5 (Nat.le_of_ble_eq_true rfl) dX0_member_163 hf120 (fun u121 h0122 => ?_)
      obtain ⟨M123, hM124⟩ : ∃ z : Mem, z = (m_lmI M25 5 u121 x1) := ⟨_, rfl⟩
      replace hw := hw u121 h0122 M123 hM124
      have hle125 : m_le M25 M123 := by rw [hM124]; exact m_le_lmI h0122
      rw [← hM124]
      have ht126 : m_tg M123 a0 = 1 := m_le_tg hle125 ht28
      have ht127 : m_tg M123 u7 = 2 := m_le_tg hle125 ht29
      have ht128 : m_tg M123 u10 = 14 := m_le_tg hle125 ht30
      have ht129 : m_tg M123 u19 = 6 := m_le_tg hle125 ht31
      have ht130 : m_tg M123 u22 = 2 := m_le_tg hle125 ht32
      have ht131 : m_tg M123 u121 = 206 := by rw [hM124, m_tg_lmI, if_pos rfl]
      obtain ⟨ht132, hw⟩ := hw
      refine pw_runi X (m_cV X (b := u118) (ci := 1) (q := (RX1, TX1, tyX1, 8)) (met_X1_sum G C.2.1 M123 u118 u121 _ hw) ht132 rfl (lw_V q1876 q1877 q1878 q79 q1879) ⟨rfl, nh_X1_sum⟩ ⟨Nat.le_of_ble_eq_true rfl, Nat.le_of_ble_eq_true rfl⟩ rfl (Nat.le_of_ble_eq_true rfl) dX0_member_168) (fun r135 M133 hle134 hx => ?_)
      replace hw := hx hle134
      clear hx
      have ht136 : m_tg M133 a0 = 1 := m_le_tg hle134 ht126
      have ht137 : m_tg M133 u7 = 2 := m_le_tg hle134 ht127
      have ht138 : m_tg M133 u10 = 14 := m_le_tg hle134 ht128
      have ht139 : m_tg M133 u19 = 6 := m_le_tg hle134 ht129
      have ht140 : m_tg M133 u22 = 2 := m_le_tg hle134 ht130
      have ht141 : m_tg M133 u121 = 206 := m_le_tg hle134 ht131
      have ht142 : m_tg M133 u118 = 2 := m_le_tg hle134 ht132
      exact pw_iret X hw dX0_member_171
    replace hw := hw.2 c117
    refine pw_tableOut X 172 dX0_member_38 (by have := lv_neT c33 (a := 0) (by decide); have := lv_neT c34 (a := 1) (by decide); have := lv_neT c60 (a := 2) (by decide); have := lv_neT c64 (a := 3) (by decide); have := lv_neT c90 (a := 4) (by decide); have := lv_neT c91 (a := 5) (by decide); have := lv_neT c117 (a := 6) (by decide); omega) (by decide) ?_
    refine pw_bipush X (-2) dX0_member_172 (by decide) ?_
    exact pw_iret X hw dX0_member_174
  · replace hw := hw.2 c6
    refine pw_iconst X (-1) dX0_member_8 (by decide) ?_
    exact pw_iret X hw dX0_member_9
theorem met_X0_member (G : Gp) (l : Launch) (M : Mem) (a0 : Nat) (x1 : Int32) (x2 : Int32) (Q : Int32 → Mem → Prop) (hw : wp_X0_member G.2 M a0 x1 x2 Q) : m_K G l yX0_member cX0_member 5 (some .int) 6 3075 [vR (some a0), vI x1, vI x2] M (va_Qi (m_q1 M Q) (m_W G) (m_A G)) := by
  refine m_metN (by decide) (Nat.le_of_ble_eq_true rfl) (fun C e X hN => ?_)
  exact bk_X0_member_0 G C _ _ M Q X hN M a0 x1 x2 hw
theorem nh_X0_member : m_nMH yX0_member 2 := by decide +kernel

def wp_X0_patrol (g : Nat → Nat) (M : Mem) (a0 : Nat) (x1 : Int32) (x2 : Int32) (Q : Int32 → Mem → Prop) : Prop := m_tg M a0 = 1 ∧ wp_X0_isPatrol g M a0 x1 (fun (r4 : Int32) (M2 : Mem) => m_le M M2 → ((¬ r4 = 0 → ∃ u7 : Nat, (m_gr M2 a0 0) = some u7 ∧ m_tg M2 u7 = 2 ∧ ∃ u10 : Nat, (m_gr M2 u7 1) = some u10 ∧ m_tg M2 u10 = 14 ∧ wp_J2_get g M2 u10 x1 (fun (r15 : Option Nat) (M13 : Mem) => m_le M2 M13 → ∃ u19 : Nat, r15 = some u19 ∧ m_tg M13 u19 = 7 ∧ ((x2 = 0 → Q (m_gi M13 u19 1) M13) ∧ (¬ x2 = 0 → ((x2 = 1 → Q (m_gi M13 u19 2) M13) ∧ (¬ x2 = 1 → ((x2 = 2 → (((m_gi M13 u19 3) = 0 → Q 0 M13) ∧ (¬ (m_gi M13 u19 3) = 0 → Q 1 M13))) ∧ (¬ x2 = 2 → ((x2 = 3 → Q (m_gi M13 u19 5) M13) ∧ (¬ x2 = 3 → ((x2 = 4 → Q (m_gi M13 u19 4) M13) ∧ (¬ x2 = 4 → ((x2 = 5 → Q (m_gi M13 u19 6) M13) ∧ (¬ x2 = 5 → ((x2 = 6 → Q (m_gi M13 u19 7) M13) ∧ (¬ x2 = 6 → ((x2 = 7 → Q (m_gi M13 u19 10) M13) ∧ (¬ x2 = 7 → ((x2 = 8 → Q (m_gi M13 u19 11) M13) ∧ (¬ x2 = 8 → ((x2 = 9 → Q (m_gi M13 u19 12) M13) ∧ (¬ x2 = 9 → ((x2 = 10 → Q (m_gi M13 u19 13) M13) ∧ (¬ x2 = 10 → ((x2 = 11 → Q (m_gi M13 u19 14) M13) ∧ (¬ x2 = 11 → Q (-2) M13)))))))))))))))))))))))))) ∧ (r4 = 0 → Q (-1) M2)))
theorem bk_X0_patrol_0 (G : Gp) (C : m_Cx) (n0 s0 : Nat) (M0 : Mem) (Q : Int32 → Mem → Prop) (X : m_in G C RX0 cX0_patrol 4 (some .int) "patrol" 3 64 n0 s0) (M : Mem) (a0 : Nat) (x1 : Int32) (x2 : Int32) (hw : wp_X0_patrol G.2 M a0 x1 x2 Q) : pW G C 4 n0 s0 M0 (m_Q G C n0 s0 (va_Qi (m_q1 M0 Q) (m_W G) (m_A G))) M 0 [(0, vR (some a0)), (1, vI x1), (2, vI x2)] [] := by
  refine pw_aload_n X dX0_patrol_0 rfl rfl ?_
  refine pw_iload_n X dX0_patrol_1 rfl rfl ?_
  obtain ⟨ht1, hw⟩ := hw
  refine pw_runi X (m_cV X (b := a0) (ci := 0) (q := (RX0, TX0, tyX0, 4)) (met_X0_isPatrol G C.2.1 M a0 x1 _ hw) ht1 rfl (lw_V q1418 q1420 qs14 q78 q1421) ⟨rfl, nh_X0_isPatrol⟩ ⟨Nat.le_of_ble_eq_true rfl, Nat.le_of_ble_eq_true rfl⟩ rfl (Nat.le_of_ble_eq_true rfl) dX0_patrol_2) (fun r4 M2 hle3 hx => ?_)
  replace hw := hx hle3
  clear hx
  have ht5 : m_tg M2 a0 = 1 := m_le_tg hle3 ht1
  refine pw_if_ne X 10 dX0_patrol_5 (by decide) (fun c6 => ?_) (fun c6 => ?_)
  · replace hw := hw.1 c6
    refine pw_aload_n X dX0_patrol_10 rfl rfl ?_
    obtain ⟨u7, he8, hw⟩ := hw
    refine pw_get X (q := (RX0, TX0, tyX0, 4)) (ci := 0) (k := 0) (ref := "PatrolDesk") (vR (some u7)) ht5 rfl (by decide) in_X0 q948 (Or.inl rfl) (by rw [he8]; rfl) dX0_patrol_11 ?_
    obtain ⟨ht9, hw⟩ := hw
    obtain ⟨u10, he11, hw⟩ := hw
    refine pw_getN X (q := (RX1, TX1, tyX1, 8)) (ci := 1) (k := 1) (ref := "PatrolDesk$State") (host := "PatrolDesk") (vR (some u10)) ht9 rfl (by decide) in_X1 q164 (Or.inl rfl) (by rw [he11]; rfl) dX0_patrol_14 ?_
    refine pw_iload_n X dX0_patrol_17 rfl rfl ?_
    obtain ⟨ht12, hw⟩ := hw
    refine pw_runq X (m_cF X (b := u10) (ci := 13) (q := (RJ2, TJ2, tyJ2, 3)) (met_J2_get G C.2.1 M2 u10 x1 _ hw) ht12 rfl (lw_app (lw_F q1400 q1031 q1033 q82) (lw_meth q1035)) (List.mem_of_getElem? (i := 2) rfl) (by decide +kernel : m_nMH ⟨"java/util/List", "get", "(I)Ljava/lang/Object;"⟩ 1) ⟨Nat.le_of_ble_eq_true rfl, Nat.le_of_ble_eq_true rfl⟩ rfl (Nat.le_of_ble_eq_true rfl) dX0_patrol_18) (fun r15 M13 hle14 hx => ?_)
    replace hw := hx hle14
    clear hx
    have ht16 : m_tg M13 a0 = 1 := m_le_tg hle14 ht5
    have ht17 : m_tg M13 u7 = 2 := m_le_tg hle14 ht9
    have ht18 : m_tg M13 u10 = 14 := m_le_tg hle14 ht12
    obtain ⟨u19, he20, hw⟩ := hw
    subst he20
    obtain ⟨ht21, hw⟩ := hw
    refine pw_cast X 6 (q := (RX6, TX6, tyX6, 15)) rfl (fun _ h => by cases h; exact ht21) q1286 dX0_patrol_23 ?_
    refine pw_astore_n X [(2, vI x2), (3, vR (some u19))] [3, 0] dX0_patrol_26 rfl (by decide) rfl ?_
    refine pw_iload_n X dX0_patrol_27 rfl rfl ?_
    by_cases c22 : x2 = 0
    · replace hw := hw.1 c22
      refine pw_tableIn X 0 92 dX0_patrol_28 c22 (by decide) (by decide) rfl (by decide) ?_
      refine pw_aload_n X dX0_patrol_92 rfl rfl ?_
      refine pw_getN X (q := (RX6, TX6, tyX6, 15)) (ci := 6) (k := 1) (ref := "PatrolDesk$Patrol") (host := "PatrolDesk") (vI (m_gi M13 u19 1)) ht21 rfl (by decide) in_X6 q1092 (Or.inl rfl) rfl dX0_patrol_93 ?_
      exact pw_iret X hw dX0_patrol_96
    replace hw := hw.2 c22
    by_cases c23 : x2 = 1
    · replace hw := hw.1 c23
      refine pw_tableIn X 1 97 dX0_patrol_28 c23 (by decide) (by decide) rfl (by decide) ?_
      refine pw_aload_n X dX0_patrol_97 rfl rfl ?_
      refine pw_getN X (q := (RX6, TX6, tyX6, 15)) (ci := 6) (k := 2) (ref := "PatrolDesk$Patrol") (host := "PatrolDesk") (vI (m_gi M13 u19 2)) ht21 rfl (by decide) in_X6 q1095 (Or.inl rfl) rfl dX0_patrol_98 ?_
      exact pw_iret X hw dX0_patrol_101
    replace hw := hw.2 c23
    by_cases c24 : x2 = 2
    · replace hw := hw.1 c24
      refine pw_tableIn X 2 102 dX0_patrol_28 c24 (by decide) (by decide) rfl (by decide) ?_
      refine pw_aload_n X dX0_patrol_102 rfl rfl ?_
      refine pw_getN X (q := (RX6, TX6, tyX6, 15)) (ci := 6) (k := 3) (ref := "PatrolDesk$Patrol") (host := "PatrolDesk") (vI (m_gi M13 u19 3)) ht21 rfl (by decide) in_X6 q1097 (Or.inl rfl) rfl dX0_patrol_103 ?_
      refine pw_if_eq X 113 dX0_patrol_106 (by decide) (fun c25 => ?_) (fun c25 => ?_)
      · replace hw := hw.1 c25
        refine pw_iconst X 0 dX0_patrol_113 (by decide) ?_
        exact pw_iret X hw dX0_patrol_114
      · replace hw := hw.2 c25
        refine pw_iconst X 1 dX0_patrol_109 (by decide) ?_
        refine pw_goto X 114 dX0_patrol_110 (by decide) ?_
        exact pw_iret X hw dX0_patrol_114
    replace hw := hw.2 c24
    by_cases c26 : x2 = 3
    · replace hw := hw.1 c26
      refine pw_tableIn X 3 115 dX0_patrol_28 c26 (by decide) (by decide) rfl (by decide) ?_
      refine pw_aload_n X dX0_patrol_115 rfl rfl ?_
      refine pw_getN X (q := (RX6, TX6, tyX6, 15)) (ci := 6) (k := 5) (ref := "PatrolDesk$Patrol") (host := "PatrolDesk") (vI (m_gi M13 u19 5)) ht21 rfl (by decide) in_X6 q1103 (Or.inl rfl) rfl dX0_patrol_116 ?_
      exact pw_iret X hw dX0_patrol_119
    replace hw := hw.2 c26
    by_cases c27 : x2 = 4
    · replace hw := hw.1 c27
      refine pw_tableIn X 4 120 dX0_patrol_28 c27 (by decide) (by decide) rfl (by decide) ?_
      refine pw_aload_n X dX0_patrol_120 rfl rfl ?_
      refine pw_getN X (q := (RX6, TX6, tyX6, 15)) (ci := 6) (k := 4) (ref := "PatrolDesk$Patrol") (host := "PatrolDesk") (vI (m_gi M13 u19 4)) ht21 rfl (by decide) in_X6 q1100 (Or.inl rfl) rfl dX0_patrol_121 ?_
      exact pw_iret X hw dX0_patrol_124
    replace hw := hw.2 c27
    by_cases c28 : x2 = 5
    · replace hw := hw.1 c28
      refine pw_tableIn X 5 125 dX0_patrol_28 c28 (by decide) (by decide) rfl (by decide) ?_
      refine pw_aload_n X dX0_patrol_125 rfl rfl ?_
      refine pw_getN X (q := (RX6, TX6, tyX6, 15)) (ci := 6) (k := 6) (ref := "PatrolDesk$Patrol") (host := "PatrolDesk") (vI (m_gi M13 u19 6)) ht21 rfl (by decide) in_X6 q1106 (Or.inl rfl) rfl dX0_patrol_126 ?_
      exact pw_iret X hw dX0_patrol_129
    replace hw := hw.2 c28
    by_cases c29 : x2 = 6
    · replace hw := hw.1 c29
      refine pw_tableIn X 6 130 dX0_patrol_28 c29 (by decide) (by decide) rfl (by decide) ?_
      refine pw_aload_n X dX0_patrol_130 rfl rfl ?_
      refine pw_getN X (q := (RX6, TX6, tyX6, 15)) (ci := 6) (k := 7) (ref := "PatrolDesk$Patrol") (host := "PatrolDesk") (vI (m_gi M13 u19 7)) ht21 rfl (by decide) in_X6 q1109 (Or.inl rfl) rfl dX0_patrol_131 ?_
      exact pw_iret X hw dX0_patrol_134
    replace hw := hw.2 c29
    by_cases c30 : x2 = 7
    · replace hw := hw.1 c30
      refine pw_tableIn X 7 135 dX0_patrol_28 c30 (by decide) (by decide) rfl (by decide) ?_
      refine pw_aload_n X dX0_patrol_135 rfl rfl ?_
      refine pw_getN X (q := (RX6, TX6, tyX6, 15)) (ci := 6) (k := 10) (ref := "PatrolDesk$Patrol") (host := "PatrolDesk") (vI (m_gi M13 u19 10)) ht21 rfl (by decide) in_X6 q1116 (Or.inl rfl) rfl dX0_patrol_136 ?_
      exact pw_iret X hw dX0_patrol_139
    replace hw := hw.2 c30
    by_cases c31 : x2 = 8
    · replace hw := hw.1 c31
      refine pw_tableIn X 8 140 dX0_patrol_28 c31 (by decide) (by decide) rfl (by decide) ?_
      refine pw_aload_n X dX0_patrol_140 rfl rfl ?_
      refine pw_getN X (q := (RX6, TX6, tyX6, 15)) (ci := 6) (k := 11) (ref := "PatrolDesk$Patrol") (host := "PatrolDesk") (vI (m_gi M13 u19 11)) ht21 rfl (by decide) in_X6 q1119 (Or.inl rfl) rfl dX0_patrol_141 ?_
      exact pw_iret X hw dX0_patrol_144
    replace hw := hw.2 c31
    by_cases c32 : x2 = 9
    · replace hw := hw.1 c32
      refine pw_tableIn X 9 145 dX0_patrol_28 c32 (by decide) (by decide) rfl (by decide) ?_
      refine pw_aload_n X dX0_patrol_145 rfl rfl ?_
      refine pw_getN X (q := (RX6, TX6, tyX6, 15)) (ci := 6) (k := 12) (ref := "PatrolDesk$Patrol") (host := "PatrolDesk") (vI (m_gi M13 u19 12)) ht21 rfl (by decide) in_X6 q1122 (Or.inl rfl) rfl dX0_patrol_146 ?_
      exact pw_iret X hw dX0_patrol_149
    replace hw := hw.2 c32
    by_cases c33 : x2 = 10
    · replace hw := hw.1 c33
      refine pw_tableIn X 10 150 dX0_patrol_28 c33 (by decide) (by decide) rfl (by decide) ?_
      refine pw_aload_n X dX0_patrol_150 rfl rfl ?_
      refine pw_getN X (q := (RX6, TX6, tyX6, 15)) (ci := 6) (k := 13) (ref := "PatrolDesk$Patrol") (host := "PatrolDesk") (vI (m_gi M13 u19 13)) ht21 rfl (by decide) in_X6 q1125 (Or.inl rfl) rfl dX0_patrol_151 ?_
      exact pw_iret X hw dX0_patrol_154
    replace hw := hw.2 c33
    by_cases c34 : x2 = 11
    · replace hw := hw.1 c34
      refine pw_tableIn X 11 155 dX0_patrol_28 c34 (by decide) (by decide) rfl (by decide) ?_
      refine pw_aload_n X dX0_patrol_155 rfl rfl ?_
      refine pw_getN X (q := (RX6, TX6, tyX6, 15)) (ci := 6) (k := 14) (ref := "PatrolDesk$Patrol") (host := "PatrolDesk") (vI (m_gi M13 u19 14)) ht21 rfl (by decide) in_X6 q1128 (Or.inl rfl) rfl dX0_patrol_156 ?_
      exact pw_iret X hw dX0_patrol_159
    replace hw := hw.2 c34
    refine pw_tableOut X 160 dX0_patrol_28 (by have := lv_neT c22 (a := 0) (by decide); have := lv_neT c23 (a := 1) (by decide); have := lv_neT c24 (a := 2) (by decide); have := lv_neT c26 (a := 3) (by decide); have := lv_neT c27 (a := 4) (by decide); have := lv_neT c28 (a := 5) (by decide); have := lv_neT c29 (a := 6) (by decide); have := lv_neT c30 (a := 7) (by decide); have := lv_neT c31 (a := 8) (by decide); have := lv_neT c32 (a := 9) (by decide); have := lv_neT c33 (a := 10) (by decide); have := lv_neT c34 (a := 11) (by decide); omega) (by decide) ?_
    refine pw_bipush X (-2) dX0_patrol_160 (by decide) ?_
    exact pw_iret X hw dX0_patrol_162
  · replace hw := hw.2 c6
    refine pw_iconst X (-1) dX0_patrol_8 (by decide) ?_
    exact pw_iret X hw dX0_patrol_9
theorem met_X0_patrol (G : Gp) (l : Launch) (M : Mem) (a0 : Nat) (x1 : Int32) (x2 : Int32) (Q : Int32 → Mem → Prop) (hw : wp_X0_patrol G.2 M a0 x1 x2 Q) : m_K G l yX0_patrol cX0_patrol 4 (some .int) 3 64 [vR (some a0), vI x1, vI x2] M (va_Qi (m_q1 M Q) (m_W G) (m_A G)) := by
  refine m_met (by decide) (Nat.le_of_ble_eq_true rfl) (fun C e X => ?_)
  exact bk_X0_patrol_0 G C _ _ M Q X M a0 x1 x2 hw
theorem nh_X0_patrol : m_nMH yX0_patrol 2 := by decide +kernel

def wp_X0_garage (g : Nat → Nat) (M : Mem) (a0 : Nat) (x1 : Int32) (x2 : Int32) (Q : Int32 → Mem → Prop) : Prop := m_tg M a0 = 1 ∧ wp_X0_isGarage g M a0 x1 (fun (r4 : Int32) (M2 : Mem) => m_le M M2 → ((¬ r4 = 0 → ∃ u7 : Nat, (m_gr M2 a0 0) = some u7 ∧ m_tg M2 u7 = 2 ∧ ∃ u10 : Nat, (m_gr M2 u7 2) = some u10 ∧ m_tg M2 u10 = 14 ∧ wp_J2_get g M2 u10 x1 (fun (r15 : Option Nat) (M13 : Mem) => m_le M2 M13 → ∃ u19 : Nat, r15 = some u19 ∧ m_tg M13 u19 = 8 ∧ ((x2 = 0 → Q (m_gi M13 u19 0) M13) ∧ (¬ x2 = 0 → ((x2 = 1 → Q (m_gi M13 u19 1) M13) ∧ (¬ x2 = 1 → ((x2 = 2 → Q (m_gi M13 u19 2) M13) ∧ (¬ x2 = 2 → ((x2 = 3 → Q (m_gi M13 u19 3) M13) ∧ (¬ x2 = 3 → ((x2 = 4 → Q (m_gi M13 u19 4) M13) ∧ (¬ x2 = 4 → Q (-2) M13)))))))))))) ∧ (r4 = 0 → Q (-1) M2)))
theorem bk_X0_garage_0 (G : Gp) (C : m_Cx) (n0 s0 : Nat) (M0 : Mem) (Q : Int32 → Mem → Prop) (X : m_in G C RX0 cX0_garage 4 (some .int) "garage" 3 64 n0 s0) (M : Mem) (a0 : Nat) (x1 : Int32) (x2 : Int32) (hw : wp_X0_garage G.2 M a0 x1 x2 Q) : pW G C 4 n0 s0 M0 (m_Q G C n0 s0 (va_Qi (m_q1 M0 Q) (m_W G) (m_A G))) M 0 [(0, vR (some a0)), (1, vI x1), (2, vI x2)] [] := by
  refine pw_aload_n X dX0_garage_0 rfl rfl ?_
  refine pw_iload_n X dX0_garage_1 rfl rfl ?_
  obtain ⟨ht1, hw⟩ := hw
  refine pw_runi X (m_cV X (b := a0) (ci := 0) (q := (RX0, TX0, tyX0, 4)) (met_X0_isGarage G C.2.1 M a0 x1 _ hw) ht1 rfl (lw_V q1443 q1445 qs16 q78 q1446) ⟨rfl, nh_X0_isGarage⟩ ⟨Nat.le_of_ble_eq_true rfl, Nat.le_of_ble_eq_true rfl⟩ rfl (Nat.le_of_ble_eq_true rfl) dX0_garage_2) (fun r4 M2 hle3 hx => ?_)
  replace hw := hx hle3
  clear hx
  have ht5 : m_tg M2 a0 = 1 := m_le_tg hle3 ht1
  refine pw_if_ne X 10 dX0_garage_5 (by decide) (fun c6 => ?_) (fun c6 => ?_)
  · replace hw := hw.1 c6
    refine pw_aload_n X dX0_garage_10 rfl rfl ?_
    obtain ⟨u7, he8, hw⟩ := hw
    refine pw_get X (q := (RX0, TX0, tyX0, 4)) (ci := 0) (k := 0) (ref := "PatrolDesk") (vR (some u7)) ht5 rfl (by decide) in_X0 q948 (Or.inl rfl) (by rw [he8]; rfl) dX0_garage_11 ?_
    obtain ⟨ht9, hw⟩ := hw
    obtain ⟨u10, he11, hw⟩ := hw
    refine pw_getN X (q := (RX1, TX1, tyX1, 8)) (ci := 1) (k := 2) (ref := "PatrolDesk$State") (host := "PatrolDesk") (vR (some u10)) ht9 rfl (by decide) in_X1 q166 (Or.inl rfl) (by rw [he11]; rfl) dX0_garage_14 ?_
    refine pw_iload_n X dX0_garage_17 rfl rfl ?_
    obtain ⟨ht12, hw⟩ := hw
    refine pw_runq X (m_cF X (b := u10) (ci := 13) (q := (RJ2, TJ2, tyJ2, 3)) (met_J2_get G C.2.1 M2 u10 x1 _ hw) ht12 rfl (lw_app (lw_F q1400 q1031 q1033 q82) (lw_meth q1035)) (List.mem_of_getElem? (i := 2) rfl) (by decide +kernel : m_nMH ⟨"java/util/List", "get", "(I)Ljava/lang/Object;"⟩ 1) ⟨Nat.le_of_ble_eq_true rfl, Nat.le_of_ble_eq_true rfl⟩ rfl (Nat.le_of_ble_eq_true rfl) dX0_garage_18) (fun r15 M13 hle14 hx => ?_)
    replace hw := hx hle14
    clear hx
    have ht16 : m_tg M13 a0 = 1 := m_le_tg hle14 ht5
    have ht17 : m_tg M13 u7 = 2 := m_le_tg hle14 ht9
    have ht18 : m_tg M13 u10 = 14 := m_le_tg hle14 ht12
    obtain ⟨u19, he20, hw⟩ := hw
    subst he20
    obtain ⟨ht21, hw⟩ := hw
    refine pw_cast X 7 (q := (RX7, TX7, tyX7, 5)) rfl (fun _ h => by cases h; exact ht21) q1292 dX0_garage_23 ?_
    refine pw_astore_n X [(2, vI x2), (3, vR (some u19))] [3, 0] dX0_garage_26 rfl (by decide) rfl ?_
    refine pw_iload_n X dX0_garage_27 rfl rfl ?_
    by_cases c22 : x2 = 0
    · replace hw := hw.1 c22
      refine pw_tableIn X 0 64 dX0_garage_28 c22 (by decide) (by decide) rfl (by decide) ?_
      refine pw_aload_n X dX0_garage_64 rfl rfl ?_
      refine pw_getN X (q := (RX7, TX7, tyX7, 5)) (ci := 7) (k := 0) (ref := "PatrolDesk$Garage") (host := "PatrolDesk") (vI (m_gi M13 u19 0)) ht21 rfl (by decide) in_X7 q1173 (Or.inl rfl) rfl dX0_garage_65 ?_
      exact pw_iret X hw dX0_garage_68
    replace hw := hw.2 c22
    by_cases c23 : x2 = 1
    · replace hw := hw.1 c23
      refine pw_tableIn X 1 69 dX0_garage_28 c23 (by decide) (by decide) rfl (by decide) ?_
      refine pw_aload_n X dX0_garage_69 rfl rfl ?_
      refine pw_getN X (q := (RX7, TX7, tyX7, 5)) (ci := 7) (k := 1) (ref := "PatrolDesk$Garage") (host := "PatrolDesk") (vI (m_gi M13 u19 1)) ht21 rfl (by decide) in_X7 q1175 (Or.inl rfl) rfl dX0_garage_70 ?_
      exact pw_iret X hw dX0_garage_73
    replace hw := hw.2 c23
    by_cases c24 : x2 = 2
    · replace hw := hw.1 c24
      refine pw_tableIn X 2 74 dX0_garage_28 c24 (by decide) (by decide) rfl (by decide) ?_
      refine pw_aload_n X dX0_garage_74 rfl rfl ?_
      refine pw_getN X (q := (RX7, TX7, tyX7, 5)) (ci := 7) (k := 2) (ref := "PatrolDesk$Garage") (host := "PatrolDesk") (vI (m_gi M13 u19 2)) ht21 rfl (by decide) in_X7 q1178 (Or.inl rfl) rfl dX0_garage_75 ?_
      exact pw_iret X hw dX0_garage_78
    replace hw := hw.2 c24
    by_cases c25 : x2 = 3
    · replace hw := hw.1 c25
      refine pw_tableIn X 3 79 dX0_garage_28 c25 (by decide) (by decide) rfl (by decide) ?_
      refine pw_aload_n X dX0_garage_79 rfl rfl ?_
      refine pw_getN X (q := (RX7, TX7, tyX7, 5)) (ci := 7) (k := 3) (ref := "PatrolDesk$Garage") (host := "PatrolDesk") (vI (m_gi M13 u19 3)) ht21 rfl (by decide) in_X7 q1181 (Or.inl rfl) rfl dX0_garage_80 ?_
      exact pw_iret X hw dX0_garage_83
    replace hw := hw.2 c25
    by_cases c26 : x2 = 4
    · replace hw := hw.1 c26
      refine pw_tableIn X 4 84 dX0_garage_28 c26 (by decide) (by decide) rfl (by decide) ?_
      refine pw_aload_n X dX0_garage_84 rfl rfl ?_
      refine pw_getN X (q := (RX7, TX7, tyX7, 5)) (ci := 7) (k := 4) (ref := "PatrolDesk$Garage") (host := "PatrolDesk") (vI (m_gi M13 u19 4)) ht21 rfl (by decide) in_X7 q1184 (Or.inl rfl) rfl dX0_garage_85 ?_
      exact pw_iret X hw dX0_garage_88
    replace hw := hw.2 c26
    refine pw_tableOut X 89 dX0_garage_28 (by have := lv_neT c22 (a := 0) (by decide); have := lv_neT c23 (a := 1) (by decide); have := lv_neT c24 (a := 2) (by decide); have := lv_neT c25 (a := 3) (by decide); have := lv_neT c26 (a := 4) (by decide); omega) (by decide) ?_
    refine pw_bipush X (-2) dX0_garage_89 (by decide) ?_
    exact pw_iret X hw dX0_garage_91
  · replace hw := hw.2 c6
    refine pw_iconst X (-1) dX0_garage_8 (by decide) ?_
    exact pw_iret X hw dX0_garage_9
theorem met_X0_garage (G : Gp) (l : Launch) (M : Mem) (a0 : Nat) (x1 : Int32) (x2 : Int32) (Q : Int32 → Mem → Prop) (hw : wp_X0_garage G.2 M a0 x1 x2 Q) : m_K G l yX0_garage cX0_garage 4 (some .int) 3 64 [vR (some a0), vI x1, vI x2] M (va_Qi (m_q1 M Q) (m_W G) (m_A G)) := by
  refine m_met (by decide) (Nat.le_of_ble_eq_true rfl) (fun C e X => ?_)
  exact bk_X0_garage_0 G C _ _ M Q X M a0 x1 x2 hw
theorem nh_X0_garage : m_nMH yX0_garage 2 := by decide +kernel

def wp_X0_callOf (g : Nat → Nat) (M : Mem) (a0 : Nat) (x1 : Int32) (x2 : Int32) (Q : Int32 → Mem → Prop) : Prop := m_tg M a0 = 1 ∧ wp_X0_isCall g M a0 x1 (fun (r4 : Int32) (M2 : Mem) => m_le M M2 → ((¬ r4 = 0 → ∃ u7 : Nat, (m_gr M2 a0 0) = some u7 ∧ m_tg M2 u7 = 2 ∧ ∃ u10 : Nat, (m_gr M2 u7 3) = some u10 ∧ m_tg M2 u10 = 14 ∧ wp_J2_get g M2 u10 x1 (fun (r15 : Option Nat) (M13 : Mem) => m_le M2 M13 → ∃ u19 : Nat, r15 = some u19 ∧ m_tg M13 u19 = 9 ∧ ((x2 = 0 → Q (m_gi M13 u19 1) M13) ∧ (¬ x2 = 0 → ((x2 = 1 → Q (m_gi M13 u19 6) M13) ∧ (¬ x2 = 1 → ((x2 = 2 → Q (m_gi M13 u19 2) M13) ∧ (¬ x2 = 2 → ((x2 = 3 → Q (m_gi M13 u19 3) M13) ∧ (¬ x2 = 3 → ((x2 = 4 → Q (m_gi M13 u19 4) M13) ∧ (¬ x2 = 4 → ((x2 = 5 → Q (m_gi M13 u19 7) M13) ∧ (¬ x2 = 5 → ((x2 = 6 → Q (m_gi M13 u19 8) M13) ∧ (¬ x2 = 6 → ((x2 = 7 → ∃ u30 : Nat, (m_gr M13 a0 0) = some u30 ∧ m_tg M13 u30 = 2 ∧ wp_X8_waited g M13 u19 (m_gi M13 u30 7) (fun (r35 : Int32) (M33 : Mem) => m_le M13 M33 → Q r35 M33)) ∧ (¬ x2 = 7 → ((x2 = 8 → Q (m_gi M13 u19 9) M13) ∧ (¬ x2 = 8 → ((x2 = 9 → Q (m_gi M13 u19 11) M13) ∧ (¬ x2 = 9 → ((x2 = 10 → (((m_gi M13 u19 5) = 0 → Q 0 M13) ∧ (¬ (m_gi M13 u19 5) = 0 → Q 1 M13))) ∧ (¬ x2 = 10 → ((x2 = 11 → ((1 < (m_gi M13 u19 7) → Q (-5) M13) ∧ (¬ 1 < (m_gi M13 u19 7) → ∃ u47 : Nat, (m_gr M13 a0 0) = some u47 ∧ m_tg M13 u47 = 2 ∧ wp_X8_rest g M13 u19 (m_gi M13 u47 7) (fun (r52 : Int32) (M50 : Mem) => m_le M13 M50 → Q (r52 + 10000) M50)))) ∧ (¬ x2 = 11 → ((x2 = 12 → Q (m_gi M13 u19 12) M13) ∧ (¬ x2 = 12 → Q (-2) M13)))))))))))))))))))))))))))) ∧ (r4 = 0 → Q (-1) M2)))
theorem bk_X0_callOf_0 (G : Gp) (C : m_Cx) (n0 s0 : Nat) (M0 : Mem) (Q : Int32 → Mem → Prop) (X : m_in G C RX0 cX0_callOf 4 (some .int) "callOf" 3 64 n0 s0) (M : Mem) (a0 : Nat) (x1 : Int32) (x2 : Int32) (hw : wp_X0_callOf G.2 M a0 x1 x2 Q) : pW G C 4 n0 s0 M0 (m_Q G C n0 s0 (va_Qi (m_q1 M0 Q) (m_W G) (m_A G))) M 0 [(0, vR (some a0)), (1, vI x1), (2, vI x2)] [] := by
  refine pw_aload_n X dX0_callOf_0 rfl rfl ?_
  refine pw_iload_n X dX0_callOf_1 rfl rfl ?_
  obtain ⟨ht1, hw⟩ := hw
  refine pw_runi X (m_cV X (b := a0) (ci := 0) (q := (RX0, TX0, tyX0, 4)) (met_X0_isCall G C.2.1 M a0 x1 _ hw) ht1 rfl (lw_V q1395 q1397 qs13 q78 q1398) ⟨rfl, nh_X0_isCall⟩ ⟨Nat.le_of_ble_eq_true rfl, Nat.le_of_ble_eq_true rfl⟩ rfl (Nat.le_of_ble_eq_true rfl) dX0_callOf_2) (fun r4 M2 hle3 hx => ?_)
  replace hw := hx hle3
  clear hx
  have ht5 : m_tg M2 a0 = 1 := m_le_tg hle3 ht1
  refine pw_if_ne X 10 dX0_callOf_5 (by decide) (fun c6 => ?_) (fun c6 => ?_)
  · replace hw := hw.1 c6
    refine pw_aload_n X dX0_callOf_10 rfl rfl ?_
    obtain ⟨u7, he8, hw⟩ := hw
    refine pw_get X (q := (RX0, TX0, tyX0, 4)) (ci := 0) (k := 0) (ref := "PatrolDesk") (vR (some u7)) ht5 rfl (by decide) in_X0 q948 (Or.inl rfl) (by rw [he8]; rfl) dX0_callOf_11 ?_
    obtain ⟨ht9, hw⟩ := hw
    obtain ⟨u10, he11, hw⟩ := hw
    refine pw_getN X (q := (RX1, TX1, tyX1, 8)) (ci := 1) (k := 3) (ref := "PatrolDesk$State") (host := "PatrolDesk") (vR (some u10)) ht9 rfl (by decide) in_X1 q168 (Or.inl rfl) (by rw [he11]; rfl) dX0_callOf_14 ?_
    refine pw_iload_n X dX0_callOf_17 rfl rfl ?_
    obtain ⟨ht12, hw⟩ := hw
    refine pw_runq X (m_cF X (b := u10) (ci := 13) (q := (RJ2, TJ2, tyJ2, 3)) (met_J2_get G C.2.1 M2 u10 x1 _ hw) ht12 rfl (lw_app (lw_F q1400 q1031 q1033 q82) (lw_meth q1035)) (List.mem_of_getElem? (i := 2) rfl) (by decide +kernel : m_nMH ⟨"java/util/List", "get", "(I)Ljava/lang/Object;"⟩ 1) ⟨Nat.le_of_ble_eq_true rfl, Nat.le_of_ble_eq_true rfl⟩ rfl (Nat.le_of_ble_eq_true rfl) dX0_callOf_18) (fun r15 M13 hle14 hx => ?_)
    replace hw := hx hle14
    clear hx
    have ht16 : m_tg M13 a0 = 1 := m_le_tg hle14 ht5
    have ht17 : m_tg M13 u7 = 2 := m_le_tg hle14 ht9
    have ht18 : m_tg M13 u10 = 14 := m_le_tg hle14 ht12
    obtain ⟨u19, he20, hw⟩ := hw
    subst he20
    obtain ⟨ht21, hw⟩ := hw
    refine pw_cast X 8 (q := (RX8, TX8, tyX8, 13)) rfl (fun _ h => by cases h; exact ht21) q1401 dX0_callOf_23 ?_
    refine pw_astore_n X [(0, vR (some a0)), (2, vI x2), (3, vR (some u19))] [1, 3, 0] dX0_callOf_26 rfl (by decide) rfl ?_
    refine pw_iload_n X dX0_callOf_27 rfl rfl ?_
    by_cases c22 : x2 = 0
    · replace hw := hw.1 c22
      refine pw_tableIn X 0 96 dX0_callOf_28 c22 (by decide) (by decide) rfl (by decide) ?_
      refine pw_aload_n X dX0_callOf_96 rfl rfl ?_
      refine pw_getN X (q := (RX8, TX8, tyX8, 13)) (ci := 8) (k := 1) (ref := "PatrolDesk$Call") (host := "PatrolDesk") (vI (m_gi M13 u19 1)) ht21 rfl (by decide) in_X8 q1212 (Or.inl rfl) rfl dX0_callOf_97 ?_
      exact pw_iret X hw dX0_callOf_100
    replace hw := hw.2 c22
    by_cases c23 : x2 = 1
    · replace hw := hw.1 c23
      refine pw_tableIn X 1 101 dX0_callOf_28 c23 (by decide) (by decide) rfl (by decide) ?_
      refine pw_aload_n X dX0_callOf_101 rfl rfl ?_
      refine pw_getN X (q := (RX8, TX8, tyX8, 13)) (ci := 8) (k := 6) (ref := "PatrolDesk$Call") (host := "PatrolDesk") (vI (m_gi M13 u19 6)) ht21 rfl (by decide) in_X8 q1226 (Or.inl rfl) rfl dX0_callOf_102 ?_
      exact pw_iret X hw dX0_callOf_105
    replace hw := hw.2 c23
    by_cases c24 : x2 = 2
    · replace hw := hw.1 c24
      refine pw_tableIn X 2 106 dX0_callOf_28 c24 (by decide) (by decide) rfl (by decide) ?_
      refine pw_aload_n X dX0_callOf_106 rfl rfl ?_
      refine pw_getN X (q := (RX8, TX8, tyX8, 13)) (ci := 8) (k := 2) (ref := "PatrolDesk$Call") (host := "PatrolDesk") (vI (m_gi M13 u19 2)) ht21 rfl (by decide) in_X8 q1215 (Or.inl rfl) rfl dX0_callOf_107 ?_
      exact pw_iret X hw dX0_callOf_110
    replace hw := hw.2 c24
    by_cases c25 : x2 = 3
    · replace hw := hw.1 c25
      refine pw_tableIn X 3 111 dX0_callOf_28 c25 (by decide) (by decide) rfl (by decide) ?_
      refine pw_aload_n X dX0_callOf_111 rfl rfl ?_
      refine pw_getN X (q := (RX8, TX8, tyX8, 13)) (ci := 8) (k := 3) (ref := "PatrolDesk$Call") (host := "PatrolDesk") (vI (m_gi M13 u19 3)) ht21 rfl (by decide) in_X8 q1218 (Or.inl rfl) rfl dX0_callOf_112 ?_
      exact pw_iret X hw dX0_callOf_115
    replace hw := hw.2 c25
    by_cases c26 : x2 = 4
    · replace hw := hw.1 c26
      refine pw_tableIn X 4 116 dX0_callOf_28 c26 (by decide) (by decide) rfl (by decide) ?_
      refine pw_aload_n X dX0_callOf_116 rfl rfl ?_
      refine pw_getN X (q := (RX8, TX8, tyX8, 13)) (ci := 8) (k := 4) (ref := "PatrolDesk$Call") (host := "PatrolDesk") (vI (m_gi M13 u19 4)) ht21 rfl (by decide) in_X8 q1220 (Or.inl rfl) rfl dX0_callOf_117 ?_
      exact pw_iret X hw dX0_callOf_120
    replace hw := hw.2 c26
    by_cases c27 : x2 = 5
    · replace hw := hw.1 c27
      refine pw_tableIn X 5 121 dX0_callOf_28 c27 (by decide) (by decide) rfl (by decide) ?_
      refine pw_aload_n X dX0_callOf_121 rfl rfl ?_
      refine pw_getN X (q := (RX8, TX8, tyX8, 13)) (ci := 8) (k := 7) (ref := "PatrolDesk$Call") (host := "PatrolDesk") (vI (m_gi M13 u19 7)) ht21 rfl (by decide) in_X8 q1229 (Or.inl rfl) rfl dX0_callOf_122 ?_
      exact pw_iret X hw dX0_callOf_125
    replace hw := hw.2 c27
    by_cases c28 : x2 = 6
    · replace hw := hw.1 c28
      refine pw_tableIn X 6 126 dX0_callOf_28 c28 (by decide) (by decide) rfl (by decide) ?_
      refine pw_aload_n X dX0_callOf_126 rfl rfl ?_
      refine pw_getN X (q := (RX8, TX8, tyX8, 13)) (ci := 8) (k := 8) (ref := "PatrolDesk$Call") (host := "PatrolDesk") (vI (m_gi M13 u19 8)) ht21 rfl (by decide) in_X8 q1232 (Or.inl rfl) rfl dX0_callOf_127 ?_
      exact pw_iret X hw dX0_callOf_130
    replace hw := hw.2 c28
    by_cases c29 : x2 = 7
    · replace hw := hw.1 c29
      refine pw_tableIn X 7 131 dX0_callOf_28 c29 (by decide) (by decide) rfl (by decide) ?_
      refine pw_aload_n X dX0_callOf_131 rfl rfl ?_
      refine pw_aload_n X dX0_callOf_132 rfl rfl ?_
      obtain ⟨u30, he31, hw⟩ := hw
      refine pw_get X (q := (RX0, TX0, tyX0, 4)) (ci := 0) (k := 0) (ref := "PatrolDesk") (vR (some u30)) ht16 rfl (by decide) in_X0 q948 (Or.inl rfl) (by rw [he31]; rfl) dX0_callOf_133 ?_
      obtain ⟨ht32, hw⟩ := hw
      refine pw_getN X (q := (RX1, TX1, tyX1, 8)) (ci := 1) (k := 7) (ref := "PatrolDesk$State") (host := "PatrolDesk") (vI (m_gi M13 u30 7)) ht32 rfl (by decide) in_X1 q176 (Or.inl rfl) rfl dX0_callOf_136 ?_
      refine pw_runi X (m_cV X (b := u19) (ci := 8) (q := (RX8, TX8, tyX8, 13)) (met_X8_waited G C.2.1 M13 u19 (m_gi M13 u30 7) _ hw) ht21 rfl (lw_V q1410 q1411 q1412 q112 q1413) ⟨rfl, nh_X8_waited⟩ ⟨Nat.le_of_ble_eq_true rfl, Nat.le_of_ble_eq_true rfl⟩ rfl (Nat.le_of_ble_eq_true rfl) dX0_callOf_139) (fun r35 M33 hle34 hx => ?_)
      replace hw := hx hle34
      clear hx
      have ht36 : m_tg M33 a0 = 1 := m_le_tg hle34 ht16
      have ht37 : m_tg M33 u7 = 2 := m_le_tg hle34 ht17
      have ht38 : m_tg M33 u10 = 14 := m_le_tg hle34 ht18
      have ht39 : m_tg M33 u19 = 9 := m_le_tg hle34 ht21
      have ht40 : m_tg M33 u30 = 2 := m_le_tg hle34 ht32
      exact pw_iret X hw dX0_callOf_142
    replace hw := hw.2 c29
    by_cases c41 : x2 = 8
    · replace hw := hw.1 c41
      refine pw_tableIn X 8 143 dX0_callOf_28 c41 (by decide) (by decide) rfl (by decide) ?_
      refine pw_aload_n X dX0_callOf_143 rfl rfl ?_
      refine pw_getN X (q := (RX8, TX8, tyX8, 13)) (ci := 8) (k := 9) (ref := "PatrolDesk$Call") (host := "PatrolDesk") (vI (m_gi M13 u19 9)) ht21 rfl (by decide) in_X8 q1235 (Or.inl rfl) rfl dX0_callOf_144 ?_
      exact pw_iret X hw dX0_callOf_147
    replace hw := hw.2 c41
    by_cases c42 : x2 = 9
    · replace hw := hw.1 c42
      refine pw_tableIn X 9 148 dX0_callOf_28 c42 (by decide) (by decide) rfl (by decide) ?_
      refine pw_aload_n X dX0_callOf_148 rfl rfl ?_
      refine pw_getN X (q := (RX8, TX8, tyX8, 13)) (ci := 8) (k := 11) (ref := "PatrolDesk$Call") (host := "PatrolDesk") (vI (m_gi M13 u19 11)) ht21 rfl (by decide) in_X8 q1240 (Or.inl rfl) rfl dX0_callOf_149 ?_
      exact pw_iret X hw dX0_callOf_152
    replace hw := hw.2 c42
    by_cases c43 : x2 = 10
    · replace hw := hw.1 c43
      refine pw_tableIn X 10 153 dX0_callOf_28 c43 (by decide) (by decide) rfl (by decide) ?_
      refine pw_aload_n X dX0_callOf_153 rfl rfl ?_
      refine pw_getN X (q := (RX8, TX8, tyX8, 13)) (ci := 8) (k := 5) (ref := "PatrolDesk$Call") (host := "PatrolDesk") (vI (m_gi M13 u19 5)) ht21 rfl (by decide) in_X8 q1223 (Or.inl rfl) rfl dX0_callOf_154 ?_
      refine pw_if_eq X 164 dX0_callOf_157 (by decide) (fun c44 => ?_) (fun c44 => ?_)
      · replace hw := hw.1 c44
        refine pw_iconst X 0 dX0_callOf_164 (by decide) ?_
        exact pw_iret X hw dX0_callOf_165
      · replace hw := hw.2 c44
        refine pw_iconst X 1 dX0_callOf_160 (by decide) ?_
        refine pw_goto X 165 dX0_callOf_161 (by decide) ?_
        exact pw_iret X hw dX0_callOf_165
    replace hw := hw.2 c43
    by_cases c45 : x2 = 11
    · replace hw := hw.1 c45
      refine pw_tableIn X 11 166 dX0_callOf_28 c45 (by decide) (by decide) rfl (by decide) ?_
      refine pw_aload_n X dX0_callOf_166 rfl rfl ?_
      refine pw_getN X (q := (RX8, TX8, tyX8, 13)) (ci := 8) (k := 7) (ref := "PatrolDesk$Call") (host := "PatrolDesk") (vI (m_gi M13 u19 7)) ht21 rfl (by decide) in_X8 q1229 (Or.inl rfl) rfl dX0_callOf_167 ?_
      refine pw_iconst X 1 dX0_callOf_170 (by decide) ?_
      refine pw_icmp_gt X 192 dX0_callOf_171 (by decide) (fun c46 => ?_) (fun c46 => ?_)
      · replace hw := hw.1 c46
        refine pw_bipush X (-5) dX0_callOf_192 (by decide) ?_
        exact pw_iret X hw dX0_callOf_194
      · replace hw := hw.2 c46
        refine pw_aload_n X dX0_callOf_174 rfl rfl ?_
        refine pw_aload_n X dX0_callOf_175 rfl rfl ?_
        obtain ⟨u47, he48, hw⟩ := hw
        refine pw_get X (q := (RX0, TX0, tyX0, 4)) (ci := 0) (k := 0) (ref := "PatrolDesk") (vR (some u47)) ht16 rfl (by decide) in_X0 q948 (Or.inl rfl) (by rw [he48]; rfl) dX0_callOf_176 ?_
        obtain ⟨ht49, hw⟩ := hw
        refine pw_getN X (q := (RX1, TX1, tyX1, 8)) (ci := 1) (k := 7) (ref := "PatrolDesk$State") (host := "PatrolDesk") (vI (m_gi M13 u47 7)) ht49 rfl (by decide) in_X1 q176 (Or.inl rfl) rfl dX0_callOf_179 ?_
        refine pw_runi X (m_cV X (b := u19) (ci := 8) (q := (RX8, TX8, tyX8, 13)) (met_X8_rest G C.2.1 M13 u19 (m_gi M13 u47 7) _ hw) ht21 rfl (lw_V q1903 q1604 q1605 q112 q1606) ⟨rfl, nh_X8_rest⟩ ⟨Nat.le_of_ble_eq_true rfl, Nat.le_of_ble_eq_true rfl⟩ rfl (Nat.le_of_ble_eq_true rfl) dX0_callOf_182) (fun r52 M50 hle51 hx => ?_)
        replace hw := hx hle51
        clear hx
        have ht53 : m_tg M50 a0 = 1 := m_le_tg hle51 ht16
        have ht54 : m_tg M50 u7 = 2 := m_le_tg hle51 ht17
        have ht55 : m_tg M50 u10 = 14 := m_le_tg hle51 ht18
        have ht56 : m_tg M50 u19 = 9 := m_le_tg hle51 ht21
        have ht57 : m_tg M50 u47 = 2 := m_le_tg hle51 ht49
        refine pw_sipush X 10000 dX0_callOf_185 (by decide) ?_
        refine pw_iadd X dX0_callOf_188 ?_
        refine pw_goto X 194 dX0_callOf_189 (by decide) ?_
        exact pw_iret X hw dX0_callOf_194
    replace hw := hw.2 c45
    by_cases c58 : x2 = 12
    · replace hw := hw.1 c58
      refine pw_tableIn X 12 195 dX0_callOf_28 c58 (by decide) (by decide) rfl (by decide) ?_
      refine pw_aload_n X dX0_callOf_195 rfl rfl ?_
      refine pw_getN X (q := (RX8, TX8, tyX8, 13)) (ci := 8) (k := 12) (ref := "PatrolDesk$Call") (host := "PatrolDesk") (vI (m_gi M13 u19 12)) ht21 rfl (by decide) in_X8 q1243 (Or.inl rfl) rfl dX0_callOf_196 ?_
      exact pw_iret X hw dX0_callOf_199
    replace hw := hw.2 c58
    refine pw_tableOut X 200 dX0_callOf_28 (by have := lv_neT c22 (a := 0) (by decide); have := lv_neT c23 (a := 1) (by decide); have := lv_neT c24 (a := 2) (by decide); have := lv_neT c25 (a := 3) (by decide); have := lv_neT c26 (a := 4) (by decide); have := lv_neT c27 (a := 5) (by decide); have := lv_neT c28 (a := 6) (by decide); have := lv_neT c29 (a := 7) (by decide); have := lv_neT c41 (a := 8) (by decide); have := lv_neT c42 (a := 9) (by decide); have := lv_neT c43 (a := 10) (by decide); have := lv_neT c45 (a := 11) (by decide); have := lv_neT c58 (a := 12) (by decide); omega) (by decide) ?_
    refine pw_bipush X (-2) dX0_callOf_200 (by decide) ?_
    exact pw_iret X hw dX0_callOf_202
  · replace hw := hw.2 c6
    refine pw_iconst X (-1) dX0_callOf_8 (by decide) ?_
    exact pw_iret X hw dX0_callOf_9
theorem met_X0_callOf (G : Gp) (l : Launch) (M : Mem) (a0 : Nat) (x1 : Int32) (x2 : Int32) (Q : Int32 → Mem → Prop) (hw : wp_X0_callOf G.2 M a0 x1 x2 Q) : m_K G l yX0_callOf cX0_callOf 4 (some .int) 3 64 [vR (some a0), vI x1, vI x2] M (va_Qi (m_q1 M Q) (m_W G) (m_A G)) := by
  refine m_met (by decide) (Nat.le_of_ble_eq_true rfl) (fun C e X => ?_)
  exact bk_X0_callOf_0 G C _ _ M Q X M a0 x1 x2 hw
theorem nh_X0_callOf : m_nMH yX0_callOf 2 := by decide +kernel

def wp_X0_waiting (g : Nat → Nat) (M : Mem) (a0 : Nat) (x1 : Int32) (Q : Int32 → Mem → Prop) : Prop := ((0 ≤ x1 → m_tg M a0 = 1 ∧ ∃ u3 : Nat, (m_gr M a0 0) = some u3 ∧ m_tg M u3 = 2 ∧ wp_X1_waiting g M u3 (fun (r8 : Option Nat) (M6 : Mem) => m_le M M6 → ∃ u11 : Nat, r8 = some u11 ∧ m_tg M6 u11 = 14 ∧ wp_J2_size g M6 u11 (fun (r16 : Int32) (M14 : Mem) => m_le M6 M14 → ((r16 ≤ x1 → Q (-5) M14) ∧ (¬ r16 ≤ x1 → wp_J2_get g M14 u11 x1 (fun (r23 : Option Nat) (M21 : Mem) => m_le M14 M21 → ∃ u27 : Nat, r23 = some u27 ∧ m_tg M21 u27 = 9 ∧ Q (m_gi M21 u27 0) M21)))))) ∧ (¬ 0 ≤ x1 → Q (-2) M))
theorem bk_X0_waiting_0 (G : Gp) (C : m_Cx) (n0 s0 : Nat) (M0 : Mem) (Q : Int32 → Mem → Prop) (X : m_in G C RX0 cX0_waiting 3 (some .int) "waiting" 7 165 n0 s0) (M : Mem) (a0 : Nat) (x1 : Int32) (hw : wp_X0_waiting G.2 M a0 x1 Q) : pW G C 3 n0 s0 M0 (m_Q G C n0 s0 (va_Qi (m_q1 M0 Q) (m_W G) (m_A G))) M 0 [(0, vR (some a0)), (1, vI x1)] [] := by
  refine pw_iload_n X dX0_waiting_0 rfl rfl ?_
  refine pw_if_ge X 7 dX0_waiting_1 (by decide) (fun c1 => ?_) (fun c1 => ?_)
  · replace hw := hw.1 c1
    refine pw_aload_n X dX0_waiting_7 rfl rfl ?_
    obtain ⟨ht2, hw⟩ := hw
    obtain ⟨u3, he4, hw⟩ := hw
    refine pw_get X (q := (RX0, TX0, tyX0, 4)) (ci := 0) (k := 0) (ref := "PatrolDesk") (vR (some u3)) ht2 rfl (by decide) in_X0 q948 (Or.inl rfl) (by rw [he4]; rfl) dX0_waiting_8 ?_
    obtain ⟨ht5, hw⟩ := hw
    refine pw_runq X (m_cV X (b := u3) (ci := 1) (q := (RX1, TX1, tyX1, 8)) (met_X1_waiting G C.2.1 M u3 _ hw) ht5 rfl (lw_V q1908 q1592 q1593 q79 q1594) ⟨rfl, nh_X1_waiting⟩ ⟨Nat.le_of_ble_eq_true rfl, Nat.le_of_ble_eq_true rfl⟩ rfl (Nat.le_of_ble_eq_true rfl) dX0_waiting_11) (fun r8 M6 hle7 hx => ?_)
    replace hw := hx hle7
    clear hx
    have ht9 : m_tg M6 a0 = 1 := m_le_tg hle7 ht2
    have ht10 : m_tg M6 u3 = 2 := m_le_tg hle7 ht5
    refine pw_astore_n X [(1, vI x1), (2, vR r8)] [2, 0] dX0_waiting_14 rfl (by decide) rfl ?_
    refine pw_iload_n X dX0_waiting_15 rfl rfl ?_
    refine pw_aload_n X dX0_waiting_16 rfl rfl ?_
    obtain ⟨u11, he12, hw⟩ := hw
    subst he12
    obtain ⟨ht13, hw⟩ := hw
    refine pw_runi X (m_cF X (b := u11) (ci := 13) (q := (RJ2, TJ2, tyJ2, 3)) (met_J2_size G C.2.1 M6 u11 _ hw) ht13 rfl (lw_app (lw_F q991 q994 q996 q82) (lw_meth q998)) (List.mem_of_getElem? (i := 6) rfl) (by decide +kernel : m_nMH ⟨"java/util/List", "size", "()I"⟩ 0) ⟨Nat.le_of_ble_eq_true rfl, Nat.le_of_ble_eq_true rfl⟩ rfl (Nat.le_of_ble_eq_true rfl) dX0_waiting_17) (fun r16 M14 hle15 hx => ?_)
    replace hw := hx hle15
    clear hx
    have ht17 : m_tg M14 a0 = 1 := m_le_tg hle15 ht9
    have ht18 : m_tg M14 u3 = 2 := m_le_tg hle15 ht10
    have ht19 : m_tg M14 u11 = 14 := m_le_tg hle15 ht13
    refine pw_icmp_ge X 41 dX0_waiting_22 (by decide) (fun c20 => ?_) (fun c20 => ?_)
    · replace hw := hw.1 c20
      refine pw_bipush X (-5) dX0_waiting_41 (by decide) ?_
      exact pw_iret X hw dX0_waiting_43
    · replace hw := hw.2 c20
      refine pw_aload_n X dX0_waiting_25 rfl rfl ?_
      refine pw_iload_n X dX0_waiting_26 rfl rfl ?_
      refine pw_runq X (m_cF X (b := u11) (ci := 13) (q := (RJ2, TJ2, tyJ2, 3)) (met_J2_get G C.2.1 M14 u11 x1 _ hw) ht19 rfl (lw_app (lw_F q1400 q1031 q1033 q82) (lw_meth q1035)) (List.mem_of_getElem? (i := 2) rfl) (by decide +kernel : m_nMH ⟨"java/util/List", "get", "(I)Ljava/lang/Object;"⟩ 1) ⟨Nat.le_of_ble_eq_true rfl, Nat.le_of_ble_eq_true rfl⟩ rfl (Nat.le_of_ble_eq_true rfl) dX0_waiting_27) (fun r23 M21 hle22 hx => ?_)
      replace hw := hx hle22
      clear hx
      have ht24 : m_tg M21 a0 = 1 := m_le_tg hle22 ht17
      have ht25 : m_tg M21 u3 = 2 := m_le_tg hle22 ht18
      have ht26 : m_tg M21 u11 = 14 := m_le_tg hle22 ht19
      obtain ⟨u27, he28, hw⟩ := hw
      subst he28
      obtain ⟨ht29, hw⟩ := hw
      refine pw_cast X 8 (q := (RX8, TX8, tyX8, 13)) rfl (fun _ h => by cases h; exact ht29) q1401 dX0_waiting_32 ?_
      refine pw_getN X (q := (RX8, TX8, tyX8, 13)) (ci := 8) (k := 0) (ref := "PatrolDesk$Call") (host := "PatrolDesk") (vI (m_gi M21 u27 0)) ht29 rfl (by decide) in_X8 q1209 (Or.inl rfl) rfl dX0_waiting_35 ?_
      refine pw_goto X 43 dX0_waiting_38 (by decide) ?_
      exact pw_iret X hw dX0_waiting_43
  · replace hw := hw.2 c1
    refine pw_bipush X (-2) dX0_waiting_4 (by decide) ?_
    exact pw_iret X hw dX0_waiting_6
theorem met_X0_waiting (G : Gp) (l : Launch) (M : Mem) (a0 : Nat) (x1 : Int32) (Q : Int32 → Mem → Prop) (hw : wp_X0_waiting G.2 M a0 x1 Q) : m_K G l yX0_waiting cX0_waiting 3 (some .int) 7 165 [vR (some a0), vI x1] M (va_Qi (m_q1 M Q) (m_W G) (m_A G)) := by
  refine m_met (by decide) (Nat.le_of_ble_eq_true rfl) (fun C e X => ?_)
  exact bk_X0_waiting_0 G C _ _ M Q X M a0 x1 hw
theorem nh_X0_waiting : m_nMH yX0_waiting 1 := by decide +kernel

def wp_X0_nearest (g : Nat → Nat) (M : Mem) (a0 : Nat) (x1 : Int32) (Q : Int32 → Mem → Prop) : Prop := m_tg M a0 = 1 ∧ wp_X0_isCall g M a0 x1 (fun (r4 : Int32) (M2 : Mem) => m_le M M2 → ((¬ r4 = 0 → ∃ u7 : Nat, (m_gr M2 a0 0) = some u7 ∧ m_tg M2 u7 = 2 ∧ ∃ u10 : Nat, (m_gr M2 u7 3) = some u10 ∧ m_tg M2 u10 = 14 ∧ wp_J2_get g M2 u10 x1 (fun (r15 : Option Nat) (M13 : Mem) => m_le M2 M13 → ∃ u19 : Nat, r15 = some u19 ∧ m_tg M13 u19 = 9 ∧ wp_X8_isWaiting g M13 u19 (fun (r24 : Int32) (M22 : Mem) => m_le M13 M22 → ((¬ r24 = 0 → ∃ u30 : Nat, (m_gr M22 a0 0) = some u30 ∧ ∃ u32 : Nat, (m_gr M22 a0 0) = some u32 ∧ m_tg M22 u32 = 2 ∧ ∃ u35 : Nat, (m_gr M22 u32 3) = some u35 ∧ m_tg M22 u35 = 14 ∧ wp_J2_get g M22 u35 x1 (fun (r40 : Option Nat) (M38 : Mem) => m_le M22 M38 → ∃ u47 : Nat, r40 = some u47 ∧ m_tg M38 u47 = 9 ∧ m_tg M38 u30 = 2 ∧ wp_X1_nearest g M38 u30 u47 (fun (r53 : Option Nat) (M51 : Mem) => m_le M38 M51 → ((r53 = none → Q (-5) M51) ∧ (∀ u62 : Nat, r53 = some u62 → m_tg M51 u62 = 7 ∧ Q (m_gi M51 u62 0) M51))))) ∧ (r24 = 0 → Q (-4) M22))))) ∧ (r4 = 0 → Q (-1) M2)))
theorem bk_X0_nearest_0 (G : Gp) (C : m_Cx) (n0 s0 : Nat) (M0 : Mem) (Q : Int32 → Mem → Prop) (X : m_in G C RX0 cX0_nearest 3 (some .int) "nearest" 7 3096 n0 s0) (M : Mem) (a0 : Nat) (x1 : Int32) (hw : wp_X0_nearest G.2 M a0 x1 Q) : pW G C 3 n0 s0 M0 (m_Q G C n0 s0 (va_Qi (m_q1 M0 Q) (m_W G) (m_A G))) M 0 [(0, vR (some a0)), (1, vI x1)] [] := by
  refine pw_aload_n X dX0_nearest_0 rfl rfl ?_
  refine pw_iload_n X dX0_nearest_1 rfl rfl ?_
  obtain ⟨ht1, hw⟩ := hw
  refine pw_runi X (m_cV X (b := a0) (ci := 0) (q := (RX0, TX0, tyX0, 4)) (met_X0_isCall G C.2.1 M a0 x1 _ hw) ht1 rfl (lw_V q1395 q1397 qs13 q78 q1398) ⟨rfl, nh_X0_isCall⟩ ⟨Nat.le_of_ble_eq_true rfl, Nat.le_of_ble_eq_true rfl⟩ rfl (Nat.le_of_ble_eq_true rfl) dX0_nearest_2) (fun r4 M2 hle3 hx => ?_)
  replace hw := hx hle3
  clear hx
  have ht5 : m_tg M2 a0 = 1 := m_le_tg hle3 ht1
  refine pw_if_ne X 10 dX0_nearest_5 (by decide) (fun c6 => ?_) (fun c6 => ?_)
  · replace hw := hw.1 c6
    refine pw_aload_n X dX0_nearest_10 rfl rfl ?_
    obtain ⟨u7, he8, hw⟩ := hw
    refine pw_get X (q := (RX0, TX0, tyX0, 4)) (ci := 0) (k := 0) (ref := "PatrolDesk") (vR (some u7)) ht5 rfl (by decide) in_X0 q948 (Or.inl rfl) (by rw [he8]; rfl) dX0_nearest_11 ?_
    obtain ⟨ht9, hw⟩ := hw
    obtain ⟨u10, he11, hw⟩ := hw
    refine pw_getN X (q := (RX1, TX1, tyX1, 8)) (ci := 1) (k := 3) (ref := "PatrolDesk$State") (host := "PatrolDesk") (vR (some u10)) ht9 rfl (by decide) in_X1 q168 (Or.inl rfl) (by rw [he11]; rfl) dX0_nearest_14 ?_
    refine pw_iload_n X dX0_nearest_17 rfl rfl ?_
    obtain ⟨ht12, hw⟩ := hw
    refine pw_runq X (m_cF X (b := u10) (ci := 13) (q := (RJ2, TJ2, tyJ2, 3)) (met_J2_get G C.2.1 M2 u10 x1 _ hw) ht12 rfl (lw_app (lw_F q1400 q1031 q1033 q82) (lw_meth q1035)) (List.mem_of_getElem? (i := 2) rfl) (by decide +kernel : m_nMH ⟨"java/util/List", "get", "(I)Ljava/lang/Object;"⟩ 1) ⟨Nat.le_of_ble_eq_true rfl, Nat.le_of_ble_eq_true rfl⟩ rfl (Nat.le_of_ble_eq_true rfl) dX0_nearest_18) (fun r15 M13 hle14 hx => ?_)
    replace hw := hx hle14
    clear hx
    have ht16 : m_tg M13 a0 = 1 := m_le_tg hle14 ht5
    have ht17 : m_tg M13 u7 = 2 := m_le_tg hle14 ht9
    have ht18 : m_tg M13 u10 = 14 := m_le_tg hle14 ht12
    obtain ⟨u19, he20, hw⟩ := hw
    subst he20
    obtain ⟨ht21, hw⟩ := hw
    refine pw_cast X 8 (q := (RX8, TX8, tyX8, 13)) rfl (fun _ h => by cases h; exact ht21) q1401 dX0_nearest_23 ?_
    refine pw_runi X (m_cV X (b := u19) (ci := 8) (q := (RX8, TX8, tyX8, 13)) (met_X8_isWaiting G C.2.1 M13 u19 _ hw) ht21 rfl (lw_V q1913 q1596 q1597 q112 q1598) ⟨rfl, nh_X8_isWaiting⟩ ⟨Nat.le_of_ble_eq_true rfl, Nat.le_of_ble_eq_true rfl⟩ rfl (Nat.le_of_ble_eq_true rfl) dX0_nearest_26) (fun r24 M22 hle23 hx => ?_)
    replace hw := hx hle23
    clear hx
    have ht25 : m_tg M22 a0 = 1 := m_le_tg hle23 ht16
    have ht26 : m_tg M22 u7 = 2 := m_le_tg hle23 ht17
    have ht27 : m_tg M22 u10 = 14 := m_le_tg hle23 ht18
    have ht28 : m_tg M22 u19 = 9 := m_le_tg hle23 ht21
    refine pw_if_ne X 35 dX0_nearest_29 (by decide) (fun c29 => ?_) (fun c29 => ?_)
    · replace hw := hw.1 c29
      refine pw_aload_n X dX0_nearest_35 rfl rfl ?_
      obtain ⟨u30, he31, hw⟩ := hw
      refine pw_get X (q := (RX0, TX0, tyX0, 4)) (ci := 0) (k := 0) (ref := "PatrolDesk") (vR (some u30)) ht25 rfl (by decide) in_X0 q948 (Or.inl rfl) (by rw [he31]; rfl) dX0_nearest_36 ?_
      refine pw_aload_n X dX0_nearest_39 rfl rfl ?_
      obtain ⟨u32, he33, hw⟩ := hw
      refine pw_get X (q := (RX0, TX0, tyX0, 4)) (ci := 0) (k := 0) (ref := "PatrolDesk") (vR (some u32)) ht25 rfl (by decide) in_X0 q948 (Or.inl rfl) (by rw [he33]; rfl) dX0_nearest_40 ?_
      obtain ⟨ht34, hw⟩ := hw
      obtain ⟨u35, he36, hw⟩ := hw
      refine pw_getN X (q := (RX1, TX1, tyX1, 8)) (ci := 1) (k := 3) (ref := "PatrolDesk$State") (host := "PatrolDesk") (vR (some u35)) ht34 rfl (by decide) in_X1 q168 (Or.inl rfl) (by rw [he36]; rfl) dX0_nearest_43 ?_
      refine pw_iload_n X dX0_nearest_46 rfl rfl ?_
      obtain ⟨ht37, hw⟩ := hw
      refine pw_runq X (m_cF X (b := u35) (ci := 13) (q := (RJ2, TJ2, tyJ2, 3)) (met_J2_get G C.2.1 M22 u35 x1 _ hw) ht37 rfl (lw_app (lw_F q1400 q1031 q1033 q82) (lw_meth q1035)) (List.mem_of_getElem? (i := 2) rfl) (by decide +kernel : m_nMH ⟨"java/util/List", "get", "(I)Ljava/lang/Object;"⟩ 1) ⟨Nat.le_of_ble_eq_true rfl, Nat.le_of_ble_eq_true rfl⟩ rfl (Nat.le_of_ble_eq_true rfl) dX0_nearest_47) (fun r40 M38 hle39 hx => ?_)
      replace hw := hx hle39
      clear hx
      have ht41 : m_tg M38 a0 = 1 := m_le_tg hle39 ht25
      have ht42 : m_tg M38 u7 = 2 := m_le_tg hle39 ht26
      have ht43 : m_tg M38 u10 = 14 := m_le_tg hle39 ht27
      have ht44 : m_tg M38 u19 = 9 := m_le_tg hle39 ht28
      have ht45 : m_tg M38 u32 = 2 := m_le_tg hle39 ht34
      have ht46 : m_tg M38 u35 = 14 := m_le_tg hle39 ht37
      obtain ⟨u47, he48, hw⟩ := hw
      subst he48
      obtain ⟨ht49, hw⟩ := hw
      refine pw_cast X 8 (q := (RX8, TX8, tyX8, 13)) rfl (fun _ h => by cases h; exact ht49) q1401 dX0_nearest_52 ?_
      obtain ⟨ht50, hw⟩ := hw
      refine pw_runq X (m_cV X (b := u30) (ci := 1) (q := (RX1, TX1, tyX1, 8)) (met_X1_nearest G C.2.1 M38 u30 u47 _ hw) ht50 rfl (lw_V q1914 q1625 q1626 q79 q1627) ⟨rfl, nh_X1_nearest⟩ ⟨Nat.le_of_ble_eq_true rfl, Nat.le_of_ble_eq_true rfl⟩ rfl (Nat.le_of_ble_eq_true rfl) dX0_nearest_55) (fun r53 M51 hle52 hx => ?_)
      replace hw := hx hle52
      clear hx
      have ht54 : m_tg M51 a0 = 1 := m_le_tg hle52 ht41
      have ht55 : m_tg M51 u7 = 2 := m_le_tg hle52 ht42
      have ht56 : m_tg M51 u10 = 14 := m_le_tg hle52 ht43
      have ht57 : m_tg M51 u19 = 9 := m_le_tg hle52 ht44
      have ht58 : m_tg M51 u32 = 2 := m_le_tg hle52 ht45
      have ht59 : m_tg M51 u35 = 14 := m_le_tg hle52 ht46
      have ht60 : m_tg M51 u47 = 9 := m_le_tg hle52 ht49
      have ht61 : m_tg M51 u30 = 2 := m_le_tg hle52 ht50
      refine pw_astore_n X [(2, vR r53)] [0] dX0_nearest_58 rfl (by decide) rfl ?_
      refine pw_aload_n X dX0_nearest_59 rfl rfl ?_
      refine pw_ifnonnull X 68 dX0_nearest_60 (by decide) (fun u62 he63 => ?_) (fun he63 => ?_)
      · replace hw := hw.2 u62 he63
        subst he63
        refine pw_aload_n X dX0_nearest_68 rfl rfl ?_
        obtain ⟨ht64, hw⟩ := hw
        refine pw_getN X (q := (RX6, TX6, tyX6, 15)) (ci := 6) (k := 0) (ref := "PatrolDesk$Patrol") (host := "PatrolDesk") (vI (m_gi M51 u62 0)) ht64 rfl (by decide) in_X6 q1090 (Or.inl rfl) rfl dX0_nearest_69 ?_
        exact pw_iret X hw dX0_nearest_72
      · replace hw := hw.1 he63
        subst he63
        refine pw_bipush X (-5) dX0_nearest_63 (by decide) ?_
        refine pw_goto X 72 dX0_nearest_65 (by decide) ?_
        exact pw_iret X hw dX0_nearest_72
    · replace hw := hw.2 c29
      refine pw_bipush X (-4) dX0_nearest_32 (by decide) ?_
      exact pw_iret X hw dX0_nearest_34
  · replace hw := hw.2 c6
    refine pw_iconst X (-1) dX0_nearest_8 (by decide) ?_
    exact pw_iret X hw dX0_nearest_9
theorem met_X0_nearest (G : Gp) (l : Launch) (M : Mem) (a0 : Nat) (x1 : Int32) (Q : Int32 → Mem → Prop) (hw : wp_X0_nearest G.2 M a0 x1 Q) : m_K G l yX0_nearest cX0_nearest 3 (some .int) 7 3096 [vR (some a0), vI x1] M (va_Qi (m_q1 M Q) (m_W G) (m_A G)) := by
  refine m_met (by decide) (Nat.le_of_ble_eq_true rfl) (fun C e X => ?_)
  exact bk_X0_nearest_0 G C _ _ M Q X M a0 x1 hw
theorem nh_X0_nearest : m_nMH yX0_nearest 1 := by decide +kernel

def wp_X0_waitFor_b106 (g : Nat → Nat) (M : Mem) (lx1 : Int32) (lr2 : Option Nat) (Q : Int32 → Mem → Prop) : Prop := ∃ u1 : Nat, lr2 = some u1 ∧ m_tg M u1 = 2 ∧ ∃ u4 : Nat, (m_gr M u1 3) = some u4 ∧ m_tg M u4 = 14 ∧ wp_J2_get g M u4 lx1 (fun (r9 : Option Nat) (M7 : Mem) => m_le M M7 → ∃ u12 : Nat, r9 = some u12 ∧ m_tg M7 u12 = 9 ∧ ((¬ (m_gi M7 u12 9) = (-5) → ∃ u16 : Nat, (m_gr M7 u1 3) = some u16 ∧ m_tg M7 u16 = 14 ∧ wp_J2_get g M7 u16 lx1 (fun (r21 : Option Nat) (M19 : Mem) => m_le M7 M19 → ∃ u26 : Nat, r21 = some u26 ∧ m_tg M19 u26 = 9 ∧ wp_X8_waited g M19 u26 (m_gi M19 u1 7) (fun (r31 : Int32) (M29 : Mem) => m_le M19 M29 → Q r31 M29))) ∧ ((m_gi M7 u12 9) = (-5) → Q (-5) M7)))
def wp_X0_waitFor_b65 (g : Nat → Nat) (Q : Int32 → Mem → Prop) : Nat → Mem → Int32 → Option Nat → Int32 → Int32 → Prop
  | 0 => fun _ _ _ _ _ => False
  | n + 1 => fun M lx1 lr2 lx3 lx4 => ∃ u1 : Nat, lr2 = some u1 ∧ m_tg M u1 = 2 ∧ ((lx3 ≤ (m_gi M u1 7) → wp_X0_waitFor_b106 g M lx1 (some u1) Q) ∧ (¬ lx3 ≤ (m_gi M u1 7) → ∃ u5 : Nat, (m_gr M u1 3) = some u5 ∧ m_tg M u5 = 14 ∧ wp_J2_get g M u5 lx1 (fun (r10 : Option Nat) (M8 : Mem) => m_le M M8 → ∃ u13 : Nat, r10 = some u13 ∧ m_tg M8 u13 = 9 ∧ ((¬ (m_gi M8 u13 9) = (-5) → wp_X0_waitFor_b106 g M8 lx1 (some u1) Q) ∧ ((m_gi M8 u13 9) = (-5) → wp_X1_passMinute g M8 u1 (fun (r19 : Int32) (M17 : Mem) => m_le M8 M17 → wp_X0_waitFor_b65 g Q n M17 lx1 (some u1) lx3 (lx4 + r19)))))))
def wp_X0_waitFor (g : Nat → Nat) (M : Mem) (a0 : Nat) (x1 : Int32) (Q : Int32 → Mem → Prop) : Prop := m_tg M a0 = 1 ∧ wp_X0_isCall g M a0 x1 (fun (r4 : Int32) (M2 : Mem) => m_le M M2 → ((¬ r4 = 0 → ∃ u7 : Nat, (m_gr M2 a0 0) = some u7 ∧ m_tg M2 u7 = 2 ∧ ∃ u10 : Nat, (m_gr M2 u7 3) = some u10 ∧ m_tg M2 u10 = 14 ∧ wp_J2_get g M2 u10 x1 (fun (r15 : Option Nat) (M13 : Mem) => m_le M2 M13 → ∃ u19 : Nat, r15 = some u19 ∧ m_tg M13 u19 = 9 ∧ (((m_gi M13 u19 7) ≤ 1 → ∃ u23 : Nat, (m_gr M13 a0 0) = some u23 ∧ m_tg M13 u23 = 2 ∧ wp_X1_copy g M13 u23 (fun (r28 : Option Nat) (M26 : Mem) => m_le M13 M26 → ∃ u34 : Nat, (m_gr M26 a0 0) = some u34 ∧ m_tg M26 u34 = 2 ∧ ∃ j65 : Nat, wp_X0_waitFor_b65 g Q j65 M26 x1 r28 (if ((m_gi M26 u34 7) + 240) < 2880 then ((m_gi M26 u34 7) + 240) else 2880) 0)) ∧ (¬ (m_gi M13 u19 7) ≤ 1 → Q (-4) M13)))) ∧ (r4 = 0 → Q (-1) M2)))
theorem bk_X0_waitFor_106 (G : Gp) (C : m_Cx) (n0 s0 : Nat) (M0 : Mem) (Q : Int32 → Mem → Prop) (X : m_in G C RX0 cX0_waitFor 5 (some .int) "waitFor" 13 3143 n0 s0) (M : Mem) (lx1 : Int32) (lr2 : Option Nat) (hw : wp_X0_waitFor_b106 G.2 M lx1 lr2 Q) : pW G C 5 n0 s0 M0 (m_Q G C n0 s0 (va_Qi (m_q1 M0 Q) (m_W G) (m_A G))) M 106 [(1, vI lx1), (2, vR lr2)] [] := by
  refine pw_aload_n X dX0_waitFor_106 rfl rfl ?_
  obtain ⟨u1, he2, hw⟩ := hw
  subst he2
  obtain ⟨ht3, hw⟩ := hw
  obtain ⟨u4, he5, hw⟩ := hw
  refine pw_getN X (q := (RX1, TX1, tyX1, 8)) (ci := 1) (k := 3) (ref := "PatrolDesk$State") (host := "PatrolDesk") (vR (some u4)) ht3 rfl (by decide) in_X1 q168 (Or.inl rfl) (by rw [he5]; rfl) dX0_waitFor_107 ?_
  refine pw_iload_n X dX0_waitFor_110 rfl rfl ?_
  obtain ⟨ht6, hw⟩ := hw
  refine pw_runq X (m_cF X (b := u4) (ci := 13) (q := (RJ2, TJ2, tyJ2, 3)) (met_J2_get G C.2.1 M u4 lx1 _ hw) ht6 rfl (lw_app (lw_F q1400 q1031 q1033 q82) (lw_meth q1035)) (List.mem_of_getElem? (i := 2) rfl) (by decide +kernel : m_nMH ⟨"java/util/List", "get", "(I)Ljava/lang/Object;"⟩ 1) ⟨Nat.le_of_ble_eq_true rfl, Nat.le_of_ble_eq_true rfl⟩ rfl (Nat.le_of_ble_eq_true rfl) dX0_waitFor_111) (fun r9 M7 hle8 hx => ?_)
  replace hw := hx hle8
  clear hx
  have ht10 : m_tg M7 u1 = 2 := m_le_tg hle8 ht3
  have ht11 : m_tg M7 u4 = 14 := m_le_tg hle8 ht6
  obtain ⟨u12, he13, hw⟩ := hw
  subst he13
  obtain ⟨ht14, hw⟩ := hw
  refine pw_cast X 8 (q := (RX8, TX8, tyX8, 13)) rfl (fun _ h => by cases h; exact ht14) q1401 dX0_waitFor_116 ?_
  refine pw_getN X (q := (RX8, TX8, tyX8, 13)) (ci := 8) (k := 9) (ref := "PatrolDesk$Call") (host := "PatrolDesk") (vI (m_gi M7 u12 9)) ht14 rfl (by decide) in_X8 q1235 (Or.inl rfl) rfl dX0_waitFor_119 ?_
  refine pw_bipush X (-5) dX0_waitFor_122 (by decide) ?_
  refine pw_icmp_ne X 132 dX0_waitFor_124 (by decide) (fun c15 => ?_) (fun c15 => ?_)
  · replace hw := hw.1 c15
    refine pw_aload_n X dX0_waitFor_132 rfl rfl ?_
    obtain ⟨u16, he17, hw⟩ := hw
    refine pw_getN X (q := (RX1, TX1, tyX1, 8)) (ci := 1) (k := 3) (ref := "PatrolDesk$State") (host := "PatrolDesk") (vR (some u16)) ht10 rfl (by decide) in_X1 q168 (Or.inl rfl) (by rw [he17]; rfl) dX0_waitFor_133 ?_
    refine pw_iload_n X dX0_waitFor_136 rfl rfl ?_
    obtain ⟨ht18, hw⟩ := hw
    refine pw_runq X (m_cF X (b := u16) (ci := 13) (q := (RJ2, TJ2, tyJ2, 3)) (met_J2_get G C.2.1 M7 u16 lx1 _ hw) ht18 rfl (lw_app (lw_F q1400 q1031 q1033 q82) (lw_meth q1035)) (List.mem_of_getElem? (i := 2) rfl) (by decide +kernel : m_nMH ⟨"java/util/List", "get", "(I)Ljava/lang/Object;"⟩ 1) ⟨Nat.le_of_ble_eq_true rfl, Nat.le_of_ble_eq_true rfl⟩ rfl (Nat.le_of_ble_eq_true rfl) dX0_waitFor_137) (fun r21 M19 hle20 hx => ?_)
    replace hw := hx hle20
    clear hx
    have ht22 : m_tg M19 u1 = 2 := m_le_tg hle20 ht10
    have ht23 : m_tg M19 u4 = 14 := m_le_tg hle20 ht11
    have ht24 : m_tg M19 u12 = 9 := m_le_tg hle20 ht14
    have ht25 : m_tg M19 u16 = 14 := m_le_tg hle20 ht18
    obtain ⟨u26, he27, hw⟩ := hw
    subst he27
    obtain ⟨ht28, hw⟩ := hw
    refine pw_cast X 8 (q := (RX8, TX8, tyX8, 13)) rfl (fun _ h => by cases h; exact ht28) q1401 dX0_waitFor_142 ?_
    refine pw_aload_n X dX0_waitFor_145 rfl rfl ?_
    refine pw_getN X (q := (RX1, TX1, tyX1, 8)) (ci := 1) (k := 7) (ref := "PatrolDesk$State") (host := "PatrolDesk") (vI (m_gi M19 u1 7)) ht22 rfl (by decide) in_X1 q176 (Or.inl rfl) rfl dX0_waitFor_146 ?_
    refine pw_runi X (m_cV X (b := u26) (ci := 8) (q := (RX8, TX8, tyX8, 13)) (met_X8_waited G C.2.1 M19 u26 (m_gi M19 u1 7) _ hw) ht28 rfl (lw_V q1410 q1411 q1412 q112 q1413) ⟨rfl, nh_X8_waited⟩ ⟨Nat.le_of_ble_eq_true rfl, Nat.le_of_ble_eq_true rfl⟩ rfl (Nat.le_of_ble_eq_true rfl) dX0_waitFor_149) (fun r31 M29 hle30 hx => ?_)
    replace hw := hx hle30
    clear hx
    have ht32 : m_tg M29 u1 = 2 := m_le_tg hle30 ht22
    have ht33 : m_tg M29 u4 = 14 := m_le_tg hle30 ht23
    have ht34 : m_tg M29 u12 = 9 := m_le_tg hle30 ht24
    have ht35 : m_tg M29 u16 = 14 := m_le_tg hle30 ht25
    have ht36 : m_tg M29 u26 = 9 := m_le_tg hle30 ht28
    exact pw_iret X hw dX0_waitFor_152
  · replace hw := hw.2 c15
    refine pw_bipush X (-5) dX0_waitFor_127 (by decide) ?_
    refine pw_goto X 152 dX0_waitFor_129 (by decide) ?_
    exact pw_iret X hw dX0_waitFor_152
theorem bk_X0_waitFor_65 (G : Gp) (C : m_Cx) (n0 s0 : Nat) (M0 : Mem) (Q : Int32 → Mem → Prop) (X : m_in G C RX0 cX0_waitFor 5 (some .int) "waitFor" 13 3143 n0 s0) : ∀ (n : Nat) (M : Mem) (lx1 : Int32) (lr2 : Option Nat) (lx3 : Int32) (lx4 : Int32) (hw : wp_X0_waitFor_b65 G.2 Q n M lx1 lr2 lx3 lx4), pW G C 5 n0 s0 M0 (m_Q G C n0 s0 (va_Qi (m_q1 M0 Q) (m_W G) (m_A G))) M 65 [(1, vI lx1), (2, vR lr2), (3, vI lx3), (4, vI lx4)] [] := by
  intro n
  induction n with
  | zero => intro M lx1 lr2 lx3 lx4 hw; exact hw.elim
  | succ n ih =>
    intro M lx1 lr2 lx3 lx4 hw
    refine pw_aload_n X dX0_waitFor_65 rfl rfl ?_
    obtain ⟨u1, he2, hw⟩ := hw
    subst he2
    obtain ⟨ht3, hw⟩ := hw
    refine pw_getN X (q := (RX1, TX1, tyX1, 8)) (ci := 1) (k := 7) (ref := "PatrolDesk$State") (host := "PatrolDesk") (vI (m_gi M u1 7)) ht3 rfl (by decide) in_X1 q176 (Or.inl rfl) rfl dX0_waitFor_66 ?_
    refine pw_iload_n X dX0_waitFor_69 rfl rfl ?_
    refine pw_icmp_ge X 106 dX0_waitFor_70 (by decide) (fun c4 => ?_) (fun c4 => ?_)
    · replace hw := hw.1 c4
      refine pw_lo [0, 1] rfl ?_
      exact bk_X0_waitFor_106 G C n0 s0 M0 Q X _ lx1 (some u1) hw
    · replace hw := hw.2 c4
      refine pw_aload_n X dX0_waitFor_73 rfl rfl ?_
      obtain ⟨u5, he6, hw⟩ := hw
      refine pw_getN X (q := (RX1, TX1, tyX1, 8)) (ci := 1) (k := 3) (ref := "PatrolDesk$State") (host := "PatrolDesk") (vR (some u5)) ht3 rfl (by decide) in_X1 q168 (Or.inl rfl) (by rw [he6]; rfl) dX0_waitFor_74 ?_
      refine pw_iload_n X dX0_waitFor_77 rfl rfl ?_
      obtain ⟨ht7, hw⟩ := hw
      refine pw_runq X (m_cF X (b := u5) (ci := 13) (q := (RJ2, TJ2, tyJ2, 3)) (met_J2_get G C.2.1 M u5 lx1 _ hw) ht7 rfl (lw_app (lw_F q1400 q1031 q1033 q82) (lw_meth q1035)) (List.mem_of_getElem? (i := 2) rfl) (by decide +kernel : m_nMH ⟨"java/util/List", "get", "(I)Ljava/lang/Object;"⟩ 1) ⟨Nat.le_of_ble_eq_true rfl, Nat.le_of_ble_eq_true rfl⟩ rfl (Nat.le_of_ble_eq_true rfl) dX0_waitFor_78) (fun r10 M8 hle9 hx => ?_)
      replace hw := hx hle9
      clear hx
      have ht11 : m_tg M8 u1 = 2 := m_le_tg hle9 ht3
      have ht12 : m_tg M8 u5 = 14 := m_le_tg hle9 ht7
      obtain ⟨u13, he14, hw⟩ := hw
      subst he14
      obtain ⟨ht15, hw⟩ := hw
      refine pw_cast X 8 (q := (RX8, TX8, tyX8, 13)) rfl (fun _ h => by cases h; exact ht15) q1401 dX0_waitFor_83 ?_
      refine pw_getN X (q := (RX8, TX8, tyX8, 13)) (ci := 8) (k := 9) (ref := "PatrolDesk$Call") (host := "PatrolDesk") (vI (m_gi M8 u13 9)) ht15 rfl (by decide) in_X8 q1235 (Or.inl rfl) rfl dX0_waitFor_86 ?_
      refine pw_bipush X (-5) dX0_waitFor_89 (by decide) ?_
      refine pw_icmp_ne X 106 dX0_waitFor_91 (by decide) (fun c16 => ?_) (fun c16 => ?_)
      · replace hw := hw.1 c16
        refine pw_lo [0, 1] rfl ?_
        exact bk_X0_waitFor_106 G C n0 s0 M0 Q X _ lx1 (some u1) hw
      · replace hw := hw.2 c16
        refine pw_iload X dX0_waitFor_94 rfl ?_
        refine pw_aload_n X dX0_waitFor_96 rfl rfl ?_
        refine pw_runi X (m_cV X (b := u1) (ci := 1) (q := (RX1, TX1, tyX1, 8)) (met_X1_passMinute G C.2.1 M8 u1 _ hw) ht11 rfl (lw_V q1451 q1452 q1453 q79 q1454) ⟨rfl, nh_X1_passMinute⟩ ⟨Nat.le_of_ble_eq_true rfl, Nat.le_of_ble_eq_true rfl⟩ rfl (Nat.le_of_ble_eq_true rfl) dX0_waitFor_97) (fun r19 M17 hle18 hx => ?_)
        replace hw := hx hle18
        clear hx
        have ht20 : m_tg M17 u1 = 2 := m_le_tg hle18 ht11
        have ht21 : m_tg M17 u5 = 14 := m_le_tg hle18 ht12
        have ht22 : m_tg M17 u13 = 9 := m_le_tg hle18 ht15
        refine pw_iadd X dX0_waitFor_100 ?_
        refine pw_istore X [(1, vI lx1), (2, vR (some u1)), (3, vI lx3), (4, vI (lx4 + r19))] [1, 2, 3, 0] dX0_waitFor_101 (by decide) rfl ?_
        refine pw_goto X 65 dX0_waitFor_103 (by decide) ?_
        exact ih _ lx1 (some u1) lx3 (lx4 + r19) hw
theorem bk_X0_waitFor_0 (G : Gp) (C : m_Cx) (n0 s0 : Nat) (M0 : Mem) (Q : Int32 → Mem → Prop) (X : m_in G C RX0 cX0_waitFor 5 (some .int) "waitFor" 13 3143 n0 s0) (M : Mem) (a0 : Nat) (x1 : Int32) (hw : wp_X0_waitFor G.2 M a0 x1 Q) : pW G C 5 n0 s0 M0 (m_Q G C n0 s0 (va_Qi (m_q1 M0 Q) (m_W G) (m_A G))) M 0 [(0, vR (some a0)), (1, vI x1)] [] := by
  refine pw_aload_n X dX0_waitFor_0 rfl rfl ?_
  refine pw_iload_n X dX0_waitFor_1 rfl rfl ?_
  obtain ⟨ht1, hw⟩ := hw
  refine pw_runi X (m_cV X (b := a0) (ci := 0) (q := (RX0, TX0, tyX0, 4)) (met_X0_isCall G C.2.1 M a0 x1 _ hw) ht1 rfl (lw_V q1395 q1397 qs13 q78 q1398) ⟨rfl, nh_X0_isCall⟩ ⟨Nat.le_of_ble_eq_true rfl, Nat.le_of_ble_eq_true rfl⟩ rfl (Nat.le_of_ble_eq_true rfl) dX0_waitFor_2) (fun r4 M2 hle3 hx => ?_)
  replace hw := hx hle3
  clear hx
  have ht5 : m_tg M2 a0 = 1 := m_le_tg hle3 ht1
  refine pw_if_ne X 10 dX0_waitFor_5 (by decide) (fun c6 => ?_) (fun c6 => ?_)
  · replace hw := hw.1 c6
    refine pw_aload_n X dX0_waitFor_10 rfl rfl ?_
    obtain ⟨u7, he8, hw⟩ := hw
    refine pw_get X (q := (RX0, TX0, tyX0, 4)) (ci := 0) (k := 0) (ref := "PatrolDesk") (vR (some u7)) ht5 rfl (by decide) in_X0 q948 (Or.inl rfl) (by rw [he8]; rfl) dX0_waitFor_11 ?_
    obtain ⟨ht9, hw⟩ := hw
    obtain ⟨u10, he11, hw⟩ := hw
    refine pw_getN X (q := (RX1, TX1, tyX1, 8)) (ci := 1) (k := 3) (ref := "PatrolDesk$State") (host := "PatrolDesk") (vR (some u10)) ht9 rfl (by decide) in_X1 q168 (Or.inl rfl) (by rw [he11]; rfl) dX0_waitFor_14 ?_
    refine pw_iload_n X dX0_waitFor_17 rfl rfl ?_
    obtain ⟨ht12, hw⟩ := hw
    refine pw_runq X (m_cF X (b := u10) (ci := 13) (q := (RJ2, TJ2, tyJ2, 3)) (met_J2_get G C.2.1 M2 u10 x1 _ hw) ht12 rfl (lw_app (lw_F q1400 q1031 q1033 q82) (lw_meth q1035)) (List.mem_of_getElem? (i := 2) rfl) (by decide +kernel : m_nMH ⟨"java/util/List", "get", "(I)Ljava/lang/Object;"⟩ 1) ⟨Nat.le_of_ble_eq_true rfl, Nat.le_of_ble_eq_true rfl⟩ rfl (Nat.le_of_ble_eq_true rfl) dX0_waitFor_18) (fun r15 M13 hle14 hx => ?_)
    replace hw := hx hle14
    clear hx
    have ht16 : m_tg M13 a0 = 1 := m_le_tg hle14 ht5
    have ht17 : m_tg M13 u7 = 2 := m_le_tg hle14 ht9
    have ht18 : m_tg M13 u10 = 14 := m_le_tg hle14 ht12
    obtain ⟨u19, he20, hw⟩ := hw
    subst he20
    obtain ⟨ht21, hw⟩ := hw
    refine pw_cast X 8 (q := (RX8, TX8, tyX8, 13)) rfl (fun _ h => by cases h; exact ht21) q1401 dX0_waitFor_23 ?_
    refine pw_getN X (q := (RX8, TX8, tyX8, 13)) (ci := 8) (k := 7) (ref := "PatrolDesk$Call") (host := "PatrolDesk") (vI (m_gi M13 u19 7)) ht21 rfl (by decide) in_X8 q1229 (Or.inl rfl) rfl dX0_waitFor_26 ?_
    refine pw_iconst X 1 dX0_waitFor_29 (by decide) ?_
    refine pw_icmp_le X 36 dX0_waitFor_30 (by decide) (fun c22 => ?_) (fun c22 => ?_)
    · replace hw := hw.1 c22
      refine pw_aload_n X dX0_waitFor_36 rfl rfl ?_
      obtain ⟨u23, he24, hw⟩ := hw
      refine pw_get X (q := (RX0, TX0, tyX0, 4)) (ci := 0) (k := 0) (ref := "PatrolDesk") (vR (some u23)) ht16 rfl (by decide) in_X0 q948 (Or.inl rfl) (by rw [he24]; rfl) dX0_waitFor_37 ?_
      obtain ⟨ht25, hw⟩ := hw
      refine pw_runq X (m_cV X (b := u23) (ci := 1) (q := (RX1, TX1, tyX1, 8)) (met_X1_copy G C.2.1 M13 u23 _ hw) ht25 rfl (lw_V q1019 q1020 q1021 q79 q1022) ⟨rfl, nh_X1_copy⟩ ⟨Nat.le_of_ble_eq_true rfl, Nat.le_of_ble_eq_true rfl⟩ rfl (Nat.le_of_ble_eq_true rfl) dX0_waitFor_40) (fun r28 M26 hle27 hx => ?_)
      replace hw := hx hle27
      clear hx
      have ht29 : m_tg M26 a0 = 1 := m_le_tg hle27 ht16
      have ht30 : m_tg M26 u7 = 2 := m_le_tg hle27 ht17
      have ht31 : m_tg M26 u10 = 14 := m_le_tg hle27 ht18
      have ht32 : m_tg M26 u19 = 9 := m_le_tg hle27 ht21
      have ht33 : m_tg M26 u23 = 2 := m_le_tg hle27 ht25
      refine pw_astore_n X [(0, vR (some a0)), (1, vI x1), (2, vR r28)] [1, 2, 0] dX0_waitFor_43 rfl (by decide) rfl ?_
      refine pw_sipush X 2880 dX0_waitFor_44 (by decide) ?_
      refine pw_aload_n X dX0_waitFor_47 rfl rfl ?_
      obtain ⟨u34, he35, hw⟩ := hw
      refine pw_get X (q := (RX0, TX0, tyX0, 4)) (ci := 0) (k := 0) (ref := "PatrolDesk") (vR (some u34)) ht29 rfl (by decide) in_X0 q948 (Or.inl rfl) (by rw [he35]; rfl) dX0_waitFor_48 ?_
      obtain ⟨ht36, hw⟩ := hw
      refine pw_getN X (q := (RX1, TX1, tyX1, 8)) (ci := 1) (k := 7) (ref := "PatrolDesk$State") (host := "PatrolDesk") (vI (m_gi M26 u34 7)) ht36 rfl (by decide) in_X1 q176 (Or.inl rfl) rfl dX0_waitFor_51 ?_
      refine pw_sipush X 240 dX0_waitFor_54 (by decide) ?_
      refine pw_iadd X dX0_waitFor_57 ?_
      refine pw_mmin X q1919 q295 q92 q296 (Nat.le_of_ble_eq_true rfl) (Nat.le_of_ble_eq_true rfl) dX0_waitFor_58 ?_
      refine pw_istore_n X [(1, vI x1), (2, vR r28), (3, vI (if ((m_gi M26 u34 7) + 240) < 2880 then ((m_gi M26 u34 7) + 240) else 2880))] [2, 3, 0] dX0_waitFor_61 rfl (by decide) rfl ?_
      refine pw_iconst X 0 dX0_waitFor_62 (by decide) ?_
      refine pw_istore X [(1, vI x1), (2, vR r28), (3, vI (if ((m_gi M26 u34 7) + 240) < 2880 then ((m_gi M26 u34 7) + 240) else 2880)), (4, vI 0)] [1, 2, 3, 0] dX0_waitFor_63 (by decide) rfl ?_
      obtain ⟨n65, hw⟩ := hw
      exact bk_X0_waitFor_65 G C n0 s0 M0 Q X n65 _ x1 r28 (if ((m_gi M26 u34 7) + 240) < 2880 then ((m_gi M26 u34 7) + 240) else 2880) 0 hw
    · replace hw := hw.2 c22
      refine pw_bipush X (-4) dX0_waitFor_33 (by decide) ?_
      exact pw_iret X hw dX0_waitFor_35
  · replace hw := hw.2 c6
    refine pw_iconst X (-1) dX0_waitFor_8 (by decide) ?_
    exact pw_iret X hw dX0_waitFor_9
theorem met_X0_waitFor (G : Gp) (l : Launch) (M : Mem) (a0 : Nat) (x1 : Int32) (Q : Int32 → Mem → Prop) (hw : wp_X0_waitFor G.2 M a0 x1 Q) : m_K G l yX0_waitFor cX0_waitFor 5 (some .int) 13 3143 [vR (some a0), vI x1] M (va_Qi (m_q1 M Q) (m_W G) (m_A G)) := by
  refine m_met (by decide) (Nat.le_of_ble_eq_true rfl) (fun C e X => ?_)
  exact bk_X0_waitFor_0 G C _ _ M Q X M a0 x1 hw
theorem nh_X0_waitFor : m_nMH yX0_waitFor 1 := by decide +kernel

def wp_X0_moneyOf_b4 (g : Nat → Nat) (Q : Int32 → Mem → Prop) : Nat → Mem → Nat → Int32 → Int32 → Int32 → Prop
  | 0 => fun _ _ _ _ _ => False
  | n + 1 => fun M la0 lx1 lx2 lx3 => m_tg M la0 = 1 ∧ ∃ u2 : Nat, (m_gr M la0 0) = some u2 ∧ m_tg M u2 = 2 ∧ ∃ u5 : Nat, (m_gr M u2 0) = some u5 ∧ m_tg M u5 = 14 ∧ wp_J2_size g M u5 (fun (r10 : Int32) (M8 : Mem) => m_le M M8 → ((r10 ≤ lx3 → Q lx2 M8) ∧ (¬ r10 ≤ lx3 → ((lx1 = 0 → ∃ u16 : Nat, (m_gr M8 la0 0) = some u16 ∧ m_tg M8 u16 = 2 ∧ ∃ u19 : Nat, (m_gr M8 u16 0) = some u19 ∧ m_tg M8 u19 = 14 ∧ wp_J2_get g M8 u19 lx3 (fun (r24 : Option Nat) (M22 : Mem) => m_le M8 M22 → ∃ u30 : Nat, r24 = some u30 ∧ m_tg M22 u30 = 6 ∧ wp_X0_moneyOf_b4 g Q n M22 la0 lx1 (lx2 + (m_gi M22 u30 2)) (lx3 + 1))) ∧ (¬ lx1 = 0 → ∃ u33 : Nat, (m_gr M8 la0 0) = some u33 ∧ m_tg M8 u33 = 2 ∧ ∃ u36 : Nat, (m_gr M8 u33 0) = some u36 ∧ m_tg M8 u36 = 14 ∧ wp_J2_get g M8 u36 lx3 (fun (r41 : Option Nat) (M39 : Mem) => m_le M8 M39 → ∃ u47 : Nat, r41 = some u47 ∧ m_tg M39 u47 = 6 ∧ wp_X0_moneyOf_b4 g Q n M39 la0 lx1 (lx2 + (m_gi M39 u47 1)) (lx3 + 1)))))))
def wp_X0_moneyOf (g : Nat → Nat) (M : Mem) (a0 : Nat) (x1 : Int32) (Q : Int32 → Mem → Prop) : Prop := ∃ j4 : Nat, wp_X0_moneyOf_b4 g Q j4 M a0 x1 0 0
theorem bk_X0_moneyOf_4 (G : Gp) (C : m_Cx) (n0 s0 : Nat) (M0 : Mem) (Q : Int32 → Mem → Prop) (X : m_in G C RX0 cX0_moneyOf 4 (some .int) "moneyOf" 3 64 n0 s0) : ∀ (n : Nat) (M : Mem) (la0 : Nat) (lx1 : Int32) (lx2 : Int32) (lx3 : Int32) (hw : wp_X0_moneyOf_b4 G.2 Q n M la0 lx1 lx2 lx3), pW G C 4 n0 s0 M0 (m_Q G C n0 s0 (va_Qi (m_q1 M0 Q) (m_W G) (m_A G))) M 4 [(0, vR (some la0)), (1, vI lx1), (2, vI lx2), (3, vI lx3)] [] := by
  intro n
  induction n with
  | zero => intro M la0 lx1 lx2 lx3 hw; exact hw.elim
  | succ n ih =>
    intro M la0 lx1 lx2 lx3 hw
    refine pw_iload_n X dX0_moneyOf_4 rfl rfl ?_
    refine pw_aload_n X dX0_moneyOf_5 rfl rfl ?_
    obtain ⟨ht1, hw⟩ := hw
    obtain ⟨u2, he3, hw⟩ := hw
    refine pw_get X (q := (RX0, TX0, tyX0, 4)) (ci := 0) (k := 0) (ref := "PatrolDesk") (vR (some u2)) ht1 rfl (by decide) in_X0 q948 (Or.inl rfl) (by rw [he3]; rfl) dX0_moneyOf_6 ?_
    obtain ⟨ht4, hw⟩ := hw
    obtain ⟨u5, he6, hw⟩ := hw
    refine pw_getN X (q := (RX1, TX1, tyX1, 8)) (ci := 1) (k := 0) (ref := "PatrolDesk$State") (host := "PatrolDesk") (vR (some u5)) ht4 rfl (by decide) in_X1 q162 (Or.inl rfl) (by rw [he6]; rfl) dX0_moneyOf_9 ?_
    obtain ⟨ht7, hw⟩ := hw
    refine pw_runi X (m_cF X (b := u5) (ci := 13) (q := (RJ2, TJ2, tyJ2, 3)) (met_J2_size G C.2.1 M u5 _ hw) ht7 rfl (lw_app (lw_F q991 q994 q996 q82) (lw_meth q998)) (List.mem_of_getElem? (i := 6) rfl) (by decide +kernel : m_nMH ⟨"java/util/List", "size", "()I"⟩ 0) ⟨Nat.le_of_ble_eq_true rfl, Nat.le_of_ble_eq_true rfl⟩ rfl (Nat.le_of_ble_eq_true rfl) dX0_moneyOf_12) (fun r10 M8 hle9 hx => ?_)
    replace hw := hx hle9
    clear hx
    have ht11 : m_tg M8 la0 = 1 := m_le_tg hle9 ht1
    have ht12 : m_tg M8 u2 = 2 := m_le_tg hle9 ht4
    have ht13 : m_tg M8 u5 = 14 := m_le_tg hle9 ht7
    refine pw_icmp_ge X 74 dX0_moneyOf_17 (by decide) (fun c14 => ?_) (fun c14 => ?_)
    · replace hw := hw.1 c14
      refine pw_iload_n X dX0_moneyOf_74 rfl rfl ?_
      exact pw_iret X hw dX0_moneyOf_75
    · replace hw := hw.2 c14
      refine pw_iload_n X dX0_moneyOf_20 rfl rfl ?_
      refine pw_iload_n X dX0_moneyOf_21 rfl rfl ?_
      refine pw_if_eq X 47 dX0_moneyOf_22 (by decide) (fun c15 => ?_) (fun c15 => ?_)
      · replace hw := hw.1 c15
        refine pw_aload_n X dX0_moneyOf_47 rfl rfl ?_
        obtain ⟨u16, he17, hw⟩ := hw
        refine pw_get X (q := (RX0, TX0, tyX0, 4)) (ci := 0) (k := 0) (ref := "PatrolDesk") (vR (some u16)) ht11 rfl (by decide) in_X0 q948 (Or.inl rfl) (by rw [he17]; rfl) dX0_moneyOf_48 ?_
        obtain ⟨ht18, hw⟩ := hw
        obtain ⟨u19, he20, hw⟩ := hw
        refine pw_getN X (q := (RX1, TX1, tyX1, 8)) (ci := 1) (k := 0) (ref := "PatrolDesk$State") (host := "PatrolDesk") (vR (some u19)) ht18 rfl (by decide) in_X1 q162 (Or.inl rfl) (by rw [he20]; rfl) dX0_moneyOf_51 ?_
        refine pw_iload_n X dX0_moneyOf_54 rfl rfl ?_
        obtain ⟨ht21, hw⟩ := hw
        refine pw_runq X (m_cF X (b := u19) (ci := 13) (q := (RJ2, TJ2, tyJ2, 3)) (met_J2_get G C.2.1 M8 u19 lx3 _ hw) ht21 rfl (lw_app (lw_F q1400 q1031 q1033 q82) (lw_meth q1035)) (List.mem_of_getElem? (i := 2) rfl) (by decide +kernel : m_nMH ⟨"java/util/List", "get", "(I)Ljava/lang/Object;"⟩ 1) ⟨Nat.le_of_ble_eq_true rfl, Nat.le_of_ble_eq_true rfl⟩ rfl (Nat.le_of_ble_eq_true rfl) dX0_moneyOf_55) (fun r24 M22 hle23 hx => ?_)
        replace hw := hx hle23
        clear hx
        have ht25 : m_tg M22 la0 = 1 := m_le_tg hle23 ht11
        have ht26 : m_tg M22 u2 = 2 := m_le_tg hle23 ht12
        have ht27 : m_tg M22 u5 = 14 := m_le_tg hle23 ht13
        have ht28 : m_tg M22 u16 = 2 := m_le_tg hle23 ht18
        have ht29 : m_tg M22 u19 = 14 := m_le_tg hle23 ht21
        obtain ⟨u30, he31, hw⟩ := hw
        subst he31
        obtain ⟨ht32, hw⟩ := hw
        refine pw_cast X 5 (q := (RX5, TX5, tyX5, 5)) rfl (fun _ h => by cases h; exact ht32) q1280 dX0_moneyOf_60 ?_
        refine pw_getN X (q := (RX5, TX5, tyX5, 5)) (ci := 5) (k := 2) (ref := "PatrolDesk$Member") (host := "PatrolDesk") (vI (m_gi M22 u30 2)) ht32 rfl (by decide) in_X5 q1059 (Or.inl rfl) rfl dX0_moneyOf_63 ?_
        refine pw_iadd X dX0_moneyOf_66 ?_
        refine pw_istore_n X [(0, vR (some la0)), (1, vI lx1), (2, vI (lx2 + (m_gi M22 u30 2))), (3, vI lx3)] [1, 2, 0, 3] dX0_moneyOf_67 rfl (by decide) rfl ?_
        refine pw_iinc X (lx3 + 1) [(0, vR (some la0)), (1, vI lx1), (2, vI (lx2 + (m_gi M22 u30 2))), (3, vI (lx3 + 1))] [1, 2, 3, 0] dX0_moneyOf_68 rfl (by first | rfl | decide) (by decide) rfl ?_
        refine pw_goto X 4 dX0_moneyOf_71 (by decide) ?_
        exact ih _ la0 lx1 (lx2 + (m_gi M22 u30 2)) (lx3 + 1) hw
      · replace hw := hw.2 c15
        refine pw_aload_n X dX0_moneyOf_25 rfl rfl ?_
        obtain ⟨u33, he34, hw⟩ := hw
        refine pw_get X (q := (RX0, TX0, tyX0, 4)) (ci := 0) (k := 0) (ref := "PatrolDesk") (vR (some u33)) ht11 rfl (by decide) in_X0 q948 (Or.inl rfl) (by rw [he34]; rfl) dX0_moneyOf_26 ?_
        obtain ⟨ht35, hw⟩ := hw
        obtain ⟨u36, he37, hw⟩ := hw
        refine pw_getN X (q := (RX1, TX1, tyX1, 8)) (ci := 1) (k := 0) (ref := "PatrolDesk$State") (host := "PatrolDesk") (vR (some u36)) ht35 rfl (by decide) in_X1 q162 (Or.inl rfl) (by rw [he37]; rfl) dX0_moneyOf_29 ?_
        refine pw_iload_n X dX0_moneyOf_32 rfl rfl ?_
        obtain ⟨ht38, hw⟩ := hw
        refine pw_runq X (m_cF X (b := u36) (ci := 13) (q := (RJ2, TJ2, tyJ2, 3)) (met_J2_get G C.2.1 M8 u36 lx3 _ hw) ht38 rfl (lw_app (lw_F q1400 q1031 q1033 q82) (lw_meth q1035)) (List.mem_of_getElem? (i := 2) rfl) (by decide +kernel : m_nMH ⟨"java/util/List", "get", "(I)Ljava/lang/Object;"⟩ 1) ⟨Nat.le_of_ble_eq_true rfl, Nat.le_of_ble_eq_true rfl⟩ rfl (Nat.le_of_ble_eq_true rfl) dX0_moneyOf_33) (fun r41 M39 hle40 hx => ?_)
        replace hw := hx hle40
        clear hx
        have ht42 : m_tg M39 la0 = 1 := m_le_tg hle40 ht11
        have ht43 : m_tg M39 u2 = 2 := m_le_tg hle40 ht12
        have ht44 : m_tg M39 u5 = 14 := m_le_tg hle40 ht13
        have ht45 : m_tg M39 u33 = 2 := m_le_tg hle40 ht35
        have ht46 : m_tg M39 u36 = 14 := m_le_tg hle40 ht38
        obtain ⟨u47, he48, hw⟩ := hw
        subst he48
        obtain ⟨ht49, hw⟩ := hw
        refine pw_cast X 5 (q := (RX5, TX5, tyX5, 5)) rfl (fun _ h => by cases h; exact ht49) q1280 dX0_moneyOf_38 ?_
        refine pw_getN X (q := (RX5, TX5, tyX5, 5)) (ci := 5) (k := 1) (ref := "PatrolDesk$Member") (host := "PatrolDesk") (vI (m_gi M39 u47 1)) ht49 rfl (by decide) in_X5 q1056 (Or.inl rfl) rfl dX0_moneyOf_41 ?_
        refine pw_goto X 66 dX0_moneyOf_44 (by decide) ?_
        refine pw_iadd X dX0_moneyOf_66 ?_
        refine pw_istore_n X [(0, vR (some la0)), (1, vI lx1), (2, vI (lx2 + (m_gi M39 u47 1))), (3, vI lx3)] [1, 2, 0, 3] dX0_moneyOf_67 rfl (by decide) rfl ?_
        refine pw_iinc X (lx3 + 1) [(0, vR (some la0)), (1, vI lx1), (2, vI (lx2 + (m_gi M39 u47 1))), (3, vI (lx3 + 1))] [1, 2, 3, 0] dX0_moneyOf_68 rfl (by first | rfl | decide) (by decide) rfl ?_
        refine pw_goto X 4 dX0_moneyOf_71 (by decide) ?_
        exact ih _ la0 lx1 (lx2 + (m_gi M39 u47 1)) (lx3 + 1) hw
theorem bk_X0_moneyOf_0 (G : Gp) (C : m_Cx) (n0 s0 : Nat) (M0 : Mem) (Q : Int32 → Mem → Prop) (X : m_in G C RX0 cX0_moneyOf 4 (some .int) "moneyOf" 3 64 n0 s0) (M : Mem) (a0 : Nat) (x1 : Int32) (hw : wp_X0_moneyOf G.2 M a0 x1 Q) : pW G C 4 n0 s0 M0 (m_Q G C n0 s0 (va_Qi (m_q1 M0 Q) (m_W G) (m_A G))) M 0 [(0, vR (some a0)), (1, vI x1)] [] := by
  refine pw_iconst X 0 dX0_moneyOf_0 (by decide) ?_
  refine pw_istore_n X [(0, vR (some a0)), (1, vI x1), (2, vI 0)] [1, 2, 0] dX0_moneyOf_1 rfl (by decide) rfl ?_
  refine pw_iconst X 0 dX0_moneyOf_2 (by decide) ?_
  refine pw_istore_n X [(0, vR (some a0)), (1, vI x1), (2, vI 0), (3, vI 0)] [1, 2, 3, 0] dX0_moneyOf_3 rfl (by decide) rfl ?_
  obtain ⟨n4, hw⟩ := hw
  exact bk_X0_moneyOf_4 G C n0 s0 M0 Q X n4 _ a0 x1 0 0 hw
theorem met_X0_moneyOf (G : Gp) (l : Launch) (M : Mem) (a0 : Nat) (x1 : Int32) (Q : Int32 → Mem → Prop) (hw : wp_X0_moneyOf G.2 M a0 x1 Q) : m_K G l yX0_moneyOf cX0_moneyOf 4 (some .int) 3 64 [vR (some a0), vI x1] M (va_Qi (m_q1 M Q) (m_W G) (m_A G)) := by
  refine m_met (by decide) (Nat.le_of_ble_eq_true rfl) (fun C e X => ?_)
  exact bk_X0_moneyOf_0 G C _ _ M Q X M a0 x1 hw
theorem nh_X0_moneyOf : m_nMH yX0_moneyOf 1 := by decide +kernel

def wp_X0_count (g : Nat → Nat) (M : Mem) (a0 : Nat) (x1 : Int32) (Q : Int32 → Mem → Prop) : Prop := ((x1 = 0 → m_tg M a0 = 1 ∧ ∃ u3 : Nat, (m_gr M a0 0) = some u3 ∧ m_tg M u3 = 2 ∧ Q (m_gi M u3 7) M) ∧ (¬ x1 = 0 → ((x1 = 1 → m_tg M a0 = 1 ∧ ∃ u8 : Nat, (m_gr M a0 0) = some u8 ∧ m_tg M u8 = 2 ∧ Q (m_gi M u8 6) M) ∧ (¬ x1 = 1 → ((x1 = 2 → m_tg M a0 = 1 ∧ ∃ u13 : Nat, (m_gr M a0 0) = some u13 ∧ m_tg M u13 = 2 ∧ ∃ u16 : Nat, (m_gr M u13 5) = some u16 ∧ m_tg M u16 = 3 ∧ ∃ u19 : Nat, (m_gr M u16 0) = some u19 ∧ m_tg M u19 = 17 ∧ wp_J8_sizeL g M u19 (fun (r24 : Int32) (M22 : Mem) => m_le M M22 → Q r24 M22)) ∧ (¬ x1 = 2 → ((x1 = 3 → m_tg M a0 = 1 ∧ ∃ u31 : Nat, (m_gr M a0 0) = some u31 ∧ m_tg M u31 = 2 ∧ ∃ u34 : Nat, (m_gr M u31 0) = some u34 ∧ m_tg M u34 = 14 ∧ wp_J2_size g M u34 (fun (r39 : Int32) (M37 : Mem) => m_le M M37 → Q r39 M37)) ∧ (¬ x1 = 3 → ((x1 = 4 → m_tg M a0 = 1 ∧ ∃ u45 : Nat, (m_gr M a0 0) = some u45 ∧ m_tg M u45 = 2 ∧ ∃ u48 : Nat, (m_gr M u45 1) = some u48 ∧ m_tg M u48 = 14 ∧ wp_J2_size g M u48 (fun (r53 : Int32) (M51 : Mem) => m_le M M51 → Q r53 M51)) ∧ (¬ x1 = 4 → ((x1 = 5 → m_tg M a0 = 1 ∧ ∃ u59 : Nat, (m_gr M a0 0) = some u59 ∧ m_tg M u59 = 2 ∧ ∃ u62 : Nat, (m_gr M u59 2) = some u62 ∧ m_tg M u62 = 14 ∧ wp_J2_size g M u62 (fun (r67 : Int32) (M65 : Mem) => m_le M M65 → Q r67 M65)) ∧ (¬ x1 = 5 → ((x1 = 6 → m_tg M a0 = 1 ∧ ∃ u73 : Nat, (m_gr M a0 0) = some u73 ∧ m_tg M u73 = 2 ∧ ∃ u76 : Nat, (m_gr M u73 3) = some u76 ∧ m_tg M u76 = 14 ∧ wp_J2_size g M u76 (fun (r81 : Int32) (M79 : Mem) => m_le M M79 → Q r81 M79)) ∧ (¬ x1 = 6 → ((x1 = 7 → m_tg M a0 = 1 ∧ ∃ u87 : Nat, (m_gr M a0 0) = some u87 ∧ m_fits M 1 ∧ ∀ u90 : Nat, m_tg M u90 = 0 → ∀ M92 : Mem, M92 = (m_lmI M 6 u90 x1) → m_tg M92 u87 = 2 ∧ wp_X1_sum g M92 u87 u90 (fun (r100 : Int32) (M98 : Mem) => m_le M92 M98 → Q r100 M98)) ∧ (¬ x1 = 7 → ((x1 = 8 → m_tg M a0 = 1 ∧ ∃ u106 : Nat, (m_gr M a0 0) = some u106 ∧ m_fits M 1 ∧ ∀ u109 : Nat, m_tg M u109 = 0 → ∀ M111 : Mem, M111 = (m_lmI M 6 u109 x1) → m_tg M111 u106 = 2 ∧ wp_X1_sum g M111 u106 u109 (fun (r119 : Int32) (M117 : Mem) => m_le M111 M117 → Q r119 M117)) ∧ (¬ x1 = 8 → ((x1 = 9 → m_tg M a0 = 1 ∧ ∃ u125 : Nat, (m_gr M a0 0) = some u125 ∧ m_fits M 1 ∧ ∀ u128 : Nat, m_tg M u128 = 0 → ∀ M130 : Mem, M130 = (m_lmI M 6 u128 x1) → m_tg M130 u125 = 2 ∧ wp_X1_sum g M130 u125 u128 (fun (r138 : Int32) (M136 : Mem) => m_le M130 M136 → Q r138 M136)) ∧ (¬ x1 = 9 → ((x1 = 10 → m_tg M a0 = 1 ∧ ∃ u144 : Nat, (m_gr M a0 0) = some u144 ∧ m_fits M 1 ∧ ∀ u147 : Nat, m_tg M u147 = 0 → ∀ M149 : Mem, M149 = (m_lmI M 6 u147 x1) → m_tg M149 u144 = 2 ∧ wp_X1_sum g M149 u144 u147 (fun (r157 : Int32) (M155 : Mem) => m_le M149 M155 → Q r157 M155)) ∧ (¬ x1 = 10 → ((x1 = 11 → m_tg M a0 = 1 ∧ ∃ u163 : Nat, (m_gr M a0 0) = some u163 ∧ m_fits M 1 ∧ ∀ u166 : Nat, m_tg M u166 = 0 → ∀ M168 : Mem, M168 = (m_lmI M 6 u166 x1) → m_tg M168 u163 = 2 ∧ wp_X1_sum g M168 u163 u166 (fun (r176 : Int32) (M174 : Mem) => m_le M168 M174 → Q r176 M174)) ∧ (¬ x1 = 11 → ((x1 = 12 → m_tg M a0 = 1 ∧ ∃ u182 : Nat, (m_gr M a0 0) = some u182 ∧ m_fits M 1 ∧ ∀ u185 : Nat, m_tg M u185 = 0 → ∀ M187 : Mem, M187 = (m_lmI M 6 u185 x1) → m_tg M187 u182 = 2 ∧ wp_X1_sum g M187 u182 u185 (fun (r195 : Int32) (M193 : Mem) => m_le M187 M193 → Q r195 M193)) ∧ (¬ x1 = 12 → ((x1 = 13 → m_tg M a0 = 1 ∧ ∃ u201 : Nat, (m_gr M a0 0) = some u201 ∧ m_fits M 1 ∧ ∀ u204 : Nat, m_tg M u204 = 0 → ∀ M206 : Mem, M206 = (m_lmI M 6 u204 x1) → m_tg M206 u201 = 2 ∧ wp_X1_sum g M206 u201 u204 (fun (r214 : Int32) (M212 : Mem) => m_le M206 M212 → Q r214 M212)) ∧ (¬ x1 = 13 → ((x1 = 14 → m_tg M a0 = 1 ∧ ∃ u220 : Nat, (m_gr M a0 0) = some u220 ∧ m_fits M 1 ∧ ∀ u223 : Nat, m_tg M u223 = 0 → ∀ M225 : Mem, M225 = (m_lmI M 6 u223 x1) → m_tg M225 u220 = 2 ∧ wp_X1_sum g M225 u220 u223 (fun (r233 : Int32) (M231 : Mem) => m_le M225 M231 → Q r233 M231)) ∧ (¬ x1 = 14 → ((x1 = 15 → m_tg M a0 = 1 ∧ ∃ u239 : Nat, (m_gr M a0 0) = some u239 ∧ m_fits M 1 ∧ ∀ u242 : Nat, m_tg M u242 = 0 → ∀ M244 : Mem, M244 = (m_lmR M 7 u242 a0) → m_tg M244 u239 = 2 ∧ wp_X1_sum g M244 u239 u242 (fun (r252 : Int32) (M250 : Mem) => m_le M244 M250 → Q r252 M250)) ∧ (¬ x1 = 15 → ((x1 = 16 → m_tg M a0 = 1 ∧ wp_X0_moneyOf g M a0 1 (fun (r260 : Int32) (M258 : Mem) => m_le M M258 → Q r260 M258)) ∧ (¬ x1 = 16 → ((x1 = 17 → m_tg M a0 = 1 ∧ wp_X0_moneyOf g M a0 0 (fun (r266 : Int32) (M264 : Mem) => m_le M M264 → Q r266 M264)) ∧ (¬ x1 = 17 → ((x1 = 18 → m_tg M a0 = 1 ∧ ∃ u270 : Nat, (m_gr M a0 0) = some u270 ∧ (m_tg M (g 28) = 209 → m_tg M u270 = 2 ∧ wp_X1_sum g M u270 (g 28) (fun (r276 : Int32) (M274 : Mem) => m_le M M274 → Q r276 M274))) ∧ (¬ x1 = 18 → ((x1 = 19 → m_tg M a0 = 1 ∧ ∃ u282 : Nat, (m_gr M a0 0) = some u282 ∧ m_tg M u282 = 2 ∧ ∃ u285 : Nat, (m_gr M u282 4) = some u285 ∧ m_tg M u285 = 101 ∧ vp_in (x1 - 19) (m_ln M u285) ∧ Q (m_gi M u285 (Int32.toNatClampNeg (x1 - 19))) M) ∧ (¬ x1 = 19 → ((x1 = 20 → m_tg M a0 = 1 ∧ ∃ u291 : Nat, (m_gr M a0 0) = some u291 ∧ m_tg M u291 = 2 ∧ ∃ u294 : Nat, (m_gr M u291 4) = some u294 ∧ m_tg M u294 = 101 ∧ vp_in (x1 - 19) (m_ln M u294) ∧ Q (m_gi M u294 (Int32.toNatClampNeg (x1 - 19))) M) ∧ (¬ x1 = 20 → ((x1 = 21 → m_tg M a0 = 1 ∧ ∃ u300 : Nat, (m_gr M a0 0) = some u300 ∧ m_tg M u300 = 2 ∧ ∃ u303 : Nat, (m_gr M u300 4) = some u303 ∧ m_tg M u303 = 101 ∧ vp_in (x1 - 19) (m_ln M u303) ∧ Q (m_gi M u303 (Int32.toNatClampNeg (x1 - 19))) M) ∧ (¬ x1 = 21 → ((x1 = 22 → m_tg M a0 = 1 ∧ wp_X0_onDuty g M a0 (fun (r311 : Int32) (M309 : Mem) => m_le M M309 → Q r311 M309)) ∧ (¬ x1 = 22 → ((x1 = 23 → m_tg M a0 = 1 ∧ ∃ u315 : Nat, (m_gr M a0 2) = some u315 ∧ m_tg M u315 = 14 ∧ wp_J2_size g M u315 (fun (r320 : Int32) (M318 : Mem) => m_le M M318 → Q r320 M318)) ∧ (¬ x1 = 23 → ((x1 = 24 → m_tg M a0 = 1 ∧ ∃ u325 : Nat, (m_gr M a0 3) = some u325 ∧ m_tg M u325 = 15 ∧ wp_J4_length g M u325 (fun (r330 : Int32) (M328 : Mem) => m_le M M328 → Q r330 M328)) ∧ (¬ x1 = 24 → Q (-2) M))))))))))))))))))))))))))))))))))))))))))))))))))
theorem bk_X0_count_0 (G : Gp) (C : m_Cx) (n0 s0 : Nat) (M0 : Mem) (Q : Int32 → Mem → Prop) (X : m_in G C RX0 cX0_count 2 (some .int) "count" 6 3074 n0 s0) (hN : (m_s C).methodNamed? yX0_count = some (m_mi C)) (M : Mem) (a0 : Nat) (x1 : Int32) (hw : wp_X0_count G.2 M a0 x1 Q) : pW G C 2 n0 s0 M0 (m_Q G C n0 s0 (va_Qi (m_q1 M0 Q) (m_W G) (m_A G))) M 0 [(0, vR (some a0)), (1, vI x1)] [] := by
  refine pw_iload_n X dX0_count_0 rfl rfl ?_
  by_cases c1 : x1 = 0
  · replace hw := hw.1 c1
    refine pw_tableIn X 0 116 dX0_count_1 c1 (by decide) (by decide) rfl (by decide) ?_
    refine pw_aload_n X dX0_count_116 rfl rfl ?_
    obtain ⟨ht2, hw⟩ := hw
    obtain ⟨u3, he4, hw⟩ := hw
    refine pw_get X (q := (RX0, TX0, tyX0, 4)) (ci := 0) (k := 0) (ref := "PatrolDesk") (vR (some u3)) ht2 rfl (by decide) in_X0 q948 (Or.inl rfl) (by rw [he4]; rfl) dX0_count_117 ?_
    obtain ⟨ht5, hw⟩ := hw
    refine pw_getN X (q := (RX1, TX1, tyX1, 8)) (ci := 1) (k := 7) (ref := "PatrolDesk$State") (host := "PatrolDesk") (vI (m_gi M u3 7)) ht5 rfl (by decide) in_X1 q176 (Or.inl rfl) rfl dX0_count_120 ?_
    exact pw_iret X hw dX0_count_123
  replace hw := hw.2 c1
  by_cases c6 : x1 = 1
  · replace hw := hw.1 c6
    refine pw_tableIn X 1 124 dX0_count_1 c6 (by decide) (by decide) rfl (by decide) ?_
    refine pw_aload_n X dX0_count_124 rfl rfl ?_
    obtain ⟨ht7, hw⟩ := hw
    obtain ⟨u8, he9, hw⟩ := hw
    refine pw_get X (q := (RX0, TX0, tyX0, 4)) (ci := 0) (k := 0) (ref := "PatrolDesk") (vR (some u8)) ht7 rfl (by decide) in_X0 q948 (Or.inl rfl) (by rw [he9]; rfl) dX0_count_125 ?_
    obtain ⟨ht10, hw⟩ := hw
    refine pw_getN X (q := (RX1, TX1, tyX1, 8)) (ci := 1) (k := 6) (ref := "PatrolDesk$State") (host := "PatrolDesk") (vI (m_gi M u8 6)) ht10 rfl (by decide) in_X1 q174 (Or.inl rfl) rfl dX0_count_128 ?_
    exact pw_iret X hw dX0_count_131
  replace hw := hw.2 c6
  by_cases c11 : x1 = 2
  · replace hw := hw.1 c11
    refine pw_tableIn X 2 132 dX0_count_1 c11 (by decide) (by decide) rfl (by decide) ?_
    refine pw_aload_n X dX0_count_132 rfl rfl ?_
    obtain ⟨ht12, hw⟩ := hw
    obtain ⟨u13, he14, hw⟩ := hw
    refine pw_get X (q := (RX0, TX0, tyX0, 4)) (ci := 0) (k := 0) (ref := "PatrolDesk") (vR (some u13)) ht12 rfl (by decide) in_X0 q948 (Or.inl rfl) (by rw [he14]; rfl) dX0_count_133 ?_
    obtain ⟨ht15, hw⟩ := hw
    obtain ⟨u16, he17, hw⟩ := hw
    refine pw_getN X (q := (RX1, TX1, tyX1, 8)) (ci := 1) (k := 5) (ref := "PatrolDesk$State") (host := "PatrolDesk") (vR (some u16)) ht15 rfl (by decide) in_X1 q172 (Or.inl rfl) (by rw [he17]; rfl) dX0_count_136 ?_
    obtain ⟨ht18, hw⟩ := hw
    obtain ⟨u19, he20, hw⟩ := hw
    refine pw_getN X (q := (RX2, TX2, tyX2, 4)) (ci := 2) (k := 0) (ref := "PatrolDesk$Roads") (host := "PatrolDesk") (vR (some u19)) ht18 rfl (by decide) in_X2 q934 (Or.inl rfl) (by rw [he20]; rfl) dX0_count_139 ?_
    obtain ⟨ht21, hw⟩ := hw
    refine pw_runi X (m_cF X (b := u19) (ci := 16) (q := (RJ9, TJ9, tyJ9, 12)) (met_J8_sizeL G C.2.1 M u19 _ hw) ht21 rfl (lw_app (lw_F q976 q984 q981 q89) (lw_meth q983)) (List.mem_of_getElem? (i := 9) rfl) (by decide +kernel : m_nMH ⟨"java/util/Map", "size", "()I"⟩ 0) ⟨Nat.le_of_ble_eq_true rfl, Nat.le_of_ble_eq_true rfl⟩ rfl (Nat.le_of_ble_eq_true rfl) dX0_count_142) (fun r24 M22 hle23 hx => ?_)
    replace hw := hx hle23
    clear hx
    have ht25 : m_tg M22 a0 = 1 := m_le_tg hle23 ht12
    have ht26 : m_tg M22 u13 = 2 := m_le_tg hle23 ht15
    have ht27 : m_tg M22 u16 = 3 := m_le_tg hle23 ht18
    have ht28 : m_tg M22 u19 = 17 := m_le_tg hle23 ht21
    exact pw_iret X hw dX0_count_147
  replace hw := hw.2 c11
  by_cases c29 : x1 = 3
  · replace hw := hw.1 c29
    refine pw_tableIn X 3 148 dX0_count_1 c29 (by decide) (by decide) rfl (by decide) ?_
    refine pw_aload_n X dX0_count_148 rfl rfl ?_
    obtain ⟨ht30, hw⟩ := hw
    obtain ⟨u31, he32, hw⟩ := hw
    refine pw_get X (q := (RX0, TX0, tyX0, 4)) (ci := 0) (k := 0) (ref := "PatrolDesk") (vR (some u31)) ht30 rfl (by decide) in_X0 q948 (Or.inl rfl) (by rw [he32]; rfl) dX0_count_149 ?_
    obtain ⟨ht33, hw⟩ := hw
    obtain ⟨u34, he35, hw⟩ := hw
    refine pw_getN X (q := (RX1, TX1, tyX1, 8)) (ci := 1) (k := 0) (ref := "PatrolDesk$State") (host := "PatrolDesk") (vR (some u34)) ht33 rfl (by decide) in_X1 q162 (Or.inl rfl) (by rw [he35]; rfl) dX0_count_152 ?_
    obtain ⟨ht36, hw⟩ := hw
    refine pw_runi X (m_cF X (b := u34) (ci := 13) (q := (RJ2, TJ2, tyJ2, 3)) (met_J2_size G C.2.1 M u34 _ hw) ht36 rfl (lw_app (lw_F q991 q994 q996 q82) (lw_meth q998)) (List.mem_of_getElem? (i := 6) rfl) (by decide +kernel : m_nMH ⟨"java/util/List", "size", "()I"⟩ 0) ⟨Nat.le_of_ble_eq_true rfl, Nat.le_of_ble_eq_true rfl⟩ rfl (Nat.le_of_ble_eq_true rfl) dX0_count_155) (fun r39 M37 hle38 hx => ?_)
    replace hw := hx hle38
    clear hx
    have ht40 : m_tg M37 a0 = 1 := m_le_tg hle38 ht30
    have ht41 : m_tg M37 u31 = 2 := m_le_tg hle38 ht33
    have ht42 : m_tg M37 u34 = 14 := m_le_tg hle38 ht36
    exact pw_iret X hw dX0_count_160
  replace hw := hw.2 c29
  by_cases c43 : x1 = 4
  · replace hw := hw.1 c43
    refine pw_tableIn X 4 161 dX0_count_1 c43 (by decide) (by decide) rfl (by decide) ?_
    refine pw_aload_n X dX0_count_161 rfl rfl ?_
    obtain ⟨ht44, hw⟩ := hw
    obtain ⟨u45, he46, hw⟩ := hw
    refine pw_get X (q := (RX0, TX0, tyX0, 4)) (ci := 0) (k := 0) (ref := "PatrolDesk") (vR (some u45)) ht44 rfl (by decide) in_X0 q948 (Or.inl rfl) (by rw [he46]; rfl) dX0_count_162 ?_
    obtain ⟨ht47, hw⟩ := hw
    obtain ⟨u48, he49, hw⟩ := hw
    refine pw_getN X (q := (RX1, TX1, tyX1, 8)) (ci := 1) (k := 1) (ref := "PatrolDesk$State") (host := "PatrolDesk") (vR (some u48)) ht47 rfl (by decide) in_X1 q164 (Or.inl rfl) (by rw [he49]; rfl) dX0_count_165 ?_
    obtain ⟨ht50, hw⟩ := hw
    refine pw_runi X (m_cF X (b := u48) (ci := 13) (q := (RJ2, TJ2, tyJ2, 3)) (met_J2_size G C.2.1 M u48 _ hw) ht50 rfl (lw_app (lw_F q991 q994 q996 q82) (lw_meth q998)) (List.mem_of_getElem? (i := 6) rfl) (by decide +kernel : m_nMH ⟨"java/util/List", "size", "()I"⟩ 0) ⟨Nat.le_of_ble_eq_true rfl, Nat.le_of_ble_eq_true rfl⟩ rfl (Nat.le_of_ble_eq_true rfl) dX0_count_168) (fun r53 M51 hle52 hx => ?_)
    replace hw := hx hle52
    clear hx
    have ht54 : m_tg M51 a0 = 1 := m_le_tg hle52 ht44
    have ht55 : m_tg M51 u45 = 2 := m_le_tg hle52 ht47
    have ht56 : m_tg M51 u48 = 14 := m_le_tg hle52 ht50
    exact pw_iret X hw dX0_count_173
  replace hw := hw.2 c43
  by_cases c57 : x1 = 5
  · replace hw := hw.1 c57
    refine pw_tableIn X 5 174 dX0_count_1 c57 (by decide) (by decide) rfl (by decide) ?_
    refine pw_aload_n X dX0_count_174 rfl rfl ?_
    obtain ⟨ht58, hw⟩ := hw
    obtain ⟨u59, he60, hw⟩ := hw
    refine pw_get X (q := (RX0, TX0, tyX0, 4)) (ci := 0) (k := 0) (ref := "PatrolDesk") (vR (some u59)) ht58 rfl (by decide) in_X0 q948 (Or.inl rfl) (by rw [he60]; rfl) dX0_count_175 ?_
    obtain ⟨ht61, hw⟩ := hw
    obtain ⟨u62, he63, hw⟩ := hw
    refine pw_getN X (q := (RX1, TX1, tyX1, 8)) (ci := 1) (k := 2) (ref := "PatrolDesk$State") (host := "PatrolDesk") (vR (some u62)) ht61 rfl (by decide) in_X1 q166 (Or.inl rfl) (by rw [he63]; rfl) dX0_count_178 ?_
    obtain ⟨ht64, hw⟩ := hw
    refine pw_runi X (m_cF X (b := u62) (ci := 13) (q := (RJ2, TJ2, tyJ2, 3)) (met_J2_size G C.2.1 M u62 _ hw) ht64 rfl (lw_app (lw_F q991 q994 q996 q82) (lw_meth q998)) (List.mem_of_getElem? (i := 6) rfl) (by decide +kernel : m_nMH ⟨"java/util/List", "size", "()I"⟩ 0) ⟨Nat.le_of_ble_eq_true rfl, Nat.le_of_ble_eq_true rfl⟩ rfl (Nat.le_of_ble_eq_true rfl) dX0_count_181) (fun r67 M65 hle66 hx => ?_)
    replace hw := hx hle66
    clear hx
    have ht68 : m_tg M65 a0 = 1 := m_le_tg hle66 ht58
    have ht69 : m_tg M65 u59 = 2 := m_le_tg hle66 ht61
    have ht70 : m_tg M65 u62 = 14 := m_le_tg hle66 ht64
    exact pw_iret X hw dX0_count_186
  replace hw := hw.2 c57
  by_cases c71 : x1 = 6
  · replace hw := hw.1 c71
    refine pw_tableIn X 6 187 dX0_count_1 c71 (by decide) (by decide) rfl (by decide) ?_
    refine pw_aload_n X dX0_count_187 rfl rfl ?_
    obtain ⟨ht72, hw⟩ := hw
    obtain ⟨u73, he74, hw⟩ := hw
    refine pw_get X (q := (RX0, TX0, tyX0, 4)) (ci := 0) (k := 0) (ref := "PatrolDesk") (vR (some u73)) ht72 rfl (by decide) in_X0 q948 (Or.inl rfl) (by rw [he74]; rfl) dX0_count_188 ?_
    obtain ⟨ht75, hw⟩ := hw
    obtain ⟨u76, he77, hw⟩ := hw
    refine pw_getN X (q := (RX1, TX1, tyX1, 8)) (ci := 1) (k := 3) (ref := "PatrolDesk$State") (host := "PatrolDesk") (vR (some u76)) ht75 rfl (by decide) in_X1 q168 (Or.inl rfl) (by rw [he77]; rfl) dX0_count_191 ?_
    obtain ⟨ht78, hw⟩ := hw
    refine pw_runi X (m_cF X (b := u76) (ci := 13) (q := (RJ2, TJ2, tyJ2, 3)) (met_J2_size G C.2.1 M u76 _ hw) ht78 rfl (lw_app (lw_F q991 q994 q996 q82) (lw_meth q998)) (List.mem_of_getElem? (i := 6) rfl) (by decide +kernel : m_nMH ⟨"java/util/List", "size", "()I"⟩ 0) ⟨Nat.le_of_ble_eq_true rfl, Nat.le_of_ble_eq_true rfl⟩ rfl (Nat.le_of_ble_eq_true rfl) dX0_count_194) (fun r81 M79 hle80 hx => ?_)
    replace hw := hx hle80
    clear hx
    have ht82 : m_tg M79 a0 = 1 := m_le_tg hle80 ht72
    have ht83 : m_tg M79 u73 = 2 := m_le_tg hle80 ht75
    have ht84 : m_tg M79 u76 = 14 := m_le_tg hle80 ht78
    exact pw_iret X hw dX0_count_199
  replace hw := hw.2 c71
  by_cases c85 : x1 = 7
  · replace hw := hw.1 c85
    refine pw_tableIn X 7 200 dX0_count_1 c85 (by decide) (by decide) rfl (by decide) ?_
    refine pw_aload_n X dX0_count_200 rfl rfl ?_
    obtain ⟨ht86, hw⟩ := hw
    obtain ⟨u87, he88, hw⟩ := hw
    refine pw_get X (q := (RX0, TX0, tyX0, 4)) (ci := 0) (k := 0) (ref := "PatrolDesk") (vR (some u87)) ht86 rfl (by decide) in_X0 q948 (Or.inl rfl) (by rw [he88]; rfl) dX0_count_201 ?_
    refine pw_iload_n X dX0_count_204 rfl rfl ?_
    obtain ⟨hf89, hw⟩ := hw
    refine pw_lamI X hN lsh6 (by decide) lsK6 rfl lsT6 (Nat.le_of_ble_eq_true rfl) dX0_count_205 hf89 (fun u90 h091 => ?_)
    obtain ⟨M92, hM93⟩ : ∃ z : Mem, z = (m_lmI M 6 u90 x1) := ⟨_, rfl⟩
    replace hw := hw u90 h091 M92 hM93
    have hle94 : m_le M M92 := by rw [hM93]; exact m_le_lmI h091
    rw [← hM93]
    have ht95 : m_tg M92 a0 = 1 := m_le_tg hle94 ht86
    have ht96 : m_tg M92 u90 = 207 := by rw [hM93, m_tg_lmI, if_pos rfl]
    obtain ⟨ht97, hw⟩ := hw
    refine pw_runi X (m_cV X (b := u87) (ci := 1) (q := (RX1, TX1, tyX1, 8)) (met_X1_sum G C.2.1 M92 u87 u90 _ hw) ht97 rfl (lw_V q1876 q1877 q1878 q79 q1879) ⟨rfl, nh_X1_sum⟩ ⟨Nat.le_of_ble_eq_true rfl, Nat.le_of_ble_eq_true rfl⟩ rfl (Nat.le_of_ble_eq_true rfl) dX0_count_210) (fun r100 M98 hle99 hx => ?_)
    replace hw := hx hle99
    clear hx
    have ht101 : m_tg M98 a0 = 1 := m_le_tg hle99 ht95
    have ht102 : m_tg M98 u90 = 207 := m_le_tg hle99 ht96
    have ht103 : m_tg M98 u87 = 2 := m_le_tg hle99 ht97
    exact pw_iret X hw dX0_count_213
  replace hw := hw.2 c85
  by_cases c104 : x1 = 8
  · replace hw := hw.1 c104
    refine pw_tableIn X 8 200 dX0_count_1 c104 (by decide) (by decide) rfl (by decide) ?_
    refine pw_aload_n X dX0_count_200 rfl rfl ?_
    obtain ⟨ht105, hw⟩ := hw
    obtain ⟨u106, he107, hw⟩ := hw
    refine pw_get X (q := (RX0, TX0, tyX0, 4)) (ci := 0) (k := 0) (ref := "PatrolDesk") (vR (some u106)) ht105 rfl (by decide) in_X0 q948 (Or.inl rfl) (by rw [he107]; rfl) dX0_count_201 ?_
    refine pw_iload_n X dX0_count_204 rfl rfl ?_
    obtain ⟨hf108, hw⟩ := hw
    refine pw_lamI X hN lsh6 (by decide) lsK6 rfl lsT6 (Nat.le_of_ble_eq_true rfl) dX0_count_205 hf108 (fun u109 h0110 => ?_)
    obtain ⟨M111, hM112⟩ : ∃ z : Mem, z = (m_lmI M 6 u109 x1) := ⟨_, rfl⟩
    replace hw := hw u109 h0110 M111 hM112
    have hle113 : m_le M M111 := by rw [hM112]; exact m_le_lmI h0110
    rw [← hM112]
    have ht114 : m_tg M111 a0 = 1 := m_le_tg hle113 ht105
    have ht115 : m_tg M111 u109 = 207 := by rw [hM112, m_tg_lmI, if_pos rfl]
    obtain ⟨ht116, hw⟩ := hw
    refine pw_runi X (m_cV X (b := u106) (ci := 1) (q := (RX1, TX1, tyX1, 8)) (met_X1_sum G C.2.1 M111 u106 u109 _ hw) ht116 rfl (lw_V q1876 q1877 q1878 q79 q1879) ⟨rfl, nh_X1_sum⟩ ⟨Nat.le_of_ble_eq_true rfl, Nat.le_of_ble_eq_true rfl⟩ rfl (Nat.le_of_ble_eq_true rfl) dX0_count_210) (fun r119 M117 hle118 hx => ?_)
    replace hw := hx hle118
    clear hx
    have ht120 : m_tg M117 a0 = 1 := m_le_tg hle118 ht114
    have ht121 : m_tg M117 u109 = 207 := m_le_tg hle118 ht115
    have ht122 : m_tg M117 u106 = 2 := m_le_tg hle118 ht116
    exact pw_iret X hw dX0_count_213
  replace hw := hw.2 c104
  by_cases c123 : x1 = 9
  · replace hw := hw.1 c123
    refine pw_tableIn X 9 200 dX0_count_1 c123 (by decide) (by decide) rfl (by decide) ?_
    refine pw_aload_n X dX0_count_200 rfl rfl ?_
    obtain ⟨ht124, hw⟩ := hw
    obtain ⟨u125, he126, hw⟩ := hw
    refine pw_get X (q := (RX0, TX0, tyX0, 4)) (ci := 0) (k := 0) (ref := "PatrolDesk") (vR (some u125)) ht124 rfl (by decide) in_X0 q948 (Or.inl rfl) (by rw [he126]; rfl) dX0_count_201 ?_
    refine pw_iload_n X dX0_count_204 rfl rfl ?_
    obtain ⟨hf127, hw⟩ := hw
    refine pw_lamI X hN lsh6 (by decide) lsK6 rfl lsT6 (Nat.le_of_ble_eq_true rfl) dX0_count_205 hf127 (fun u128 h0129 => ?_)
    obtain ⟨M130, hM131⟩ : ∃ z : Mem, z = (m_lmI M 6 u128 x1) := ⟨_, rfl⟩
    replace hw := hw u128 h0129 M130 hM131
    have hle132 : m_le M M130 := by rw [hM131]; exact m_le_lmI h0129
    rw [← hM131]
    have ht133 : m_tg M130 a0 = 1 := m_le_tg hle132 ht124
    have ht134 : m_tg M130 u128 = 207 := by rw [hM131, m_tg_lmI, if_pos rfl]
    obtain ⟨ht135, hw⟩ := hw
    refine pw_runi X (m_cV X (b := u125) (ci := 1) (q := (RX1, TX1, tyX1, 8)) (met_X1_sum G C.2.1 M130 u125 u128 _ hw) ht135 rfl (lw_V q1876 q1877 q1878 q79 q1879) ⟨rfl, nh_X1_sum⟩ ⟨Nat.le_of_ble_eq_true rfl, Nat.le_of_ble_eq_true rfl⟩ rfl (Nat.le_of_ble_eq_true rfl) dX0_count_210) (fun r138 M136 hle137 hx => ?_)
    replace hw := hx hle137
    clear hx
    have ht139 : m_tg M136 a0 = 1 := m_le_tg hle137 ht133
    have ht140 : m_tg M136 u128 = 207 := m_le_tg hle137 ht134
    have ht141 : m_tg M136 u125 = 2 := m_le_tg hle137 ht135
    exact pw_iret X hw dX0_count_213
  replace hw := hw.2 c123
  by_cases c142 : x1 = 10
  · replace hw := hw.1 c142
    refine pw_tableIn X 10 200 dX0_count_1 c142 (by decide) (by decide) rfl (by decide) ?_
    refine pw_aload_n X dX0_count_200 rfl rfl ?_
    obtain ⟨ht143, hw⟩ := hw
    obtain ⟨u144, he145, hw⟩ := hw
    refine pw_get X (q := (RX0, TX0, tyX0, 4)) (ci := 0) (k := 0) (ref := "PatrolDesk") (vR (some u144)) ht143 rfl (by decide) in_X0 q948 (Or.inl rfl) (by rw [he145]; rfl) dX0_count_201 ?_
    refine pw_iload_n X dX0_count_204 rfl rfl ?_
    obtain ⟨hf146, hw⟩ := hw
    refine pw_lamI X hN lsh6 (by decide) lsK6 rfl lsT6 (Nat.le_of_ble_eq_true rfl) dX0_count_205 hf146 (fun u147 h0148 => ?_)
    obtain ⟨M149, hM150⟩ : ∃ z : Mem, z = (m_lmI M 6 u147 x1) := ⟨_, rfl⟩
    replace hw := hw u147 h0148 M149 hM150
    have hle151 : m_le M M149 := by rw [hM150]; exact m_le_lmI h0148
    rw [← hM150]
    have ht152 : m_tg M149 a0 = 1 := m_le_tg hle151 ht143
    have ht153 : m_tg M149 u147 = 207 := by rw [hM150, m_tg_lmI, if_pos rfl]
    obtain ⟨ht154, hw⟩ := hw
    refine pw_runi X (m_cV X (b := u144) (ci := 1) (q := (RX1, TX1, tyX1, 8)) (met_X1_sum G C.2.1 M149 u144 u147 _ hw) ht154 rfl (lw_V q1876 q1877 q1878 q79 q1879) ⟨rfl, nh_X1_sum⟩ ⟨Nat.le_of_ble_eq_true rfl, Nat.le_of_ble_eq_true rfl⟩ rfl (Nat.le_of_ble_eq_true rfl) dX0_count_210) (fun r157 M155 hle156 hx => ?_)
    replace hw := hx hle156
    clear hx
    have ht158 : m_tg M155 a0 = 1 := m_le_tg hle156 ht152
    have ht159 : m_tg M155 u147 = 207 := m_le_tg hle156 ht153
    have ht160 : m_tg M155 u144 = 2 := m_le_tg hle156 ht154
    exact pw_iret X hw dX0_count_213
  replace hw := hw.2 c142
  by_cases c161 : x1 = 11
  · replace hw := hw.1 c161
    refine pw_tableIn X 11 200 dX0_count_1 c161 (by decide) (by decide) rfl (by decide) ?_
    refine pw_aload_n X dX0_count_200 rfl rfl ?_
    obtain ⟨ht162, hw⟩ := hw
    obtain ⟨u163, he164, hw⟩ := hw
    refine pw_get X (q := (RX0, TX0, tyX0, 4)) (ci := 0) (k := 0) (ref := "PatrolDesk") (vR (some u163)) ht162 rfl (by decide) in_X0 q948 (Or.inl rfl) (by rw [he164]; rfl) dX0_count_201 ?_
    refine pw_iload_n X dX0_count_204 rfl rfl ?_
    obtain ⟨hf165, hw⟩ := hw
    refine pw_lamI X hN lsh6 (by decide) lsK6 rfl lsT6 (Nat.le_of_ble_eq_true rfl) dX0_count_205 hf165 (fun u166 h0167 => ?_)
    obtain ⟨M168, hM169⟩ : ∃ z : Mem, z = (m_lmI M 6 u166 x1) := ⟨_, rfl⟩
    replace hw := hw u166 h0167 M168 hM169
    have hle170 : m_le M M168 := by rw [hM169]; exact m_le_lmI h0167
    rw [← hM169]
    have ht171 : m_tg M168 a0 = 1 := m_le_tg hle170 ht162
    have ht172 : m_tg M168 u166 = 207 := by rw [hM169, m_tg_lmI, if_pos rfl]
    obtain ⟨ht173, hw⟩ := hw
    refine pw_runi X (m_cV X (b := u163) (ci := 1) (q := (RX1, TX1, tyX1, 8)) (met_X1_sum G C.2.1 M168 u163 u166 _ hw) ht173 rfl (lw_V q1876 q1877 q1878 q79 q1879) ⟨rfl, nh_X1_sum⟩ ⟨Nat.le_of_ble_eq_true rfl, Nat.le_of_ble_eq_true rfl⟩ rfl (Nat.le_of_ble_eq_true rfl) dX0_count_210) (fun r176 M174 hle175 hx => ?_)
    replace hw := hx hle175
    clear hx
    have ht177 : m_tg M174 a0 = 1 := m_le_tg hle175 ht171
    have ht178 : m_tg M174 u166 = 207 := m_le_tg hle175 ht172
    have ht179 : m_tg M174 u163 = 2 := m_le_tg hle175 ht173
    exact pw_iret X hw dX0_count_213
  replace hw := hw.2 c161
  by_cases c180 : x1 = 12
  · replace hw := hw.1 c180
    refine pw_tableIn X 12 200 dX0_count_1 c180 (by decide) (by decide) rfl (by decide) ?_
    refine pw_aload_n X dX0_count_200 rfl rfl ?_
    obtain ⟨ht181, hw⟩ := hw
    obtain ⟨u182, he183, hw⟩ := hw
    refine pw_get X (q := (RX0, TX0, tyX0, 4)) (ci := 0) (k := 0) (ref := "PatrolDesk") (vR (some u182)) ht181 rfl (by decide) in_X0 q948 (Or.inl rfl) (by rw [he183]; rfl) dX0_count_201 ?_
    refine pw_iload_n X dX0_count_204 rfl rfl ?_
    obtain ⟨hf184, hw⟩ := hw
    refine pw_lamI X hN lsh6 (by decide) lsK6 rfl lsT6 (Nat.le_of_ble_eq_true rfl) dX0_count_205 hf184 (fun u185 h0186 => ?_)
    obtain ⟨M187, hM188⟩ : ∃ z : Mem, z = (m_lmI M 6 u185 x1) := ⟨_, rfl⟩
    replace hw := hw u185 h0186 M187 hM188
    have hle189 : m_le M M187 := by rw [hM188]; exact m_le_lmI h0186
    rw [← hM188]
    have ht190 : m_tg M187 a0 = 1 := m_le_tg hle189 ht181
    have ht191 : m_tg M187 u185 = 207 := by rw [hM188, m_tg_lmI, if_pos rfl]
    obtain ⟨ht192, hw⟩ := hw
    refine pw_runi X (m_cV X (b := u182) (ci := 1) (q := (RX1, TX1, tyX1, 8)) (met_X1_sum G C.2.1 M187 u182 u185 _ hw) ht192 rfl (lw_V q1876 q1877 q1878 q79 q1879) ⟨rfl, nh_X1_sum⟩ ⟨Nat.le_of_ble_eq_true rfl, Nat.le_of_ble_eq_true rfl⟩ rfl (Nat.le_of_ble_eq_true rfl) dX0_count_210) (fun r195 M193 hle194 hx => ?_)
    replace hw := hx hle194
    clear hx
    have ht196 : m_tg M193 a0 = 1 := m_le_tg hle194 ht190
    have ht197 : m_tg M193 u185 = 207 := m_le_tg hle194 ht191
    have ht198 : m_tg M193 u182 = 2 := m_le_tg hle194 ht192
    exact pw_iret X hw dX0_count_213
  replace hw := hw.2 c180
  by_cases c199 : x1 = 13
  · replace hw := hw.1 c199
    refine pw_tableIn X 13 200 dX0_count_1 c199 (by decide) (by decide) rfl (by decide) ?_
    refine pw_aload_n X dX0_count_200 rfl rfl ?_
    obtain ⟨ht200, hw⟩ := hw
    obtain ⟨u201, he202, hw⟩ := hw
    refine pw_get X (q := (RX0, TX0, tyX0, 4)) (ci := 0) (k := 0) (ref := "PatrolDesk") (vR (some u201)) ht200 rfl (by decide) in_X0 q948 (Or.inl rfl) (by rw [he202]; rfl) dX0_count_201 ?_
    refine pw_iload_n X dX0_count_204 rfl rfl ?_
    obtain ⟨hf203, hw⟩ := hw
    refine pw_lamI X hN lsh6 (by decide) lsK6 rfl lsT6 (Nat.le_of_ble_eq_true rfl) dX0_count_205 hf203 (fun u204 h0205 => ?_)
    obtain ⟨M206, hM207⟩ : ∃ z : Mem, z = (m_lmI M 6 u204 x1) := ⟨_, rfl⟩
    replace hw := hw u204 h0205 M206 hM207
    have hle208 : m_le M M206 := by rw [hM207]; exact m_le_lmI h0205
    rw [← hM207]
    have ht209 : m_tg M206 a0 = 1 := m_le_tg hle208 ht200
    have ht210 : m_tg M206 u204 = 207 := by rw [hM207, m_tg_lmI, if_pos rfl]
    obtain ⟨ht211, hw⟩ := hw
    refine pw_runi X (m_cV X (b := u201) (ci := 1) (q := (RX1, TX1, tyX1, 8)) (met_X1_sum G C.2.1 M206 u201 u204 _ hw) ht211 rfl (lw_V q1876 q1877 q1878 q79 q1879) ⟨rfl, nh_X1_sum⟩ ⟨Nat.le_of_ble_eq_true rfl, Nat.le_of_ble_eq_true rfl⟩ rfl (Nat.le_of_ble_eq_true rfl) dX0_count_210) (fun r214 M212 hle213 hx => ?_)
    replace hw := hx hle213
    clear hx
    have ht215 : m_tg M212 a0 = 1 := m_le_tg hle213 ht209
    have ht216 : m_tg M212 u204 = 207 := m_le_tg hle213 ht210
    have ht217 : m_tg M212 u201 = 2 := m_le_tg hle213 ht211
    exact pw_iret X hw dX0_count_213
  replace hw := hw.2 c199
  by_cases c218 : x1 = 14
  · replace hw := hw.1 c218
    refine pw_tableIn X 14 200 dX0_count_1 c218 (by decide) (by decide) rfl (by decide) ?_
    refine pw_aload_n X dX0_count_200 rfl rfl ?_
    obtain ⟨ht219, hw⟩ := hw
    obtain ⟨u220, he221, hw⟩ := hw
    refine pw_get X (q := (RX0, TX0, tyX0, 4)) (ci := 0) (k := 0) (ref := "PatrolDesk") (vR (some u220)) ht219 rfl (by decide) in_X0 q948 (Or.inl rfl) (by rw [he221]; rfl) dX0_count_201 ?_
    refine pw_iload_n X dX0_count_204 rfl rfl ?_
    obtain ⟨hf222, hw⟩ := hw
    refine pw_lamI X hN lsh6 (by decide) lsK6 rfl lsT6 (Nat.le_of_ble_eq_true rfl) dX0_count_205 hf222 (fun u223 h0224 => ?_)
    obtain ⟨M225, hM226⟩ : ∃ z : Mem, z = (m_lmI M 6 u223 x1) := ⟨_, rfl⟩
    replace hw := hw u223 h0224 M225 hM226
    have hle227 : m_le M M225 := by rw [hM226]; exact m_le_lmI h0224
    rw [← hM226]
    have ht228 : m_tg M225 a0 = 1 := m_le_tg hle227 ht219
    have ht229 : m_tg M225 u223 = 207 := by rw [hM226, m_tg_lmI, if_pos rfl]
    obtain ⟨ht230, hw⟩ := hw
    refine pw_runi X (m_cV X (b := u220) (ci := 1) (q := (RX1, TX1, tyX1, 8)) (met_X1_sum G C.2.1 M225 u220 u223 _ hw) ht230 rfl (lw_V q1876 q1877 q1878 q79 q1879) ⟨rfl, nh_X1_sum⟩ ⟨Nat.le_of_ble_eq_true rfl, Nat.le_of_ble_eq_true rfl⟩ rfl (Nat.le_of_ble_eq_true rfl) dX0_count_210) (fun r233 M231 hle232 hx => ?_)
    replace hw := hx hle232
    clear hx
    have ht234 : m_tg M231 a0 = 1 := m_le_tg hle232 ht228
    have ht235 : m_tg M231 u223 = 207 := m_le_tg hle232 ht229
    have ht236 : m_tg M231 u220 = 2 := m_le_tg hle232 ht230
    exact pw_iret X hw dX0_count_213
  replace hw := hw.2 c218
  by_cases c237 : x1 = 15
  · replace hw := hw.1 c237
    refine pw_tableIn X 15 214 dX0_count_1 c237 (by decide) (by decide) rfl (by decide) ?_
    refine pw_aload_n X dX0_count_214 rfl rfl ?_
    obtain ⟨ht238, hw⟩ := hw
    obtain ⟨u239, he240, hw⟩ := hw
    refine pw_get X (q := (RX0, TX0, tyX0, 4)) (ci := 0) (k := 0) (ref := "PatrolDesk") (vR (some u239)) ht238 rfl (by decide) in_X0 q948 (Or.inl rfl) (by rw [he240]; rfl) dX0_count_215 ?_
    refine pw_aload_n X dX0_count_218 rfl rfl ?_
    obtain ⟨hf241, hw⟩ := hw
    refine pw_lamR X hN lsh7 lsK7 rfl lsT7 (Nat.le_of_ble_eq_true rfl) dX0_count_219 hf241 (fun u242 h0243 => ?_)
    obtain ⟨M244, hM245⟩ : ∃ z : Mem, z = (m_lmR M 7 u242 a0) := ⟨_, rfl⟩
    replace hw := hw u242 h0243 M244 hM245
    have hle246 : m_le M M244 := by rw [hM245]; exact m_le_lmR h0243
    rw [← hM245]
    have ht247 : m_tg M244 a0 = 1 := m_le_tg hle246 ht238
    have ht248 : m_tg M244 u242 = 208 := by rw [hM245, m_tg_lmR, if_pos rfl]
    obtain ⟨ht249, hw⟩ := hw
    refine pw_runi X (m_cV X (b := u239) (ci := 1) (q := (RX1, TX1, tyX1, 8)) (met_X1_sum G C.2.1 M244 u239 u242 _ hw) ht249 rfl (lw_V q1876 q1877 q1878 q79 q1879) ⟨rfl, nh_X1_sum⟩ ⟨Nat.le_of_ble_eq_true rfl, Nat.le_of_ble_eq_true rfl⟩ rfl (Nat.le_of_ble_eq_true rfl) dX0_count_224) (fun r252 M250 hle251 hx => ?_)
    replace hw := hx hle251
    clear hx
    have ht253 : m_tg M250 a0 = 1 := m_le_tg hle251 ht247
    have ht254 : m_tg M250 u242 = 208 := m_le_tg hle251 ht248
    have ht255 : m_tg M250 u239 = 2 := m_le_tg hle251 ht249
    exact pw_iret X hw dX0_count_227
  replace hw := hw.2 c237
  by_cases c256 : x1 = 16
  · replace hw := hw.1 c256
    refine pw_tableIn X 16 228 dX0_count_1 c256 (by decide) (by decide) rfl (by decide) ?_
    refine pw_aload_n X dX0_count_228 rfl rfl ?_
    refine pw_iconst X 1 dX0_count_229 (by decide) ?_
    obtain ⟨ht257, hw⟩ := hw
    refine pw_runi X (m_cV X (b := a0) (ci := 0) (q := (RX0, TX0, tyX0, 4)) (met_X0_moneyOf G C.2.1 M a0 1 _ hw) ht257 rfl (lw_V q1929 q1931 qs36 q78 q1932) ⟨rfl, nh_X0_moneyOf⟩ ⟨Nat.le_of_ble_eq_true rfl, Nat.le_of_ble_eq_true rfl⟩ rfl (Nat.le_of_ble_eq_true rfl) dX0_count_230) (fun r260 M258 hle259 hx => ?_)
    replace hw := hx hle259
    clear hx
    have ht261 : m_tg M258 a0 = 1 := m_le_tg hle259 ht257
    exact pw_iret X hw dX0_count_233
  replace hw := hw.2 c256
  by_cases c262 : x1 = 17
  · replace hw := hw.1 c262
    refine pw_tableIn X 17 234 dX0_count_1 c262 (by decide) (by decide) rfl (by decide) ?_
    refine pw_aload_n X dX0_count_234 rfl rfl ?_
    refine pw_iconst X 0 dX0_count_235 (by decide) ?_
    obtain ⟨ht263, hw⟩ := hw
    refine pw_runi X (m_cV X (b := a0) (ci := 0) (q := (RX0, TX0, tyX0, 4)) (met_X0_moneyOf G C.2.1 M a0 0 _ hw) ht263 rfl (lw_V q1929 q1931 qs36 q78 q1932) ⟨rfl, nh_X0_moneyOf⟩ ⟨Nat.le_of_ble_eq_true rfl, Nat.le_of_ble_eq_true rfl⟩ rfl (Nat.le_of_ble_eq_true rfl) dX0_count_236) (fun r266 M264 hle265 hx => ?_)
    replace hw := hx hle265
    clear hx
    have ht267 : m_tg M264 a0 = 1 := m_le_tg hle265 ht263
    exact pw_iret X hw dX0_count_239
  replace hw := hw.2 c262
  by_cases c268 : x1 = 18
  · replace hw := hw.1 c268
    refine pw_tableIn X 18 240 dX0_count_1 c268 (by decide) (by decide) rfl (by decide) ?_
    refine pw_aload_n X dX0_count_240 rfl rfl ?_
    obtain ⟨ht269, hw⟩ := hw
    obtain ⟨u270, he271, hw⟩ := hw
    refine pw_get X (q := (RX0, TX0, tyX0, 4)) (ci := 0) (k := 0) (ref := "PatrolDesk") (vR (some u270)) ht269 rfl (by decide) in_X0 q948 (Or.inl rfl) (by rw [he271]; rfl) dX0_count_241 ?_
    refine pw_lamC X hN lsh8 (by decide) rfl (Nat.le_of_ble_eq_true rfl) dX0_count_244 (fun ht272 => ?_)
    replace hw := hw ht272
    obtain ⟨ht273, hw⟩ := hw
    refine pw_runi X (m_cV X (b := u270) (ci := 1) (q := (RX1, TX1, tyX1, 8)) (met_X1_sum G C.2.1 M u270 (G.2 28) _ hw) ht273 rfl (lw_V q1876 q1877 q1878 q79 q1879) ⟨rfl, nh_X1_sum⟩ ⟨Nat.le_of_ble_eq_true rfl, Nat.le_of_ble_eq_true rfl⟩ rfl (Nat.le_of_ble_eq_true rfl) dX0_count_249) (fun r276 M274 hle275 hx => ?_)
    replace hw := hx hle275
    clear hx
    have ht277 : m_tg M274 a0 = 1 := m_le_tg hle275 ht269
    have ht278 : m_tg M274 (G.2 28) = 209 := m_le_tg hle275 ht272
    have ht279 : m_tg M274 u270 = 2 := m_le_tg hle275 ht273
    exact pw_iret X hw dX0_count_252
  replace hw := hw.2 c268
  by_cases c280 : x1 = 19
  · replace hw := hw.1 c280
    refine pw_tableIn X 19 253 dX0_count_1 c280 (by decide) (by decide) rfl (by decide) ?_
    refine pw_aload_n X dX0_count_253 rfl rfl ?_
    obtain ⟨ht281, hw⟩ := hw
    obtain ⟨u282, he283, hw⟩ := hw
    refine pw_get X (q := (RX0, TX0, tyX0, 4)) (ci := 0) (k := 0) (ref := "PatrolDesk") (vR (some u282)) ht281 rfl (by decide) in_X0 q948 (Or.inl rfl) (by rw [he283]; rfl) dX0_count_254 ?_
    obtain ⟨ht284, hw⟩ := hw
    obtain ⟨u285, he286, hw⟩ := hw
    refine pw_getN X (q := (RX1, TX1, tyX1, 8)) (ci := 1) (k := 4) (ref := "PatrolDesk$State") (host := "PatrolDesk") (vR (some u285)) ht284 rfl (by decide) in_X1 q170 (Or.inl rfl) (by rw [he286]; rfl) dX0_count_257 ?_
    refine pw_iload_n X dX0_count_260 rfl rfl ?_
    refine pw_bipush X 19 dX0_count_261 (by decide) ?_
    refine pw_isub X dX0_count_263 ?_
    obtain ⟨ht287, hw⟩ := hw
    obtain ⟨hi288, hw⟩ := hw
    refine pw_iald X ht287 hi288 dX0_count_264 ?_
    exact pw_iret X hw dX0_count_265
  replace hw := hw.2 c280
  by_cases c289 : x1 = 20
  · replace hw := hw.1 c289
    refine pw_tableIn X 20 253 dX0_count_1 c289 (by decide) (by decide) rfl (by decide) ?_
    refine pw_aload_n X dX0_count_253 rfl rfl ?_
    obtain ⟨ht290, hw⟩ := hw
    obtain ⟨u291, he292, hw⟩ := hw
    refine pw_get X (q := (RX0, TX0, tyX0, 4)) (ci := 0) (k := 0) (ref := "PatrolDesk") (vR (some u291)) ht290 rfl (by decide) in_X0 q948 (Or.inl rfl) (by rw [he292]; rfl) dX0_count_254 ?_
    obtain ⟨ht293, hw⟩ := hw
    obtain ⟨u294, he295, hw⟩ := hw
    refine pw_getN X (q := (RX1, TX1, tyX1, 8)) (ci := 1) (k := 4) (ref := "PatrolDesk$State") (host := "PatrolDesk") (vR (some u294)) ht293 rfl (by decide) in_X1 q170 (Or.inl rfl) (by rw [he295]; rfl) dX0_count_257 ?_
    refine pw_iload_n X dX0_count_260 rfl rfl ?_
    refine pw_bipush X 19 dX0_count_261 (by decide) ?_
    refine pw_isub X dX0_count_263 ?_
    obtain ⟨ht296, hw⟩ := hw
    obtain ⟨hi297, hw⟩ := hw
    refine pw_iald X ht296 hi297 dX0_count_264 ?_
    exact pw_iret X hw dX0_count_265
  replace hw := hw.2 c289
  by_cases c298 : x1 = 21
  · replace hw := hw.1 c298
    refine pw_tableIn X 21 253 dX0_count_1 c298 (by decide) (by decide) rfl (by decide) ?_
    refine pw_aload_n X dX0_count_253 rfl rfl ?_
    obtain ⟨ht299, hw⟩ := hw
    obtain ⟨u300, he301, hw⟩ := hw
    refine pw_get X (q := (RX0, TX0, tyX0, 4)) (ci := 0) (k := 0) (ref := "PatrolDesk") (vR (some u300)) ht299 rfl (by decide) in_X0 q948 (Or.inl rfl) (by rw [he301]; rfl) dX0_count_254 ?_
    obtain ⟨ht302, hw⟩ := hw
    obtain ⟨u303, he304, hw⟩ := hw
    refine pw_getN X (q := (RX1, TX1, tyX1, 8)) (ci := 1) (k := 4) (ref := "PatrolDesk$State") (host := "PatrolDesk") (vR (some u303)) ht302 rfl (by decide) in_X1 q170 (Or.inl rfl) (by rw [he304]; rfl) dX0_count_257 ?_
    refine pw_iload_n X dX0_count_260 rfl rfl ?_
    refine pw_bipush X 19 dX0_count_261 (by decide) ?_
    refine pw_isub X dX0_count_263 ?_
    obtain ⟨ht305, hw⟩ := hw
    obtain ⟨hi306, hw⟩ := hw
    refine pw_iald X ht305 hi306 dX0_count_264 ?_
    exact pw_iret X hw dX0_count_265
  replace hw := hw.2 c298
  by_cases c307 : x1 = 22
  · replace hw := hw.1 c307
    refine pw_tableIn X 22 266 dX0_count_1 c307 (by decide) (by decide) rfl (by decide) ?_
    refine pw_aload_n X dX0_count_266 rfl rfl ?_
    obtain ⟨ht308, hw⟩ := hw
    refine pw_runi X (m_cV X (b := a0) (ci := 0) (q := (RX0, TX0, tyX0, 4)) (met_X0_onDuty G C.2.1 M a0 _ hw) ht308 rfl (lw_V q1427 q1429 qs15 q78 q1430) ⟨rfl, nh_X0_onDuty⟩ ⟨Nat.le_of_ble_eq_true rfl, Nat.le_of_ble_eq_true rfl⟩ rfl (Nat.le_of_ble_eq_true rfl) dX0_count_267) (fun r311 M309 hle310 hx => ?_)
    replace hw := hx hle310
    clear hx
    have ht312 : m_tg M309 a0 = 1 := m_le_tg hle310 ht308
    exact pw_iret X hw dX0_count_270
  replace hw := hw.2 c307
  by_cases c313 : x1 = 23
  · replace hw := hw.1 c313
    refine pw_tableIn X 23 271 dX0_count_1 c313 (by decide) (by decide) rfl (by decide) ?_
    refine pw_aload_n X dX0_count_271 rfl rfl ?_
    obtain ⟨ht314, hw⟩ := hw
    obtain ⟨u315, he316, hw⟩ := hw
    refine pw_get X (q := (RX0, TX0, tyX0, 4)) (ci := 0) (k := 2) (ref := "PatrolDesk") (vR (some u315)) ht314 rfl (by decide) in_X0 q950 (Or.inl rfl) (by rw [he316]; rfl) dX0_count_272 ?_
    obtain ⟨ht317, hw⟩ := hw
    refine pw_runi X (m_cF X (b := u315) (ci := 13) (q := (RJ2, TJ2, tyJ2, 3)) (met_J2_size G C.2.1 M u315 _ hw) ht317 rfl (lw_app (lw_F q991 q994 q996 q82) (lw_meth q998)) (List.mem_of_getElem? (i := 6) rfl) (by decide +kernel : m_nMH ⟨"java/util/List", "size", "()I"⟩ 0) ⟨Nat.le_of_ble_eq_true rfl, Nat.le_of_ble_eq_true rfl⟩ rfl (Nat.le_of_ble_eq_true rfl) dX0_count_275) (fun r320 M318 hle319 hx => ?_)
    replace hw := hx hle319
    clear hx
    have ht321 : m_tg M318 a0 = 1 := m_le_tg hle319 ht314
    have ht322 : m_tg M318 u315 = 14 := m_le_tg hle319 ht317
    exact pw_iret X hw dX0_count_280
  replace hw := hw.2 c313
  by_cases c323 : x1 = 24
  · replace hw := hw.1 c323
    refine pw_tableIn X 24 281 dX0_count_1 c323 (by decide) (by decide) rfl (by decide) ?_
    refine pw_aload_n X dX0_count_281 rfl rfl ?_
    obtain ⟨ht324, hw⟩ := hw
    obtain ⟨u325, he326, hw⟩ := hw
    refine pw_get X (q := (RX0, TX0, tyX0, 4)) (ci := 0) (k := 3) (ref := "PatrolDesk") (vR (some u325)) ht324 rfl (by decide) in_X0 q951 (Or.inl rfl) (by rw [he326]; rfl) dX0_count_282 ?_
    obtain ⟨ht327, hw⟩ := hw
    refine pw_runi X (m_cV X (b := u325) (ci := 14) (q := (RJ4, TJ4, tyJ4, 4)) (met_J4_length G C.2.1 M u325 _ hw) ht327 rfl (lw_V q1651 q1652 q1653 q84 q1654) ⟨rfl, nh_J4_length⟩ ⟨Nat.le_of_ble_eq_true rfl, Nat.le_of_ble_eq_true rfl⟩ rfl (Nat.le_of_ble_eq_true rfl) dX0_count_285) (fun r330 M328 hle329 hx => ?_)
    replace hw := hx hle329
    clear hx
    have ht331 : m_tg M328 a0 = 1 := m_le_tg hle329 ht324
    have ht332 : m_tg M328 u325 = 15 := m_le_tg hle329 ht327
    exact pw_iret X hw dX0_count_288
  replace hw := hw.2 c323
  refine pw_tableOut X 289 dX0_count_1 (by have := lv_neT c1 (a := 0) (by decide); have := lv_neT c6 (a := 1) (by decide); have := lv_neT c11 (a := 2) (by decide); have := lv_neT c29 (a := 3) (by decide); have := lv_neT c43 (a := 4) (by decide); have := lv_neT c57 (a := 5) (by decide); have := lv_neT c71 (a := 6) (by decide); have := lv_neT c85 (a := 7) (by decide); have := lv_neT c104 (a := 8) (by decide); have := lv_neT c123 (a := 9) (by decide); have := lv_neT c142 (a := 10) (by decide); have := lv_neT c161 (a := 11) (by decide); have := lv_neT c180 (a := 12) (by decide); have := lv_neT c199 (a := 13) (by decide); have := lv_neT c218 (a := 14) (by decide); have := lv_neT c237 (a := 15) (by decide); have := lv_neT c256 (a := 16) (by decide); have := lv_neT c262 (a := 17) (by decide); have := lv_neT c268 (a := 18) (by decide); have := lv_neT c280 (a := 19) (by decide); have := lv_neT c289 (a := 20) (by decide); have := lv_neT c298 (a := 21) (by decide); have := lv_neT c307 (a := 22) (by decide); have := lv_neT c313 (a := 23) (by decide); have := lv_neT c323 (a := 24) (by decide); omega) (by decide) ?_
  refine pw_bipush X (-2) dX0_count_289 (by decide) ?_
  exact pw_iret X hw dX0_count_291
theorem met_X0_count (G : Gp) (l : Launch) (M : Mem) (a0 : Nat) (x1 : Int32) (Q : Int32 → Mem → Prop) (hw : wp_X0_count G.2 M a0 x1 Q) : m_K G l yX0_count cX0_count 2 (some .int) 6 3074 [vR (some a0), vI x1] M (va_Qi (m_q1 M Q) (m_W G) (m_A G)) := by
  refine m_metN (by decide) (Nat.le_of_ble_eq_true rfl) (fun C e X hN => ?_)
  exact bk_X0_count_0 G C _ _ M Q X hN M a0 x1 hw
theorem nh_X0_count : m_nMH yX0_count 1 := by decide +kernel
