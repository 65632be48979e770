/-! walks (printed by gen/desk.py): 21.wtext.lean -/
set_option maxRecDepth 100000
set_option maxHeartbeats 4000000
def wp_J17_checkFromIndexSize (g : Nat → Nat) (M : Mem) (x0 : Int32) (x1 : Int32) (x2 : Int32) (r3 : Option Nat) (Q : Int32 → Mem → Prop) : Prop := ((((x2 ||| x0) ||| x1) < 0 → False) ∧ (¬ ((x2 ||| x0) ||| x1) < 0 → ((x1 ≤ (x2 - x0) → Q x0 M) ∧ (¬ x1 ≤ (x2 - x0) → False))))
theorem bk_J17_checkFromIndexSize_0 (G : Gp) (C : m_Cx) (n0 s0 : Nat) (M0 : Mem) (Q : Int32 → Mem → Prop) (X : m_in G C RJ17 cJ17_checkFromIndexSize 4 (some .int) "checkFromIndexSize" 0 0 n0 s0) (M : Mem) (x0 : Int32) (x1 : Int32) (x2 : Int32) (r3 : Option Nat) (hw : wp_J17_checkFromIndexSize G.2 M x0 x1 x2 r3 Q) : pW G C 4 n0 s0 M0 (m_Q G C n0 s0 (va_Qi (m_q1 M0 Q) (m_W G) (m_A G))) M 0 [(0, vI x0), (1, vI x1), (2, vI x2), (3, vR r3)] [] := by
  refine pw_iload_n X dJ17_checkFromIndexSize_0 rfl rfl ?_
  refine pw_iload_n X dJ17_checkFromIndexSize_1 rfl rfl ?_
  refine pw_ior X dJ17_checkFromIndexSize_2 ?_
  refine pw_iload_n X dJ17_checkFromIndexSize_3 rfl rfl ?_
  refine pw_ior X dJ17_checkFromIndexSize_4 ?_
  refine pw_if_lt X 15 dJ17_checkFromIndexSize_5 (by decide) (fun c1 => ?_) (fun c1 => ?_)
  · replace hw := hw.1 c1
    refine pw_aload_n X dJ17_checkFromIndexSize_15 rfl rfl ?_
    refine pw_iload_n X dJ17_checkFromIndexSize_16 rfl rfl ?_
    refine pw_iload_n X dJ17_checkFromIndexSize_17 rfl rfl ?_
    refine pw_iload_n X dJ17_checkFromIndexSize_18 rfl rfl ?_
    exact hw.elim
  · replace hw := hw.2 c1
    refine pw_iload_n X dJ17_checkFromIndexSize_8 rfl rfl ?_
    refine pw_iload_n X dJ17_checkFromIndexSize_9 rfl rfl ?_
    refine pw_iload_n X dJ17_checkFromIndexSize_10 rfl rfl ?_
    refine pw_isub X dJ17_checkFromIndexSize_11 ?_
    refine pw_icmp_le X 23 dJ17_checkFromIndexSize_12 (by decide) (fun c2 => ?_) (fun c2 => ?_)
    · replace hw := hw.1 c2
      refine pw_iload_n X dJ17_checkFromIndexSize_23 rfl rfl ?_
      exact pw_iret X hw dJ17_checkFromIndexSize_24
    · replace hw := hw.2 c2
      refine pw_aload_n X dJ17_checkFromIndexSize_15 rfl rfl ?_
      refine pw_iload_n X dJ17_checkFromIndexSize_16 rfl rfl ?_
      refine pw_iload_n X dJ17_checkFromIndexSize_17 rfl rfl ?_
      refine pw_iload_n X dJ17_checkFromIndexSize_18 rfl rfl ?_
      exact hw.elim
theorem met_J17_checkFromIndexSize (G : Gp) (l : Launch) (M : Mem) (x0 : Int32) (x1 : Int32) (x2 : Int32) (r3 : Option Nat) (Q : Int32 → Mem → Prop) (hw : wp_J17_checkFromIndexSize G.2 M x0 x1 x2 r3 Q) : m_K G l yJ17_checkFromIndexSize cJ17_checkFromIndexSize 4 (some .int) 0 0 [vI x0, vI x1, vI x2, vR r3] M (va_Qi (m_q1 M Q) (m_W G) (m_A G)) := by
  refine m_met (by decide) (Nat.le_of_ble_eq_true rfl) (fun C e X => ?_)
  exact bk_J17_checkFromIndexSize_0 G C _ _ M Q X M x0 x1 x2 r3 hw
theorem nh_J17_checkFromIndexSize : m_nMH yJ17_checkFromIndexSize 4 := by decide +kernel

def wp_J5_checkIndex (g : Nat → Nat) (M : Mem) (x0 : Int32) (x1 : Int32) (Q : Mem → Prop) : Prop := wp_J17_checkIndex g M x0 x1 (m_ro (g 7)) (fun (r3 : Int32) (M1 : Mem) => m_le M M1 → Q M1)
theorem bk_J5_checkIndex_0 (G : Gp) (C : m_Cx) (n0 s0 : Nat) (M0 : Mem) (Q : Mem → Prop) (X : m_in G C RJ5 cJ5_checkIndex 2 none "checkIndex" 1 22 n0 s0) (M : Mem) (x0 : Int32) (x1 : Int32) (hw : wp_J5_checkIndex G.2 M x0 x1 Q) : pW G C 2 n0 s0 M0 (m_Q G C n0 s0 (va_Qv (m_q0 M0 Q) (m_W G) (m_A G))) M 0 [(0, vI x0), (1, vI x1)] [] := by
  refine pw_iload_n X dJ5_checkIndex_0 rfl rfl ?_
  refine pw_iload_n X dJ5_checkIndex_1 rfl rfl ?_
  refine pw_gets X (vR (m_ro (G.2 7))) (List.mem_of_getElem? (i := 4) rfl) q602 (Or.inl rfl) dJ5_checkIndex_2 ?_
  refine pw_runi X (m_cS X (met_J17_checkIndex G C.2.1 M x0 x1 (m_ro (G.2 7)) _ hw) (lw_S q1719 q1012 q100 q1013) nh_J17_checkIndex ⟨Nat.le_of_ble_eq_true rfl, Nat.le_of_ble_eq_true rfl⟩ rfl (Nat.le_of_ble_eq_true rfl) dJ5_checkIndex_5) (fun r3 M1 hle2 hx => ?_)
  replace hw := hx hle2
  clear hx
  refine pw_pop X dJ5_checkIndex_8 ?_
  exact pw_vret X hw dJ5_checkIndex_9
theorem met_J5_checkIndex (G : Gp) (l : Launch) (M : Mem) (x0 : Int32) (x1 : Int32) (Q : Mem → Prop) (hw : wp_J5_checkIndex G.2 M x0 x1 Q) : m_K G l yJ5_checkIndex cJ5_checkIndex 2 none 1 22 [vI x0, vI x1] M (va_Qv (m_q0 M Q) (m_W G) (m_A G)) := by
  refine m_met (by decide) (Nat.le_of_ble_eq_true rfl) (fun C e X => ?_)
  exact bk_J5_checkIndex_0 G C _ _ M Q X M x0 x1 hw
theorem nh_J5_checkIndex : m_nMH yJ5_checkIndex 2 := by decide +kernel

def wp_J5_checkBoundsOffCount (g : Nat → Nat) (M : Mem) (x0 : Int32) (x1 : Int32) (x2 : Int32) (Q : Int32 → Mem → Prop) : Prop := wp_J17_checkFromIndexSize g M x0 x1 x2 (m_ro (g 7)) (fun (r3 : Int32) (M1 : Mem) => m_le M M1 → Q r3 M1)
theorem bk_J5_checkBoundsOffCount_0 (G : Gp) (C : m_Cx) (n0 s0 : Nat) (M0 : Mem) (Q : Int32 → Mem → Prop) (X : m_in G C RJ5 cJ5_checkBoundsOffCount 3 (some .int) "checkBoundsOffCount" 1 23 n0 s0) (M : Mem) (x0 : Int32) (x1 : Int32) (x2 : Int32) (hw : wp_J5_checkBoundsOffCount G.2 M x0 x1 x2 Q) : pW G C 3 n0 s0 M0 (m_Q G C n0 s0 (va_Qi (m_q1 M0 Q) (m_W G) (m_A G))) M 0 [(0, vI x0), (1, vI x1), (2, vI x2)] [] := by
  refine pw_iload_n X dJ5_checkBoundsOffCount_0 rfl rfl ?_
  refine pw_iload_n X dJ5_checkBoundsOffCount_1 rfl rfl ?_
  refine pw_iload_n X dJ5_checkBoundsOffCount_2 rfl rfl ?_
  refine pw_gets X (vR (m_ro (G.2 7))) (List.mem_of_getElem? (i := 4) rfl) q602 (Or.inl rfl) dJ5_checkBoundsOffCount_3 ?_
  refine pw_runi X (m_cS X (met_J17_checkFromIndexSize G C.2.1 M x0 x1 x2 (m_ro (G.2 7)) _ hw) (lw_S q1704 q1705 q100 q1706) nh_J17_checkFromIndexSize ⟨Nat.le_of_ble_eq_true rfl, Nat.le_of_ble_eq_true rfl⟩ rfl (Nat.le_of_ble_eq_true rfl) dJ5_checkBoundsOffCount_6) (fun r3 M1 hle2 hx => ?_)
  replace hw := hx hle2
  clear hx
  exact pw_iret X hw dJ5_checkBoundsOffCount_9
theorem met_J5_checkBoundsOffCount (G : Gp) (l : Launch) (M : Mem) (x0 : Int32) (x1 : Int32) (x2 : Int32) (Q : Int32 → Mem → Prop) (hw : wp_J5_checkBoundsOffCount G.2 M x0 x1 x2 Q) : m_K G l yJ5_checkBoundsOffCount cJ5_checkBoundsOffCount 3 (some .int) 1 23 [vI x0, vI x1, vI x2] M (va_Qi (m_q1 M Q) (m_W G) (m_A G)) := by
  refine m_met (by decide) (Nat.le_of_ble_eq_true rfl) (fun C e X => ?_)
  exact bk_J5_checkBoundsOffCount_0 G C _ _ M Q X M x0 x1 x2 hw
theorem nh_J5_checkBoundsOffCount : m_nMH yJ5_checkBoundsOffCount 3 := by decide +kernel

def wp_J6_newBytesLength (g : Nat → Nat) (M : Mem) (x0 : Int32) (Q : Int32 → Mem → Prop) : Prop := ((0 ≤ x0 → ((x0 < 1073741823 → Q ((x0 : Int32) <<< ((1 : Int32) &&& 31)) M) ∧ (¬ x0 < 1073741823 → False))) ∧ (¬ 0 ≤ x0 → False))
theorem bk_J6_newBytesLength_0 (G : Gp) (C : m_Cx) (n0 s0 : Nat) (M0 : Mem) (Q : Int32 → Mem → Prop) (X : m_in G C RJ6 cJ6_newBytesLength 1 (some .int) "newBytesLength" 0 0 n0 s0) (M : Mem) (x0 : Int32) (hw : wp_J6_newBytesLength G.2 M x0 Q) : pW G C 1 n0 s0 M0 (m_Q G C n0 s0 (va_Qi (m_q1 M0 Q) (m_W G) (m_A G))) M 0 [(0, vI x0)] [] := by
  refine pw_iload_n X dJ6_newBytesLength_0 rfl rfl ?_
  refine pw_if_ge X 12 dJ6_newBytesLength_1 (by decide) (fun c1 => ?_) (fun c1 => ?_)
  · replace hw := hw.1 c1
    refine pw_iload_n X dJ6_newBytesLength_12 rfl rfl ?_
    refine pw_ldc X 1073741823 q214 dJ6_newBytesLength_13 ?_
    refine pw_icmp_lt X 55 dJ6_newBytesLength_15 (by decide) (fun c2 => ?_) (fun c2 => ?_)
    · replace hw := hw.1 c2
      refine pw_iload_n X dJ6_newBytesLength_55 rfl rfl ?_
      refine pw_iconst X 1 dJ6_newBytesLength_56 (by decide) ?_
      refine pw_ishl X dJ6_newBytesLength_57 ?_
      exact pw_iret X hw dJ6_newBytesLength_58
    · replace hw := hw.2 c2
      exact hw.elim
  · replace hw := hw.2 c1
    exact hw.elim
theorem met_J6_newBytesLength (G : Gp) (l : Launch) (M : Mem) (x0 : Int32) (Q : Int32 → Mem → Prop) (hw : wp_J6_newBytesLength G.2 M x0 Q) : m_K G l yJ6_newBytesLength cJ6_newBytesLength 1 (some .int) 0 0 [vI x0] M (va_Qi (m_q1 M Q) (m_W G) (m_A G)) := by
  refine m_met (by decide) (Nat.le_of_ble_eq_true rfl) (fun C e X => ?_)
  exact bk_J6_newBytesLength_0 G C _ _ M Q X M x0 hw
theorem nh_J6_newBytesLength : m_nMH yJ6_newBytesLength 1 := by decide +kernel

def wp_J6_newBytesFor (g : Nat → Nat) (M : Mem) (x0 : Int32) (Q : Option Nat → Mem → Prop) : Prop := wp_J6_newBytesLength g M x0 (fun (r3 : Int32) (M1 : Mem) => m_le M M1 → ¬ (r3 : Int32) < 0 ∧ m_fits M1 (Int32.toNatClampNeg r3) ∧ ∀ u6 : Nat, m_tg M1 u6 = 0 → ∀ M8 : Mem, M8 = (m_al M1 u6 102 (Int32.toNatClampNeg r3) (Int32.toNatClampNeg r3)) → Q (some u6) M8)
theorem bk_J6_newBytesFor_0 (G : Gp) (C : m_Cx) (n0 s0 : Nat) (M0 : Mem) (Q : Option Nat → Mem → Prop) (X : m_in G C RJ6 cJ6_newBytesFor 1 (some (.array .byte)) "newBytesFor" 1 20 n0 s0) (M : Mem) (x0 : Int32) (hw : wp_J6_newBytesFor G.2 M x0 Q) : pW G C 1 n0 s0 M0 (m_Q G C n0 s0 (va_Qq (m_q1 M0 Q) (m_W G) (m_A G))) M 0 [(0, vI x0)] [] := by
  refine pw_iload_n X dJ6_newBytesFor_0 rfl rfl ?_
  refine pw_runi X (m_cS X (met_J6_newBytesLength G C.2.1 M x0 _ hw) (lw_S q211 q212 q86 q213) nh_J6_newBytesLength ⟨Nat.le_of_ble_eq_true rfl, Nat.le_of_ble_eq_true rfl⟩ rfl (Nat.le_of_ble_eq_true rfl) dJ6_newBytesFor_1) (fun r3 M1 hle2 hx => ?_)
  replace hw := hx hle2
  clear hx
  obtain ⟨hn5, hf4, hw⟩ := hw
  refine pw_newa X (atype := .byte) 1 (by decide) hf4 hn5 rfl q228 dJ6_newBytesFor_4 (fun u6 h07 => ?_)
  obtain ⟨M8, hM9⟩ : ∃ z : Mem, z = (m_al M1 u6 102 (Int32.toNatClampNeg r3) (Int32.toNatClampNeg r3)) := ⟨_, rfl⟩
  replace hw := hw u6 h07 M8 hM9
  have hle10 : m_le M1 M8 := by rw [hM9]; exact m_le_al h07
  change pW _ _ _ _ _ _ _ (m_al M1 u6 102 (Int32.toNatClampNeg r3) (Int32.toNatClampNeg r3)) _ _ _
  rw [← hM9]
  have ht11 : m_tg M8 u6 = 102 := by rw [hM9, m_tg_al, if_pos rfl]
  exact pw_aret X (Or.inr ⟨_, rfl⟩) hw dJ6_newBytesFor_6
theorem met_J6_newBytesFor (G : Gp) (l : Launch) (M : Mem) (x0 : Int32) (Q : Option Nat → Mem → Prop) (hw : wp_J6_newBytesFor G.2 M x0 Q) : m_K G l yJ6_newBytesFor cJ6_newBytesFor 1 (some (.array .byte)) 1 20 [vI x0] M (va_Qq (m_q1 M Q) (m_W G) (m_A G)) := by
  refine m_met (by decide) (Nat.le_of_ble_eq_true rfl) (fun C e X => ?_)
  exact bk_J6_newBytesFor_0 G C _ _ M Q X M x0 hw
theorem nh_J6_newBytesFor : m_nMH yJ6_newBytesFor 1 := by decide +kernel

def wp_J6_length (g : Nat → Nat) (M : Mem) (a0 : Nat) (Q : Int32 → Mem → Prop) : Prop := m_isA M a0 ∧ Q (((nI (m_ln M a0)) : Int32) >>> ((1 : Int32) &&& 31)) M
theorem bk_J6_length_0 (G : Gp) (C : m_Cx) (n0 s0 : Nat) (M0 : Mem) (Q : Int32 → Mem → Prop) (X : m_in G C RJ6 cJ6_length 1 (some .int) "length" 0 0 n0 s0) (M : Mem) (a0 : Nat) (hw : wp_J6_length G.2 M a0 Q) : pW G C 1 n0 s0 M0 (m_Q G C n0 s0 (va_Qi (m_q1 M0 Q) (m_W G) (m_A G))) M 0 [(0, vR (some a0))] [] := by
  refine pw_aload_n X dJ6_length_0 rfl rfl ?_
  obtain ⟨hA1, hw⟩ := hw
  refine pw_alen X hA1 dJ6_length_1 ?_
  refine pw_iconst X 1 dJ6_length_2 (by decide) ?_
  refine pw_ishr X dJ6_length_3 ?_
  exact pw_iret X hw dJ6_length_4
theorem met_J6_length (G : Gp) (l : Launch) (M : Mem) (a0 : Nat) (Q : Int32 → Mem → Prop) (hw : wp_J6_length G.2 M a0 Q) : m_K G l yJ6_length cJ6_length 1 (some .int) 0 0 [vR (some a0)] M (va_Qi (m_q1 M Q) (m_W G) (m_A G)) := by
  refine m_met (by decide) (Nat.le_of_ble_eq_true rfl) (fun C e X => ?_)
  exact bk_J6_length_0 G C _ _ M Q X M a0 hw
theorem nh_J6_length : m_nMH yJ6_length 1 := by decide +kernel

def wp_J6_putChar_b28 (g : Nat → Nat) (M : Mem) (la0 : Nat) (lx1 : Int32) (lx2 : Int32) (Q : Mem → Prop) : Prop := m_tg M la0 = 102 ∧ vp_in ((lx1 : Int32) <<< ((1 : Int32) &&& 31)) (m_ln M la0) ∧ ∀ M3 : Mem, M3 = (m_pi M la0 (Int32.toNatClampNeg ((lx1 : Int32) <<< ((1 : Int32) &&& 31))) (Int8.toInt32 (Int32.toInt8 (Int8.toInt32 (Int32.toInt8 ((lx2 : Int32) >>> ((0 : Int32) &&& 31))))))) → vp_in (((lx1 : Int32) <<< ((1 : Int32) &&& 31)) + 1) (m_ln M3 la0) ∧ ∀ M8 : Mem, M8 = (m_pi M3 la0 (Int32.toNatClampNeg (((lx1 : Int32) <<< ((1 : Int32) &&& 31)) + 1)) (Int8.toInt32 (Int32.toInt8 (Int8.toInt32 (Int32.toInt8 ((lx2 : Int32) >>> ((8 : Int32) &&& 31))))))) → Q M8
def wp_J6_putChar (g : Nat → Nat) (M : Mem) (a0 : Nat) (x1 : Int32) (x2 : Int32) (Q : Mem → Prop) : Prop := wp_J6_putChar_b28 g M a0 x1 x2 Q
theorem bk_J6_putChar_28 (G : Gp) (C : m_Cx) (n0 s0 : Nat) (M0 : Mem) (Q : Mem → Prop) (X : m_in G C RJ6 cJ6_putChar 3 none "putChar" 0 0 n0 s0) (M : Mem) (la0 : Nat) (lx1 : Int32) (lx2 : Int32) (hw : wp_J6_putChar_b28 G.2 M la0 lx1 lx2 Q) : pW G C 3 n0 s0 M0 (m_Q G C n0 s0 (va_Qv (m_q0 M0 Q) (m_W G) (m_A G))) M 28 [(0, vR (some la0)), (1, vI lx1), (2, vI lx2)] [] := by
  refine pw_iload_n X dJ6_putChar_28 rfl rfl ?_
  refine pw_iconst X 1 dJ6_putChar_29 (by decide) ?_
  refine pw_ishl X dJ6_putChar_30 ?_
  refine pw_istore_n X [(0, vR (some la0)), (1, vI ((lx1 : Int32) <<< ((1 : Int32) &&& 31))), (2, vI lx2)] [1, 0, 2] dJ6_putChar_31 rfl (by decide) rfl ?_
  refine pw_aload_n X dJ6_putChar_32 rfl rfl ?_
  refine pw_iload_n X dJ6_putChar_33 rfl rfl ?_
  refine pw_iinc X (((lx1 : Int32) <<< ((1 : Int32) &&& 31)) + 1) [(0, vR (some la0)), (1, vI (((lx1 : Int32) <<< ((1 : Int32) &&& 31)) + 1)), (2, vI lx2)] [1, 0, 2] dJ6_putChar_34 rfl (by first | rfl | decide) (by decide) rfl ?_
  refine pw_iload_n X dJ6_putChar_37 rfl rfl ?_
  refine pw_gets X (vI 0) (List.mem_of_getElem? (i := 8) rfl) q616 (Or.inl rfl) dJ6_putChar_38 ?_
  refine pw_ishr X dJ6_putChar_41 ?_
  refine pw_i2b X dJ6_putChar_42 ?_
  obtain ⟨ht1, hw⟩ := hw
  obtain ⟨hi2, hw⟩ := hw
  obtain ⟨M3, hM4⟩ : ∃ z : Mem, z = (m_pi M la0 (Int32.toNatClampNeg ((lx1 : Int32) <<< ((1 : Int32) &&& 31))) (Int8.toInt32 (Int32.toInt8 (Int8.toInt32 (Int32.toInt8 ((lx2 : Int32) >>> ((0 : Int32) &&& 31))))))) := ⟨_, rfl⟩
  replace hw := hw M3 hM4
  have hle5 : m_le M M3 := by rw [hM4]; exact m_le_pi
  refine pw_bast X ht1 hi2 dJ6_putChar_43 ?_
  rw [← hM4]
  have ht6 : m_tg M3 la0 = 102 := m_le_tg hle5 ht1
  refine pw_aload_n X dJ6_putChar_44 rfl rfl ?_
  refine pw_iload_n X dJ6_putChar_45 rfl rfl ?_
  refine pw_iload_n X dJ6_putChar_46 rfl rfl ?_
  refine pw_gets X (vI 8) (List.mem_of_getElem? (i := 9) rfl) q618 (Or.inl rfl) dJ6_putChar_47 ?_
  refine pw_ishr X dJ6_putChar_50 ?_
  refine pw_i2b X dJ6_putChar_51 ?_
  obtain ⟨hi7, hw⟩ := hw
  obtain ⟨M8, hM9⟩ : ∃ z : Mem, z = (m_pi M3 la0 (Int32.toNatClampNeg (((lx1 : Int32) <<< ((1 : Int32) &&& 31)) + 1)) (Int8.toInt32 (Int32.toInt8 (Int8.toInt32 (Int32.toInt8 ((lx2 : Int32) >>> ((8 : Int32) &&& 31))))))) := ⟨_, rfl⟩
  replace hw := hw M8 hM9
  have hle10 : m_le M3 M8 := by rw [hM9]; exact m_le_pi
  refine pw_bast X ht6 hi7 dJ6_putChar_52 ?_
  rw [← hM9]
  have ht11 : m_tg M8 la0 = 102 := m_le_tg hle10 ht6
  exact pw_vret X hw dJ6_putChar_53
theorem bk_J6_putChar_0 (G : Gp) (C : m_Cx) (n0 s0 : Nat) (M0 : Mem) (Q : Mem → Prop) (X : m_in G C RJ6 cJ6_putChar 3 none "putChar" 0 0 n0 s0) (M : Mem) (a0 : Nat) (x1 : Int32) (x2 : Int32) (hw : wp_J6_putChar G.2 M a0 x1 x2 Q) : pW G C 3 n0 s0 M0 (m_Q G C n0 s0 (va_Qv (m_q0 M0 Q) (m_W G) (m_A G))) M 0 [(0, vR (some a0)), (1, vI x1), (2, vI x2)] [] := by
  refine pw_gets X (vI 1) (List.mem_of_getElem? (i := 10) rfl) q614 (Or.inl rfl) dJ6_putChar_0 ?_
  refine pw_if_ne X 28 dJ6_putChar_3 (by decide) (fun c => ?_) (fun c => ?_)
  rotate_left
  · exact absurd c (by decide)
  exact bk_J6_putChar_28 G C n0 s0 M0 Q X _ a0 x1 x2 hw
theorem met_J6_putChar (G : Gp) (l : Launch) (M : Mem) (a0 : Nat) (x1 : Int32) (x2 : Int32) (Q : Mem → Prop) (hw : wp_J6_putChar G.2 M a0 x1 x2 Q) : m_K G l yJ6_putChar cJ6_putChar 3 none 0 0 [vR (some a0), vI x1, vI x2] M (va_Qv (m_q0 M Q) (m_W G) (m_A G)) := by
  refine m_met (by decide) (Nat.le_of_ble_eq_true rfl) (fun C e X => ?_)
  exact bk_J6_putChar_0 G C _ _ M Q X M a0 x1 x2 hw
theorem nh_J6_putChar : m_nMH yJ6_putChar 3 := by decide +kernel

def wp_J6_checkIndex (g : Nat → Nat) (M : Mem) (x0 : Int32) (a1 : Nat) (Q : Mem → Prop) : Prop := wp_J6_length g M a1 (fun (r3 : Int32) (M1 : Mem) => m_le M M1 → wp_J5_checkIndex g M1 x0 r3 (fun (M4 : Mem) => m_le M1 M4 → Q M4))
theorem bk_J6_checkIndex_0 (G : Gp) (C : m_Cx) (n0 s0 : Nat) (M0 : Mem) (Q : Mem → Prop) (X : m_in G C RJ6 cJ6_checkIndex 2 none "checkIndex" 2 43 n0 s0) (M : Mem) (x0 : Int32) (a1 : Nat) (hw : wp_J6_checkIndex G.2 M x0 a1 Q) : pW G C 2 n0 s0 M0 (m_Q G C n0 s0 (va_Qv (m_q0 M0 Q) (m_W G) (m_A G))) M 0 [(0, vI x0), (1, vR (some a1))] [] := by
  refine pw_iload_n X dJ6_checkIndex_0 rfl rfl ?_
  refine pw_aload_n X dJ6_checkIndex_1 rfl rfl ?_
  refine pw_runi X (m_cS X (met_J6_length G C.2.1 M a1 _ hw) (lw_S q596 q597 q86 q598) nh_J6_length ⟨Nat.le_of_ble_eq_true rfl, Nat.le_of_ble_eq_true rfl⟩ rfl (Nat.le_of_ble_eq_true rfl) dJ6_checkIndex_2) (fun r3 M1 hle2 hx => ?_)
  replace hw := hx hle2
  clear hx
  refine pw_runv X (m_cS X (met_J5_checkIndex G C.2.1 M1 x0 r3 _ hw) (lw_S q1716 q1717 q85 q1718) nh_J5_checkIndex ⟨Nat.le_of_ble_eq_true rfl, Nat.le_of_ble_eq_true rfl⟩ rfl (Nat.le_of_ble_eq_true rfl) dJ6_checkIndex_5) (fun M4 hle5 hx => ?_)
  replace hw := hx hle5
  clear hx
  exact pw_vret X hw dJ6_checkIndex_8
theorem met_J6_checkIndex (G : Gp) (l : Launch) (M : Mem) (x0 : Int32) (a1 : Nat) (Q : Mem → Prop) (hw : wp_J6_checkIndex G.2 M x0 a1 Q) : m_K G l yJ6_checkIndex cJ6_checkIndex 2 none 2 43 [vI x0, vR (some a1)] M (va_Qv (m_q0 M Q) (m_W G) (m_A G)) := by
  refine m_met (by decide) (Nat.le_of_ble_eq_true rfl) (fun C e X => ?_)
  exact bk_J6_checkIndex_0 G C _ _ M Q X M x0 a1 hw
theorem nh_J6_checkIndex : m_nMH yJ6_checkIndex 2 := by decide +kernel

def wp_J6_putCharSB (g : Nat → Nat) (M : Mem) (a0 : Nat) (x1 : Int32) (x2 : Int32) (Q : Mem → Prop) : Prop := wp_J6_checkIndex g M x1 a0 (fun (M1 : Mem) => m_le M M1 → wp_J6_putChar g M1 a0 x1 x2 (fun (M3 : Mem) => m_le M1 M3 → Q M3))
theorem bk_J6_putCharSB_0 (G : Gp) (C : m_Cx) (n0 s0 : Nat) (M0 : Mem) (Q : Mem → Prop) (X : m_in G C RJ6 cJ6_putCharSB 3 none "putCharSB" 3 64 n0 s0) (M : Mem) (a0 : Nat) (x1 : Int32) (x2 : Int32) (hw : wp_J6_putCharSB G.2 M a0 x1 x2 Q) : pW G C 3 n0 s0 M0 (m_Q G C n0 s0 (va_Qv (m_q0 M0 Q) (m_W G) (m_A G))) M 0 [(0, vR (some a0)), (1, vI x1), (2, vI x2)] [] := by
  refine pw_iload_n X dJ6_putCharSB_0 rfl rfl ?_
  refine pw_aload_n X dJ6_putCharSB_1 rfl rfl ?_
  refine pw_runv X (m_cS X (met_J6_checkIndex G C.2.1 M x1 a0 _ hw) (lw_S q1713 q1714 q86 q1715) nh_J6_checkIndex ⟨Nat.le_of_ble_eq_true rfl, Nat.le_of_ble_eq_true rfl⟩ rfl (Nat.le_of_ble_eq_true rfl) dJ6_putCharSB_2) (fun M1 hle2 hx => ?_)
  replace hw := hx hle2
  clear hx
  refine pw_aload_n X dJ6_putCharSB_5 rfl rfl ?_
  refine pw_iload_n X dJ6_putCharSB_6 rfl rfl ?_
  refine pw_iload_n X dJ6_putCharSB_7 rfl rfl ?_
  refine pw_runv X (m_cS X (met_J6_putChar G C.2.1 M1 a0 x1 x2 _ hw) (lw_S q1707 q1708 q86 q1709) nh_J6_putChar ⟨Nat.le_of_ble_eq_true rfl, Nat.le_of_ble_eq_true rfl⟩ rfl (Nat.le_of_ble_eq_true rfl) dJ6_putCharSB_8) (fun M3 hle4 hx => ?_)
  replace hw := hx hle4
  clear hx
  exact pw_vret X hw dJ6_putCharSB_11
theorem met_J6_putCharSB (G : Gp) (l : Launch) (M : Mem) (a0 : Nat) (x1 : Int32) (x2 : Int32) (Q : Mem → Prop) (hw : wp_J6_putCharSB G.2 M a0 x1 x2 Q) : m_K G l yJ6_putCharSB cJ6_putCharSB 3 none 3 64 [vR (some a0), vI x1, vI x2] M (va_Qv (m_q0 M Q) (m_W G) (m_A G)) := by
  refine m_met (by decide) (Nat.le_of_ble_eq_true rfl) (fun C e X => ?_)
  exact bk_J6_putCharSB_0 G C _ _ M Q X M a0 x1 x2 hw
theorem nh_J6_putCharSB : m_nMH yJ6_putCharSB 3 := by decide +kernel

def wp_J6_getChar_b28 (g : Nat → Nat) (M : Mem) (la0 : Nat) (lx1 : Int32) (Q : Int32 → Mem → Prop) : Prop := m_tg M la0 = 102 ∧ vp_in ((lx1 : Int32) <<< ((1 : Int32) &&& 31)) (m_ln M la0) ∧ vp_in (((lx1 : Int32) <<< ((1 : Int32) &&& 31)) + 1) (m_ln M la0) ∧ ((Int32.toUInt32 ((Int32.toUInt32 (((((m_gi M la0 (Int32.toNatClampNeg ((lx1 : Int32) <<< ((1 : Int32) &&& 31)))) &&& 255) : Int32) <<< ((0 : Int32) &&& 31)) ||| ((((m_gi M la0 (Int32.toNatClampNeg (((lx1 : Int32) <<< ((1 : Int32) &&& 31)) + 1))) &&& 255) : Int32) <<< ((8 : Int32) &&& 31))) % 65536).toInt32) % 65536).toInt32 = ((Int32.toUInt32 (((((m_gi M la0 (Int32.toNatClampNeg ((lx1 : Int32) <<< ((1 : Int32) &&& 31)))) &&& 255) : Int32) <<< ((0 : Int32) &&& 31)) ||| ((((m_gi M la0 (Int32.toNatClampNeg (((lx1 : Int32) <<< ((1 : Int32) &&& 31)) + 1))) &&& 255) : Int32) <<< ((8 : Int32) &&& 31))) % 65536).toInt32) ∧ Q ((Int32.toUInt32 (((((m_gi M la0 (Int32.toNatClampNeg ((lx1 : Int32) <<< ((1 : Int32) &&& 31)))) &&& 255) : Int32) <<< ((0 : Int32) &&& 31)) ||| ((((m_gi M la0 (Int32.toNatClampNeg (((lx1 : Int32) <<< ((1 : Int32) &&& 31)) + 1))) &&& 255) : Int32) <<< ((8 : Int32) &&& 31))) % 65536).toInt32) M)
def wp_J6_getChar (g : Nat → Nat) (M : Mem) (a0 : Nat) (x1 : Int32) (Q : Int32 → Mem → Prop) : Prop := wp_J6_getChar_b28 g M a0 x1 Q
theorem bk_J6_getChar_28 (G : Gp) (C : m_Cx) (n0 s0 : Nat) (M0 : Mem) (Q : Int32 → Mem → Prop) (X : m_in G C RJ6 cJ6_getChar 2 (some .char) "getChar" 0 0 n0 s0) (M : Mem) (la0 : Nat) (lx1 : Int32) (hw : wp_J6_getChar_b28 G.2 M la0 lx1 Q) : pW G C 2 n0 s0 M0 (m_Q G C n0 s0 (va_Qi (m_q1 M0 Q) (m_W G) (m_A G))) M 28 [(0, vR (some la0)), (1, vI lx1)] [] := by
  refine pw_iload_n X dJ6_getChar_28 rfl rfl ?_
  refine pw_iconst X 1 dJ6_getChar_29 (by decide) ?_
  refine pw_ishl X dJ6_getChar_30 ?_
  refine pw_istore_n X [(0, vR (some la0)), (1, vI ((lx1 : Int32) <<< ((1 : Int32) &&& 31)))] [1, 0] dJ6_getChar_31 rfl (by decide) rfl ?_
  refine pw_aload_n X dJ6_getChar_32 rfl rfl ?_
  refine pw_iload_n X dJ6_getChar_33 rfl rfl ?_
  refine pw_iinc X (((lx1 : Int32) <<< ((1 : Int32) &&& 31)) + 1) [(0, vR (some la0)), (1, vI (((lx1 : Int32) <<< ((1 : Int32) &&& 31)) + 1))] [1, 0] dJ6_getChar_34 rfl (by first | rfl | decide) (by decide) rfl ?_
  obtain ⟨ht1, hw⟩ := hw
  obtain ⟨hi2, hw⟩ := hw
  refine pw_bald X ht1 hi2 dJ6_getChar_37 ?_
  refine pw_sipush X 255 dJ6_getChar_38 (by decide) ?_
  refine pw_iand X dJ6_getChar_41 ?_
  refine pw_gets X (vI 0) (List.mem_of_getElem? (i := 8) rfl) q616 (Or.inl rfl) dJ6_getChar_42 ?_
  refine pw_ishl X dJ6_getChar_45 ?_
  refine pw_aload_n X dJ6_getChar_46 rfl rfl ?_
  refine pw_iload_n X dJ6_getChar_47 rfl rfl ?_
  obtain ⟨hi3, hw⟩ := hw
  refine pw_bald X ht1 hi3 dJ6_getChar_48 ?_
  refine pw_sipush X 255 dJ6_getChar_49 (by decide) ?_
  refine pw_iand X dJ6_getChar_52 ?_
  refine pw_gets X (vI 8) (List.mem_of_getElem? (i := 9) rfl) q618 (Or.inl rfl) dJ6_getChar_53 ?_
  refine pw_ishl X dJ6_getChar_56 ?_
  refine pw_ior X dJ6_getChar_57 ?_
  refine pw_i2c X dJ6_getChar_58 ?_
  exact pw_zret X (m_nc16 hw.1) hw.2 dJ6_getChar_59
theorem bk_J6_getChar_0 (G : Gp) (C : m_Cx) (n0 s0 : Nat) (M0 : Mem) (Q : Int32 → Mem → Prop) (X : m_in G C RJ6 cJ6_getChar 2 (some .char) "getChar" 0 0 n0 s0) (M : Mem) (a0 : Nat) (x1 : Int32) (hw : wp_J6_getChar G.2 M a0 x1 Q) : pW G C 2 n0 s0 M0 (m_Q G C n0 s0 (va_Qi (m_q1 M0 Q) (m_W G) (m_A G))) M 0 [(0, vR (some a0)), (1, vI x1)] [] := by
  refine pw_gets X (vI 1) (List.mem_of_getElem? (i := 10) rfl) q614 (Or.inl rfl) dJ6_getChar_0 ?_
  refine pw_if_ne X 28 dJ6_getChar_3 (by decide) (fun c => ?_) (fun c => ?_)
  rotate_left
  · exact absurd c (by decide)
  exact bk_J6_getChar_28 G C n0 s0 M0 Q X _ a0 x1 hw
theorem met_J6_getChar (G : Gp) (l : Launch) (M : Mem) (a0 : Nat) (x1 : Int32) (Q : Int32 → Mem → Prop) (hw : wp_J6_getChar G.2 M a0 x1 Q) : m_K G l yJ6_getChar cJ6_getChar 2 (some .char) 0 0 [vR (some a0), vI x1] M (va_Qi (m_q1 M Q) (m_W G) (m_A G)) := by
  refine m_met (by decide) (Nat.le_of_ble_eq_true rfl) (fun C e X => ?_)
  exact bk_J6_getChar_0 G C _ _ M Q X M a0 x1 hw
theorem nh_J6_getChar : m_nMH yJ6_getChar 2 := by decide +kernel

def wp_J6_checkBoundsOffCount (g : Nat → Nat) (M : Mem) (x0 : Int32) (x1 : Int32) (a2 : Nat) (Q : Mem → Prop) : Prop := wp_J6_length g M a2 (fun (r3 : Int32) (M1 : Mem) => m_le M M1 → wp_J5_checkBoundsOffCount g M1 x0 x1 r3 (fun (r6 : Int32) (M4 : Mem) => m_le M1 M4 → Q M4))
theorem bk_J6_checkBoundsOffCount_0 (G : Gp) (C : m_Cx) (n0 s0 : Nat) (M0 : Mem) (Q : Mem → Prop) (X : m_in G C RJ6 cJ6_checkBoundsOffCount 3 none "checkBoundsOffCount" 2 45 n0 s0) (M : Mem) (x0 : Int32) (x1 : Int32) (a2 : Nat) (hw : wp_J6_checkBoundsOffCount G.2 M x0 x1 a2 Q) : pW G C 3 n0 s0 M0 (m_Q G C n0 s0 (va_Qv (m_q0 M0 Q) (m_W G) (m_A G))) M 0 [(0, vI x0), (1, vI x1), (2, vR (some a2))] [] := by
  refine pw_iload_n X dJ6_checkBoundsOffCount_0 rfl rfl ?_
  refine pw_iload_n X dJ6_checkBoundsOffCount_1 rfl rfl ?_
  refine pw_aload_n X dJ6_checkBoundsOffCount_2 rfl rfl ?_
  refine pw_runi X (m_cS X (met_J6_length G C.2.1 M a2 _ hw) (lw_S q596 q597 q86 q598) nh_J6_length ⟨Nat.le_of_ble_eq_true rfl, Nat.le_of_ble_eq_true rfl⟩ rfl (Nat.le_of_ble_eq_true rfl) dJ6_checkBoundsOffCount_3) (fun r3 M1 hle2 hx => ?_)
  replace hw := hx hle2
  clear hx
  refine pw_runi X (m_cS X (met_J5_checkBoundsOffCount G C.2.1 M1 x0 x1 r3 _ hw) (lw_S q1701 q1702 q85 q1703) nh_J5_checkBoundsOffCount ⟨Nat.le_of_ble_eq_true rfl, Nat.le_of_ble_eq_true rfl⟩ rfl (Nat.le_of_ble_eq_true rfl) dJ6_checkBoundsOffCount_6) (fun r6 M4 hle5 hx => ?_)
  replace hw := hx hle5
  clear hx
  refine pw_pop X dJ6_checkBoundsOffCount_9 ?_
  exact pw_vret X hw dJ6_checkBoundsOffCount_10
theorem met_J6_checkBoundsOffCount (G : Gp) (l : Launch) (M : Mem) (x0 : Int32) (x1 : Int32) (a2 : Nat) (Q : Mem → Prop) (hw : wp_J6_checkBoundsOffCount G.2 M x0 x1 a2 Q) : m_K G l yJ6_checkBoundsOffCount cJ6_checkBoundsOffCount 3 none 2 45 [vI x0, vI x1, vR (some a2)] M (va_Qv (m_q0 M Q) (m_W G) (m_A G)) := by
  refine m_met (by decide) (Nat.le_of_ble_eq_true rfl) (fun C e X => ?_)
  exact bk_J6_checkBoundsOffCount_0 G C _ _ M Q X M x0 x1 a2 hw
theorem nh_J6_checkBoundsOffCount : m_nMH yJ6_checkBoundsOffCount 3 := by decide +kernel

def wp_J6_inflate_b10 (g : Nat → Nat) (Q : Mem → Prop) : Nat → Mem → Nat → Int32 → Nat → Int32 → Int32 → Int32 → Prop
  | 0 => fun _ _ _ _ _ _ _ => False
  | n + 1 => fun M la0 lx1 la2 lx3 lx4 lx5 => ((lx4 ≤ lx5 → Q M) ∧ (¬ lx4 ≤ lx5 → m_tg M la0 = 102 ∧ vp_in lx1 (m_ln M la0) ∧ wp_J6_putChar g M la2 lx3 ((m_gi M la0 (Int32.toNatClampNeg lx1)) &&& 255) (fun (M4 : Mem) => m_le M M4 → wp_J6_inflate_b10 g Q n M4 la0 (lx1 + 1) la2 (lx3 + 1) lx4 (lx5 + 1))))
def wp_J6_inflate (g : Nat → Nat) (M : Mem) (a0 : Nat) (x1 : Int32) (a2 : Nat) (x3 : Int32) (x4 : Int32) (Q : Mem → Prop) : Prop := wp_J6_checkBoundsOffCount g M x3 x4 a2 (fun (M1 : Mem) => m_le M M1 → ∃ j10 : Nat, wp_J6_inflate_b10 g Q j10 M1 a0 x1 a2 x3 x4 0)
theorem bk_J6_inflate_10 (G : Gp) (C : m_Cx) (n0 s0 : Nat) (M0 : Mem) (Q : Mem → Prop) (X : m_in G C RJ6 cJ6_inflate 6 none "inflate" 3 67 n0 s0) : ∀ (n : Nat) (M : Mem) (la0 : Nat) (lx1 : Int32) (la2 : Nat) (lx3 : Int32) (lx4 : Int32) (lx5 : Int32) (hw : wp_J6_inflate_b10 G.2 Q n M la0 lx1 la2 lx3 lx4 lx5), pW G C 6 n0 s0 M0 (m_Q G C n0 s0 (va_Qv (m_q0 M0 Q) (m_W G) (m_A G))) M 10 [(0, vR (some la0)), (1, vI lx1), (2, vR (some la2)), (3, vI lx3), (4, vI lx4), (5, vI lx5)] [] := by
  intro n
  induction n with
  | zero => intro M la0 lx1 la2 lx3 lx4 lx5 hw; exact hw.elim
  | succ n ih =>
    intro M la0 lx1 la2 lx3 lx4 lx5 hw
    refine pw_iload X dJ6_inflate_10 rfl ?_
    refine pw_iload X dJ6_inflate_12 rfl ?_
    refine pw_icmp_ge X 41 dJ6_inflate_14 (by decide) (fun c1 => ?_) (fun c1 => ?_)
    · replace hw := hw.1 c1
      exact pw_vret X hw dJ6_inflate_41
    · replace hw := hw.2 c1
      refine pw_aload_n X dJ6_inflate_17 rfl rfl ?_
      refine pw_iload_n X dJ6_inflate_18 rfl rfl ?_
      refine pw_iinc X (lx3 + 1) [(0, vR (some la0)), (1, vI lx1), (2, vR (some la2)), (3, vI (lx3 + 1)), (4, vI lx4), (5, vI lx5)] [1, 2, 3, 0, 4, 5] dJ6_inflate_19 rfl (by first | rfl | decide) (by decide) rfl ?_
      refine pw_aload_n X dJ6_inflate_22 rfl rfl ?_
      refine pw_iload_n X dJ6_inflate_23 rfl rfl ?_
      refine pw_iinc X (lx1 + 1) [(0, vR (some la0)), (1, vI (lx1 + 1)), (2, vR (some la2)), (3, vI (lx3 + 1)), (4, vI lx4), (5, vI lx5)] [1, 0, 2, 3, 4, 5] dJ6_inflate_24 rfl (by first | rfl | decide) (by decide) rfl ?_
      obtain ⟨ht2, hw⟩ := hw
      obtain ⟨hi3, hw⟩ := hw
      refine pw_bald X ht2 hi3 dJ6_inflate_27 ?_
      refine pw_sipush X 255 dJ6_inflate_28 (by decide) ?_
      refine pw_iand X dJ6_inflate_31 ?_
      refine pw_runv X (m_cS X (met_J6_putChar G C.2.1 M la2 lx3 ((m_gi M la0 (Int32.toNatClampNeg lx1)) &&& 255) _ hw) (lw_S q1707 q1708 q86 q1709) nh_J6_putChar ⟨Nat.le_of_ble_eq_true rfl, Nat.le_of_ble_eq_true rfl⟩ rfl (Nat.le_of_ble_eq_true rfl) dJ6_inflate_32) (fun M4 hle5 hx => ?_)
      replace hw := hx hle5
      clear hx
      have ht6 : m_tg M4 la0 = 102 := m_le_tg hle5 ht2
      refine pw_iinc X (lx5 + 1) [(0, vR (some la0)), (1, vI (lx1 + 1)), (2, vR (some la2)), (3, vI (lx3 + 1)), (4, vI lx4), (5, vI (lx5 + 1))] [1, 2, 3, 4, 5, 0] dJ6_inflate_35 rfl (by first | rfl | decide) (by decide) rfl ?_
      refine pw_goto X 10 dJ6_inflate_38 (by decide) ?_
      exact ih _ la0 (lx1 + 1) la2 (lx3 + 1) lx4 (lx5 + 1) hw
theorem bk_J6_inflate_0 (G : Gp) (C : m_Cx) (n0 s0 : Nat) (M0 : Mem) (Q : Mem → Prop) (X : m_in G C RJ6 cJ6_inflate 6 none "inflate" 3 67 n0 s0) (M : Mem) (a0 : Nat) (x1 : Int32) (a2 : Nat) (x3 : Int32) (x4 : Int32) (hw : wp_J6_inflate G.2 M a0 x1 a2 x3 x4 Q) : pW G C 6 n0 s0 M0 (m_Q G C n0 s0 (va_Qv (m_q0 M0 Q) (m_W G) (m_A G))) M 0 [(0, vR (some a0)), (1, vI x1), (2, vR (some a2)), (3, vI x3), (4, vI x4)] [] := by
  refine pw_iload_n X dJ6_inflate_0 rfl rfl ?_
  refine pw_iload X dJ6_inflate_1 rfl ?_
  refine pw_aload_n X dJ6_inflate_3 rfl rfl ?_
  refine pw_runv X (m_cS X (met_J6_checkBoundsOffCount G C.2.1 M x3 x4 a2 _ hw) (lw_S q1698 q1699 q86 q1700) nh_J6_checkBoundsOffCount ⟨Nat.le_of_ble_eq_true rfl, Nat.le_of_ble_eq_true rfl⟩ rfl (Nat.le_of_ble_eq_true rfl) dJ6_inflate_4) (fun M1 hle2 hx => ?_)
  replace hw := hx hle2
  clear hx
  refine pw_iconst X 0 dJ6_inflate_7 (by decide) ?_
  refine pw_istore X [(0, vR (some a0)), (1, vI x1), (2, vR (some a2)), (3, vI x3), (4, vI x4), (5, vI 0)] [1, 2, 3, 4, 5, 0] dJ6_inflate_8 (by decide) rfl ?_
  obtain ⟨n10, hw⟩ := hw
  exact bk_J6_inflate_10 G C n0 s0 M0 Q X n10 _ a0 x1 a2 x3 x4 0 hw
theorem met_J6_inflate (G : Gp) (l : Launch) (M : Mem) (a0 : Nat) (x1 : Int32) (a2 : Nat) (x3 : Int32) (x4 : Int32) (Q : Mem → Prop) (hw : wp_J6_inflate G.2 M a0 x1 a2 x3 x4 Q) : m_K G l yJ6_inflate cJ6_inflate 6 none 3 67 [vR (some a0), vI x1, vR (some a2), vI x3, vI x4] M (va_Qv (m_q0 M Q) (m_W G) (m_A G)) := by
  refine m_met (by decide) (Nat.le_of_ble_eq_true rfl) (fun C e X => ?_)
  exact bk_J6_inflate_0 G C _ _ M Q X M a0 x1 a2 x3 x4 hw
theorem nh_J6_inflate : m_nMH yJ6_inflate 5 := by decide +kernel

def wp_J13_canEncode (g : Nat → Nat) (M : Mem) (x0 : Int32) (Q : Int32 → Mem → Prop) : Prop := ((255 < x0 → Q 0 M) ∧ (¬ 255 < x0 → Q 1 M))
theorem bk_J13_canEncode_0 (G : Gp) (C : m_Cx) (n0 s0 : Nat) (M0 : Mem) (Q : Int32 → Mem → Prop) (X : m_in G C RJ13 cJ13_canEncode 1 (some .boolean) "canEncode" 0 0 n0 s0) (M : Mem) (x0 : Int32) (hw : wp_J13_canEncode G.2 M x0 Q) : pW G C 1 n0 s0 M0 (m_Q G C n0 s0 (va_Qi (m_q1 M0 Q) (m_W G) (m_A G))) M 0 [(0, vI x0)] [] := by
  refine pw_iload_n X dJ13_canEncode_0 rfl rfl ?_
  refine pw_sipush X 255 dJ13_canEncode_1 (by decide) ?_
  refine pw_icmp_gt X 11 dJ13_canEncode_4 (by decide) (fun c1 => ?_) (fun c1 => ?_)
  · replace hw := hw.1 c1
    refine pw_iconst X 0 dJ13_canEncode_11 (by decide) ?_
    exact pw_zret X (by decide) hw dJ13_canEncode_12
  · replace hw := hw.2 c1
    refine pw_iconst X 1 dJ13_canEncode_7 (by decide) ?_
    refine pw_goto X 12 dJ13_canEncode_8 (by decide) ?_
    exact pw_zret X (by decide) hw dJ13_canEncode_12
theorem met_J13_canEncode (G : Gp) (l : Launch) (M : Mem) (x0 : Int32) (Q : Int32 → Mem → Prop) (hw : wp_J13_canEncode G.2 M x0 Q) : m_K G l yJ13_canEncode cJ13_canEncode 1 (some .boolean) 0 0 [vI x0] M (va_Qi (m_q1 M Q) (m_W G) (m_A G)) := by
  refine m_met (by decide) (Nat.le_of_ble_eq_true rfl) (fun C e X => ?_)
  exact bk_J13_canEncode_0 G C _ _ M Q X M x0 hw
theorem nh_J13_canEncode : m_nMH yJ13_canEncode 1 := by decide +kernel

def wp_J13_inflate (g : Nat → Nat) (M : Mem) (a0 : Nat) (x1 : Int32) (a2 : Nat) (x3 : Int32) (x4 : Int32) (Q : Mem → Prop) : Prop := wp_J6_inflate g M a0 x1 a2 x3 x4 (fun (M1 : Mem) => m_le M M1 → Q M1)
theorem bk_J13_inflate_0 (G : Gp) (C : m_Cx) (n0 s0 : Nat) (M0 : Mem) (Q : Mem → Prop) (X : m_in G C RJ13 cJ13_inflate 5 none "inflate" 4 92 n0 s0) (M : Mem) (a0 : Nat) (x1 : Int32) (a2 : Nat) (x3 : Int32) (x4 : Int32) (hw : wp_J13_inflate G.2 M a0 x1 a2 x3 x4 Q) : pW G C 5 n0 s0 M0 (m_Q G C n0 s0 (va_Qv (m_q0 M0 Q) (m_W G) (m_A G))) M 0 [(0, vR (some a0)), (1, vI x1), (2, vR (some a2)), (3, vI x3), (4, vI x4)] [] := by
  refine pw_aload_n X dJ13_inflate_0 rfl rfl ?_
  refine pw_iload_n X dJ13_inflate_1 rfl rfl ?_
  refine pw_aload_n X dJ13_inflate_2 rfl rfl ?_
  refine pw_iload_n X dJ13_inflate_3 rfl rfl ?_
  refine pw_iload X dJ13_inflate_4 rfl ?_
  refine pw_runv X (m_cS X (met_J6_inflate G C.2.1 M a0 x1 a2 x3 x4 _ hw) (lw_S q1695 q1696 q86 q1697) nh_J6_inflate ⟨Nat.le_of_ble_eq_true rfl, Nat.le_of_ble_eq_true rfl⟩ rfl (Nat.le_of_ble_eq_true rfl) dJ13_inflate_6) (fun M1 hle2 hx => ?_)
  replace hw := hx hle2
  clear hx
  exact pw_vret X hw dJ13_inflate_9
theorem met_J13_inflate (G : Gp) (l : Launch) (M : Mem) (a0 : Nat) (x1 : Int32) (a2 : Nat) (x3 : Int32) (x4 : Int32) (Q : Mem → Prop) (hw : wp_J13_inflate G.2 M a0 x1 a2 x3 x4 Q) : m_K G l yJ13_inflate cJ13_inflate 5 none 4 92 [vR (some a0), vI x1, vR (some a2), vI x3, vI x4] M (va_Qv (m_q0 M Q) (m_W G) (m_A G)) := by
  refine m_met (by decide) (Nat.le_of_ble_eq_true rfl) (fun C e X => ?_)
  exact bk_J13_inflate_0 G C _ _ M Q X M a0 x1 a2 x3 x4 hw
theorem nh_J13_inflate : m_nMH yJ13_inflate 5 := by decide +kernel

def wp_J3_isLatin1 (g : Nat → Nat) (M : Mem) (a0 : Nat) (Q : Int32 → Mem → Prop) : Prop := m_tg M a0 = 15 ∧ ((¬ (m_gi M a0 1) = 0 → Q 0 M) ∧ ((m_gi M a0 1) = 0 → Q 1 M))
theorem bk_J3_isLatin1_0 (G : Gp) (C : m_Cx) (n0 s0 : Nat) (M0 : Mem) (Q : Int32 → Mem → Prop) (X : m_in G C RJ3 cJ3_isLatin1 1 (some .boolean) "isLatin1" 0 0 n0 s0) (M : Mem) (a0 : Nat) (hw : wp_J3_isLatin1 G.2 M a0 Q) : pW G C 1 n0 s0 M0 (m_Q G C n0 s0 (va_Qi (m_q1 M0 Q) (m_W G) (m_A G))) M 0 [(0, vR (some a0))] [] := by
  refine pw_gets X (vI 1) (List.mem_of_getElem? (i := 7) rfl) q206 (Or.inl rfl) dJ3_isLatin1_0 ?_
  refine pw_if_eq X 17 dJ3_isLatin1_3 (by decide) (fun c => ?_) (fun c => ?_)
  · exact absurd c (by decide)
  refine pw_aload_n X dJ3_isLatin1_6 rfl rfl ?_
  obtain ⟨ht1, hw⟩ := hw
  refine pw_get X (q := (RJ4, TJ4, tyJ4, 4)) (ci := 14) (k := 1) (ref := "java/lang/AbstractStringBuilder") (vI (m_gi M a0 1)) ht1 rfl (by decide) in_J4 q216 (Or.inl rfl) rfl dJ3_isLatin1_7 ?_
  refine pw_if_ne X 17 dJ3_isLatin1_10 (by decide) (fun c2 => ?_) (fun c2 => ?_)
  · replace hw := hw.1 c2
    refine pw_iconst X 0 dJ3_isLatin1_17 (by decide) ?_
    exact pw_zret X (by decide) hw dJ3_isLatin1_18
  · replace hw := hw.2 c2
    refine pw_iconst X 1 dJ3_isLatin1_13 (by decide) ?_
    refine pw_goto X 18 dJ3_isLatin1_14 (by decide) ?_
    exact pw_zret X (by decide) hw dJ3_isLatin1_18
theorem met_J3_isLatin1 (G : Gp) (l : Launch) (M : Mem) (a0 : Nat) (Q : Int32 → Mem → Prop) (hw : wp_J3_isLatin1 G.2 M a0 Q) : m_K G l yJ3_isLatin1 cJ3_isLatin1 1 (some .boolean) 0 0 [vR (some a0)] M (va_Qi (m_q1 M Q) (m_W G) (m_A G)) := by
  refine m_met (by decide) (Nat.le_of_ble_eq_true rfl) (fun C e X => ?_)
  exact bk_J3_isLatin1_0 G C _ _ M Q X M a0 hw
theorem nh_J3_isLatin1 : m_nMH yJ3_isLatin1 0 := by decide +kernel

def wp_J3_length (g : Nat → Nat) (M : Mem) (a0 : Nat) (Q : Int32 → Mem → Prop) : Prop := m_tg M a0 = 15 ∧ Q (m_gi M a0 3) M
theorem bk_J3_length_0 (G : Gp) (C : m_Cx) (n0 s0 : Nat) (M0 : Mem) (Q : Int32 → Mem → Prop) (X : m_in G C RJ3 cJ3_length 1 (some .int) "length" 0 0 n0 s0) (M : Mem) (a0 : Nat) (hw : wp_J3_length G.2 M a0 Q) : pW G C 1 n0 s0 M0 (m_Q G C n0 s0 (va_Qi (m_q1 M0 Q) (m_W G) (m_A G))) M 0 [(0, vR (some a0))] [] := by
  refine pw_aload_n X dJ3_length_0 rfl rfl ?_
  obtain ⟨ht1, hw⟩ := hw
  refine pw_get X (q := (RJ4, TJ4, tyJ4, 4)) (ci := 14) (k := 3) (ref := "java/lang/AbstractStringBuilder") (vI (m_gi M a0 3)) ht1 rfl (by decide) in_J4 q218 (Or.inl rfl) rfl dJ3_length_1 ?_
  exact pw_iret X hw dJ3_length_4
theorem met_J3_length (G : Gp) (l : Launch) (M : Mem) (a0 : Nat) (Q : Int32 → Mem → Prop) (hw : wp_J3_length G.2 M a0 Q) : m_K G l yJ3_length cJ3_length 1 (some .int) 0 0 [vR (some a0)] M (va_Qi (m_q1 M Q) (m_W G) (m_A G)) := by
  refine m_met (by decide) (Nat.le_of_ble_eq_true rfl) (fun C e X => ?_)
  exact bk_J3_length_0 G C _ _ M Q X M a0 hw
theorem nh_J3_length : m_nMH yJ3_length 0 := by decide +kernel

def wp_J3_newCapacity (g : Nat → Nat) (M : Mem) (a0 : Nat) (x1 : Int32) (Q : Int32 → Mem → Prop) : Prop := m_tg M a0 = 15 ∧ ∃ u2 : Nat, (m_gr M a0 0) = some u2 ∧ m_isA M u2 ∧ wp_J14_newLength g M (nI (m_ln M u2)) (((x1 : Int32) <<< (((m_gi M a0 1) : Int32) &&& 31)) - (nI (m_ln M u2))) ((nI (m_ln M u2)) + ((2 : Int32) <<< (((m_gi M a0 1) : Int32) &&& 31))) (fun (r7 : Int32) (M5 : Mem) => m_le M M5 → ((¬ r7 = 2147483647 → Q ((r7 : Int32) >>> (((m_gi M5 a0 1) : Int32) &&& 31)) M5) ∧ (r7 = 2147483647 → False)))
theorem bk_J3_newCapacity_0 (G : Gp) (C : m_Cx) (n0 s0 : Nat) (M0 : Mem) (Q : Int32 → Mem → Prop) (X : m_in G C RJ3 cJ3_newCapacity 6 (some .int) "newCapacity" 2 37 n0 s0) (M : Mem) (a0 : Nat) (x1 : Int32) (hw : wp_J3_newCapacity G.2 M a0 x1 Q) : pW G C 6 n0 s0 M0 (m_Q G C n0 s0 (va_Qi (m_q1 M0 Q) (m_W G) (m_A G))) M 0 [(0, vR (some a0)), (1, vI x1)] [] := by
  refine pw_aload_n X dJ3_newCapacity_0 rfl rfl ?_
  obtain ⟨ht1, hw⟩ := hw
  obtain ⟨u2, he3, hw⟩ := hw
  refine pw_get X (q := (RJ4, TJ4, tyJ4, 4)) (ci := 14) (k := 0) (ref := "java/lang/AbstractStringBuilder") (vR (some u2)) ht1 rfl (by decide) in_J4 q215 (Or.inl rfl) (by rw [he3]; rfl) dJ3_newCapacity_1 ?_
  obtain ⟨hA4, hw⟩ := hw
  refine pw_alen X hA4 dJ3_newCapacity_4 ?_
  refine pw_istore_n X [(0, vR (some a0)), (1, vI x1), (2, vI (nI (m_ln M u2)))] [1, 2, 0] dJ3_newCapacity_5 rfl (by decide) rfl ?_
  refine pw_iload_n X dJ3_newCapacity_6 rfl rfl ?_
  refine pw_aload_n X dJ3_newCapacity_7 rfl rfl ?_
  refine pw_get X (q := (RJ4, TJ4, tyJ4, 4)) (ci := 14) (k := 1) (ref := "java/lang/AbstractStringBuilder") (vI (m_gi M a0 1)) ht1 rfl (by decide) in_J4 q216 (Or.inl rfl) rfl dJ3_newCapacity_8 ?_
  refine pw_ishl X dJ3_newCapacity_11 ?_
  refine pw_istore_n X [(0, vR (some a0)), (2, vI (nI (m_ln M u2))), (3, vI ((x1 : Int32) <<< (((m_gi M a0 1) : Int32) &&& 31)))] [1, 3, 0] dJ3_newCapacity_12 rfl (by decide) rfl ?_
  refine pw_iload_n X dJ3_newCapacity_13 rfl rfl ?_
  refine pw_iload_n X dJ3_newCapacity_14 rfl rfl ?_
  refine pw_isub X dJ3_newCapacity_15 ?_
  refine pw_istore X [(0, vR (some a0)), (2, vI (nI (m_ln M u2))), (4, vI (((x1 : Int32) <<< (((m_gi M a0 1) : Int32) &&& 31)) - (nI (m_ln M u2))))] [1, 2, 0] dJ3_newCapacity_16 (by decide) rfl ?_
  refine pw_iload_n X dJ3_newCapacity_18 rfl rfl ?_
  refine pw_iload X dJ3_newCapacity_19 rfl ?_
  refine pw_iload_n X dJ3_newCapacity_21 rfl rfl ?_
  refine pw_iconst X 2 dJ3_newCapacity_22 (by decide) ?_
  refine pw_aload_n X dJ3_newCapacity_23 rfl rfl ?_
  refine pw_get X (q := (RJ4, TJ4, tyJ4, 4)) (ci := 14) (k := 1) (ref := "java/lang/AbstractStringBuilder") (vI (m_gi M a0 1)) ht1 rfl (by decide) in_J4 q216 (Or.inl rfl) rfl dJ3_newCapacity_24 ?_
  refine pw_ishl X dJ3_newCapacity_27 ?_
  refine pw_iadd X dJ3_newCapacity_28 ?_
  refine pw_runi X (m_cS X (met_J14_newLength G C.2.1 M (nI (m_ln M u2)) (((x1 : Int32) <<< (((m_gi M a0 1) : Int32) &&& 31)) - (nI (m_ln M u2))) ((nI (m_ln M u2)) + ((2 : Int32) <<< (((m_gi M a0 1) : Int32) &&& 31))) _ hw) (lw_S q1673 q906 q96 q907) nh_J14_newLength ⟨Nat.le_of_ble_eq_true rfl, Nat.le_of_ble_eq_true rfl⟩ rfl (Nat.le_of_ble_eq_true rfl) dJ3_newCapacity_29) (fun r7 M5 hle6 hx => ?_)
  replace hw := hx hle6
  clear hx
  have ht8 : m_tg M5 a0 = 15 := m_le_tg hle6 ht1
  refine pw_istore X [(0, vR (some a0)), (5, vI r7)] [1, 0] dJ3_newCapacity_32 (by decide) rfl ?_
  refine pw_iload X dJ3_newCapacity_34 rfl ?_
  refine pw_ldc X 2147483647 q1674 dJ3_newCapacity_36 ?_
  refine pw_icmp_ne X 51 dJ3_newCapacity_38 (by decide) (fun c9 => ?_) (fun c9 => ?_)
  · replace hw := hw.1 c9
    refine pw_iload X dJ3_newCapacity_51 rfl ?_
    refine pw_aload_n X dJ3_newCapacity_53 rfl rfl ?_
    refine pw_get X (q := (RJ4, TJ4, tyJ4, 4)) (ci := 14) (k := 1) (ref := "java/lang/AbstractStringBuilder") (vI (m_gi M5 a0 1)) ht8 rfl (by decide) in_J4 q216 (Or.inl rfl) rfl dJ3_newCapacity_54 ?_
    refine pw_ishr X dJ3_newCapacity_57 ?_
    exact pw_iret X hw dJ3_newCapacity_58
  · replace hw := hw.2 c9
    exact hw.elim
theorem met_J3_newCapacity (G : Gp) (l : Launch) (M : Mem) (a0 : Nat) (x1 : Int32) (Q : Int32 → Mem → Prop) (hw : wp_J3_newCapacity G.2 M a0 x1 Q) : m_K G l yJ3_newCapacity cJ3_newCapacity 6 (some .int) 2 37 [vR (some a0), vI x1] M (va_Qi (m_q1 M Q) (m_W G) (m_A G)) := by
  refine m_met (by decide) (Nat.le_of_ble_eq_true rfl) (fun C e X => ?_)
  exact bk_J3_newCapacity_0 G C _ _ M Q X M a0 x1 hw
theorem nh_J3_newCapacity : m_nMH yJ3_newCapacity 1 := by decide +kernel

def wp_J3_ensureCapacityInternal (g : Nat → Nat) (M : Mem) (a0 : Nat) (x1 : Int32) (Q : Mem → Prop) : Prop := m_tg M a0 = 15 ∧ ∃ u2 : Nat, (m_gr M a0 0) = some u2 ∧ m_isA M u2 ∧ (((x1 - (((nI (m_ln M u2)) : Int32) >>> (((m_gi M a0 1) : Int32) &&& 31))) ≤ 0 → Q M) ∧ (¬ (x1 - (((nI (m_ln M u2)) : Int32) >>> (((m_gi M a0 1) : Int32) &&& 31))) ≤ 0 → ∃ u6 : Nat, (m_gr M a0 0) = some u6 ∧ wp_J3_newCapacity g M a0 x1 (fun (r10 : Int32) (M8 : Mem) => m_le M M8 → wp_J21_copyOf_3 g M8 u6 ((r10 : Int32) <<< (((m_gi M8 a0 1) : Int32) &&& 31)) (fun (r14 : Option Nat) (M12 : Mem) => m_le M8 M12 → ∀ M16 : Mem, M16 = (m_pr M12 a0 0 r14) → Q M16))))
theorem bk_J3_ensureCapacityInternal_0 (G : Gp) (C : m_Cx) (n0 s0 : Nat) (M0 : Mem) (Q : Mem → Prop) (X : m_in G C RJ3 cJ3_ensureCapacityInternal 3 none "ensureCapacityInternal" 3 62 n0 s0) (M : Mem) (a0 : Nat) (x1 : Int32) (hw : wp_J3_ensureCapacityInternal G.2 M a0 x1 Q) : pW G C 3 n0 s0 M0 (m_Q G C n0 s0 (va_Qv (m_q0 M0 Q) (m_W G) (m_A G))) M 0 [(0, vR (some a0)), (1, vI x1)] [] := by
  refine pw_aload_n X dJ3_ensureCapacityInternal_0 rfl rfl ?_
  obtain ⟨ht1, hw⟩ := hw
  obtain ⟨u2, he3, hw⟩ := hw
  refine pw_get X (q := (RJ4, TJ4, tyJ4, 4)) (ci := 14) (k := 0) (ref := "java/lang/AbstractStringBuilder") (vR (some u2)) ht1 rfl (by decide) in_J4 q215 (Or.inl rfl) (by rw [he3]; rfl) dJ3_ensureCapacityInternal_1 ?_
  obtain ⟨hA4, hw⟩ := hw
  refine pw_alen X hA4 dJ3_ensureCapacityInternal_4 ?_
  refine pw_aload_n X dJ3_ensureCapacityInternal_5 rfl rfl ?_
  refine pw_get X (q := (RJ4, TJ4, tyJ4, 4)) (ci := 14) (k := 1) (ref := "java/lang/AbstractStringBuilder") (vI (m_gi M a0 1)) ht1 rfl (by decide) in_J4 q216 (Or.inl rfl) rfl dJ3_ensureCapacityInternal_6 ?_
  refine pw_ishr X dJ3_ensureCapacityInternal_9 ?_
  refine pw_istore_n X [(0, vR (some a0)), (1, vI x1), (2, vI (((nI (m_ln M u2)) : Int32) >>> (((m_gi M a0 1) : Int32) &&& 31)))] [1, 2, 0] dJ3_ensureCapacityInternal_10 rfl (by decide) rfl ?_
  refine pw_iload_n X dJ3_ensureCapacityInternal_11 rfl rfl ?_
  refine pw_iload_n X dJ3_ensureCapacityInternal_12 rfl rfl ?_
  refine pw_isub X dJ3_ensureCapacityInternal_13 ?_
  refine pw_if_le X 38 dJ3_ensureCapacityInternal_14 (by decide) (fun c5 => ?_) (fun c5 => ?_)
  · replace hw := hw.1 c5
    exact pw_vret X hw dJ3_ensureCapacityInternal_38
  · replace hw := hw.2 c5
    refine pw_aload_n X dJ3_ensureCapacityInternal_17 rfl rfl ?_
    refine pw_aload_n X dJ3_ensureCapacityInternal_18 rfl rfl ?_
    obtain ⟨u6, he7, hw⟩ := hw
    refine pw_get X (q := (RJ4, TJ4, tyJ4, 4)) (ci := 14) (k := 0) (ref := "java/lang/AbstractStringBuilder") (vR (some u6)) ht1 rfl (by decide) in_J4 q215 (Or.inl rfl) (by rw [he7]; rfl) dJ3_ensureCapacityInternal_19 ?_
    refine pw_aload_n X dJ3_ensureCapacityInternal_22 rfl rfl ?_
    refine pw_iload_n X dJ3_ensureCapacityInternal_23 rfl rfl ?_
    refine pw_runi X (m_cP X (b := a0) (met_J3_newCapacity G C.2.1 M a0 x1 _ hw) ht1 (by decide) q1669 q2280 q1671 q83 q1672 nh_J3_newCapacity ⟨Nat.le_of_ble_eq_true rfl, Nat.le_of_ble_eq_true rfl⟩ rfl (Nat.le_of_ble_eq_true rfl) dJ3_ensureCapacityInternal_24) (fun r10 M8 hle9 hx => ?_)
    replace hw := hx hle9
    clear hx
    have ht11 : m_tg M8 a0 = 15 := m_le_tg hle9 ht1
    refine pw_aload_n X dJ3_ensureCapacityInternal_27 rfl rfl ?_
    refine pw_get X (q := (RJ4, TJ4, tyJ4, 4)) (ci := 14) (k := 1) (ref := "java/lang/AbstractStringBuilder") (vI (m_gi M8 a0 1)) ht11 rfl (by decide) in_J4 q216 (Or.inl rfl) rfl dJ3_ensureCapacityInternal_28 ?_
    refine pw_ishl X dJ3_ensureCapacityInternal_31 ?_
    refine pw_runq X (m_cS X (met_J21_copyOf_3 G C.2.1 M8 u6 ((r10 : Int32) <<< (((m_gi M8 a0 1) : Int32) &&& 31)) _ hw) (lw_S q1675 q1676 q105 q1677) nh_J21_copyOf_3 ⟨Nat.le_of_ble_eq_true rfl, Nat.le_of_ble_eq_true rfl⟩ rfl (Nat.le_of_ble_eq_true rfl) dJ3_ensureCapacityInternal_32) (fun r14 M12 hle13 hx => ?_)
    replace hw := hx hle13
    clear hx
    have ht15 : m_tg M12 a0 = 15 := m_le_tg hle13 ht11
    obtain ⟨M16, hM17⟩ : ∃ z : Mem, z = (m_pr M12 a0 0 r14) := ⟨_, rfl⟩
    replace hw := hw M16 hM17
    refine pw_put X (q := (RJ4, TJ4, tyJ4, 4)) (ci := 14) (k := 0) (ref := "java/lang/AbstractStringBuilder") M16 hM17.symm ht15 rfl (by decide) in_J4 tyJ4_ok nmJ4 q215 (Or.inl rfl) rfl (m_kd_r (fun _ _ => rfl)) m_na m_fa dJ3_ensureCapacityInternal_35 ?_
    have hle18 : m_le M12 M16 := by rw [hM17]; exact m_le_pr
    have ht19 : m_tg M16 a0 = 15 := m_le_tg hle18 ht15
    exact pw_vret X hw dJ3_ensureCapacityInternal_38
theorem met_J3_ensureCapacityInternal (G : Gp) (l : Launch) (M : Mem) (a0 : Nat) (x1 : Int32) (Q : Mem → Prop) (hw : wp_J3_ensureCapacityInternal G.2 M a0 x1 Q) : m_K G l yJ3_ensureCapacityInternal cJ3_ensureCapacityInternal 3 none 3 62 [vR (some a0), vI x1] M (va_Qv (m_q0 M Q) (m_W G) (m_A G)) := by
  refine m_met (by decide) (Nat.le_of_ble_eq_true rfl) (fun C e X => ?_)
  exact bk_J3_ensureCapacityInternal_0 G C _ _ M Q X M a0 x1 hw
theorem nh_J3_ensureCapacityInternal : m_nMH yJ3_ensureCapacityInternal 1 := by decide +kernel

def wp_J3_inflate (g : Nat → Nat) (M : Mem) (a0 : Nat) (Q : Mem → Prop) : Prop := m_tg M a0 = 15 ∧ wp_J3_isLatin1 g M a0 (fun (r4 : Int32) (M2 : Mem) => m_le M M2 → ((¬ r4 = 0 → ∃ u7 : Nat, (m_gr M2 a0 0) = some u7 ∧ m_isA M2 u7 ∧ wp_J6_newBytesFor g M2 (nI (m_ln M2 u7)) (fun (r12 : Option Nat) (M10 : Mem) => m_le M2 M10 → ∃ u14 : Nat, (m_gr M10 a0 0) = some u14 ∧ ∃ u16 : Nat, r12 = some u16 ∧ wp_J13_inflate g M10 u14 0 u16 0 (m_gi M10 a0 3) (fun (M18 : Mem) => m_le M10 M18 → ∀ M21 : Mem, M21 = (m_pr M18 a0 0 (some u16)) → ∀ M25 : Mem, M25 = (m_pi M21 a0 1 1) → Q M25))) ∧ (r4 = 0 → Q M2)))
theorem bk_J3_inflate_0 (G : Gp) (C : m_Cx) (n0 s0 : Nat) (M0 : Mem) (Q : Mem → Prop) (X : m_in G C RJ3 cJ3_inflate 2 none "inflate" 5 116 n0 s0) (M : Mem) (a0 : Nat) (hw : wp_J3_inflate G.2 M a0 Q) : pW G C 2 n0 s0 M0 (m_Q G C n0 s0 (va_Qv (m_q0 M0 Q) (m_W G) (m_A G))) M 0 [(0, vR (some a0))] [] := by
  refine pw_aload_n X dJ3_inflate_0 rfl rfl ?_
  obtain ⟨ht1, hw⟩ := hw
  refine pw_runi X (m_cU X (owner := "java/lang/AbstractStringBuilder") (b := a0) (ci := 14) (q := (RJ4, TJ4, tyJ4, 4)) (met_J3_isLatin1 G C.2.1 M a0 _ hw) ht1 rfl (lw_app (lw_U q474 q476 q477 q475 q83) (lw_meth q478)) rfl (by decide +kernel : m_nMHo "java/lang/AbstractStringBuilder" ⟨"java/lang/AbstractStringBuilder", "isLatin1", "()Z"⟩ 0) ⟨Nat.le_of_ble_eq_true rfl, Nat.le_of_ble_eq_true rfl⟩ rfl (Nat.le_of_ble_eq_true rfl) dJ3_inflate_1) (fun r4 M2 hle3 hx => ?_)
  replace hw := hx hle3
  clear hx
  have ht5 : m_tg M2 a0 = 15 := m_le_tg hle3 ht1
  refine pw_if_ne X 8 dJ3_inflate_4 (by decide) (fun c6 => ?_) (fun c6 => ?_)
  · replace hw := hw.1 c6
    refine pw_aload_n X dJ3_inflate_8 rfl rfl ?_
    obtain ⟨u7, he8, hw⟩ := hw
    refine pw_get X (q := (RJ4, TJ4, tyJ4, 4)) (ci := 14) (k := 0) (ref := "java/lang/AbstractStringBuilder") (vR (some u7)) ht5 rfl (by decide) in_J4 q215 (Or.inl rfl) (by rw [he8]; rfl) dJ3_inflate_9 ?_
    obtain ⟨hA9, hw⟩ := hw
    refine pw_alen X hA9 dJ3_inflate_12 ?_
    refine pw_runq X (m_cS X (met_J6_newBytesFor G C.2.1 M2 (nI (m_ln M2 u7)) _ hw) (lw_S q208 q209 q86 q210) nh_J6_newBytesFor ⟨Nat.le_of_ble_eq_true rfl, Nat.le_of_ble_eq_true rfl⟩ rfl (Nat.le_of_ble_eq_true rfl) dJ3_inflate_13) (fun r12 M10 hle11 hx => ?_)
    replace hw := hx hle11
    clear hx
    have ht13 : m_tg M10 a0 = 15 := m_le_tg hle11 ht5
    refine pw_astore_n X [(0, vR (some a0)), (1, vR r12)] [1, 0] dJ3_inflate_16 rfl (by decide) rfl ?_
    refine pw_aload_n X dJ3_inflate_17 rfl rfl ?_
    obtain ⟨u14, he15, hw⟩ := hw
    refine pw_get X (q := (RJ4, TJ4, tyJ4, 4)) (ci := 14) (k := 0) (ref := "java/lang/AbstractStringBuilder") (vR (some u14)) ht13 rfl (by decide) in_J4 q215 (Or.inl rfl) (by rw [he15]; rfl) dJ3_inflate_18 ?_
    refine pw_iconst X 0 dJ3_inflate_21 (by decide) ?_
    refine pw_aload_n X dJ3_inflate_22 rfl rfl ?_
    refine pw_iconst X 0 dJ3_inflate_23 (by decide) ?_
    refine pw_aload_n X dJ3_inflate_24 rfl rfl ?_
    refine pw_get X (q := (RJ4, TJ4, tyJ4, 4)) (ci := 14) (k := 3) (ref := "java/lang/AbstractStringBuilder") (vI (m_gi M10 a0 3)) ht13 rfl (by decide) in_J4 q218 (Or.inl rfl) rfl dJ3_inflate_25 ?_
    obtain ⟨u16, he17, hw⟩ := hw
    subst he17
    refine pw_runv X (m_cS X (met_J13_inflate G C.2.1 M10 u14 0 u16 0 (m_gi M10 a0 3) _ hw) (lw_S q1692 q1693 q95 q1694) nh_J13_inflate ⟨Nat.le_of_ble_eq_true rfl, Nat.le_of_ble_eq_true rfl⟩ rfl (Nat.le_of_ble_eq_true rfl) dJ3_inflate_28) (fun M18 hle19 hx => ?_)
    replace hw := hx hle19
    clear hx
    have ht20 : m_tg M18 a0 = 15 := m_le_tg hle19 ht13
    refine pw_aload_n X dJ3_inflate_31 rfl rfl ?_
    refine pw_aload_n X dJ3_inflate_32 rfl rfl ?_
    obtain ⟨M21, hM22⟩ : ∃ z : Mem, z = (m_pr M18 a0 0 (some u16)) := ⟨_, rfl⟩
    replace hw := hw M21 hM22
    refine pw_put X (q := (RJ4, TJ4, tyJ4, 4)) (ci := 14) (k := 0) (ref := "java/lang/AbstractStringBuilder") M21 hM22.symm ht20 rfl (by decide) in_J4 tyJ4_ok nmJ4 q215 (Or.inl rfl) rfl (m_kd_r (fun _ _ => rfl)) m_na m_fa dJ3_inflate_33 ?_
    have hle23 : m_le M18 M21 := by rw [hM22]; exact m_le_pr
    have ht24 : m_tg M21 a0 = 15 := m_le_tg hle23 ht20
    refine pw_aload_n X dJ3_inflate_36 rfl rfl ?_
    refine pw_iconst X 1 dJ3_inflate_37 (by decide) ?_
    obtain ⟨M25, hM26⟩ : ∃ z : Mem, z = (m_pi M21 a0 1 1) := ⟨_, rfl⟩
    replace hw := hw M25 hM26
    refine pw_put X (q := (RJ4, TJ4, tyJ4, 4)) (ci := 14) (k := 1) (ref := "java/lang/AbstractStringBuilder") M25 hM26.symm ht24 rfl (by decide) in_J4 tyJ4_ok nmJ4 q216 (Or.inl rfl) rfl (m_kd_i (fun _ _ => rfl)) (by decide) (by decide) dJ3_inflate_38 ?_
    have hle27 : m_le M21 M25 := by rw [hM26]; exact m_le_pi
    have ht28 : m_tg M25 a0 = 15 := m_le_tg hle27 ht24
    exact pw_vret X hw dJ3_inflate_41
  · replace hw := hw.2 c6
    exact pw_vret X hw dJ3_inflate_7
theorem met_J3_inflate (G : Gp) (l : Launch) (M : Mem) (a0 : Nat) (Q : Mem → Prop) (hw : wp_J3_inflate G.2 M a0 Q) : m_K G l yJ3_inflate cJ3_inflate 2 none 5 116 [vR (some a0)] M (va_Qv (m_q0 M Q) (m_W G) (m_A G)) := by
  refine m_met (by decide) (Nat.le_of_ble_eq_true rfl) (fun C e X => ?_)
  exact bk_J3_inflate_0 G C _ _ M Q X M a0 hw
theorem nh_J3_inflate : m_nMH yJ3_inflate 0 := by decide +kernel

def wp_J3_init (g : Nat → Nat) (M : Mem) (a0 : Nat) (x1 : Int32) (Q : Mem → Prop) : Prop := ¬ (x1 : Int32) < 0 ∧ m_fits M (Int32.toNatClampNeg x1) ∧ ∀ u3 : Nat, m_tg M u3 = 0 → ∀ M5 : Mem, M5 = (m_al M u3 102 (Int32.toNatClampNeg x1) (Int32.toNatClampNeg x1)) → m_tg M5 a0 = 15 ∧ ∀ M10 : Mem, M10 = (m_pr M5 a0 0 (some u3)) → ∀ M15 : Mem, M15 = (m_pi M10 a0 1 0) → Q M15
theorem bk_J3_init_0 (G : Gp) (C : m_Cx) (n0 s0 : Nat) (M0 : Mem) (Q : Mem → Prop) (X : m_in G C RJ3 cJ3_init 2 none "<init>" 1 12 n0 s0) (M : Mem) (a0 : Nat) (x1 : Int32) (hw : wp_J3_init G.2 M a0 x1 Q) : pW G C 2 n0 s0 M0 (m_Q G C n0 s0 (va_Qv (m_q0 M0 Q) (m_W G) (m_A G))) M 0 [(0, vR (some a0)), (1, vI x1)] [] := by
  refine pw_aload_n X dJ3_init_0 rfl rfl ?_
  refine pw_objInit X rfl q205 q127 q128 dJ3_init_1 (Nat.le_of_ble_eq_true rfl) (Nat.le_of_ble_eq_true rfl) ?_
  refine pw_gets X (vI 1) (List.mem_of_getElem? (i := 7) rfl) q206 (Or.inl rfl) dJ3_init_4 ?_
  refine pw_if_eq X 25 dJ3_init_7 (by decide) (fun c => ?_) (fun c => ?_)
  · exact absurd c (by decide)
  refine pw_aload_n X dJ3_init_10 rfl rfl ?_
  refine pw_iload_n X dJ3_init_11 rfl rfl ?_
  obtain ⟨hn2, hf1, hw⟩ := hw
  refine pw_newa X (atype := .byte) 1 (by decide) hf1 hn2 rfl q228 dJ3_init_12 (fun u3 h04 => ?_)
  obtain ⟨M5, hM6⟩ : ∃ z : Mem, z = (m_al M u3 102 (Int32.toNatClampNeg x1) (Int32.toNatClampNeg x1)) := ⟨_, rfl⟩
  replace hw := hw u3 h04 M5 hM6
  have hle7 : m_le M M5 := by rw [hM6]; exact m_le_al h04
  change pW _ _ _ _ _ _ _ (m_al M u3 102 (Int32.toNatClampNeg x1) (Int32.toNatClampNeg x1)) _ _ _
  rw [← hM6]
  have ht8 : m_tg M5 u3 = 102 := by rw [hM6, m_tg_al, if_pos rfl]
  obtain ⟨ht9, hw⟩ := hw
  obtain ⟨M10, hM11⟩ : ∃ z : Mem, z = (m_pr M5 a0 0 (some u3)) := ⟨_, rfl⟩
  replace hw := hw M10 hM11
  refine pw_put X (q := (RJ4, TJ4, tyJ4, 4)) (ci := 14) (k := 0) (ref := "java/lang/AbstractStringBuilder") M10 hM11.symm ht9 rfl (by decide) in_J4 tyJ4_ok nmJ4 q215 (Or.inl rfl) rfl (m_kd_r (fun _ _ => rfl)) m_na m_fa dJ3_init_14 ?_
  have hle12 : m_le M5 M10 := by rw [hM11]; exact m_le_pr
  have ht13 : m_tg M10 u3 = 102 := m_le_tg hle12 ht8
  have ht14 : m_tg M10 a0 = 15 := m_le_tg hle12 ht9
  refine pw_aload_n X dJ3_init_17 rfl rfl ?_
  refine pw_iconst X 0 dJ3_init_18 (by decide) ?_
  obtain ⟨M15, hM16⟩ : ∃ z : Mem, z = (m_pi M10 a0 1 0) := ⟨_, rfl⟩
  replace hw := hw M15 hM16
  refine pw_put X (q := (RJ4, TJ4, tyJ4, 4)) (ci := 14) (k := 1) (ref := "java/lang/AbstractStringBuilder") M15 hM16.symm ht14 rfl (by decide) in_J4 tyJ4_ok nmJ4 q216 (Or.inl rfl) rfl (m_kd_i (fun _ _ => rfl)) (by decide) (by decide) dJ3_init_19 ?_
  have hle17 : m_le M10 M15 := by rw [hM16]; exact m_le_pi
  have ht18 : m_tg M15 u3 = 102 := m_le_tg hle17 ht13
  have ht19 : m_tg M15 a0 = 15 := m_le_tg hle17 ht14
  refine pw_goto X 38 dJ3_init_22 (by decide) ?_
  exact pw_vret X hw dJ3_init_38
theorem met_J3_init (G : Gp) (l : Launch) (M : Mem) (a0 : Nat) (x1 : Int32) (Q : Mem → Prop) (hw : wp_J3_init G.2 M a0 x1 Q) : m_K G l yJ3_init cJ3_init 2 none 1 12 [vR (some a0), vI x1] M (va_Qv (m_q0 M Q) (m_W G) (m_A G)) := by
  refine m_met (by decide) (Nat.le_of_ble_eq_true rfl) (fun C e X => ?_)
  exact bk_J3_init_0 G C _ _ M Q X M a0 x1 hw
theorem nh_J3_init : m_nMH yJ3_init 1 := by decide +kernel

def wp_J3_append_b56 (g : Nat → Nat) (M : Mem) (la0 : Nat) (lx1 : Int32) (Q : Option Nat → Mem → Prop) : Prop := m_tg M la0 = 15 ∧ ∃ u2 : Nat, (m_gr M la0 0) = some u2 ∧ ∀ M4 : Mem, M4 = (m_pi M la0 3 ((m_gi M la0 3) + 1)) → wp_J6_putCharSB g M4 u2 (m_gi M la0 3) lx1 (fun (M8 : Mem) => m_le M4 M8 → Q (some la0) M8)
def wp_J3_append_b45 (g : Nat → Nat) (M : Mem) (la0 : Nat) (lx1 : Int32) (Q : Option Nat → Mem → Prop) : Prop := m_tg M la0 = 15 ∧ wp_J3_isLatin1 g M la0 (fun (r4 : Int32) (M2 : Mem) => m_le M M2 → ((r4 = 0 → wp_J3_append_b56 g M2 la0 lx1 Q) ∧ (¬ r4 = 0 → wp_J3_inflate g M2 la0 (fun (M7 : Mem) => m_le M2 M7 → wp_J3_append_b56 g M7 la0 lx1 Q))))
def wp_J3_append (g : Nat → Nat) (M : Mem) (a0 : Nat) (x1 : Int32) (Q : Option Nat → Mem → Prop) : Prop := m_tg M a0 = 15 ∧ wp_J3_ensureCapacityInternal g M a0 ((m_gi M a0 3) + 1) (fun (M2 : Mem) => m_le M M2 → wp_J3_isLatin1 g M2 a0 (fun (r7 : Int32) (M5 : Mem) => m_le M2 M5 → ((r7 = 0 → wp_J3_append_b45 g M5 a0 x1 Q) ∧ (¬ r7 = 0 → wp_J13_canEncode g M5 x1 (fun (r12 : Int32) (M10 : Mem) => m_le M5 M10 → ((r12 = 0 → wp_J3_append_b45 g M10 a0 x1 Q) ∧ (¬ r12 = 0 → ∃ u15 : Nat, (m_gr M10 a0 0) = some u15 ∧ ∀ M17 : Mem, M17 = (m_pi M10 a0 3 ((m_gi M10 a0 3) + 1)) → m_tg M17 u15 = 102 ∧ vp_in (m_gi M10 a0 3) (m_ln M17 u15) ∧ ∀ M23 : Mem, M23 = (m_pi M17 u15 (Int32.toNatClampNeg (m_gi M10 a0 3)) (Int8.toInt32 (Int32.toInt8 (Int8.toInt32 (Int32.toInt8 x1))))) → Q (some a0) M23)))))))
theorem bk_J3_append_56 (G : Gp) (C : m_Cx) (n0 s0 : Nat) (M0 : Mem) (Q : Option Nat → Mem → Prop) (X : m_in G C RJ3 cJ3_append 2 (some (.object "java/lang/AbstractStringBuilder")) "append" 6 137 n0 s0) (M : Mem) (la0 : Nat) (lx1 : Int32) (hw : wp_J3_append_b56 G.2 M la0 lx1 Q) : pW G C 2 n0 s0 M0 (m_Q G C n0 s0 (va_Qq (m_q1 M0 Q) (m_W G) (m_A G))) M 56 [(0, vR (some la0)), (1, vI lx1)] [] := by
  refine pw_aload_n X dJ3_append_56 rfl rfl ?_
  obtain ⟨ht1, hw⟩ := hw
  obtain ⟨u2, he3, hw⟩ := hw
  refine pw_get X (q := (RJ4, TJ4, tyJ4, 4)) (ci := 14) (k := 0) (ref := "java/lang/AbstractStringBuilder") (vR (some u2)) ht1 rfl (by decide) in_J4 q215 (Or.inl rfl) (by rw [he3]; rfl) dJ3_append_57 ?_
  refine pw_aload_n X dJ3_append_60 rfl rfl ?_
  refine pw_dup X dJ3_append_61 ?_
  refine pw_get X (q := (RJ4, TJ4, tyJ4, 4)) (ci := 14) (k := 3) (ref := "java/lang/AbstractStringBuilder") (vI (m_gi M la0 3)) ht1 rfl (by decide) in_J4 q218 (Or.inl rfl) rfl dJ3_append_62 ?_
  refine pw_dup_x1 X dJ3_append_65 ?_
  refine pw_iconst X 1 dJ3_append_66 (by decide) ?_
  refine pw_iadd X dJ3_append_67 ?_
  obtain ⟨M4, hM5⟩ : ∃ z : Mem, z = (m_pi M la0 3 ((m_gi M la0 3) + 1)) := ⟨_, rfl⟩
  replace hw := hw M4 hM5
  refine pw_put X (q := (RJ4, TJ4, tyJ4, 4)) (ci := 14) (k := 3) (ref := "java/lang/AbstractStringBuilder") M4 hM5.symm ht1 rfl (by decide) in_J4 tyJ4_ok nmJ4 q218 (Or.inl rfl) rfl (m_kd_i (fun _ _ => rfl)) rfl rfl dJ3_append_68 ?_
  have hle6 : m_le M M4 := by rw [hM5]; exact m_le_pi
  have ht7 : m_tg M4 la0 = 15 := m_le_tg hle6 ht1
  refine pw_iload_n X dJ3_append_71 rfl rfl ?_
  refine pw_runv X (m_cS X (met_J6_putCharSB G C.2.1 M4 u2 (m_gi M la0 3) lx1 _ hw) (lw_S q1710 q1711 q86 q1712) nh_J6_putCharSB ⟨Nat.le_of_ble_eq_true rfl, Nat.le_of_ble_eq_true rfl⟩ rfl (Nat.le_of_ble_eq_true rfl) dJ3_append_72) (fun M8 hle9 hx => ?_)
  replace hw := hx hle9
  clear hx
  have ht10 : m_tg M8 la0 = 15 := m_le_tg hle9 ht7
  refine pw_aload_n X dJ3_append_75 rfl rfl ?_
  exact pw_aret X (Or.inl ⟨_, rfl⟩) hw dJ3_append_76
theorem bk_J3_append_45 (G : Gp) (C : m_Cx) (n0 s0 : Nat) (M0 : Mem) (Q : Option Nat → Mem → Prop) (X : m_in G C RJ3 cJ3_append 2 (some (.object "java/lang/AbstractStringBuilder")) "append" 6 137 n0 s0) (M : Mem) (la0 : Nat) (lx1 : Int32) (hw : wp_J3_append_b45 G.2 M la0 lx1 Q) : pW G C 2 n0 s0 M0 (m_Q G C n0 s0 (va_Qq (m_q1 M0 Q) (m_W G) (m_A G))) M 45 [(0, vR (some la0)), (1, vI lx1)] [] := by
  refine pw_aload_n X dJ3_append_45 rfl rfl ?_
  obtain ⟨ht1, hw⟩ := hw
  refine pw_runi X (m_cU X (owner := "java/lang/AbstractStringBuilder") (b := la0) (ci := 14) (q := (RJ4, TJ4, tyJ4, 4)) (met_J3_isLatin1 G C.2.1 M la0 _ hw) ht1 rfl (lw_app (lw_U q474 q476 q477 q475 q83) (lw_meth q478)) rfl (by decide +kernel : m_nMHo "java/lang/AbstractStringBuilder" ⟨"java/lang/AbstractStringBuilder", "isLatin1", "()Z"⟩ 0) ⟨Nat.le_of_ble_eq_true rfl, Nat.le_of_ble_eq_true rfl⟩ rfl (Nat.le_of_ble_eq_true rfl) dJ3_append_46) (fun r4 M2 hle3 hx => ?_)
  replace hw := hx hle3
  clear hx
  have ht5 : m_tg M2 la0 = 15 := m_le_tg hle3 ht1
  refine pw_if_eq X 56 dJ3_append_49 (by decide) (fun c6 => ?_) (fun c6 => ?_)
  · replace hw := hw.1 c6
    exact bk_J3_append_56 G C n0 s0 M0 Q X _ la0 lx1 hw
  · replace hw := hw.2 c6
    refine pw_aload_n X dJ3_append_52 rfl rfl ?_
    refine pw_runv X (m_cP X (b := la0) (met_J3_inflate G C.2.1 M2 la0 _ hw) ht5 (by decide) q1688 q2281 q1690 q83 q1691 nh_J3_inflate ⟨Nat.le_of_ble_eq_true rfl, Nat.le_of_ble_eq_true rfl⟩ rfl (Nat.le_of_ble_eq_true rfl) dJ3_append_53) (fun M7 hle8 hx => ?_)
    replace hw := hx hle8
    clear hx
    have ht9 : m_tg M7 la0 = 15 := m_le_tg hle8 ht5
    exact bk_J3_append_56 G C n0 s0 M0 Q X _ la0 lx1 hw
theorem bk_J3_append_0 (G : Gp) (C : m_Cx) (n0 s0 : Nat) (M0 : Mem) (Q : Option Nat → Mem → Prop) (X : m_in G C RJ3 cJ3_append 2 (some (.object "java/lang/AbstractStringBuilder")) "append" 6 137 n0 s0) (M : Mem) (a0 : Nat) (x1 : Int32) (hw : wp_J3_append G.2 M a0 x1 Q) : pW G C 2 n0 s0 M0 (m_Q G C n0 s0 (va_Qq (m_q1 M0 Q) (m_W G) (m_A G))) M 0 [(0, vR (some a0)), (1, vI x1)] [] := by
  refine pw_aload_n X dJ3_append_0 rfl rfl ?_
  refine pw_aload_n X dJ3_append_1 rfl rfl ?_
  obtain ⟨ht1, hw⟩ := hw
  refine pw_get X (q := (RJ4, TJ4, tyJ4, 4)) (ci := 14) (k := 3) (ref := "java/lang/AbstractStringBuilder") (vI (m_gi M a0 3)) ht1 rfl (by decide) in_J4 q218 (Or.inl rfl) rfl dJ3_append_2 ?_
  refine pw_iconst X 1 dJ3_append_5 (by decide) ?_
  refine pw_iadd X dJ3_append_6 ?_
  refine pw_runv X (m_cP X (b := a0) (met_J3_ensureCapacityInternal G C.2.1 M a0 ((m_gi M a0 3) + 1) _ hw) ht1 (by decide) q1665 q2279 q1667 q83 q1668 nh_J3_ensureCapacityInternal ⟨Nat.le_of_ble_eq_true rfl, Nat.le_of_ble_eq_true rfl⟩ rfl (Nat.le_of_ble_eq_true rfl) dJ3_append_7) (fun M2 hle3 hx => ?_)
  replace hw := hx hle3
  clear hx
  have ht4 : m_tg M2 a0 = 15 := m_le_tg hle3 ht1
  refine pw_aload_n X dJ3_append_10 rfl rfl ?_
  refine pw_runi X (m_cU X (owner := "java/lang/AbstractStringBuilder") (b := a0) (ci := 14) (q := (RJ4, TJ4, tyJ4, 4)) (met_J3_isLatin1 G C.2.1 M2 a0 _ hw) ht4 rfl (lw_app (lw_U q474 q476 q477 q475 q83) (lw_meth q478)) rfl (by decide +kernel : m_nMHo "java/lang/AbstractStringBuilder" ⟨"java/lang/AbstractStringBuilder", "isLatin1", "()Z"⟩ 0) ⟨Nat.le_of_ble_eq_true rfl, Nat.le_of_ble_eq_true rfl⟩ rfl (Nat.le_of_ble_eq_true rfl) dJ3_append_11) (fun r7 M5 hle6 hx => ?_)
  replace hw := hx hle6
  clear hx
  have ht8 : m_tg M5 a0 = 15 := m_le_tg hle6 ht4
  refine pw_if_eq X 45 dJ3_append_14 (by decide) (fun c9 => ?_) (fun c9 => ?_)
  · replace hw := hw.1 c9
    exact bk_J3_append_45 G C n0 s0 M0 Q X _ a0 x1 hw
  · replace hw := hw.2 c9
    refine pw_iload_n X dJ3_append_17 rfl rfl ?_
    refine pw_runi X (m_cS X (met_J13_canEncode G C.2.1 M5 x1 _ hw) (lw_S q1685 q1686 q95 q1687) nh_J13_canEncode ⟨Nat.le_of_ble_eq_true rfl, Nat.le_of_ble_eq_true rfl⟩ rfl (Nat.le_of_ble_eq_true rfl) dJ3_append_18) (fun r12 M10 hle11 hx => ?_)
    replace hw := hx hle11
    clear hx
    have ht13 : m_tg M10 a0 = 15 := m_le_tg hle11 ht8
    refine pw_if_eq X 45 dJ3_append_21 (by decide) (fun c14 => ?_) (fun c14 => ?_)
    · replace hw := hw.1 c14
      exact bk_J3_append_45 G C n0 s0 M0 Q X _ a0 x1 hw
    · replace hw := hw.2 c14
      refine pw_aload_n X dJ3_append_24 rfl rfl ?_
      obtain ⟨u15, he16, hw⟩ := hw
      refine pw_get X (q := (RJ4, TJ4, tyJ4, 4)) (ci := 14) (k := 0) (ref := "java/lang/AbstractStringBuilder") (vR (some u15)) ht13 rfl (by decide) in_J4 q215 (Or.inl rfl) (by rw [he16]; rfl) dJ3_append_25 ?_
      refine pw_aload_n X dJ3_append_28 rfl rfl ?_
      refine pw_dup X dJ3_append_29 ?_
      refine pw_get X (q := (RJ4, TJ4, tyJ4, 4)) (ci := 14) (k := 3) (ref := "java/lang/AbstractStringBuilder") (vI (m_gi M10 a0 3)) ht13 rfl (by decide) in_J4 q218 (Or.inl rfl) rfl dJ3_append_30 ?_
      refine pw_dup_x1 X dJ3_append_33 ?_
      refine pw_iconst X 1 dJ3_append_34 (by decide) ?_
      refine pw_iadd X dJ3_append_35 ?_
      obtain ⟨M17, hM18⟩ : ∃ z : Mem, z = (m_pi M10 a0 3 ((m_gi M10 a0 3) + 1)) := ⟨_, rfl⟩
      replace hw := hw M17 hM18
      refine pw_put X (q := (RJ4, TJ4, tyJ4, 4)) (ci := 14) (k := 3) (ref := "java/lang/AbstractStringBuilder") M17 hM18.symm ht13 rfl (by decide) in_J4 tyJ4_ok nmJ4 q218 (Or.inl rfl) rfl (m_kd_i (fun _ _ => rfl)) rfl rfl dJ3_append_36 ?_
      have hle19 : m_le M10 M17 := by rw [hM18]; exact m_le_pi
      have ht20 : m_tg M17 a0 = 15 := m_le_tg hle19 ht13
      refine pw_iload_n X dJ3_append_39 rfl rfl ?_
      refine pw_i2b X dJ3_append_40 ?_
      obtain ⟨ht21, hw⟩ := hw
      obtain ⟨hi22, hw⟩ := hw
      obtain ⟨M23, hM24⟩ : ∃ z : Mem, z = (m_pi M17 u15 (Int32.toNatClampNeg (m_gi M10 a0 3)) (Int8.toInt32 (Int32.toInt8 (Int8.toInt32 (Int32.toInt8 x1))))) := ⟨_, rfl⟩
      replace hw := hw M23 hM24
      have hle25 : m_le M17 M23 := by rw [hM24]; exact m_le_pi
      refine pw_bast X ht21 hi22 dJ3_append_41 ?_
      rw [← hM24]
      have ht26 : m_tg M23 a0 = 15 := m_le_tg hle25 ht20
      have ht27 : m_tg M23 u15 = 102 := m_le_tg hle25 ht21
      refine pw_goto X 75 dJ3_append_42 (by decide) ?_
      refine pw_aload_n X dJ3_append_75 rfl rfl ?_
      exact pw_aret X (Or.inl ⟨_, rfl⟩) hw dJ3_append_76
theorem met_J3_append (G : Gp) (l : Launch) (M : Mem) (a0 : Nat) (x1 : Int32) (Q : Option Nat → Mem → Prop) (hw : wp_J3_append G.2 M a0 x1 Q) : m_K G l yJ3_append cJ3_append 2 (some (.object "java/lang/AbstractStringBuilder")) 6 137 [vR (some a0), vI x1] M (va_Qq (m_q1 M Q) (m_W G) (m_A G)) := by
  refine m_met (by decide) (Nat.le_of_ble_eq_true rfl) (fun C e X => ?_)
  exact bk_J3_append_0 G C _ _ M Q X M a0 x1 hw
theorem nh_J3_append : m_nMH yJ3_append 1 := by decide +kernel

def wp_J3_setLength (g : Nat → Nat) (M : Mem) (a0 : Nat) (x1 : Int32) (Q : Mem → Prop) : Prop := ((0 ≤ x1 → m_tg M a0 = 15 ∧ wp_J3_ensureCapacityInternal g M a0 x1 (fun (M3 : Mem) => m_le M M3 → ((x1 ≤ (m_gi M3 a0 3) → (((m_gi M3 a0 3) ≤ x1 → ∀ M8 : Mem, M8 = (m_pi M3 a0 3 x1) → Q M8) ∧ (¬ (m_gi M3 a0 3) ≤ x1 → ∀ M12 : Mem, M12 = (m_pi M3 a0 2 1) → ∀ M16 : Mem, M16 = (m_pi M12 a0 3 x1) → Q M16))) ∧ (¬ x1 ≤ (m_gi M3 a0 3) → wp_J3_isLatin1 g M3 a0 (fun (r22 : Int32) (M20 : Mem) => m_le M3 M20 → ((r22 = 0 → ∃ u25 : Nat, (m_gr M20 a0 0) = some u25 ∧ False) ∧ (¬ r22 = 0 → ∃ u27 : Nat, (m_gr M20 a0 0) = some u27 ∧ False))))))) ∧ (¬ 0 ≤ x1 → False))
theorem bk_J3_setLength_0 (G : Gp) (C : m_Cx) (n0 s0 : Nat) (M0 : Mem) (Q : Mem → Prop) (X : m_in G C RJ3 cJ3_setLength 2 none "setLength" 4 84 n0 s0) (M : Mem) (a0 : Nat) (x1 : Int32) (hw : wp_J3_setLength G.2 M a0 x1 Q) : pW G C 2 n0 s0 M0 (m_Q G C n0 s0 (va_Qv (m_q0 M0 Q) (m_W G) (m_A G))) M 0 [(0, vR (some a0)), (1, vI x1)] [] := by
  refine pw_iload_n X dJ3_setLength_0 rfl rfl ?_
  refine pw_if_ge X 13 dJ3_setLength_1 (by decide) (fun c1 => ?_) (fun c1 => ?_)
  · replace hw := hw.1 c1
    refine pw_aload_n X dJ3_setLength_13 rfl rfl ?_
    refine pw_iload_n X dJ3_setLength_14 rfl rfl ?_
    obtain ⟨ht2, hw⟩ := hw
    refine pw_runv X (m_cP X (b := a0) (met_J3_ensureCapacityInternal G C.2.1 M a0 x1 _ hw) ht2 (by decide) q1665 q2279 q1667 q83 q1668 nh_J3_ensureCapacityInternal ⟨Nat.le_of_ble_eq_true rfl, Nat.le_of_ble_eq_true rfl⟩ rfl (Nat.le_of_ble_eq_true rfl) dJ3_setLength_15) (fun M3 hle4 hx => ?_)
    replace hw := hx hle4
    clear hx
    have ht5 : m_tg M3 a0 = 15 := m_le_tg hle4 ht2
    refine pw_aload_n X dJ3_setLength_18 rfl rfl ?_
    refine pw_get X (q := (RJ4, TJ4, tyJ4, 4)) (ci := 14) (k := 3) (ref := "java/lang/AbstractStringBuilder") (vI (m_gi M3 a0 3)) ht5 rfl (by decide) in_J4 q218 (Or.inl rfl) rfl dJ3_setLength_19 ?_
    refine pw_iload_n X dJ3_setLength_22 rfl rfl ?_
    refine pw_icmp_ge X 63 dJ3_setLength_23 (by decide) (fun c6 => ?_) (fun c6 => ?_)
    · replace hw := hw.1 c6
      refine pw_aload_n X dJ3_setLength_63 rfl rfl ?_
      refine pw_get X (q := (RJ4, TJ4, tyJ4, 4)) (ci := 14) (k := 3) (ref := "java/lang/AbstractStringBuilder") (vI (m_gi M3 a0 3)) ht5 rfl (by decide) in_J4 q218 (Or.inl rfl) rfl dJ3_setLength_64 ?_
      refine pw_iload_n X dJ3_setLength_67 rfl rfl ?_
      refine pw_icmp_le X 76 dJ3_setLength_68 (by decide) (fun c7 => ?_) (fun c7 => ?_)
      · replace hw := hw.1 c7
        refine pw_aload_n X dJ3_setLength_76 rfl rfl ?_
        refine pw_iload_n X dJ3_setLength_77 rfl rfl ?_
        obtain ⟨M8, hM9⟩ : ∃ z : Mem, z = (m_pi M3 a0 3 x1) := ⟨_, rfl⟩
        replace hw := hw M8 hM9
        refine pw_put X (q := (RJ4, TJ4, tyJ4, 4)) (ci := 14) (k := 3) (ref := "java/lang/AbstractStringBuilder") M8 hM9.symm ht5 rfl (by decide) in_J4 tyJ4_ok nmJ4 q218 (Or.inl rfl) rfl (m_kd_i (fun _ _ => rfl)) rfl rfl dJ3_setLength_78 ?_
        have hle10 : m_le M3 M8 := by rw [hM9]; exact m_le_pi
        have ht11 : m_tg M8 a0 = 15 := m_le_tg hle10 ht5
        exact pw_vret X hw dJ3_setLength_81
      · replace hw := hw.2 c7
        refine pw_aload_n X dJ3_setLength_71 rfl rfl ?_
        refine pw_iconst X 1 dJ3_setLength_72 (by decide) ?_
        obtain ⟨M12, hM13⟩ : ∃ z : Mem, z = (m_pi M3 a0 2 1) := ⟨_, rfl⟩
        replace hw := hw M12 hM13
        refine pw_put X (q := (RJ4, TJ4, tyJ4, 4)) (ci := 14) (k := 2) (ref := "java/lang/AbstractStringBuilder") M12 hM13.symm ht5 rfl (by decide) in_J4 tyJ4_ok nmJ4 q217 (Or.inl rfl) rfl (m_kd_i (fun _ _ => rfl)) (by decide) (by decide) dJ3_setLength_73 ?_
        have hle14 : m_le M3 M12 := by rw [hM13]; exact m_le_pi
        have ht15 : m_tg M12 a0 = 15 := m_le_tg hle14 ht5
        refine pw_aload_n X dJ3_setLength_76 rfl rfl ?_
        refine pw_iload_n X dJ3_setLength_77 rfl rfl ?_
        obtain ⟨M16, hM17⟩ : ∃ z : Mem, z = (m_pi M12 a0 3 x1) := ⟨_, rfl⟩
        replace hw := hw M16 hM17
        refine pw_put X (q := (RJ4, TJ4, tyJ4, 4)) (ci := 14) (k := 3) (ref := "java/lang/AbstractStringBuilder") M16 hM17.symm ht15 rfl (by decide) in_J4 tyJ4_ok nmJ4 q218 (Or.inl rfl) rfl (m_kd_i (fun _ _ => rfl)) rfl rfl dJ3_setLength_78 ?_
        have hle18 : m_le M12 M16 := by rw [hM17]; exact m_le_pi
        have ht19 : m_tg M16 a0 = 15 := m_le_tg hle18 ht15
        exact pw_vret X hw dJ3_setLength_81
    · replace hw := hw.2 c6
      refine pw_aload_n X dJ3_setLength_26 rfl rfl ?_
      refine pw_runi X (m_cU X (owner := "java/lang/AbstractStringBuilder") (b := a0) (ci := 14) (q := (RJ4, TJ4, tyJ4, 4)) (met_J3_isLatin1 G C.2.1 M3 a0 _ hw) ht5 rfl (lw_app (lw_U q474 q476 q477 q475 q83) (lw_meth q478)) rfl (by decide +kernel : m_nMHo "java/lang/AbstractStringBuilder" ⟨"java/lang/AbstractStringBuilder", "isLatin1", "()Z"⟩ 0) ⟨Nat.le_of_ble_eq_true rfl, Nat.le_of_ble_eq_true rfl⟩ rfl (Nat.le_of_ble_eq_true rfl) dJ3_setLength_27) (fun r22 M20 hle21 hx => ?_)
      replace hw := hx hle21
      clear hx
      have ht23 : m_tg M20 a0 = 15 := m_le_tg hle21 ht5
      refine pw_if_eq X 48 dJ3_setLength_30 (by decide) (fun c24 => ?_) (fun c24 => ?_)
      · replace hw := hw.1 c24
        refine pw_aload_n X dJ3_setLength_48 rfl rfl ?_
        obtain ⟨u25, he26, hw⟩ := hw
        refine pw_get X (q := (RJ4, TJ4, tyJ4, 4)) (ci := 14) (k := 0) (ref := "java/lang/AbstractStringBuilder") (vR (some u25)) ht23 rfl (by decide) in_J4 q215 (Or.inl rfl) (by rw [he26]; rfl) dJ3_setLength_49 ?_
        refine pw_aload_n X dJ3_setLength_52 rfl rfl ?_
        refine pw_get X (q := (RJ4, TJ4, tyJ4, 4)) (ci := 14) (k := 3) (ref := "java/lang/AbstractStringBuilder") (vI (m_gi M20 a0 3)) ht23 rfl (by decide) in_J4 q218 (Or.inl rfl) rfl dJ3_setLength_53 ?_
        refine pw_iload_n X dJ3_setLength_56 rfl rfl ?_
        exact hw.elim
      · replace hw := hw.2 c24
        refine pw_aload_n X dJ3_setLength_33 rfl rfl ?_
        obtain ⟨u27, he28, hw⟩ := hw
        refine pw_get X (q := (RJ4, TJ4, tyJ4, 4)) (ci := 14) (k := 0) (ref := "java/lang/AbstractStringBuilder") (vR (some u27)) ht23 rfl (by decide) in_J4 q215 (Or.inl rfl) (by rw [he28]; rfl) dJ3_setLength_34 ?_
        refine pw_aload_n X dJ3_setLength_37 rfl rfl ?_
        refine pw_get X (q := (RJ4, TJ4, tyJ4, 4)) (ci := 14) (k := 3) (ref := "java/lang/AbstractStringBuilder") (vI (m_gi M20 a0 3)) ht23 rfl (by decide) in_J4 q218 (Or.inl rfl) rfl dJ3_setLength_38 ?_
        refine pw_iload_n X dJ3_setLength_41 rfl rfl ?_
        exact hw.elim
  · replace hw := hw.2 c1
    exact hw.elim
theorem met_J3_setLength (G : Gp) (l : Launch) (M : Mem) (a0 : Nat) (x1 : Int32) (Q : Mem → Prop) (hw : wp_J3_setLength G.2 M a0 x1 Q) : m_K G l yJ3_setLength cJ3_setLength 2 none 4 84 [vR (some a0), vI x1] M (va_Qv (m_q0 M Q) (m_W G) (m_A G)) := by
  refine m_met (by decide) (Nat.le_of_ble_eq_true rfl) (fun C e X => ?_)
  exact bk_J3_setLength_0 G C _ _ M Q X M a0 x1 hw
theorem nh_J3_setLength : m_nMH yJ3_setLength 1 := by decide +kernel

def wp_J3_charAt (g : Nat → Nat) (M : Mem) (a0 : Nat) (x1 : Int32) (Q : Int32 → Mem → Prop) : Prop := m_tg M a0 = 15 ∧ ∃ u2 : Nat, (m_gr M a0 0) = some u2 ∧ m_isA M u2 ∧ wp_J5_checkIndex g M x1 (if (((nI (m_ln M u2)) : Int32) >>> (((m_gi M a0 1) : Int32) &&& 31)) < (m_gi M a0 3) then (((nI (m_ln M u2)) : Int32) >>> (((m_gi M a0 1) : Int32) &&& 31)) else (m_gi M a0 3)) (fun (M5 : Mem) => m_le M M5 → ((¬ (m_gi M a0 1) = 0 → wp_J6_getChar g M5 u2 x1 (fun (r11 : Int32) (M9 : Mem) => m_le M5 M9 → ((Int32.toUInt32 r11 % 65536).toInt32 = r11 ∧ Q r11 M9))) ∧ ((m_gi M a0 1) = 0 → m_tg M5 u2 = 102 ∧ vp_in x1 (m_ln M5 u2) ∧ ((Int32.toUInt32 ((Int32.toUInt32 ((m_gi M5 u2 (Int32.toNatClampNeg x1)) &&& 255) % 65536).toInt32) % 65536).toInt32 = ((Int32.toUInt32 ((m_gi M5 u2 (Int32.toNatClampNeg x1)) &&& 255) % 65536).toInt32) ∧ Q ((Int32.toUInt32 ((m_gi M5 u2 (Int32.toNatClampNeg x1)) &&& 255) % 65536).toInt32) M5))))
theorem bk_J3_charAt_0 (G : Gp) (C : m_Cx) (n0 s0 : Nat) (M0 : Mem) (Q : Int32 → Mem → Prop) (X : m_in G C RJ3 cJ3_charAt 5 (some .char) "charAt" 2 43 n0 s0) (M : Mem) (a0 : Nat) (x1 : Int32) (hw : wp_J3_charAt G.2 M a0 x1 Q) : pW G C 5 n0 s0 M0 (m_Q G C n0 s0 (va_Qi (m_q1 M0 Q) (m_W G) (m_A G))) M 0 [(0, vR (some a0)), (1, vI x1)] [] := by
  refine pw_aload_n X dJ3_charAt_0 rfl rfl ?_
  obtain ⟨ht1, hw⟩ := hw
  refine pw_get X (q := (RJ4, TJ4, tyJ4, 4)) (ci := 14) (k := 1) (ref := "java/lang/AbstractStringBuilder") (vI (m_gi M a0 1)) ht1 rfl (by decide) in_J4 q216 (Or.inl rfl) rfl dJ3_charAt_1 ?_
  refine pw_istore_n X [(0, vR (some a0)), (1, vI x1), (2, vI (m_gi M a0 1))] [1, 2, 0] dJ3_charAt_4 rfl (by decide) rfl ?_
  refine pw_aload_n X dJ3_charAt_5 rfl rfl ?_
  obtain ⟨u2, he3, hw⟩ := hw
  refine pw_get X (q := (RJ4, TJ4, tyJ4, 4)) (ci := 14) (k := 0) (ref := "java/lang/AbstractStringBuilder") (vR (some u2)) ht1 rfl (by decide) in_J4 q215 (Or.inl rfl) (by rw [he3]; rfl) dJ3_charAt_6 ?_
  refine pw_astore_n X [(0, vR (some a0)), (1, vI x1), (2, vI (m_gi M a0 1)), (3, vR (some u2))] [1, 2, 3, 0] dJ3_charAt_9 rfl (by decide) rfl ?_
  refine pw_aload_n X dJ3_charAt_10 rfl rfl ?_
  refine pw_get X (q := (RJ4, TJ4, tyJ4, 4)) (ci := 14) (k := 3) (ref := "java/lang/AbstractStringBuilder") (vI (m_gi M a0 3)) ht1 rfl (by decide) in_J4 q218 (Or.inl rfl) rfl dJ3_charAt_11 ?_
  refine pw_aload_n X dJ3_charAt_14 rfl rfl ?_
  obtain ⟨hA4, hw⟩ := hw
  refine pw_alen X hA4 dJ3_charAt_15 ?_
  refine pw_iload_n X dJ3_charAt_16 rfl rfl ?_
  refine pw_ishr X dJ3_charAt_17 ?_
  refine pw_mmin X q1800 q295 q92 q296 (Nat.le_of_ble_eq_true rfl) (Nat.le_of_ble_eq_true rfl) dJ3_charAt_18 ?_
  refine pw_istore X [(1, vI x1), (2, vI (m_gi M a0 1)), (3, vR (some u2)), (4, vI (if (((nI (m_ln M u2)) : Int32) >>> (((m_gi M a0 1) : Int32) &&& 31)) < (m_gi M a0 3) then (((nI (m_ln M u2)) : Int32) >>> (((m_gi M a0 1) : Int32) &&& 31)) else (m_gi M a0 3)))] [2, 3, 4, 0] dJ3_charAt_21 (by decide) rfl ?_
  refine pw_iload_n X dJ3_charAt_23 rfl rfl ?_
  refine pw_iload X dJ3_charAt_24 rfl ?_
  refine pw_runv X (m_cS X (met_J5_checkIndex G C.2.1 M x1 (if (((nI (m_ln M u2)) : Int32) >>> (((m_gi M a0 1) : Int32) &&& 31)) < (m_gi M a0 3) then (((nI (m_ln M u2)) : Int32) >>> (((m_gi M a0 1) : Int32) &&& 31)) else (m_gi M a0 3)) _ hw) (lw_S q1801 q1717 q85 q1718) nh_J5_checkIndex ⟨Nat.le_of_ble_eq_true rfl, Nat.le_of_ble_eq_true rfl⟩ rfl (Nat.le_of_ble_eq_true rfl) dJ3_charAt_26) (fun M5 hle6 hx => ?_)
  replace hw := hx hle6
  clear hx
  have ht7 : m_tg M5 a0 = 15 := m_le_tg hle6 ht1
  refine pw_iload_n X dJ3_charAt_29 rfl rfl ?_
  refine pw_if_ne X 42 dJ3_charAt_30 (by decide) (fun c8 => ?_) (fun c8 => ?_)
  · replace hw := hw.1 c8
    refine pw_aload_n X dJ3_charAt_42 rfl rfl ?_
    refine pw_iload_n X dJ3_charAt_43 rfl rfl ?_
    refine pw_runi X (m_cS X (met_J6_getChar G C.2.1 M5 u2 x1 _ hw) (lw_S q1802 q612 q86 q613) nh_J6_getChar ⟨Nat.le_of_ble_eq_true rfl, Nat.le_of_ble_eq_true rfl⟩ rfl (Nat.le_of_ble_eq_true rfl) dJ3_charAt_44) (fun r11 M9 hle10 hx => ?_)
    replace hw := hx hle10
    clear hx
    have ht12 : m_tg M9 a0 = 15 := m_le_tg hle10 ht7
    exact pw_zret X (m_nc16 hw.1) hw.2 dJ3_charAt_47
  · replace hw := hw.2 c8
    refine pw_aload_n X dJ3_charAt_33 rfl rfl ?_
    refine pw_iload_n X dJ3_charAt_34 rfl rfl ?_
    obtain ⟨ht13, hw⟩ := hw
    obtain ⟨hi14, hw⟩ := hw
    refine pw_bald X ht13 hi14 dJ3_charAt_35 ?_
    refine pw_sipush X 255 dJ3_charAt_36 (by decide) ?_
    refine pw_iand X dJ3_charAt_39 ?_
    refine pw_i2c X dJ3_charAt_40 ?_
    exact pw_zret X (m_nc16 hw.1) hw.2 dJ3_charAt_41
theorem met_J3_charAt (G : Gp) (l : Launch) (M : Mem) (a0 : Nat) (x1 : Int32) (Q : Int32 → Mem → Prop) (hw : wp_J3_charAt G.2 M a0 x1 Q) : m_K G l yJ3_charAt cJ3_charAt 5 (some .char) 2 43 [vR (some a0), vI x1] M (va_Qi (m_q1 M Q) (m_W G) (m_A G)) := by
  refine m_met (by decide) (Nat.le_of_ble_eq_true rfl) (fun C e X => ?_)
  exact bk_J3_charAt_0 G C _ _ M Q X M a0 x1 hw
theorem nh_J3_charAt : m_nMH yJ3_charAt 1 := by decide +kernel

def wp_J4_init (g : Nat → Nat) (M : Mem) (a0 : Nat) (Q : Mem → Prop) : Prop := wp_J3_init g M a0 16 (fun (M1 : Mem) => m_le M M1 → Q M1)
theorem bk_J4_init_0 (G : Gp) (C : m_Cx) (n0 s0 : Nat) (M0 : Mem) (Q : Mem → Prop) (X : m_in G C RJ4 cJ4_init 1 none "<init>" 2 33 n0 s0) (M : Mem) (a0 : Nat) (hw : wp_J4_init G.2 M a0 Q) : pW G C 1 n0 s0 M0 (m_Q G C n0 s0 (va_Qv (m_q0 M0 Q) (m_W G) (m_A G))) M 0 [(0, vR (some a0))] [] := by
  refine pw_aload_n X dJ4_init_0 rfl rfl ?_
  refine pw_bipush X 16 dJ4_init_1 (by decide) ?_
  refine pw_runv X (m_cI X (b := a0) (met_J3_init G C.2.1 M a0 16 _ hw) q204 q83 q202 q203 rfl nh_J3_init ⟨Nat.le_of_ble_eq_true rfl, Nat.le_of_ble_eq_true rfl⟩ rfl (Nat.le_of_ble_eq_true rfl) dJ4_init_3) (fun M1 hle2 hx => ?_)
  replace hw := hx hle2
  clear hx
  exact pw_vret X hw dJ4_init_6
theorem met_J4_init (G : Gp) (l : Launch) (M : Mem) (a0 : Nat) (Q : Mem → Prop) (hw : wp_J4_init G.2 M a0 Q) : m_K G l yJ4_init cJ4_init 1 none 2 33 [vR (some a0)] M (va_Qv (m_q0 M Q) (m_W G) (m_A G)) := by
  refine m_met (by decide) (Nat.le_of_ble_eq_true rfl) (fun C e X => ?_)
  exact bk_J4_init_0 G C _ _ M Q X M a0 hw
theorem nh_J4_init : m_nMH yJ4_init 0 := by decide +kernel

def wp_J4_length (g : Nat → Nat) (M : Mem) (a0 : Nat) (Q : Int32 → Mem → Prop) : Prop := m_tg M a0 = 15 ∧ wp_J3_length g M a0 (fun (r4 : Int32) (M2 : Mem) => m_le M M2 → Q r4 M2)
theorem bk_J4_length_0 (G : Gp) (C : m_Cx) (n0 s0 : Nat) (M0 : Mem) (Q : Int32 → Mem → Prop) (X : m_in G C RJ4 cJ4_length 1 (some .int) "length" 1 20 n0 s0) (M : Mem) (a0 : Nat) (hw : wp_J4_length G.2 M a0 Q) : pW G C 1 n0 s0 M0 (m_Q G C n0 s0 (va_Qi (m_q1 M0 Q) (m_W G) (m_A G))) M 0 [(0, vR (some a0))] [] := by
  refine pw_aload_n X dJ4_length_0 rfl rfl ?_
  obtain ⟨ht1, hw⟩ := hw
  refine pw_runi X (m_cSU X (b := a0) (ci := 14) (q := (RJ4, TJ4, tyJ4, 4)) (met_J3_length G C.2.1 M a0 _ hw) ht1 rfl (lw_app (lw_SU q1655 q2277 q227 q1656 q83) (lw_meth q1657)) (by decide +kernel : (yJ3_length).name ≠ "<init>" ∧ (parseMethodDescriptor (yJ3_length).desc).map (fun d => d.parameters.length) = some 0) ⟨Nat.le_of_ble_eq_true rfl, Nat.le_of_ble_eq_true rfl⟩ rfl (Nat.le_of_ble_eq_true rfl) dJ4_length_1) (fun r4 M2 hle3 hx => ?_)
  replace hw := hx hle3
  clear hx
  have ht5 : m_tg M2 a0 = 15 := m_le_tg hle3 ht1
  exact pw_iret X hw dJ4_length_4
theorem met_J4_length (G : Gp) (l : Launch) (M : Mem) (a0 : Nat) (Q : Int32 → Mem → Prop) (hw : wp_J4_length G.2 M a0 Q) : m_K G l yJ4_length cJ4_length 1 (some .int) 1 20 [vR (some a0)] M (va_Qi (m_q1 M Q) (m_W G) (m_A G)) := by
  refine m_met (by decide) (Nat.le_of_ble_eq_true rfl) (fun C e X => ?_)
  exact bk_J4_length_0 G C _ _ M Q X M a0 hw
theorem nh_J4_length : m_nMH yJ4_length 0 := by decide +kernel

def wp_J4_append (g : Nat → Nat) (M : Mem) (a0 : Nat) (x1 : Int32) (Q : Option Nat → Mem → Prop) : Prop := m_tg M a0 = 15 ∧ wp_J3_append g M a0 x1 (fun (r4 : Option Nat) (M2 : Mem) => m_le M M2 → Q (some a0) M2)
theorem bk_J4_append_0 (G : Gp) (C : m_Cx) (n0 s0 : Nat) (M0 : Mem) (Q : Option Nat → Mem → Prop) (X : m_in G C RJ4 cJ4_append 2 (some (.object "java/lang/StringBuilder")) "append" 7 158 n0 s0) (M : Mem) (a0 : Nat) (x1 : Int32) (hw : wp_J4_append G.2 M a0 x1 Q) : pW G C 2 n0 s0 M0 (m_Q G C n0 s0 (va_Qq (m_q1 M0 Q) (m_W G) (m_A G))) M 0 [(0, vR (some a0)), (1, vI x1)] [] := by
  refine pw_aload_n X dJ4_append_0 rfl rfl ?_
  refine pw_iload_n X dJ4_append_1 rfl rfl ?_
  obtain ⟨ht1, hw⟩ := hw
  refine pw_runq X (m_cSU X (b := a0) (ci := 14) (q := (RJ4, TJ4, tyJ4, 4)) (met_J3_append G C.2.1 M a0 x1 _ hw) ht1 rfl (lw_app (lw_SU q1662 q2278 q227 q1663 q83) (lw_meth q1664)) (by decide +kernel : (yJ3_append).name ≠ "<init>" ∧ (parseMethodDescriptor (yJ3_append).desc).map (fun d => d.parameters.length) = some 1) ⟨Nat.le_of_ble_eq_true rfl, Nat.le_of_ble_eq_true rfl⟩ rfl (Nat.le_of_ble_eq_true rfl) dJ4_append_2) (fun r4 M2 hle3 hx => ?_)
  replace hw := hx hle3
  clear hx
  have ht5 : m_tg M2 a0 = 15 := m_le_tg hle3 ht1
  refine pw_pop X dJ4_append_5 ?_
  refine pw_aload_n X dJ4_append_6 rfl rfl ?_
  exact pw_aret X (Or.inl ⟨_, rfl⟩) hw dJ4_append_7
theorem met_J4_append (G : Gp) (l : Launch) (M : Mem) (a0 : Nat) (x1 : Int32) (Q : Option Nat → Mem → Prop) (hw : wp_J4_append G.2 M a0 x1 Q) : m_K G l yJ4_append cJ4_append 2 (some (.object "java/lang/StringBuilder")) 7 158 [vR (some a0), vI x1] M (va_Qq (m_q1 M Q) (m_W G) (m_A G)) := by
  refine m_met (by decide) (Nat.le_of_ble_eq_true rfl) (fun C e X => ?_)
  exact bk_J4_append_0 G C _ _ M Q X M a0 x1 hw
theorem nh_J4_append : m_nMH yJ4_append 1 := by decide +kernel

def wp_J4_setLength (g : Nat → Nat) (M : Mem) (a0 : Nat) (x1 : Int32) (Q : Mem → Prop) : Prop := m_tg M a0 = 15 ∧ wp_J3_setLength g M a0 x1 (fun (M2 : Mem) => m_le M M2 → Q M2)
theorem bk_J4_setLength_0 (G : Gp) (C : m_Cx) (n0 s0 : Nat) (M0 : Mem) (Q : Mem → Prop) (X : m_in G C RJ4 cJ4_setLength 2 none "setLength" 5 105 n0 s0) (M : Mem) (a0 : Nat) (x1 : Int32) (hw : wp_J4_setLength G.2 M a0 x1 Q) : pW G C 2 n0 s0 M0 (m_Q G C n0 s0 (va_Qv (m_q0 M0 Q) (m_W G) (m_A G))) M 0 [(0, vR (some a0)), (1, vI x1)] [] := by
  refine pw_aload_n X dJ4_setLength_0 rfl rfl ?_
  refine pw_iload_n X dJ4_setLength_1 rfl rfl ?_
  obtain ⟨ht1, hw⟩ := hw
  refine pw_runv X (m_cSU X (b := a0) (ci := 14) (q := (RJ4, TJ4, tyJ4, 4)) (met_J3_setLength G C.2.1 M a0 x1 _ hw) ht1 rfl (lw_app (lw_SU q1728 q2282 q227 q1729 q83) (lw_meth q1730)) (by decide +kernel : (yJ3_setLength).name ≠ "<init>" ∧ (parseMethodDescriptor (yJ3_setLength).desc).map (fun d => d.parameters.length) = some 1) ⟨Nat.le_of_ble_eq_true rfl, Nat.le_of_ble_eq_true rfl⟩ rfl (Nat.le_of_ble_eq_true rfl) dJ4_setLength_2) (fun M2 hle3 hx => ?_)
  replace hw := hx hle3
  clear hx
  have ht4 : m_tg M2 a0 = 15 := m_le_tg hle3 ht1
  exact pw_vret X hw dJ4_setLength_5
theorem met_J4_setLength (G : Gp) (l : Launch) (M : Mem) (a0 : Nat) (x1 : Int32) (Q : Mem → Prop) (hw : wp_J4_setLength G.2 M a0 x1 Q) : m_K G l yJ4_setLength cJ4_setLength 2 none 5 105 [vR (some a0), vI x1] M (va_Qv (m_q0 M Q) (m_W G) (m_A G)) := by
  refine m_met (by decide) (Nat.le_of_ble_eq_true rfl) (fun C e X => ?_)
  exact bk_J4_setLength_0 G C _ _ M Q X M a0 x1 hw
theorem nh_J4_setLength : m_nMH yJ4_setLength 1 := by decide +kernel

def wp_J4_charAt (g : Nat → Nat) (M : Mem) (a0 : Nat) (x1 : Int32) (Q : Int32 → Mem → Prop) : Prop := m_tg M a0 = 15 ∧ wp_J3_charAt g M a0 x1 (fun (r4 : Int32) (M2 : Mem) => m_le M M2 → ((Int32.toUInt32 r4 % 65536).toInt32 = r4 ∧ Q r4 M2))
theorem bk_J4_charAt_0 (G : Gp) (C : m_Cx) (n0 s0 : Nat) (M0 : Mem) (Q : Int32 → Mem → Prop) (X : m_in G C RJ4 cJ4_charAt 2 (some .char) "charAt" 3 67 n0 s0) (M : Mem) (a0 : Nat) (x1 : Int32) (hw : wp_J4_charAt G.2 M a0 x1 Q) : pW G C 2 n0 s0 M0 (m_Q G C n0 s0 (va_Qi (m_q1 M0 Q) (m_W G) (m_A G))) M 0 [(0, vR (some a0)), (1, vI x1)] [] := by
  refine pw_aload_n X dJ4_charAt_0 rfl rfl ?_
  refine pw_iload_n X dJ4_charAt_1 rfl rfl ?_
  obtain ⟨ht1, hw⟩ := hw
  refine pw_runi X (m_cSU X (b := a0) (ci := 14) (q := (RJ4, TJ4, tyJ4, 4)) (met_J3_charAt G C.2.1 M a0 x1 _ hw) ht1 rfl (lw_app (lw_SU q1797 q2283 q227 q1798 q83) (lw_meth q1799)) (by decide +kernel : (yJ3_charAt).name ≠ "<init>" ∧ (parseMethodDescriptor (yJ3_charAt).desc).map (fun d => d.parameters.length) = some 1) ⟨Nat.le_of_ble_eq_true rfl, Nat.le_of_ble_eq_true rfl⟩ rfl (Nat.le_of_ble_eq_true rfl) dJ4_charAt_2) (fun r4 M2 hle3 hx => ?_)
  replace hw := hx hle3
  clear hx
  have ht5 : m_tg M2 a0 = 15 := m_le_tg hle3 ht1
  exact pw_zret X (m_nc16 hw.1) hw.2 dJ4_charAt_5
theorem met_J4_charAt (G : Gp) (l : Launch) (M : Mem) (a0 : Nat) (x1 : Int32) (Q : Int32 → Mem → Prop) (hw : wp_J4_charAt G.2 M a0 x1 Q) : m_K G l yJ4_charAt cJ4_charAt 2 (some .char) 3 67 [vR (some a0), vI x1] M (va_Qi (m_q1 M Q) (m_W G) (m_A G)) := by
  refine m_met (by decide) (Nat.le_of_ble_eq_true rfl) (fun C e X => ?_)
  exact bk_J4_charAt_0 G C _ _ M Q X M a0 x1 hw
theorem nh_J4_charAt : m_nMH yJ4_charAt 1 := by decide +kernel
