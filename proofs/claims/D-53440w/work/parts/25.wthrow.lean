/-! walks (printed by gen/desk.py): 25.wthrow.lean -/
set_option maxRecDepth 100000
set_option maxHeartbeats 4000000
def wp_X9_init (g : Nat → Nat) (M : Mem) (a0 : Nat) (x1 : Int32) (Q : Mem → Prop) : Prop := m_tg M a0 = 10 ∧ m_gr M a0 4 = none ∧ ∀ M3 : Mem, M3 = (m_sxg g M a0) → ∀ M7 : Mem, M7 = (m_pi M3 a0 6 x1) → Q M7
theorem bk_X9_init_0 (G : Gp) (C : m_Cx) (n0 s0 : Nat) (M0 : Mem) (Q : Mem → Prop) (X : m_in G C RX9 cX9_init 2 none "<init>" 5 60 n0 s0) (hl : C.2.1.stackTraces = false) (M : Mem) (a0 : Nat) (x1 : Int32) (hw : wp_X9_init G.2 M a0 x1 Q) : pW G C 2 n0 s0 M0 (m_Q G C n0 s0 (va_Qv (m_q0 M0 Q) (m_W G) (m_A G))) M 0 [(0, vR (some a0)), (1, vI x1)] [] := by
  refine pw_aload_n X dX9_init_0 rfl rfl ?_
  obtain ⟨ht1, hw⟩ := hw
  obtain ⟨hb2, hw⟩ := hw
  obtain ⟨M3, hM4⟩ : ∃ z : Mem, z = (m_sx G M a0) := ⟨_, rfl⟩
  replace hw := hw M3 hM4
  have hle5 : m_le M M3 := by rw [hM4]; exact m_le_sx
  refine pw_superX X hl (q := (RX9, TX9, tyX9, 7)) M3 hM4 ht1 (by decide) rfl ⟨rfl, rfl, rfl, rfl, rfl, rfl, rfl, rfl, rfl⟩ in_X9 tyX9_ok nmX9 hb2 q1354 q1320 q1321 (Nat.le_of_ble_eq_true rfl) (Nat.le_of_ble_eq_true rfl) dX9_init_1 ?_
  have ht6 : m_tg M3 a0 = 10 := m_le_tg hle5 ht1
  refine pw_aload_n X dX9_init_4 rfl rfl ?_
  refine pw_iload_n X dX9_init_5 rfl rfl ?_
  obtain ⟨M7, hM8⟩ : ∃ z : Mem, z = (m_pi M3 a0 6 x1) := ⟨_, rfl⟩
  replace hw := hw M7 hM8
  refine pw_putF X (q := (RX9, TX9, tyX9, 7)) (ci := 9) (k := 6) (ref := "PatrolDesk$Refused") M7 hM8.symm ht6 rfl (by decide) in_X9 tyX9_ok nmX9 q1358 (Or.inl rfl) rfl rfl rfl (m_kd_i (fun _ _ => rfl)) rfl rfl dX9_init_6 ?_
  have hle9 : m_le M3 M7 := by rw [hM8]; exact m_le_pi
  have ht10 : m_tg M7 a0 = 10 := m_le_tg hle9 ht6
  exact pw_vret X hw dX9_init_9
theorem met_X9_init (G : Gp) (l : Launch) (hl : l.stackTraces = false) (M : Mem) (a0 : Nat) (x1 : Int32) (Q : Mem → Prop) (hw : wp_X9_init G.2 M a0 x1 Q) : m_K G l yX9_init cX9_init 2 none 5 60 [vR (some a0), vI x1] M (va_Qv (m_q0 M Q) (m_W G) (m_A G)) := by
  refine m_met (by decide) (Nat.le_of_ble_eq_true rfl) (fun C e X => ?_)
  exact bk_X9_init_0 G C _ _ M Q X (by rw [e]; exact hl) M a0 x1 hw
theorem nh_X9_init : m_nMH yX9_init 1 := by decide +kernel

def wp_X12_init (g : Nat → Nat) (M : Mem) (a0 : Nat) (x1 : Int32) (Q : Mem → Prop) : Prop := m_tg M a0 = 13 ∧ m_gr M a0 4 = none ∧ ∀ M3 : Mem, M3 = (m_sxg g M a0) → ∀ M7 : Mem, M7 = (m_pi M3 a0 6 x1) → Q M7
theorem bk_X12_init_0 (G : Gp) (C : m_Cx) (n0 s0 : Nat) (M0 : Mem) (Q : Mem → Prop) (X : m_in G C RX12 cX12_init 2 none "<init>" 5 60 n0 s0) (hl : C.2.1.stackTraces = false) (M : Mem) (a0 : Nat) (x1 : Int32) (hw : wp_X12_init G.2 M a0 x1 Q) : pW G C 2 n0 s0 M0 (m_Q G C n0 s0 (va_Qv (m_q0 M0 Q) (m_W G) (m_A G))) M 0 [(0, vR (some a0)), (1, vI x1)] [] := by
  refine pw_aload_n X dX12_init_0 rfl rfl ?_
  obtain ⟨ht1, hw⟩ := hw
  obtain ⟨hb2, hw⟩ := hw
  obtain ⟨M3, hM4⟩ : ∃ z : Mem, z = (m_sx G M a0) := ⟨_, rfl⟩
  replace hw := hw M3 hM4
  have hle5 : m_le M M3 := by rw [hM4]; exact m_le_sx
  refine pw_superX X hl (q := (RX12, TX12, tyX12, 7)) M3 hM4 ht1 (by decide) rfl ⟨rfl, rfl, rfl, rfl, rfl, rfl, rfl, rfl, rfl⟩ in_X12 tyX12_ok nmX12 hb2 q1815 q1806 q1344 (Nat.le_of_ble_eq_true rfl) (Nat.le_of_ble_eq_true rfl) dX12_init_1 ?_
  have ht6 : m_tg M3 a0 = 13 := m_le_tg hle5 ht1
  refine pw_aload_n X dX12_init_4 rfl rfl ?_
  refine pw_iload_n X dX12_init_5 rfl rfl ?_
  obtain ⟨M7, hM8⟩ : ∃ z : Mem, z = (m_pi M3 a0 6 x1) := ⟨_, rfl⟩
  replace hw := hw M7 hM8
  refine pw_putF X (q := (RX12, TX12, tyX12, 7)) (ci := 12) (k := 6) (ref := "PatrolDesk$TextFault") M7 hM8.symm ht6 rfl (by decide) in_X12 tyX12_ok nmX12 q1816 (Or.inl rfl) rfl rfl rfl (m_kd_i (fun _ _ => rfl)) rfl rfl dX12_init_6 ?_
  have hle9 : m_le M3 M7 := by rw [hM8]; exact m_le_pi
  have ht10 : m_tg M7 a0 = 13 := m_le_tg hle9 ht6
  exact pw_vret X hw dX12_init_9
theorem met_X12_init (G : Gp) (l : Launch) (hl : l.stackTraces = false) (M : Mem) (a0 : Nat) (x1 : Int32) (Q : Mem → Prop) (hw : wp_X12_init G.2 M a0 x1 Q) : m_K G l yX12_init cX12_init 2 none 5 60 [vR (some a0), vI x1] M (va_Qv (m_q0 M Q) (m_W G) (m_A G)) := by
  refine m_met (by decide) (Nat.le_of_ble_eq_true rfl) (fun C e X => ?_)
  exact bk_X12_init_0 G C _ _ M Q X (by rw [e]; exact hl) M a0 x1 hw
theorem nh_X12_init : m_nMH yX12_init 1 := by decide +kernel

def wp_X1_check_b26 (g : Nat → Nat) (M : Mem)  (Q : Mem → Prop) (QX : Nat → Mem → Prop) : Prop := m_fits M 7 ∧ ∀ u2 : Nat, m_tg M u2 = 0 → ∀ M4 : Mem, M4 = (m_al M u2 10 0 7) → wp_X9_init g M4 u2 (-1) (fun (M8 : Mem) => m_le M4 M8 → QX u2 M8)
def wp_X1_check (g : Nat → Nat) (M : Mem) (a0 : Nat) (x1 : Int32) (x2 : Int32) (x3 : Int32) (Q : Mem → Prop) (QX : Nat → Mem → Prop) : Prop := m_tg M a0 = 2 ∧ ∃ u2 : Nat, (m_gr M a0 0) = some u2 ∧ m_tg M u2 = 14 ∧ wp_J2_size g M u2 (fun (r7 : Int32) (M5 : Mem) => m_le M M5 → wp_X0_inRange g M5 x1 0 (r7 - 1) (fun (r12 : Int32) (M10 : Mem) => m_le M5 M10 → ((r12 = 0 → wp_X1_check_b26 g M10  Q QX) ∧ (¬ r12 = 0 → wp_X0_isArea g M10 x2 (fun (r18 : Int32) (M16 : Mem) => m_le M10 M16 → ((¬ r18 = 0 → wp_X0_inRange g M16 x3 1 12 (fun (r24 : Int32) (M22 : Mem) => m_le M16 M22 → ((¬ r24 = 0 → wp_X1_openCall g M22 a0 x1 (fun (r30 : Option Nat) (M28 : Mem) => m_le M22 M28 → ((r30 = none → ∃ u35 : Nat, (m_gr M28 a0 3) = some u35 ∧ m_tg M28 u35 = 14 ∧ wp_J2_size g M28 u35 (fun (r40 : Int32) (M38 : Mem) => m_le M28 M38 → ((¬ r40 = 40 → Q M38) ∧ (r40 = 40 → m_fits M38 7 ∧ ∀ u46 : Nat, m_tg M38 u46 = 0 → ∀ M48 : Mem, M48 = (m_al M38 u46 10 0 7) → wp_X9_init g M48 u46 (-3) (fun (M55 : Mem) => m_le M48 M55 → QX u46 M55))))) ∧ (∀ u33 : Nat, r30 = some u33 → m_fits M28 7 ∧ ∀ u62 : Nat, m_tg M28 u62 = 0 → ∀ M64 : Mem, M64 = (m_al M28 u62 10 0 7) → wp_X9_init g M64 u62 (-4) (fun (M70 : Mem) => m_le M64 M70 → QX u62 M70))))) ∧ (r24 = 0 → m_fits M22 7 ∧ ∀ u76 : Nat, m_tg M22 u76 = 0 → ∀ M78 : Mem, M78 = (m_al M22 u76 10 0 7) → wp_X9_init g M78 u76 (-2) (fun (M84 : Mem) => m_le M78 M84 → QX u76 M84))))) ∧ (r18 = 0 → wp_X1_check_b26 g M16  Q QX)))))))
theorem bk_X1_check_26 (G : Gp) (C : m_Cx) (n0 s0 : Nat) (M0 : Mem) (Q : Mem → Prop) (QX : Nat → Mem → Prop) (X : m_in G C RX1 cX1_check 4 none "check" 6 86 n0 s0) (hl : C.2.1.stackTraces = false) (hT : ∀ x ∈ (m_co C).exceptionTable.toList, False) (M : Mem)  (hw : wp_X1_check_b26 G.2 M  Q QX) : pW G C 4 n0 s0 M0 (m_QX G C n0 s0 (va_Qv (m_q0 M0 Q) (m_W G) (m_A G)) (m_xc G M0 9 QX)) M 26 [] [] := by
  obtain ⟨hf1, hw⟩ := hw
  refine pw_new X (ci := 9) (q := (RX9, TX9, tyX9, 7)) hf1 rfl in_X9 tyX9_ok q1313 q1314 q115 dX1_check_26 (fun u2 h03 => ?_)
  obtain ⟨M4, hM5⟩ : ∃ z : Mem, z = (m_al M u2 10 0 7) := ⟨_, rfl⟩
  replace hw := hw u2 h03 M4 hM5
  have hle6 : m_le M M4 := by rw [hM5]; exact m_le_al h03
  change pW _ _ _ _ _ _ _ (m_al M u2 10 0 7) _ _ _
  rw [← hM5]
  have ht7 : m_tg M4 u2 = 10 := by rw [hM5, m_tg_al, if_pos rfl]
  refine pw_dup X dX1_check_29 ?_
  refine pw_iconst X (-1) dX1_check_30 (by decide) ?_
  refine pw_runv X (m_cI X (b := u2) (met_X9_init G C.2.1 hl M4 u2 (-1) _ hw) q1353 q115 q1351 q1352 rfl nh_X9_init ⟨Nat.le_of_ble_eq_true rfl, Nat.le_of_ble_eq_true rfl⟩ rfl (Nat.le_of_ble_eq_true rfl) dX1_check_31) (fun M8 hle9 hx => ?_)
  replace hw := hx hle9
  clear hx
  have ht10 : m_tg M8 u2 = 10 := m_le_tg hle9 ht7
  refine pw_athrow X dX1_check_34 ?_
  exact px_out X hT ht10 rfl hw
theorem bk_X1_check_0 (G : Gp) (C : m_Cx) (n0 s0 : Nat) (M0 : Mem) (Q : Mem → Prop) (QX : Nat → Mem → Prop) (X : m_in G C RX1 cX1_check 4 none "check" 6 86 n0 s0) (hl : C.2.1.stackTraces = false) (hT : ∀ x ∈ (m_co C).exceptionTable.toList, False) (M : Mem) (a0 : Nat) (x1 : Int32) (x2 : Int32) (x3 : Int32) (hw : wp_X1_check G.2 M a0 x1 x2 x3 Q QX) : pW G C 4 n0 s0 M0 (m_QX G C n0 s0 (va_Qv (m_q0 M0 Q) (m_W G) (m_A G)) (m_xc G M0 9 QX)) M 0 [(0, vR (some a0)), (1, vI x1), (2, vI x2), (3, vI x3)] [] := by
  refine pw_iload_n X dX1_check_0 rfl rfl ?_
  refine pw_iconst X 0 dX1_check_1 (by decide) ?_
  refine pw_aload_n X dX1_check_2 rfl rfl ?_
  obtain ⟨ht1, hw⟩ := hw
  obtain ⟨u2, he3, hw⟩ := hw
  refine pw_get X (q := (RX1, TX1, tyX1, 8)) (ci := 1) (k := 0) (ref := "PatrolDesk$State") (vR (some u2)) ht1 rfl (by decide) in_X1 q161 (Or.inl rfl) (by rw [he3]; rfl) dX1_check_3 ?_
  obtain ⟨ht4, hw⟩ := hw
  refine pw_runi X (m_cF X (b := u2) (ci := 13) (q := (RJ2, TJ2, tyJ2, 3)) (met_J2_size G C.2.1 M u2 _ hw) ht4 rfl (lw_app (lw_F q1026 q994 q996 q82) (lw_meth q998)) (List.mem_of_getElem? (i := 6) rfl) (by decide +kernel : m_nMH ⟨"java/util/List", "size", "()I"⟩ 0) ⟨Nat.le_of_ble_eq_true rfl, Nat.le_of_ble_eq_true rfl⟩ rfl (Nat.le_of_ble_eq_true rfl) dX1_check_6) (fun r7 M5 hle6 hx => ?_)
  replace hw := hx hle6
  clear hx
  have ht8 : m_tg M5 a0 = 2 := m_le_tg hle6 ht1
  have ht9 : m_tg M5 u2 = 14 := m_le_tg hle6 ht4
  refine pw_iconst X 1 dX1_check_11 (by decide) ?_
  refine pw_isub X dX1_check_12 ?_
  refine pw_runi X (m_cSN X (met_X0_inRange G C.2.1 M5 x1 0 (r7 - 1) _ hw) q970 q1311 q969 q78 nh_X0_inRange ⟨Nat.le_of_ble_eq_true rfl, Nat.le_of_ble_eq_true rfl⟩ rfl (Nat.le_of_ble_eq_true rfl) dX1_check_13) (fun r12 M10 hle11 hx => ?_)
  replace hw := hx hle11
  clear hx
  have ht13 : m_tg M10 a0 = 2 := m_le_tg hle11 ht8
  have ht14 : m_tg M10 u2 = 14 := m_le_tg hle11 ht9
  refine pw_if_eq X 26 dX1_check_16 (by decide) (fun c15 => ?_) (fun c15 => ?_)
  · replace hw := hw.1 c15
    refine pw_lo [] rfl ?_
    exact bk_X1_check_26 G C n0 s0 M0 Q QX X hl hT _  hw
  · replace hw := hw.2 c15
    refine pw_iload_n X dX1_check_19 rfl rfl ?_
    refine pw_runi X (m_cSN X (met_X0_isArea G C.2.1 M10 x2 _ hw) q967 q1312 q966 q78 nh_X0_isArea ⟨Nat.le_of_ble_eq_true rfl, Nat.le_of_ble_eq_true rfl⟩ rfl (Nat.le_of_ble_eq_true rfl) dX1_check_20) (fun r18 M16 hle17 hx => ?_)
    replace hw := hx hle17
    clear hx
    have ht19 : m_tg M16 a0 = 2 := m_le_tg hle17 ht13
    have ht20 : m_tg M16 u2 = 14 := m_le_tg hle17 ht14
    refine pw_if_ne X 35 dX1_check_23 (by decide) (fun c21 => ?_) (fun c21 => ?_)
    · replace hw := hw.1 c21
      refine pw_iload_n X dX1_check_35 rfl rfl ?_
      refine pw_iconst X 1 dX1_check_36 (by decide) ?_
      refine pw_bipush X 12 dX1_check_37 (by decide) ?_
      refine pw_runi X (m_cSN X (met_X0_inRange G C.2.1 M16 x3 1 12 _ hw) q970 q1311 q969 q78 nh_X0_inRange ⟨Nat.le_of_ble_eq_true rfl, Nat.le_of_ble_eq_true rfl⟩ rfl (Nat.le_of_ble_eq_true rfl) dX1_check_39) (fun r24 M22 hle23 hx => ?_)
      replace hw := hx hle23
      clear hx
      have ht25 : m_tg M22 a0 = 2 := m_le_tg hle23 ht19
      have ht26 : m_tg M22 u2 = 14 := m_le_tg hle23 ht20
      refine pw_if_ne X 55 dX1_check_42 (by decide) (fun c27 => ?_) (fun c27 => ?_)
      · replace hw := hw.1 c27
        refine pw_aload_n X dX1_check_55 rfl rfl ?_
        refine pw_iload_n X dX1_check_56 rfl rfl ?_
        refine pw_runq X (m_cV X (b := a0) (ci := 1) (q := (RX1, TX1, tyX1, 8)) (met_X1_openCall G C.2.1 M22 a0 x1 _ hw) ht25 rfl (lw_V q1374 q1375 q1376 q79 q1377) ⟨rfl, nh_X1_openCall⟩ ⟨Nat.le_of_ble_eq_true rfl, Nat.le_of_ble_eq_true rfl⟩ rfl (Nat.le_of_ble_eq_true rfl) dX1_check_57) (fun r30 M28 hle29 hx => ?_)
        replace hw := hx hle29
        clear hx
        have ht31 : m_tg M28 a0 = 2 := m_le_tg hle29 ht25
        have ht32 : m_tg M28 u2 = 14 := m_le_tg hle29 ht26
        refine pw_ifnull X 73 dX1_check_60 (by decide) (fun he34 => ?_) (fun u33 he34 => ?_)
        · replace hw := hw.1 he34
          subst he34
          refine pw_aload_n X dX1_check_73 rfl rfl ?_
          obtain ⟨u35, he36, hw⟩ := hw
          refine pw_get X (q := (RX1, TX1, tyX1, 8)) (ci := 1) (k := 3) (ref := "PatrolDesk$State") (vR (some u35)) ht31 rfl (by decide) in_X1 q167 (Or.inl rfl) (by rw [he36]; rfl) dX1_check_74 ?_
          obtain ⟨ht37, hw⟩ := hw
          refine pw_runi X (m_cF X (b := u35) (ci := 13) (q := (RJ2, TJ2, tyJ2, 3)) (met_J2_size G C.2.1 M28 u35 _ hw) ht37 rfl (lw_app (lw_F q1026 q994 q996 q82) (lw_meth q998)) (List.mem_of_getElem? (i := 6) rfl) (by decide +kernel : m_nMH ⟨"java/util/List", "size", "()I"⟩ 0) ⟨Nat.le_of_ble_eq_true rfl, Nat.le_of_ble_eq_true rfl⟩ rfl (Nat.le_of_ble_eq_true rfl) dX1_check_77) (fun r40 M38 hle39 hx => ?_)
          replace hw := hx hle39
          clear hx
          have ht41 : m_tg M38 a0 = 2 := m_le_tg hle39 ht31
          have ht42 : m_tg M38 u2 = 14 := m_le_tg hle39 ht32
          have ht43 : m_tg M38 u35 = 14 := m_le_tg hle39 ht37
          refine pw_bipush X 40 dX1_check_82 (by decide) ?_
          refine pw_icmp_ne X 97 dX1_check_84 (by decide) (fun c44 => ?_) (fun c44 => ?_)
          · replace hw := hw.1 c44
            exact pw_lift (pw_vret X hw dX1_check_97)
          · replace hw := hw.2 c44
            obtain ⟨hf45, hw⟩ := hw
            refine pw_new X (ci := 9) (q := (RX9, TX9, tyX9, 7)) hf45 rfl in_X9 tyX9_ok q1313 q1314 q115 dX1_check_87 (fun u46 h047 => ?_)
            obtain ⟨M48, hM49⟩ : ∃ z : Mem, z = (m_al M38 u46 10 0 7) := ⟨_, rfl⟩
            replace hw := hw u46 h047 M48 hM49
            have hle50 : m_le M38 M48 := by rw [hM49]; exact m_le_al h047
            change pW _ _ _ _ _ _ _ (m_al M38 u46 10 0 7) _ _ _
            rw [← hM49]
            have ht51 : m_tg M48 a0 = 2 := m_le_tg hle50 ht41
            have ht52 : m_tg M48 u2 = 14 := m_le_tg hle50 ht42
            have ht53 : m_tg M48 u35 = 14 := m_le_tg hle50 ht43
            have ht54 : m_tg M48 u46 = 10 := by rw [hM49, m_tg_al, if_pos rfl]
            refine pw_dup X dX1_check_90 ?_
            refine pw_bipush X (-3) dX1_check_91 (by decide) ?_
            refine pw_runv X (m_cI X (b := u46) (met_X9_init G C.2.1 hl M48 u46 (-3) _ hw) q1353 q115 q1351 q1352 rfl nh_X9_init ⟨Nat.le_of_ble_eq_true rfl, Nat.le_of_ble_eq_true rfl⟩ rfl (Nat.le_of_ble_eq_true rfl) dX1_check_93) (fun M55 hle56 hx => ?_)
            replace hw := hx hle56
            clear hx
            have ht57 : m_tg M55 a0 = 2 := m_le_tg hle56 ht51
            have ht58 : m_tg M55 u2 = 14 := m_le_tg hle56 ht52
            have ht59 : m_tg M55 u35 = 14 := m_le_tg hle56 ht53
            have ht60 : m_tg M55 u46 = 10 := m_le_tg hle56 ht54
            refine pw_athrow X dX1_check_96 ?_
            exact px_out X hT ht60 rfl hw
        · replace hw := hw.2 u33 he34
          subst he34
          obtain ⟨hf61, hw⟩ := hw
          refine pw_new X (ci := 9) (q := (RX9, TX9, tyX9, 7)) hf61 rfl in_X9 tyX9_ok q1313 q1314 q115 dX1_check_63 (fun u62 h063 => ?_)
          obtain ⟨M64, hM65⟩ : ∃ z : Mem, z = (m_al M28 u62 10 0 7) := ⟨_, rfl⟩
          replace hw := hw u62 h063 M64 hM65
          have hle66 : m_le M28 M64 := by rw [hM65]; exact m_le_al h063
          change pW _ _ _ _ _ _ _ (m_al M28 u62 10 0 7) _ _ _
          rw [← hM65]
          have ht67 : m_tg M64 a0 = 2 := m_le_tg hle66 ht31
          have ht68 : m_tg M64 u2 = 14 := m_le_tg hle66 ht32
          have ht69 : m_tg M64 u62 = 10 := by rw [hM65, m_tg_al, if_pos rfl]
          refine pw_dup X dX1_check_66 ?_
          refine pw_bipush X (-4) dX1_check_67 (by decide) ?_
          refine pw_runv X (m_cI X (b := u62) (met_X9_init G C.2.1 hl M64 u62 (-4) _ hw) q1353 q115 q1351 q1352 rfl nh_X9_init ⟨Nat.le_of_ble_eq_true rfl, Nat.le_of_ble_eq_true rfl⟩ rfl (Nat.le_of_ble_eq_true rfl) dX1_check_69) (fun M70 hle71 hx => ?_)
          replace hw := hx hle71
          clear hx
          have ht72 : m_tg M70 a0 = 2 := m_le_tg hle71 ht67
          have ht73 : m_tg M70 u2 = 14 := m_le_tg hle71 ht68
          have ht74 : m_tg M70 u62 = 10 := m_le_tg hle71 ht69
          refine pw_athrow X dX1_check_72 ?_
          exact px_out X hT ht74 rfl hw
      · replace hw := hw.2 c27
        obtain ⟨hf75, hw⟩ := hw
        refine pw_new X (ci := 9) (q := (RX9, TX9, tyX9, 7)) hf75 rfl in_X9 tyX9_ok q1313 q1314 q115 dX1_check_45 (fun u76 h077 => ?_)
        obtain ⟨M78, hM79⟩ : ∃ z : Mem, z = (m_al M22 u76 10 0 7) := ⟨_, rfl⟩
        replace hw := hw u76 h077 M78 hM79
        have hle80 : m_le M22 M78 := by rw [hM79]; exact m_le_al h077
        change pW _ _ _ _ _ _ _ (m_al M22 u76 10 0 7) _ _ _
        rw [← hM79]
        have ht81 : m_tg M78 a0 = 2 := m_le_tg hle80 ht25
        have ht82 : m_tg M78 u2 = 14 := m_le_tg hle80 ht26
        have ht83 : m_tg M78 u76 = 10 := by rw [hM79, m_tg_al, if_pos rfl]
        refine pw_dup X dX1_check_48 ?_
        refine pw_bipush X (-2) dX1_check_49 (by decide) ?_
        refine pw_runv X (m_cI X (b := u76) (met_X9_init G C.2.1 hl M78 u76 (-2) _ hw) q1353 q115 q1351 q1352 rfl nh_X9_init ⟨Nat.le_of_ble_eq_true rfl, Nat.le_of_ble_eq_true rfl⟩ rfl (Nat.le_of_ble_eq_true rfl) dX1_check_51) (fun M84 hle85 hx => ?_)
        replace hw := hx hle85
        clear hx
        have ht86 : m_tg M84 a0 = 2 := m_le_tg hle85 ht81
        have ht87 : m_tg M84 u2 = 14 := m_le_tg hle85 ht82
        have ht88 : m_tg M84 u76 = 10 := m_le_tg hle85 ht83
        refine pw_athrow X dX1_check_54 ?_
        exact px_out X hT ht88 rfl hw
    · replace hw := hw.2 c21
      refine pw_lo [] rfl ?_
      exact bk_X1_check_26 G C n0 s0 M0 Q QX X hl hT _  hw
theorem met_X1_check (G : Gp) (l : Launch) (hl : l.stackTraces = false) (M : Mem) (a0 : Nat) (x1 : Int32) (x2 : Int32) (x3 : Int32) (Q : Mem → Prop) (QX : Nat → Mem → Prop) (hw : wp_X1_check G.2 M a0 x1 x2 x3 Q QX) : m_KX G l yX1_check cX1_check 4 none 6 86 [vR (some a0), vI x1, vI x2, vI x3] M (va_Qv (m_q0 M Q) (m_W G) (m_A G)) (m_xc G M 9 QX) := by
  refine m_metX (by decide) (Nat.le_of_ble_eq_true rfl) (fun C e X hT => ?_)
  exact bk_X1_check_0 G C _ _ M Q QX X (by rw [e]; exact hl) hT M a0 x1 x2 x3 hw
theorem nh_X1_check : m_nMH yX1_check 3 := by decide +kernel

def wp_X11_init (g : Nat → Nat) (M : Mem) (a0 : Nat) (a1 : Nat) (Q : Mem → Prop) : Prop := m_tg M a0 = 12 ∧ ∀ M2 : Mem, M2 = (m_pr M a0 0 (some a1)) → Q M2
theorem bk_X11_init_0 (G : Gp) (C : m_Cx) (n0 s0 : Nat) (M0 : Mem) (Q : Mem → Prop) (X : m_in G C RX11 cX11_init 2 none "<init>" 1 12 n0 s0) (M : Mem) (a0 : Nat) (a1 : Nat) (hw : wp_X11_init G.2 M a0 a1 Q) : pW G C 2 n0 s0 M0 (m_Q G C n0 s0 (va_Qv (m_q0 M0 Q) (m_W G) (m_A G))) M 0 [(0, vR (some a0)), (1, vR (some a1))] [] := by
  refine pw_aload_n X dX11_init_0 rfl rfl ?_
  refine pw_objInit X rfl q1754 q127 q128 dX11_init_1 (Nat.le_of_ble_eq_true rfl) (Nat.le_of_ble_eq_true rfl) ?_
  refine pw_aload_n X dX11_init_4 rfl rfl ?_
  refine pw_aload_n X dX11_init_5 rfl rfl ?_
  obtain ⟨ht1, hw⟩ := hw
  obtain ⟨M2, hM3⟩ : ∃ z : Mem, z = (m_pr M a0 0 (some a1)) := ⟨_, rfl⟩
  replace hw := hw M2 hM3
  refine pw_putF X (q := (RX11, TX11, tyX11, 2)) (ci := 11) (k := 0) (ref := "PatrolDesk$Reader") M2 hM3.symm ht1 rfl (by decide) in_X11 tyX11_ok nmX11 q1755 (Or.inl rfl) rfl rfl rfl (m_kd_r (fun _ _ => rfl)) m_no m_fo dX11_init_6 ?_
  have hle4 : m_le M M2 := by rw [hM3]; exact m_le_pr
  have ht5 : m_tg M2 a0 = 12 := m_le_tg hle4 ht1
  exact pw_vret X hw dX11_init_9
theorem met_X11_init (G : Gp) (l : Launch) (M : Mem) (a0 : Nat) (a1 : Nat) (Q : Mem → Prop) (hw : wp_X11_init G.2 M a0 a1 Q) : m_K G l yX11_init cX11_init 2 none 1 12 [vR (some a0), vR (some a1)] M (va_Qv (m_q0 M Q) (m_W G) (m_A G)) := by
  refine m_met (by decide) (Nat.le_of_ble_eq_true rfl) (fun C e X => ?_)
  exact bk_X11_init_0 G C _ _ M Q X M a0 a1 hw
theorem nh_X11_init : m_nMH yX11_init 1 := by decide +kernel

def wp_X11_isAtEnd (g : Nat → Nat) (M : Mem) (a0 : Nat) (Q : Int32 → Mem → Prop) : Prop := m_tg M a0 = 12 ∧ ∃ u2 : Nat, (m_gr M a0 0) = some u2 ∧ m_tg M u2 = 15 ∧ wp_J4_length g M u2 (fun (r7 : Int32) (M5 : Mem) => m_le M M5 → ((¬ (m_gi M a0 1) = r7 → Q 0 M5) ∧ ((m_gi M a0 1) = r7 → Q 1 M5)))
theorem bk_X11_isAtEnd_0 (G : Gp) (C : m_Cx) (n0 s0 : Nat) (M0 : Mem) (Q : Int32 → Mem → Prop) (X : m_in G C RX11 cX11_isAtEnd 1 (some .boolean) "isAtEnd" 2 40 n0 s0) (M : Mem) (a0 : Nat) (hw : wp_X11_isAtEnd G.2 M a0 Q) : pW G C 1 n0 s0 M0 (m_Q G C n0 s0 (va_Qi (m_q1 M0 Q) (m_W G) (m_A G))) M 0 [(0, vR (some a0))] [] := by
  refine pw_aload_n X dX11_isAtEnd_0 rfl rfl ?_
  obtain ⟨ht1, hw⟩ := hw
  refine pw_get X (q := (RX11, TX11, tyX11, 2)) (ci := 11) (k := 1) (ref := "PatrolDesk$Reader") (vI (m_gi M a0 1)) ht1 rfl (by decide) in_X11 q1756 (Or.inl rfl) rfl dX11_isAtEnd_1 ?_
  refine pw_aload_n X dX11_isAtEnd_4 rfl rfl ?_
  obtain ⟨u2, he3, hw⟩ := hw
  refine pw_get X (q := (RX11, TX11, tyX11, 2)) (ci := 11) (k := 0) (ref := "PatrolDesk$Reader") (vR (some u2)) ht1 rfl (by decide) in_X11 q1755 (Or.inl rfl) (by rw [he3]; rfl) dX11_isAtEnd_5 ?_
  obtain ⟨ht4, hw⟩ := hw
  refine pw_runi X (m_cF X (b := u2) (ci := 14) (q := (RJ4, TJ4, tyJ4, 4)) (met_J4_length G C.2.1 M u2 _ hw) ht4 rfl (lw_app (lw_F q1781 q1785 q1652 q84) (lw_meth q1654)) (List.mem_of_getElem? (i := 12) rfl) (by decide +kernel : m_nMH ⟨"java/lang/CharSequence", "length", "()I"⟩ 0) ⟨Nat.le_of_ble_eq_true rfl, Nat.le_of_ble_eq_true rfl⟩ rfl (Nat.le_of_ble_eq_true rfl) dX11_isAtEnd_8) (fun r7 M5 hle6 hx => ?_)
  replace hw := hx hle6
  clear hx
  have ht8 : m_tg M5 a0 = 12 := m_le_tg hle6 ht1
  have ht9 : m_tg M5 u2 = 15 := m_le_tg hle6 ht4
  refine pw_icmp_ne X 20 dX11_isAtEnd_13 (by decide) (fun c10 => ?_) (fun c10 => ?_)
  · replace hw := hw.1 c10
    refine pw_iconst X 0 dX11_isAtEnd_20 (by decide) ?_
    exact pw_zret X (by decide) hw dX11_isAtEnd_21
  · replace hw := hw.2 c10
    refine pw_iconst X 1 dX11_isAtEnd_16 (by decide) ?_
    refine pw_goto X 21 dX11_isAtEnd_17 (by decide) ?_
    exact pw_zret X (by decide) hw dX11_isAtEnd_21
theorem met_X11_isAtEnd (G : Gp) (l : Launch) (M : Mem) (a0 : Nat) (Q : Int32 → Mem → Prop) (hw : wp_X11_isAtEnd G.2 M a0 Q) : m_K G l yX11_isAtEnd cX11_isAtEnd 1 (some .boolean) 2 40 [vR (some a0)] M (va_Qi (m_q1 M Q) (m_W G) (m_A G)) := by
  refine m_met (by decide) (Nat.le_of_ble_eq_true rfl) (fun C e X => ?_)
  exact bk_X11_isAtEnd_0 G C _ _ M Q X M a0 hw
theorem nh_X11_isAtEnd : m_nMH yX11_isAtEnd 0 := by decide +kernel

def wp_X11_isDigit (g : Nat → Nat) (M : Mem) (a0 : Nat) (Q : Int32 → Mem → Prop) : Prop := m_tg M a0 = 12 ∧ wp_X11_isAtEnd g M a0 (fun (r4 : Int32) (M2 : Mem) => m_le M M2 → ((¬ r4 = 0 → Q 0 M2) ∧ (r4 = 0 → ∃ u7 : Nat, (m_gr M2 a0 0) = some u7 ∧ m_tg M2 u7 = 15 ∧ wp_J4_charAt g M2 u7 (m_gi M2 a0 1) (fun (r12 : Int32) (M10 : Mem) => m_le M2 M10 → ((r12 < 48 → Q 0 M10) ∧ (¬ r12 < 48 → ∃ u16 : Nat, (m_gr M10 a0 0) = some u16 ∧ m_tg M10 u16 = 15 ∧ wp_J4_charAt g M10 u16 (m_gi M10 a0 1) (fun (r21 : Int32) (M19 : Mem) => m_le M10 M19 → ((57 < r21 → Q 0 M19) ∧ (¬ 57 < r21 → Q 1 M19)))))))))
theorem bk_X11_isDigit_0 (G : Gp) (C : m_Cx) (n0 s0 : Nat) (M0 : Mem) (Q : Int32 → Mem → Prop) (X : m_in G C RX11 cX11_isDigit 1 (some .boolean) "isDigit" 4 88 n0 s0) (M : Mem) (a0 : Nat) (hw : wp_X11_isDigit G.2 M a0 Q) : pW G C 1 n0 s0 M0 (m_Q G C n0 s0 (va_Qi (m_q1 M0 Q) (m_W G) (m_A G))) M 0 [(0, vR (some a0))] [] := by
  refine pw_aload_n X dX11_isDigit_0 rfl rfl ?_
  obtain ⟨ht1, hw⟩ := hw
  refine pw_runi X (m_cV X (b := a0) (ci := 11) (q := (RX11, TX11, tyX11, 2)) (met_X11_isAtEnd G C.2.1 M a0 _ hw) ht1 rfl (lw_V q1776 q1778 qs30 q119 q1779) ⟨rfl, nh_X11_isAtEnd⟩ ⟨Nat.le_of_ble_eq_true rfl, Nat.le_of_ble_eq_true rfl⟩ rfl (Nat.le_of_ble_eq_true rfl) dX11_isDigit_1) (fun r4 M2 hle3 hx => ?_)
  replace hw := hx hle3
  clear hx
  have ht5 : m_tg M2 a0 = 12 := m_le_tg hle3 ht1
  refine pw_if_ne X 47 dX11_isDigit_4 (by decide) (fun c6 => ?_) (fun c6 => ?_)
  · replace hw := hw.1 c6
    refine pw_iconst X 0 dX11_isDigit_47 (by decide) ?_
    exact pw_zret X (by decide) hw dX11_isDigit_48
  · replace hw := hw.2 c6
    refine pw_aload_n X dX11_isDigit_7 rfl rfl ?_
    obtain ⟨u7, he8, hw⟩ := hw
    refine pw_get X (q := (RX11, TX11, tyX11, 2)) (ci := 11) (k := 0) (ref := "PatrolDesk$Reader") (vR (some u7)) ht5 rfl (by decide) in_X11 q1755 (Or.inl rfl) (by rw [he8]; rfl) dX11_isDigit_8 ?_
    refine pw_aload_n X dX11_isDigit_11 rfl rfl ?_
    refine pw_get X (q := (RX11, TX11, tyX11, 2)) (ci := 11) (k := 1) (ref := "PatrolDesk$Reader") (vI (m_gi M2 a0 1)) ht5 rfl (by decide) in_X11 q1756 (Or.inl rfl) rfl dX11_isDigit_12 ?_
    obtain ⟨ht9, hw⟩ := hw
    refine pw_runi X (m_cF X (b := u7) (ci := 14) (q := (RJ4, TJ4, tyJ4, 4)) (met_J4_charAt G C.2.1 M2 u7 (m_gi M2 a0 1) _ hw) ht9 rfl (lw_app (lw_F q1789 q1792 q1794 q84) (lw_meth q1796)) (List.mem_of_getElem? (i := 11) rfl) (by decide +kernel : m_nMH ⟨"java/lang/CharSequence", "charAt", "(I)C"⟩ 1) ⟨Nat.le_of_ble_eq_true rfl, Nat.le_of_ble_eq_true rfl⟩ rfl (Nat.le_of_ble_eq_true rfl) dX11_isDigit_15) (fun r12 M10 hle11 hx => ?_)
    replace hw := hx hle11
    clear hx
    have ht13 : m_tg M10 a0 = 12 := m_le_tg hle11 ht5
    have ht14 : m_tg M10 u7 = 15 := m_le_tg hle11 ht9
    refine pw_bipush X 48 dX11_isDigit_20 (by decide) ?_
    refine pw_icmp_lt X 47 dX11_isDigit_22 (by decide) (fun c15 => ?_) (fun c15 => ?_)
    · replace hw := hw.1 c15
      refine pw_iconst X 0 dX11_isDigit_47 (by decide) ?_
      exact pw_zret X (by decide) hw dX11_isDigit_48
    · replace hw := hw.2 c15
      refine pw_aload_n X dX11_isDigit_25 rfl rfl ?_
      obtain ⟨u16, he17, hw⟩ := hw
      refine pw_get X (q := (RX11, TX11, tyX11, 2)) (ci := 11) (k := 0) (ref := "PatrolDesk$Reader") (vR (some u16)) ht13 rfl (by decide) in_X11 q1755 (Or.inl rfl) (by rw [he17]; rfl) dX11_isDigit_26 ?_
      refine pw_aload_n X dX11_isDigit_29 rfl rfl ?_
      refine pw_get X (q := (RX11, TX11, tyX11, 2)) (ci := 11) (k := 1) (ref := "PatrolDesk$Reader") (vI (m_gi M10 a0 1)) ht13 rfl (by decide) in_X11 q1756 (Or.inl rfl) rfl dX11_isDigit_30 ?_
      obtain ⟨ht18, hw⟩ := hw
      refine pw_runi X (m_cF X (b := u16) (ci := 14) (q := (RJ4, TJ4, tyJ4, 4)) (met_J4_charAt G C.2.1 M10 u16 (m_gi M10 a0 1) _ hw) ht18 rfl (lw_app (lw_F q1789 q1792 q1794 q84) (lw_meth q1796)) (List.mem_of_getElem? (i := 11) rfl) (by decide +kernel : m_nMH ⟨"java/lang/CharSequence", "charAt", "(I)C"⟩ 1) ⟨Nat.le_of_ble_eq_true rfl, Nat.le_of_ble_eq_true rfl⟩ rfl (Nat.le_of_ble_eq_true rfl) dX11_isDigit_33) (fun r21 M19 hle20 hx => ?_)
      replace hw := hx hle20
      clear hx
      have ht22 : m_tg M19 a0 = 12 := m_le_tg hle20 ht13
      have ht23 : m_tg M19 u7 = 15 := m_le_tg hle20 ht14
      have ht24 : m_tg M19 u16 = 15 := m_le_tg hle20 ht18
      refine pw_bipush X 57 dX11_isDigit_38 (by decide) ?_
      refine pw_icmp_gt X 47 dX11_isDigit_40 (by decide) (fun c25 => ?_) (fun c25 => ?_)
      · replace hw := hw.1 c25
        refine pw_iconst X 0 dX11_isDigit_47 (by decide) ?_
        exact pw_zret X (by decide) hw dX11_isDigit_48
      · replace hw := hw.2 c25
        refine pw_iconst X 1 dX11_isDigit_43 (by decide) ?_
        refine pw_goto X 48 dX11_isDigit_44 (by decide) ?_
        exact pw_zret X (by decide) hw dX11_isDigit_48
theorem met_X11_isDigit (G : Gp) (l : Launch) (M : Mem) (a0 : Nat) (Q : Int32 → Mem → Prop) (hw : wp_X11_isDigit G.2 M a0 Q) : m_K G l yX11_isDigit cX11_isDigit 1 (some .boolean) 4 88 [vR (some a0)] M (va_Qi (m_q1 M Q) (m_W G) (m_A G)) := by
  refine m_met (by decide) (Nat.le_of_ble_eq_true rfl) (fun C e X => ?_)
  exact bk_X11_isDigit_0 G C _ _ M Q X M a0 hw
theorem nh_X11_isDigit : m_nMH yX11_isDigit 0 := by decide +kernel

def wp_X11_want_b24 (g : Nat → Nat) (M : Mem) (la0 : Nat) (Q : Mem → Prop) (QX : Nat → Mem → Prop) : Prop := m_fits M 7 ∧ ∀ u2 : Nat, m_tg M u2 = 0 → ∀ M4 : Mem, M4 = (m_al M u2 13 0 7) → m_tg M4 la0 = 12 ∧ wp_X12_init g M4 u2 (m_gi M4 la0 1) (fun (M9 : Mem) => m_le M4 M9 → QX u2 M9)
def wp_X11_want (g : Nat → Nat) (M : Mem) (a0 : Nat) (x1 : Int32) (Q : Mem → Prop) (QX : Nat → Mem → Prop) : Prop := m_tg M a0 = 12 ∧ wp_X11_isAtEnd g M a0 (fun (r4 : Int32) (M2 : Mem) => m_le M M2 → ((¬ r4 = 0 → wp_X11_want_b24 g M2 a0 Q QX) ∧ (r4 = 0 → ∃ u7 : Nat, (m_gr M2 a0 0) = some u7 ∧ m_tg M2 u7 = 15 ∧ wp_J4_charAt g M2 u7 (m_gi M2 a0 1) (fun (r12 : Int32) (M10 : Mem) => m_le M2 M10 → ((r12 = x1 → ∀ M16 : Mem, M16 = (m_pi M10 a0 1 ((m_gi M10 a0 1) + 1)) → Q M16) ∧ (¬ r12 = x1 → wp_X11_want_b24 g M10 a0 Q QX))))))
theorem bk_X11_want_24 (G : Gp) (C : m_Cx) (n0 s0 : Nat) (M0 : Mem) (Q : Mem → Prop) (QX : Nat → Mem → Prop) (X : m_in G C RX11 cX11_want 2 none "want" 6 88 n0 s0) (hl : C.2.1.stackTraces = false) (hT : ∀ x ∈ (m_co C).exceptionTable.toList, False) (M : Mem) (la0 : Nat) (hw : wp_X11_want_b24 G.2 M la0 Q QX) : pW G C 2 n0 s0 M0 (m_QX G C n0 s0 (va_Qv (m_q0 M0 Q) (m_W G) (m_A G)) (m_xc G M0 12 QX)) M 24 [(0, vR (some la0))] [] := by
  obtain ⟨hf1, hw⟩ := hw
  refine pw_new X (ci := 12) (q := (RX12, TX12, tyX12, 7)) hf1 rfl in_X12 tyX12_ok q1803 q1804 q120 dX11_want_24 (fun u2 h03 => ?_)
  obtain ⟨M4, hM5⟩ : ∃ z : Mem, z = (m_al M u2 13 0 7) := ⟨_, rfl⟩
  replace hw := hw u2 h03 M4 hM5
  have hle6 : m_le M M4 := by rw [hM5]; exact m_le_al h03
  change pW _ _ _ _ _ _ _ (m_al M u2 13 0 7) _ _ _
  rw [← hM5]
  have ht7 : m_tg M4 u2 = 13 := by rw [hM5, m_tg_al, if_pos rfl]
  refine pw_dup X dX11_want_27 ?_
  refine pw_aload_n X dX11_want_28 rfl rfl ?_
  obtain ⟨ht8, hw⟩ := hw
  refine pw_get X (q := (RX11, TX11, tyX11, 2)) (ci := 11) (k := 1) (ref := "PatrolDesk$Reader") (vI (m_gi M4 la0 1)) ht8 rfl (by decide) in_X11 q1756 (Or.inl rfl) rfl dX11_want_29 ?_
  refine pw_runv X (m_cI X (b := u2) (met_X12_init G C.2.1 hl M4 u2 (m_gi M4 la0 1) _ hw) q1814 q120 q1812 q1813 rfl nh_X12_init ⟨Nat.le_of_ble_eq_true rfl, Nat.le_of_ble_eq_true rfl⟩ rfl (Nat.le_of_ble_eq_true rfl) dX11_want_32) (fun M9 hle10 hx => ?_)
  replace hw := hx hle10
  clear hx
  have ht11 : m_tg M9 u2 = 13 := m_le_tg hle10 ht7
  have ht12 : m_tg M9 la0 = 12 := m_le_tg hle10 ht8
  refine pw_athrow X dX11_want_35 ?_
  exact px_out X hT ht11 rfl hw
theorem bk_X11_want_0 (G : Gp) (C : m_Cx) (n0 s0 : Nat) (M0 : Mem) (Q : Mem → Prop) (QX : Nat → Mem → Prop) (X : m_in G C RX11 cX11_want 2 none "want" 6 88 n0 s0) (hl : C.2.1.stackTraces = false) (hT : ∀ x ∈ (m_co C).exceptionTable.toList, False) (M : Mem) (a0 : Nat) (x1 : Int32) (hw : wp_X11_want G.2 M a0 x1 Q QX) : pW G C 2 n0 s0 M0 (m_QX G C n0 s0 (va_Qv (m_q0 M0 Q) (m_W G) (m_A G)) (m_xc G M0 12 QX)) M 0 [(0, vR (some a0)), (1, vI x1)] [] := by
  refine pw_aload_n X dX11_want_0 rfl rfl ?_
  obtain ⟨ht1, hw⟩ := hw
  refine pw_runi X (m_cV X (b := a0) (ci := 11) (q := (RX11, TX11, tyX11, 2)) (met_X11_isAtEnd G C.2.1 M a0 _ hw) ht1 rfl (lw_V q1776 q1778 qs30 q119 q1779) ⟨rfl, nh_X11_isAtEnd⟩ ⟨Nat.le_of_ble_eq_true rfl, Nat.le_of_ble_eq_true rfl⟩ rfl (Nat.le_of_ble_eq_true rfl) dX11_want_1) (fun r4 M2 hle3 hx => ?_)
  replace hw := hx hle3
  clear hx
  have ht5 : m_tg M2 a0 = 12 := m_le_tg hle3 ht1
  refine pw_if_ne X 24 dX11_want_4 (by decide) (fun c6 => ?_) (fun c6 => ?_)
  · replace hw := hw.1 c6
    refine pw_lo [0] rfl ?_
    exact bk_X11_want_24 G C n0 s0 M0 Q QX X hl hT _ a0 hw
  · replace hw := hw.2 c6
    refine pw_aload_n X dX11_want_7 rfl rfl ?_
    obtain ⟨u7, he8, hw⟩ := hw
    refine pw_get X (q := (RX11, TX11, tyX11, 2)) (ci := 11) (k := 0) (ref := "PatrolDesk$Reader") (vR (some u7)) ht5 rfl (by decide) in_X11 q1755 (Or.inl rfl) (by rw [he8]; rfl) dX11_want_8 ?_
    refine pw_aload_n X dX11_want_11 rfl rfl ?_
    refine pw_get X (q := (RX11, TX11, tyX11, 2)) (ci := 11) (k := 1) (ref := "PatrolDesk$Reader") (vI (m_gi M2 a0 1)) ht5 rfl (by decide) in_X11 q1756 (Or.inl rfl) rfl dX11_want_12 ?_
    obtain ⟨ht9, hw⟩ := hw
    refine pw_runi X (m_cF X (b := u7) (ci := 14) (q := (RJ4, TJ4, tyJ4, 4)) (met_J4_charAt G C.2.1 M2 u7 (m_gi M2 a0 1) _ hw) ht9 rfl (lw_app (lw_F q1789 q1792 q1794 q84) (lw_meth q1796)) (List.mem_of_getElem? (i := 11) rfl) (by decide +kernel : m_nMH ⟨"java/lang/CharSequence", "charAt", "(I)C"⟩ 1) ⟨Nat.le_of_ble_eq_true rfl, Nat.le_of_ble_eq_true rfl⟩ rfl (Nat.le_of_ble_eq_true rfl) dX11_want_15) (fun r12 M10 hle11 hx => ?_)
    replace hw := hx hle11
    clear hx
    have ht13 : m_tg M10 a0 = 12 := m_le_tg hle11 ht5
    have ht14 : m_tg M10 u7 = 15 := m_le_tg hle11 ht9
    refine pw_iload_n X dX11_want_20 rfl rfl ?_
    refine pw_icmp_eq X 36 dX11_want_21 (by decide) (fun c15 => ?_) (fun c15 => ?_)
    · replace hw := hw.1 c15
      refine pw_aload_n X dX11_want_36 rfl rfl ?_
      refine pw_dup X dX11_want_37 ?_
      refine pw_get X (q := (RX11, TX11, tyX11, 2)) (ci := 11) (k := 1) (ref := "PatrolDesk$Reader") (vI (m_gi M10 a0 1)) ht13 rfl (by decide) in_X11 q1756 (Or.inl rfl) rfl dX11_want_38 ?_
      refine pw_iconst X 1 dX11_want_41 (by decide) ?_
      refine pw_iadd X dX11_want_42 ?_
      obtain ⟨M16, hM17⟩ : ∃ z : Mem, z = (m_pi M10 a0 1 ((m_gi M10 a0 1) + 1)) := ⟨_, rfl⟩
      replace hw := hw M16 hM17
      refine pw_put X (q := (RX11, TX11, tyX11, 2)) (ci := 11) (k := 1) (ref := "PatrolDesk$Reader") M16 hM17.symm ht13 rfl (by decide) in_X11 tyX11_ok nmX11 q1756 (Or.inl rfl) rfl (m_kd_i (fun _ _ => rfl)) rfl rfl dX11_want_43 ?_
      have hle18 : m_le M10 M16 := by rw [hM17]; exact m_le_pi
      have ht19 : m_tg M16 a0 = 12 := m_le_tg hle18 ht13
      have ht20 : m_tg M16 u7 = 15 := m_le_tg hle18 ht14
      exact pw_lift (pw_vret X hw dX11_want_46)
    · replace hw := hw.2 c15
      refine pw_lo [0] rfl ?_
      exact bk_X11_want_24 G C n0 s0 M0 Q QX X hl hT _ a0 hw
theorem met_X11_want (G : Gp) (l : Launch) (hl : l.stackTraces = false) (M : Mem) (a0 : Nat) (x1 : Int32) (Q : Mem → Prop) (QX : Nat → Mem → Prop) (hw : wp_X11_want G.2 M a0 x1 Q QX) : m_KX G l yX11_want cX11_want 2 none 6 88 [vR (some a0), vI x1] M (va_Qv (m_q0 M Q) (m_W G) (m_A G)) (m_xc G M 12 QX) := by
  refine m_metX (by decide) (Nat.le_of_ble_eq_true rfl) (fun C e X hT => ?_)
  exact bk_X11_want_0 G C _ _ M Q QX X (by rw [e]; exact hl) hT M a0 x1 hw
theorem nh_X11_want : m_nMH yX11_want 1 := by decide +kernel

def wp_X11_number (g : Nat → Nat) (M : Mem) (a0 : Nat) (Q : Int32 → Mem → Prop) (QX : Nat → Mem → Prop) : Prop := m_tg M a0 = 12 ∧ wp_X11_isDigit g M a0 (fun (r4 : Int32) (M2 : Mem) => m_le M M2 → ((¬ r4 = 0 → ∃ u7 : Nat, (m_gr M2 a0 0) = some u7 ∧ ∀ M9 : Mem, M9 = (m_pi M2 a0 1 ((m_gi M2 a0 1) + 1)) → m_tg M9 u7 = 15 ∧ wp_J4_charAt g M9 u7 (m_gi M2 a0 1) (fun (r16 : Int32) (M14 : Mem) => m_le M9 M14 → (((r16 - 48) ≤ 0 → Q (r16 - 48) M14) ∧ (¬ (r16 - 48) ≤ 0 → wp_X11_isDigit g M14 a0 (fun (r22 : Int32) (M20 : Mem) => m_le M14 M20 → ((r22 = 0 → Q (r16 - 48) M20) ∧ (¬ r22 = 0 → ∃ u26 : Nat, (m_gr M20 a0 0) = some u26 ∧ ∀ M28 : Mem, M28 = (m_pi M20 a0 1 ((m_gi M20 a0 1) + 1)) → m_tg M28 u26 = 15 ∧ wp_J4_charAt g M28 u26 (m_gi M20 a0 1) (fun (r36 : Int32) (M34 : Mem) => m_le M28 M34 → Q (((10 * (r16 - 48)) + r36) - 48) M34)))))))) ∧ (r4 = 0 → m_fits M2 7 ∧ ∀ u41 : Nat, m_tg M2 u41 = 0 → ∀ M43 : Mem, M43 = (m_al M2 u41 13 0 7) → wp_X12_init g M43 u41 (m_gi M43 a0 1) (fun (M48 : Mem) => m_le M43 M48 → QX u41 M48))))
theorem bk_X11_number_0 (G : Gp) (C : m_Cx) (n0 s0 : Nat) (M0 : Mem) (Q : Int32 → Mem → Prop) (QX : Nat → Mem → Prop) (X : m_in G C RX11 cX11_number 2 (some .int) "number" 6 108 n0 s0) (hl : C.2.1.stackTraces = false) (hT : ∀ x ∈ (m_co C).exceptionTable.toList, False) (M : Mem) (a0 : Nat) (hw : wp_X11_number G.2 M a0 Q QX) : pW G C 2 n0 s0 M0 (m_QX G C n0 s0 (va_Qi (m_q1 M0 Q) (m_W G) (m_A G)) (m_xc G M0 12 QX)) M 0 [(0, vR (some a0))] [] := by
  refine pw_aload_n X dX11_number_0 rfl rfl ?_
  obtain ⟨ht1, hw⟩ := hw
  refine pw_runi X (m_cV X (b := a0) (ci := 11) (q := (RX11, TX11, tyX11, 2)) (met_X11_isDigit G C.2.1 M a0 _ hw) ht1 rfl (lw_V q1826 q1828 qs32 q119 q1829) ⟨rfl, nh_X11_isDigit⟩ ⟨Nat.le_of_ble_eq_true rfl, Nat.le_of_ble_eq_true rfl⟩ rfl (Nat.le_of_ble_eq_true rfl) dX11_number_1) (fun r4 M2 hle3 hx => ?_)
  replace hw := hx hle3
  clear hx
  have ht5 : m_tg M2 a0 = 12 := m_le_tg hle3 ht1
  refine pw_if_ne X 19 dX11_number_4 (by decide) (fun c6 => ?_) (fun c6 => ?_)
  · replace hw := hw.1 c6
    refine pw_aload_n X dX11_number_19 rfl rfl ?_
    obtain ⟨u7, he8, hw⟩ := hw
    refine pw_get X (q := (RX11, TX11, tyX11, 2)) (ci := 11) (k := 0) (ref := "PatrolDesk$Reader") (vR (some u7)) ht5 rfl (by decide) in_X11 q1755 (Or.inl rfl) (by rw [he8]; rfl) dX11_number_20 ?_
    refine pw_aload_n X dX11_number_23 rfl rfl ?_
    refine pw_dup X dX11_number_24 ?_
    refine pw_get X (q := (RX11, TX11, tyX11, 2)) (ci := 11) (k := 1) (ref := "PatrolDesk$Reader") (vI (m_gi M2 a0 1)) ht5 rfl (by decide) in_X11 q1756 (Or.inl rfl) rfl dX11_number_25 ?_
    refine pw_dup_x1 X dX11_number_28 ?_
    refine pw_iconst X 1 dX11_number_29 (by decide) ?_
    refine pw_iadd X dX11_number_30 ?_
    obtain ⟨M9, hM10⟩ : ∃ z : Mem, z = (m_pi M2 a0 1 ((m_gi M2 a0 1) + 1)) := ⟨_, rfl⟩
    replace hw := hw M9 hM10
    refine pw_put X (q := (RX11, TX11, tyX11, 2)) (ci := 11) (k := 1) (ref := "PatrolDesk$Reader") M9 hM10.symm ht5 rfl (by decide) in_X11 tyX11_ok nmX11 q1756 (Or.inl rfl) rfl (m_kd_i (fun _ _ => rfl)) rfl rfl dX11_number_31 ?_
    have hle11 : m_le M2 M9 := by rw [hM10]; exact m_le_pi
    have ht12 : m_tg M9 a0 = 12 := m_le_tg hle11 ht5
    obtain ⟨ht13, hw⟩ := hw
    refine pw_runi X (m_cF X (b := u7) (ci := 14) (q := (RJ4, TJ4, tyJ4, 4)) (met_J4_charAt G C.2.1 M9 u7 (m_gi M2 a0 1) _ hw) ht13 rfl (lw_app (lw_F q1789 q1792 q1794 q84) (lw_meth q1796)) (List.mem_of_getElem? (i := 11) rfl) (by decide +kernel : m_nMH ⟨"java/lang/CharSequence", "charAt", "(I)C"⟩ 1) ⟨Nat.le_of_ble_eq_true rfl, Nat.le_of_ble_eq_true rfl⟩ rfl (Nat.le_of_ble_eq_true rfl) dX11_number_34) (fun r16 M14 hle15 hx => ?_)
    replace hw := hx hle15
    clear hx
    have ht17 : m_tg M14 a0 = 12 := m_le_tg hle15 ht12
    have ht18 : m_tg M14 u7 = 15 := m_le_tg hle15 ht13
    refine pw_bipush X 48 dX11_number_39 (by decide) ?_
    refine pw_isub X dX11_number_41 ?_
    refine pw_istore_n X [(0, vR (some a0)), (1, vI (r16 - 48))] [1, 0] dX11_number_42 rfl (by decide) rfl ?_
    refine pw_iload_n X dX11_number_43 rfl rfl ?_
    refine pw_if_le X 85 dX11_number_44 (by decide) (fun c19 => ?_) (fun c19 => ?_)
    · replace hw := hw.1 c19
      refine pw_iload_n X dX11_number_85 rfl rfl ?_
      exact pw_lift (pw_iret X hw dX11_number_86)
    · replace hw := hw.2 c19
      refine pw_aload_n X dX11_number_47 rfl rfl ?_
      refine pw_runi X (m_cV X (b := a0) (ci := 11) (q := (RX11, TX11, tyX11, 2)) (met_X11_isDigit G C.2.1 M14 a0 _ hw) ht17 rfl (lw_V q1826 q1828 qs32 q119 q1829) ⟨rfl, nh_X11_isDigit⟩ ⟨Nat.le_of_ble_eq_true rfl, Nat.le_of_ble_eq_true rfl⟩ rfl (Nat.le_of_ble_eq_true rfl) dX11_number_48) (fun r22 M20 hle21 hx => ?_)
      replace hw := hx hle21
      clear hx
      have ht23 : m_tg M20 a0 = 12 := m_le_tg hle21 ht17
      have ht24 : m_tg M20 u7 = 15 := m_le_tg hle21 ht18
      refine pw_if_eq X 85 dX11_number_51 (by decide) (fun c25 => ?_) (fun c25 => ?_)
      · replace hw := hw.1 c25
        refine pw_iload_n X dX11_number_85 rfl rfl ?_
        exact pw_lift (pw_iret X hw dX11_number_86)
      · replace hw := hw.2 c25
        refine pw_bipush X 10 dX11_number_54 (by decide) ?_
        refine pw_iload_n X dX11_number_56 rfl rfl ?_
        refine pw_imul X dX11_number_57 ?_
        refine pw_aload_n X dX11_number_58 rfl rfl ?_
        obtain ⟨u26, he27, hw⟩ := hw
        refine pw_get X (q := (RX11, TX11, tyX11, 2)) (ci := 11) (k := 0) (ref := "PatrolDesk$Reader") (vR (some u26)) ht23 rfl (by decide) in_X11 q1755 (Or.inl rfl) (by rw [he27]; rfl) dX11_number_59 ?_
        refine pw_aload_n X dX11_number_62 rfl rfl ?_
        refine pw_dup X dX11_number_63 ?_
        refine pw_get X (q := (RX11, TX11, tyX11, 2)) (ci := 11) (k := 1) (ref := "PatrolDesk$Reader") (vI (m_gi M20 a0 1)) ht23 rfl (by decide) in_X11 q1756 (Or.inl rfl) rfl dX11_number_64 ?_
        refine pw_dup_x1 X dX11_number_67 ?_
        refine pw_iconst X 1 dX11_number_68 (by decide) ?_
        refine pw_iadd X dX11_number_69 ?_
        obtain ⟨M28, hM29⟩ : ∃ z : Mem, z = (m_pi M20 a0 1 ((m_gi M20 a0 1) + 1)) := ⟨_, rfl⟩
        replace hw := hw M28 hM29
        refine pw_put X (q := (RX11, TX11, tyX11, 2)) (ci := 11) (k := 1) (ref := "PatrolDesk$Reader") M28 hM29.symm ht23 rfl (by decide) in_X11 tyX11_ok nmX11 q1756 (Or.inl rfl) rfl (m_kd_i (fun _ _ => rfl)) rfl rfl dX11_number_70 ?_
        have hle30 : m_le M20 M28 := by rw [hM29]; exact m_le_pi
        have ht31 : m_tg M28 a0 = 12 := m_le_tg hle30 ht23
        have ht32 : m_tg M28 u7 = 15 := m_le_tg hle30 ht24
        obtain ⟨ht33, hw⟩ := hw
        refine pw_runi X (m_cF X (b := u26) (ci := 14) (q := (RJ4, TJ4, tyJ4, 4)) (met_J4_charAt G C.2.1 M28 u26 (m_gi M20 a0 1) _ hw) ht33 rfl (lw_app (lw_F q1789 q1792 q1794 q84) (lw_meth q1796)) (List.mem_of_getElem? (i := 11) rfl) (by decide +kernel : m_nMH ⟨"java/lang/CharSequence", "charAt", "(I)C"⟩ 1) ⟨Nat.le_of_ble_eq_true rfl, Nat.le_of_ble_eq_true rfl⟩ rfl (Nat.le_of_ble_eq_true rfl) dX11_number_73) (fun r36 M34 hle35 hx => ?_)
        replace hw := hx hle35
        clear hx
        have ht37 : m_tg M34 a0 = 12 := m_le_tg hle35 ht31
        have ht38 : m_tg M34 u7 = 15 := m_le_tg hle35 ht32
        have ht39 : m_tg M34 u26 = 15 := m_le_tg hle35 ht33
        refine pw_iadd X dX11_number_78 ?_
        refine pw_bipush X 48 dX11_number_79 (by decide) ?_
        refine pw_isub X dX11_number_81 ?_
        refine pw_goto X 86 dX11_number_82 (by decide) ?_
        exact pw_lift (pw_iret X hw dX11_number_86)
  · replace hw := hw.2 c6
    obtain ⟨hf40, hw⟩ := hw
    refine pw_new X (ci := 12) (q := (RX12, TX12, tyX12, 7)) hf40 rfl in_X12 tyX12_ok q1803 q1804 q120 dX11_number_7 (fun u41 h042 => ?_)
    obtain ⟨M43, hM44⟩ : ∃ z : Mem, z = (m_al M2 u41 13 0 7) := ⟨_, rfl⟩
    replace hw := hw u41 h042 M43 hM44
    have hle45 : m_le M2 M43 := by rw [hM44]; exact m_le_al h042
    change pW _ _ _ _ _ _ _ (m_al M2 u41 13 0 7) _ _ _
    rw [← hM44]
    have ht46 : m_tg M43 a0 = 12 := m_le_tg hle45 ht5
    have ht47 : m_tg M43 u41 = 13 := by rw [hM44, m_tg_al, if_pos rfl]
    refine pw_dup X dX11_number_10 ?_
    refine pw_aload_n X dX11_number_11 rfl rfl ?_
    refine pw_get X (q := (RX11, TX11, tyX11, 2)) (ci := 11) (k := 1) (ref := "PatrolDesk$Reader") (vI (m_gi M43 a0 1)) ht46 rfl (by decide) in_X11 q1756 (Or.inl rfl) rfl dX11_number_12 ?_
    refine pw_runv X (m_cI X (b := u41) (met_X12_init G C.2.1 hl M43 u41 (m_gi M43 a0 1) _ hw) q1814 q120 q1812 q1813 rfl nh_X12_init ⟨Nat.le_of_ble_eq_true rfl, Nat.le_of_ble_eq_true rfl⟩ rfl (Nat.le_of_ble_eq_true rfl) dX11_number_15) (fun M48 hle49 hx => ?_)
    replace hw := hx hle49
    clear hx
    have ht50 : m_tg M48 a0 = 12 := m_le_tg hle49 ht46
    have ht51 : m_tg M48 u41 = 13 := m_le_tg hle49 ht47
    refine pw_athrow X dX11_number_18 ?_
    exact px_out X hT ht51 rfl hw
theorem met_X11_number (G : Gp) (l : Launch) (hl : l.stackTraces = false) (M : Mem) (a0 : Nat) (Q : Int32 → Mem → Prop) (QX : Nat → Mem → Prop) (hw : wp_X11_number G.2 M a0 Q QX) : m_KX G l yX11_number cX11_number 2 (some .int) 6 108 [vR (some a0)] M (va_Qi (m_q1 M Q) (m_W G) (m_A G)) (m_xc G M 12 QX) := by
  refine m_metX (by decide) (Nat.le_of_ble_eq_true rfl) (fun C e X hT => ?_)
  exact bk_X11_number_0 G C _ _ M Q QX X (by rw [e]; exact hl) hT M a0 hw
theorem nh_X11_number : m_nMH yX11_number 0 := by decide +kernel

def wp_X11_readCall (g : Nat → Nat) (M : Mem) (a0 : Nat) (a1 : Nat) (Q : Mem → Prop) (QX : Nat → Mem → Prop) : Prop := m_tg M a0 = 12 ∧ wp_X11_want g M a0 109 (fun (M6 : Mem) => m_le M M6 → wp_X11_number g M6 a0 (fun (r16 : Int32) (M14 : Mem) => m_le M6 M14 → wp_J12_valueOf g M14 r16 (fun (r20 : Option Nat) (M18 : Mem) => m_le M14 M18 → m_tg M18 a1 = 14 ∧ wp_J2_add g M18 a1 r20 (fun (r25 : Int32) (M23 : Mem) => m_le M18 M23 → wp_X11_want g M23 a0 64 (fun (M32 : Mem) => m_le M23 M32 → wp_X11_number g M32 a0 (fun (r43 : Int32) (M41 : Mem) => m_le M32 M41 → wp_J12_valueOf g M41 r43 (fun (r48 : Option Nat) (M46 : Mem) => m_le M41 M46 → wp_J2_add g M46 a1 r48 (fun (r53 : Int32) (M51 : Mem) => m_le M46 M51 → wp_X11_want g M51 a0 33 (fun (M60 : Mem) => m_le M51 M60 → wp_X11_number g M60 a0 (fun (r71 : Int32) (M69 : Mem) => m_le M60 M69 → wp_J12_valueOf g M69 r71 (fun (r76 : Option Nat) (M74 : Mem) => m_le M69 M74 → wp_J2_add g M74 a1 r76 (fun (r81 : Int32) (M79 : Mem) => m_le M74 M79 → Q M79))) (fun (u65 : Nat) (M66 : Mem) => m_le M60 M66 → m_tg M66 u65 = 13 → QX u65 M66)) (fun (u56 : Nat) (M57 : Mem) => m_le M51 M57 → m_tg M57 u56 = 13 → QX u56 M57)))) (fun (u37 : Nat) (M38 : Mem) => m_le M32 M38 → m_tg M38 u37 = 13 → QX u37 M38)) (fun (u28 : Nat) (M29 : Mem) => m_le M23 M29 → m_tg M29 u28 = 13 → QX u28 M29)))) (fun (u10 : Nat) (M11 : Mem) => m_le M6 M11 → m_tg M11 u10 = 13 → QX u10 M11)) (fun (u2 : Nat) (M3 : Mem) => m_le M M3 → m_tg M3 u2 = 13 → QX u2 M3)
theorem bk_X11_readCall_0 (G : Gp) (C : m_Cx) (n0 s0 : Nat) (M0 : Mem) (Q : Mem → Prop) (QX : Nat → Mem → Prop) (X : m_in G C RX11 cX11_readCall 2 none "readCall" 7 161 n0 s0) (hl : C.2.1.stackTraces = false) (hT : ∀ x ∈ (m_co C).exceptionTable.toList, False) (M : Mem) (a0 : Nat) (a1 : Nat) (hw : wp_X11_readCall G.2 M a0 a1 Q QX) : pW G C 2 n0 s0 M0 (m_QX G C n0 s0 (va_Qv (m_q0 M0 Q) (m_W G) (m_A G)) (m_xc G M0 12 QX)) M 0 [(0, vR (some a0)), (1, vR (some a1))] [] := by
  refine pw_aload_n X dX11_readCall_0 rfl rfl ?_
  refine pw_bipush X 109 dX11_readCall_1 (by decide) ?_
  obtain ⟨ht1, hw⟩ := hw
  refine pw_runXv X (m_cVX X (b := a0) (ci := 11) (q := (RX11, TX11, tyX11, 2)) (met_X11_want G C.2.1 hl M a0 109 _ _ hw) ht1 rfl (lw_V q1772 q1774 qs29 q119 q1775) ⟨rfl, nh_X11_want⟩ ⟨Nat.le_of_ble_eq_true rfl, Nat.le_of_ble_eq_true rfl⟩ rfl (Nat.le_of_ble_eq_true rfl) dX11_readCall_3) (fun u2 M3 hle4 ht5 hx => ?_) (fun M6 hle7 hx => ?_)
  · replace hw := hx hle4 ht5
    clear hx
    exact px_out X hT ht5 rfl hw
  · replace hw := hx hle7
    clear hx
    have ht9 : m_tg M6 a0 = 12 := m_le_tg hle7 ht1
    refine pw_aload_n X dX11_readCall_6 rfl rfl ?_
    refine pw_aload_n X dX11_readCall_7 rfl rfl ?_
    refine pw_runXi X (m_cVX X (b := a0) (ci := 11) (q := (RX11, TX11, tyX11, 2)) (met_X11_number G C.2.1 hl M6 a0 _ _ hw) ht9 rfl (lw_V q1822 q1824 qs31 q119 q1825) ⟨rfl, nh_X11_number⟩ ⟨Nat.le_of_ble_eq_true rfl, Nat.le_of_ble_eq_true rfl⟩ rfl (Nat.le_of_ble_eq_true rfl) dX11_readCall_8) (fun u10 M11 hle12 ht13 hx => ?_) (fun r16 M14 hle15 hx => ?_)
    · replace hw := hx hle12 ht13
      clear hx
      exact px_out X hT ht13 rfl hw
    · replace hw := hx hle15
      clear hx
      have ht17 : m_tg M14 a0 = 12 := m_le_tg hle15 ht9
      refine pw_runq X (m_cS X (met_J12_valueOf G C.2.1 M14 r16 _ hw) (lw_S q1830 q860 q94 q861) nh_J12_valueOf ⟨Nat.le_of_ble_eq_true rfl, Nat.le_of_ble_eq_true rfl⟩ rfl (Nat.le_of_ble_eq_true rfl) dX11_readCall_11) (fun r20 M18 hle19 hx => ?_)
      replace hw := hx hle19
      clear hx
      have ht21 : m_tg M18 a0 = 12 := m_le_tg hle19 ht17
      obtain ⟨ht22, hw⟩ := hw
      refine pw_runi X (m_cF X (b := a1) (ci := 13) (q := (RJ2, TJ2, tyJ2, 3)) (met_J2_add G C.2.1 M18 a1 r20 _ hw) ht22 rfl (lw_app (lw_F q1832 q888 q890 q82) (lw_meth q892)) (List.mem_of_getElem? (i := 1) rfl) (by decide +kernel : m_nMH ⟨"java/util/List", "add", "(Ljava/lang/Object;)Z"⟩ 1) ⟨Nat.le_of_ble_eq_true rfl, Nat.le_of_ble_eq_true rfl⟩ rfl (Nat.le_of_ble_eq_true rfl) dX11_readCall_14) (fun r25 M23 hle24 hx => ?_)
      replace hw := hx hle24
      clear hx
      have ht26 : m_tg M23 a0 = 12 := m_le_tg hle24 ht21
      have ht27 : m_tg M23 a1 = 14 := m_le_tg hle24 ht22
      refine pw_pop X dX11_readCall_19 ?_
      refine pw_aload_n X dX11_readCall_20 rfl rfl ?_
      refine pw_bipush X 64 dX11_readCall_21 (by decide) ?_
      refine pw_runXv X (m_cVX X (b := a0) (ci := 11) (q := (RX11, TX11, tyX11, 2)) (met_X11_want G C.2.1 hl M23 a0 64 _ _ hw) ht26 rfl (lw_V q1772 q1774 qs29 q119 q1775) ⟨rfl, nh_X11_want⟩ ⟨Nat.le_of_ble_eq_true rfl, Nat.le_of_ble_eq_true rfl⟩ rfl (Nat.le_of_ble_eq_true rfl) dX11_readCall_23) (fun u28 M29 hle30 ht31 hx => ?_) (fun M32 hle33 hx => ?_)
      · replace hw := hx hle30 ht31
        clear hx
        exact px_out X hT ht31 rfl hw
      · replace hw := hx hle33
        clear hx
        have ht35 : m_tg M32 a0 = 12 := m_le_tg hle33 ht26
        have ht36 : m_tg M32 a1 = 14 := m_le_tg hle33 ht27
        refine pw_aload_n X dX11_readCall_26 rfl rfl ?_
        refine pw_aload_n X dX11_readCall_27 rfl rfl ?_
        refine pw_runXi X (m_cVX X (b := a0) (ci := 11) (q := (RX11, TX11, tyX11, 2)) (met_X11_number G C.2.1 hl M32 a0 _ _ hw) ht35 rfl (lw_V q1822 q1824 qs31 q119 q1825) ⟨rfl, nh_X11_number⟩ ⟨Nat.le_of_ble_eq_true rfl, Nat.le_of_ble_eq_true rfl⟩ rfl (Nat.le_of_ble_eq_true rfl) dX11_readCall_28) (fun u37 M38 hle39 ht40 hx => ?_) (fun r43 M41 hle42 hx => ?_)
        · replace hw := hx hle39 ht40
          clear hx
          exact px_out X hT ht40 rfl hw
        · replace hw := hx hle42
          clear hx
          have ht44 : m_tg M41 a0 = 12 := m_le_tg hle42 ht35
          have ht45 : m_tg M41 a1 = 14 := m_le_tg hle42 ht36
          refine pw_runq X (m_cS X (met_J12_valueOf G C.2.1 M41 r43 _ hw) (lw_S q1830 q860 q94 q861) nh_J12_valueOf ⟨Nat.le_of_ble_eq_true rfl, Nat.le_of_ble_eq_true rfl⟩ rfl (Nat.le_of_ble_eq_true rfl) dX11_readCall_31) (fun r48 M46 hle47 hx => ?_)
          replace hw := hx hle47
          clear hx
          have ht49 : m_tg M46 a0 = 12 := m_le_tg hle47 ht44
          have ht50 : m_tg M46 a1 = 14 := m_le_tg hle47 ht45
          refine pw_runi X (m_cF X (b := a1) (ci := 13) (q := (RJ2, TJ2, tyJ2, 3)) (met_J2_add G C.2.1 M46 a1 r48 _ hw) ht50 rfl (lw_app (lw_F q1832 q888 q890 q82) (lw_meth q892)) (List.mem_of_getElem? (i := 1) rfl) (by decide +kernel : m_nMH ⟨"java/util/List", "add", "(Ljava/lang/Object;)Z"⟩ 1) ⟨Nat.le_of_ble_eq_true rfl, Nat.le_of_ble_eq_true rfl⟩ rfl (Nat.le_of_ble_eq_true rfl) dX11_readCall_34) (fun r53 M51 hle52 hx => ?_)
          replace hw := hx hle52
          clear hx
          have ht54 : m_tg M51 a0 = 12 := m_le_tg hle52 ht49
          have ht55 : m_tg M51 a1 = 14 := m_le_tg hle52 ht50
          refine pw_pop X dX11_readCall_39 ?_
          refine pw_aload_n X dX11_readCall_40 rfl rfl ?_
          refine pw_bipush X 33 dX11_readCall_41 (by decide) ?_
          refine pw_runXv X (m_cVX X (b := a0) (ci := 11) (q := (RX11, TX11, tyX11, 2)) (met_X11_want G C.2.1 hl M51 a0 33 _ _ hw) ht54 rfl (lw_V q1772 q1774 qs29 q119 q1775) ⟨rfl, nh_X11_want⟩ ⟨Nat.le_of_ble_eq_true rfl, Nat.le_of_ble_eq_true rfl⟩ rfl (Nat.le_of_ble_eq_true rfl) dX11_readCall_43) (fun u56 M57 hle58 ht59 hx => ?_) (fun M60 hle61 hx => ?_)
          · replace hw := hx hle58 ht59
            clear hx
            exact px_out X hT ht59 rfl hw
          · replace hw := hx hle61
            clear hx
            have ht63 : m_tg M60 a0 = 12 := m_le_tg hle61 ht54
            have ht64 : m_tg M60 a1 = 14 := m_le_tg hle61 ht55
            refine pw_aload_n X dX11_readCall_46 rfl rfl ?_
            refine pw_aload_n X dX11_readCall_47 rfl rfl ?_
            refine pw_runXi X (m_cVX X (b := a0) (ci := 11) (q := (RX11, TX11, tyX11, 2)) (met_X11_number G C.2.1 hl M60 a0 _ _ hw) ht63 rfl (lw_V q1822 q1824 qs31 q119 q1825) ⟨rfl, nh_X11_number⟩ ⟨Nat.le_of_ble_eq_true rfl, Nat.le_of_ble_eq_true rfl⟩ rfl (Nat.le_of_ble_eq_true rfl) dX11_readCall_48) (fun u65 M66 hle67 ht68 hx => ?_) (fun r71 M69 hle70 hx => ?_)
            · replace hw := hx hle67 ht68
              clear hx
              exact px_out X hT ht68 rfl hw
            · replace hw := hx hle70
              clear hx
              have ht72 : m_tg M69 a0 = 12 := m_le_tg hle70 ht63
              have ht73 : m_tg M69 a1 = 14 := m_le_tg hle70 ht64
              refine pw_runq X (m_cS X (met_J12_valueOf G C.2.1 M69 r71 _ hw) (lw_S q1830 q860 q94 q861) nh_J12_valueOf ⟨Nat.le_of_ble_eq_true rfl, Nat.le_of_ble_eq_true rfl⟩ rfl (Nat.le_of_ble_eq_true rfl) dX11_readCall_51) (fun r76 M74 hle75 hx => ?_)
              replace hw := hx hle75
              clear hx
              have ht77 : m_tg M74 a0 = 12 := m_le_tg hle75 ht72
              have ht78 : m_tg M74 a1 = 14 := m_le_tg hle75 ht73
              refine pw_runi X (m_cF X (b := a1) (ci := 13) (q := (RJ2, TJ2, tyJ2, 3)) (met_J2_add G C.2.1 M74 a1 r76 _ hw) ht78 rfl (lw_app (lw_F q1832 q888 q890 q82) (lw_meth q892)) (List.mem_of_getElem? (i := 1) rfl) (by decide +kernel : m_nMH ⟨"java/util/List", "add", "(Ljava/lang/Object;)Z"⟩ 1) ⟨Nat.le_of_ble_eq_true rfl, Nat.le_of_ble_eq_true rfl⟩ rfl (Nat.le_of_ble_eq_true rfl) dX11_readCall_54) (fun r81 M79 hle80 hx => ?_)
              replace hw := hx hle80
              clear hx
              have ht82 : m_tg M79 a0 = 12 := m_le_tg hle80 ht77
              have ht83 : m_tg M79 a1 = 14 := m_le_tg hle80 ht78
              refine pw_pop X dX11_readCall_59 ?_
              exact pw_lift (pw_vret X hw dX11_readCall_60)
theorem met_X11_readCall (G : Gp) (l : Launch) (hl : l.stackTraces = false) (M : Mem) (a0 : Nat) (a1 : Nat) (Q : Mem → Prop) (QX : Nat → Mem → Prop) (hw : wp_X11_readCall G.2 M a0 a1 Q QX) : m_KX G l yX11_readCall cX11_readCall 2 none 7 161 [vR (some a0), vR (some a1)] M (va_Qv (m_q0 M Q) (m_W G) (m_A G)) (m_xc G M 12 QX) := by
  refine m_metX (by decide) (Nat.le_of_ble_eq_true rfl) (fun C e X hT => ?_)
  exact bk_X11_readCall_0 G C _ _ M Q QX X (by rw [e]; exact hl) hT M a0 a1 hw
theorem nh_X11_readCall : m_nMH yX11_readCall 1 := by decide +kernel

def wp_X11_read_b13 (g : Nat → Nat) (Q : Option Nat → Mem → Prop) (QX : Nat → Mem → Prop) : Nat → Mem → Nat → Nat → Prop
  | 0 => fun _ _ _ => False
  | n + 1 => fun M la0 la1 => m_tg M la0 = 12 ∧ wp_X11_isAtEnd g M la0 (fun (r4 : Int32) (M2 : Mem) => m_le M M2 → ((¬ r4 = 0 → Q (some la1) M2) ∧ (r4 = 0 → wp_X11_want g M2 la0 59 (fun (M11 : Mem) => m_le M2 M11 → wp_X11_readCall g M11 la0 la1 (fun (M19 : Mem) => m_le M11 M19 → wp_X11_read_b13 g Q QX n M19 la0 la1) (fun (u15 : Nat) (M16 : Mem) => m_le M11 M16 → m_tg M16 u15 = 13 → QX u15 M16)) (fun (u7 : Nat) (M8 : Mem) => m_le M2 M8 → m_tg M8 u7 = 13 → QX u7 M8))))
def wp_X11_read (g : Nat → Nat) (M : Mem) (a0 : Nat) (Q : Option Nat → Mem → Prop) (QX : Nat → Mem → Prop) : Prop := m_fits M 3 ∧ ∀ u2 : Nat, m_tg M u2 = 0 → ∀ M4 : Mem, M4 = (m_al M u2 14 0 3) → wp_J2_init g M4 u2 (fun (M8 : Mem) => m_le M4 M8 → m_tg M8 a0 = 12 ∧ wp_X11_readCall g M8 a0 u2 (fun (M16 : Mem) => m_le M8 M16 → ∃ j13 : Nat, wp_X11_read_b13 g Q QX j13 M16 a0 u2) (fun (u12 : Nat) (M13 : Mem) => m_le M8 M13 → m_tg M13 u12 = 13 → QX u12 M13))
theorem bk_X11_read_13 (G : Gp) (C : m_Cx) (n0 s0 : Nat) (M0 : Mem) (Q : Option Nat → Mem → Prop) (QX : Nat → Mem → Prop) (X : m_in G C RX11 cX11_read 2 (some (.object "java/util/List")) "read" 8 182 n0 s0) (hl : C.2.1.stackTraces = false) (hT : ∀ x ∈ (m_co C).exceptionTable.toList, False) : ∀ (n : Nat) (M : Mem) (la0 : Nat) (la1 : Nat) (hw : wp_X11_read_b13 G.2 Q QX n M la0 la1), pW G C 2 n0 s0 M0 (m_QX G C n0 s0 (va_Qq (m_q1 M0 Q) (m_W G) (m_A G)) (m_xc G M0 12 QX)) M 13 [(0, vR (some la0)), (1, vR (some la1))] [] := by
  intro n
  induction n with
  | zero => intro M la0 la1 hw; exact hw.elim
  | succ n ih =>
    intro M la0 la1 hw
    refine pw_aload_n X dX11_read_13 rfl rfl ?_
    obtain ⟨ht1, hw⟩ := hw
    refine pw_runi X (m_cV X (b := la0) (ci := 11) (q := (RX11, TX11, tyX11, 2)) (met_X11_isAtEnd G C.2.1 M la0 _ hw) ht1 rfl (lw_V q1776 q1778 qs30 q119 q1779) ⟨rfl, nh_X11_isAtEnd⟩ ⟨Nat.le_of_ble_eq_true rfl, Nat.le_of_ble_eq_true rfl⟩ rfl (Nat.le_of_ble_eq_true rfl) dX11_read_14) (fun r4 M2 hle3 hx => ?_)
    replace hw := hx hle3
    clear hx
    have ht5 : m_tg M2 la0 = 12 := m_le_tg hle3 ht1
    refine pw_if_ne X 34 dX11_read_17 (by decide) (fun c6 => ?_) (fun c6 => ?_)
    · replace hw := hw.1 c6
      refine pw_aload_n X dX11_read_34 rfl rfl ?_
      exact pw_lift (pw_aret X (Or.inl ⟨_, rfl⟩) hw dX11_read_35)
    · replace hw := hw.2 c6
      refine pw_aload_n X dX11_read_20 rfl rfl ?_
      refine pw_bipush X 59 dX11_read_21 (by decide) ?_
      refine pw_runXv X (m_cVX X (b := la0) (ci := 11) (q := (RX11, TX11, tyX11, 2)) (met_X11_want G C.2.1 hl M2 la0 59 _ _ hw) ht5 rfl (lw_V q1772 q1774 qs29 q119 q1775) ⟨rfl, nh_X11_want⟩ ⟨Nat.le_of_ble_eq_true rfl, Nat.le_of_ble_eq_true rfl⟩ rfl (Nat.le_of_ble_eq_true rfl) dX11_read_23) (fun u7 M8 hle9 ht10 hx => ?_) (fun M11 hle12 hx => ?_)
      · replace hw := hx hle9 ht10
        clear hx
        exact px_out X hT ht10 rfl hw
      · replace hw := hx hle12
        clear hx
        have ht14 : m_tg M11 la0 = 12 := m_le_tg hle12 ht5
        refine pw_aload_n X dX11_read_26 rfl rfl ?_
        refine pw_aload_n X dX11_read_27 rfl rfl ?_
        refine pw_runXv X (m_cVX X (b := la0) (ci := 11) (q := (RX11, TX11, tyX11, 2)) (met_X11_readCall G C.2.1 hl M11 la0 la1 _ _ hw) ht14 rfl (lw_V q1768 q1770 qs28 q119 q1771) ⟨rfl, nh_X11_readCall⟩ ⟨Nat.le_of_ble_eq_true rfl, Nat.le_of_ble_eq_true rfl⟩ rfl (Nat.le_of_ble_eq_true rfl) dX11_read_28) (fun u15 M16 hle17 ht18 hx => ?_) (fun M19 hle20 hx => ?_)
        · replace hw := hx hle17 ht18
          clear hx
          exact px_out X hT ht18 rfl hw
        · replace hw := hx hle20
          clear hx
          have ht22 : m_tg M19 la0 = 12 := m_le_tg hle20 ht14
          refine pw_goto X 13 dX11_read_31 (by decide) ?_
          exact ih _ la0 la1 hw
theorem bk_X11_read_0 (G : Gp) (C : m_Cx) (n0 s0 : Nat) (M0 : Mem) (Q : Option Nat → Mem → Prop) (QX : Nat → Mem → Prop) (X : m_in G C RX11 cX11_read 2 (some (.object "java/util/List")) "read" 8 182 n0 s0) (hl : C.2.1.stackTraces = false) (hT : ∀ x ∈ (m_co C).exceptionTable.toList, False) (M : Mem) (a0 : Nat) (hw : wp_X11_read G.2 M a0 Q QX) : pW G C 2 n0 s0 M0 (m_QX G C n0 s0 (va_Qq (m_q1 M0 Q) (m_W G) (m_A G)) (m_xc G M0 12 QX)) M 0 [(0, vR (some a0))] [] := by
  obtain ⟨hf1, hw⟩ := hw
  refine pw_new X (ci := 13) (q := (RJ2, TJ2, tyJ2, 3)) hf1 rfl in_J2 tyJ2_ok q1766 q136 q82 dX11_read_0 (fun u2 h03 => ?_)
  obtain ⟨M4, hM5⟩ : ∃ z : Mem, z = (m_al M u2 14 0 3) := ⟨_, rfl⟩
  replace hw := hw u2 h03 M4 hM5
  have hle6 : m_le M M4 := by rw [hM5]; exact m_le_al h03
  change pW _ _ _ _ _ _ _ (m_al M u2 14 0 3) _ _ _
  rw [← hM5]
  have ht7 : m_tg M4 u2 = 14 := by rw [hM5, m_tg_al, if_pos rfl]
  refine pw_dup X dX11_read_3 ?_
  refine pw_runv X (m_cI X (b := u2) (met_J2_init G C.2.1 M4 u2 _ hw) q139 q82 q1767 q138 rfl nh_J2_init ⟨Nat.le_of_ble_eq_true rfl, Nat.le_of_ble_eq_true rfl⟩ rfl (Nat.le_of_ble_eq_true rfl) dX11_read_4) (fun M8 hle9 hx => ?_)
  replace hw := hx hle9
  clear hx
  have ht10 : m_tg M8 u2 = 14 := m_le_tg hle9 ht7
  refine pw_astore_n X [(0, vR (some a0)), (1, vR (some u2))] [1, 0] dX11_read_7 rfl (by decide) rfl ?_
  refine pw_aload_n X dX11_read_8 rfl rfl ?_
  refine pw_aload_n X dX11_read_9 rfl rfl ?_
  obtain ⟨ht11, hw⟩ := hw
  refine pw_runXv X (m_cVX X (b := a0) (ci := 11) (q := (RX11, TX11, tyX11, 2)) (met_X11_readCall G C.2.1 hl M8 a0 u2 _ _ hw) ht11 rfl (lw_V q1768 q1770 qs28 q119 q1771) ⟨rfl, nh_X11_readCall⟩ ⟨Nat.le_of_ble_eq_true rfl, Nat.le_of_ble_eq_true rfl⟩ rfl (Nat.le_of_ble_eq_true rfl) dX11_read_10) (fun u12 M13 hle14 ht15 hx => ?_) (fun M16 hle17 hx => ?_)
  · replace hw := hx hle14 ht15
    clear hx
    exact px_out X hT ht15 rfl hw
  · replace hw := hx hle17
    clear hx
    have ht19 : m_tg M16 u2 = 14 := m_le_tg hle17 ht10
    have ht20 : m_tg M16 a0 = 12 := m_le_tg hle17 ht11
    obtain ⟨n13, hw⟩ := hw
    exact bk_X11_read_13 G C n0 s0 M0 Q QX X hl hT n13 _ a0 u2 hw
theorem met_X11_read (G : Gp) (l : Launch) (hl : l.stackTraces = false) (M : Mem) (a0 : Nat) (Q : Option Nat → Mem → Prop) (QX : Nat → Mem → Prop) (hw : wp_X11_read G.2 M a0 Q QX) : m_KX G l yX11_read cX11_read 2 (some (.object "java/util/List")) 8 182 [vR (some a0)] M (va_Qq (m_q1 M Q) (m_W G) (m_A G)) (m_xc G M 12 QX) := by
  refine m_metX (by decide) (Nat.le_of_ble_eq_true rfl) (fun C e X hT => ?_)
  exact bk_X11_read_0 G C _ _ M Q QX X (by rw [e]; exact hl) hT M a0 hw
theorem nh_X11_read : m_nMH yX11_read 0 := by decide +kernel
