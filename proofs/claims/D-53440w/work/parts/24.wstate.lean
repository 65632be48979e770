/-! walks (printed by gen/desk.py): 24.wstate.lean -/
set_option maxRecDepth 100000
set_option maxHeartbeats 4000000
def wp_X1_init (g : Nat → Nat) (M : Mem) (a0 : Nat) (Q : Mem → Prop) : Prop := m_fits M 3 ∧ ∀ u2 : Nat, m_tg M u2 = 0 → ∀ M4 : Mem, M4 = (m_al M u2 14 0 3) → wp_J2_init g M4 u2 (fun (M8 : Mem) => m_le M4 M8 → m_tg M8 a0 = 2 ∧ ∀ M12 : Mem, M12 = (m_pr M8 a0 0 (some u2)) → m_fits M12 3 ∧ ∀ u18 : Nat, m_tg M12 u18 = 0 → ∀ M20 : Mem, M20 = (m_al M12 u18 14 0 3) → wp_J2_init g M20 u18 (fun (M26 : Mem) => m_le M20 M26 → ∀ M31 : Mem, M31 = (m_pr M26 a0 1 (some u18)) → m_fits M31 3 ∧ ∀ u38 : Nat, m_tg M31 u38 = 0 → ∀ M40 : Mem, M40 = (m_al M31 u38 14 0 3) → wp_J2_init g M40 u38 (fun (M47 : Mem) => m_le M40 M47 → ∀ M53 : Mem, M53 = (m_pr M47 a0 2 (some u38)) → m_fits M53 3 ∧ ∀ u61 : Nat, m_tg M53 u61 = 0 → ∀ M63 : Mem, M63 = (m_al M53 u61 14 0 3) → wp_J2_init g M63 u61 (fun (M71 : Mem) => m_le M63 M71 → ∀ M78 : Mem, M78 = (m_pr M71 a0 3 (some u61)) → ¬ (3 : Int32) < 0 ∧ m_fits M78 (Int32.toNatClampNeg 3) ∧ ∀ u88 : Nat, m_tg M78 u88 = 0 → ∀ M90 : Mem, M90 = (m_al M78 u88 101 (Int32.toNatClampNeg 3) (Int32.toNatClampNeg 3)) → ∀ M99 : Mem, M99 = (m_pr M90 a0 4 (some u88)) → Q M99))))
theorem bk_X1_init_0 (G : Gp) (C : m_Cx) (n0 s0 : Nat) (M0 : Mem) (Q : Mem → Prop) (X : m_in G C RX1 cX1_init 1 none "<init>" 4 72 n0 s0) (M : Mem) (a0 : Nat) (hw : wp_X1_init G.2 M a0 Q) : pW G C 1 n0 s0 M0 (m_Q G C n0 s0 (va_Qv (m_q0 M0 Q) (m_W G) (m_A G))) M 0 [(0, vR (some a0))] [] := by
  refine pw_aload_n X dX1_init_0 rfl rfl ?_
  refine pw_objInit X rfl q134 q127 q128 dX1_init_1 (Nat.le_of_ble_eq_true rfl) (Nat.le_of_ble_eq_true rfl) ?_
  refine pw_aload_n X dX1_init_4 rfl rfl ?_
  obtain ⟨hf1, hw⟩ := hw
  refine pw_new X (ci := 13) (q := (RJ2, TJ2, tyJ2, 3)) hf1 rfl in_J2 tyJ2_ok q135 q136 q82 dX1_init_5 (fun u2 h03 => ?_)
  obtain ⟨M4, hM5⟩ : ∃ z : Mem, z = (m_al M u2 14 0 3) := ⟨_, rfl⟩
  replace hw := hw u2 h03 M4 hM5
  have hle6 : m_le M M4 := by rw [hM5]; exact m_le_al h03
  change pW _ _ _ _ _ _ _ (m_al M u2 14 0 3) _ _ _
  rw [← hM5]
  have ht7 : m_tg M4 u2 = 14 := by rw [hM5, m_tg_al, if_pos rfl]
  refine pw_dup X dX1_init_8 ?_
  refine pw_runv X (m_cI X (b := u2) (met_J2_init G C.2.1 M4 u2 _ hw) q139 q82 q137 q138 rfl nh_J2_init ⟨Nat.le_of_ble_eq_true rfl, Nat.le_of_ble_eq_true rfl⟩ rfl (Nat.le_of_ble_eq_true rfl) dX1_init_9) (fun M8 hle9 hx => ?_)
  replace hw := hx hle9
  clear hx
  have ht10 : m_tg M8 u2 = 14 := m_le_tg hle9 ht7
  obtain ⟨ht11, hw⟩ := hw
  obtain ⟨M12, hM13⟩ : ∃ z : Mem, z = (m_pr M8 a0 0 (some u2)) := ⟨_, rfl⟩
  replace hw := hw M12 hM13
  refine pw_putF X (q := (RX1, TX1, tyX1, 8)) (ci := 1) (k := 0) (ref := "PatrolDesk$State") M12 hM13.symm ht11 rfl (by decide) in_X1 tyX1_ok nmX1 q161 (Or.inl rfl) rfl rfl rfl (m_kd_r (fun _ _ => rfl)) m_no m_fo dX1_init_12 ?_
  have hle14 : m_le M8 M12 := by rw [hM13]; exact m_le_pr
  have ht15 : m_tg M12 u2 = 14 := m_le_tg hle14 ht10
  have ht16 : m_tg M12 a0 = 2 := m_le_tg hle14 ht11
  refine pw_aload_n X dX1_init_15 rfl rfl ?_
  obtain ⟨hf17, hw⟩ := hw
  refine pw_new X (ci := 13) (q := (RJ2, TJ2, tyJ2, 3)) hf17 rfl in_J2 tyJ2_ok q135 q136 q82 dX1_init_16 (fun u18 h019 => ?_)
  obtain ⟨M20, hM21⟩ : ∃ z : Mem, z = (m_al M12 u18 14 0 3) := ⟨_, rfl⟩
  replace hw := hw u18 h019 M20 hM21
  have hle22 : m_le M12 M20 := by rw [hM21]; exact m_le_al h019
  change pW _ _ _ _ _ _ _ (m_al M12 u18 14 0 3) _ _ _
  rw [← hM21]
  have ht23 : m_tg M20 u2 = 14 := m_le_tg hle22 ht15
  have ht24 : m_tg M20 a0 = 2 := m_le_tg hle22 ht16
  have ht25 : m_tg M20 u18 = 14 := by rw [hM21, m_tg_al, if_pos rfl]
  refine pw_dup X dX1_init_19 ?_
  refine pw_runv X (m_cI X (b := u18) (met_J2_init G C.2.1 M20 u18 _ hw) q139 q82 q137 q138 rfl nh_J2_init ⟨Nat.le_of_ble_eq_true rfl, Nat.le_of_ble_eq_true rfl⟩ rfl (Nat.le_of_ble_eq_true rfl) dX1_init_20) (fun M26 hle27 hx => ?_)
  replace hw := hx hle27
  clear hx
  have ht28 : m_tg M26 u2 = 14 := m_le_tg hle27 ht23
  have ht29 : m_tg M26 a0 = 2 := m_le_tg hle27 ht24
  have ht30 : m_tg M26 u18 = 14 := m_le_tg hle27 ht25
  obtain ⟨M31, hM32⟩ : ∃ z : Mem, z = (m_pr M26 a0 1 (some u18)) := ⟨_, rfl⟩
  replace hw := hw M31 hM32
  refine pw_putF X (q := (RX1, TX1, tyX1, 8)) (ci := 1) (k := 1) (ref := "PatrolDesk$State") M31 hM32.symm ht29 rfl (by decide) in_X1 tyX1_ok nmX1 q163 (Or.inl rfl) rfl rfl rfl (m_kd_r (fun _ _ => rfl)) m_no m_fo dX1_init_23 ?_
  have hle33 : m_le M26 M31 := by rw [hM32]; exact m_le_pr
  have ht34 : m_tg M31 u2 = 14 := m_le_tg hle33 ht28
  have ht35 : m_tg M31 a0 = 2 := m_le_tg hle33 ht29
  have ht36 : m_tg M31 u18 = 14 := m_le_tg hle33 ht30
  refine pw_aload_n X dX1_init_26 rfl rfl ?_
  obtain ⟨hf37, hw⟩ := hw
  refine pw_new X (ci := 13) (q := (RJ2, TJ2, tyJ2, 3)) hf37 rfl in_J2 tyJ2_ok q135 q136 q82 dX1_init_27 (fun u38 h039 => ?_)
  obtain ⟨M40, hM41⟩ : ∃ z : Mem, z = (m_al M31 u38 14 0 3) := ⟨_, rfl⟩
  replace hw := hw u38 h039 M40 hM41
  have hle42 : m_le M31 M40 := by rw [hM41]; exact m_le_al h039
  change pW _ _ _ _ _ _ _ (m_al M31 u38 14 0 3) _ _ _
  rw [← hM41]
  have ht43 : m_tg M40 u2 = 14 := m_le_tg hle42 ht34
  have ht44 : m_tg M40 a0 = 2 := m_le_tg hle42 ht35
  have ht45 : m_tg M40 u18 = 14 := m_le_tg hle42 ht36
  have ht46 : m_tg M40 u38 = 14 := by rw [hM41, m_tg_al, if_pos rfl]
  refine pw_dup X dX1_init_30 ?_
  refine pw_runv X (m_cI X (b := u38) (met_J2_init G C.2.1 M40 u38 _ hw) q139 q82 q137 q138 rfl nh_J2_init ⟨Nat.le_of_ble_eq_true rfl, Nat.le_of_ble_eq_true rfl⟩ rfl (Nat.le_of_ble_eq_true rfl) dX1_init_31) (fun M47 hle48 hx => ?_)
  replace hw := hx hle48
  clear hx
  have ht49 : m_tg M47 u2 = 14 := m_le_tg hle48 ht43
  have ht50 : m_tg M47 a0 = 2 := m_le_tg hle48 ht44
  have ht51 : m_tg M47 u18 = 14 := m_le_tg hle48 ht45
  have ht52 : m_tg M47 u38 = 14 := m_le_tg hle48 ht46
  obtain ⟨M53, hM54⟩ : ∃ z : Mem, z = (m_pr M47 a0 2 (some u38)) := ⟨_, rfl⟩
  replace hw := hw M53 hM54
  refine pw_putF X (q := (RX1, TX1, tyX1, 8)) (ci := 1) (k := 2) (ref := "PatrolDesk$State") M53 hM54.symm ht50 rfl (by decide) in_X1 tyX1_ok nmX1 q165 (Or.inl rfl) rfl rfl rfl (m_kd_r (fun _ _ => rfl)) m_no m_fo dX1_init_34 ?_
  have hle55 : m_le M47 M53 := by rw [hM54]; exact m_le_pr
  have ht56 : m_tg M53 u2 = 14 := m_le_tg hle55 ht49
  have ht57 : m_tg M53 a0 = 2 := m_le_tg hle55 ht50
  have ht58 : m_tg M53 u18 = 14 := m_le_tg hle55 ht51
  have ht59 : m_tg M53 u38 = 14 := m_le_tg hle55 ht52
  refine pw_aload_n X dX1_init_37 rfl rfl ?_
  obtain ⟨hf60, hw⟩ := hw
  refine pw_new X (ci := 13) (q := (RJ2, TJ2, tyJ2, 3)) hf60 rfl in_J2 tyJ2_ok q135 q136 q82 dX1_init_38 (fun u61 h062 => ?_)
  obtain ⟨M63, hM64⟩ : ∃ z : Mem, z = (m_al M53 u61 14 0 3) := ⟨_, rfl⟩
  replace hw := hw u61 h062 M63 hM64
  have hle65 : m_le M53 M63 := by rw [hM64]; exact m_le_al h062
  change pW _ _ _ _ _ _ _ (m_al M53 u61 14 0 3) _ _ _
  rw [← hM64]
  have ht66 : m_tg M63 u2 = 14 := m_le_tg hle65 ht56
  have ht67 : m_tg M63 a0 = 2 := m_le_tg hle65 ht57
  have ht68 : m_tg M63 u18 = 14 := m_le_tg hle65 ht58
  have ht69 : m_tg M63 u38 = 14 := m_le_tg hle65 ht59
  have ht70 : m_tg M63 u61 = 14 := by rw [hM64, m_tg_al, if_pos rfl]
  refine pw_dup X dX1_init_41 ?_
  refine pw_runv X (m_cI X (b := u61) (met_J2_init G C.2.1 M63 u61 _ hw) q139 q82 q137 q138 rfl nh_J2_init ⟨Nat.le_of_ble_eq_true rfl, Nat.le_of_ble_eq_true rfl⟩ rfl (Nat.le_of_ble_eq_true rfl) dX1_init_42) (fun M71 hle72 hx => ?_)
  replace hw := hx hle72
  clear hx
  have ht73 : m_tg M71 u2 = 14 := m_le_tg hle72 ht66
  have ht74 : m_tg M71 a0 = 2 := m_le_tg hle72 ht67
  have ht75 : m_tg M71 u18 = 14 := m_le_tg hle72 ht68
  have ht76 : m_tg M71 u38 = 14 := m_le_tg hle72 ht69
  have ht77 : m_tg M71 u61 = 14 := m_le_tg hle72 ht70
  obtain ⟨M78, hM79⟩ : ∃ z : Mem, z = (m_pr M71 a0 3 (some u61)) := ⟨_, rfl⟩
  replace hw := hw M78 hM79
  refine pw_putF X (q := (RX1, TX1, tyX1, 8)) (ci := 1) (k := 3) (ref := "PatrolDesk$State") M78 hM79.symm ht74 rfl (by decide) in_X1 tyX1_ok nmX1 q167 (Or.inl rfl) rfl rfl rfl (m_kd_r (fun _ _ => rfl)) m_no m_fo dX1_init_45 ?_
  have hle80 : m_le M71 M78 := by rw [hM79]; exact m_le_pr
  have ht81 : m_tg M78 u2 = 14 := m_le_tg hle80 ht73
  have ht82 : m_tg M78 a0 = 2 := m_le_tg hle80 ht74
  have ht83 : m_tg M78 u18 = 14 := m_le_tg hle80 ht75
  have ht84 : m_tg M78 u38 = 14 := m_le_tg hle80 ht76
  have ht85 : m_tg M78 u61 = 14 := m_le_tg hle80 ht77
  refine pw_aload_n X dX1_init_48 rfl rfl ?_
  refine pw_iconst X 3 dX1_init_49 (by decide) ?_
  obtain ⟨hn87, hf86, hw⟩ := hw
  refine pw_newa X (atype := .int) 0 (by decide) hf86 hn87 rfl q194 dX1_init_50 (fun u88 h089 => ?_)
  obtain ⟨M90, hM91⟩ : ∃ z : Mem, z = (m_al M78 u88 101 (Int32.toNatClampNeg 3) (Int32.toNatClampNeg 3)) := ⟨_, rfl⟩
  replace hw := hw u88 h089 M90 hM91
  have hle92 : m_le M78 M90 := by rw [hM91]; exact m_le_al h089
  change pW _ _ _ _ _ _ _ (m_al M78 u88 101 (Int32.toNatClampNeg 3) (Int32.toNatClampNeg 3)) _ _ _
  rw [← hM91]
  have ht93 : m_tg M90 u2 = 14 := m_le_tg hle92 ht81
  have ht94 : m_tg M90 a0 = 2 := m_le_tg hle92 ht82
  have ht95 : m_tg M90 u18 = 14 := m_le_tg hle92 ht83
  have ht96 : m_tg M90 u38 = 14 := m_le_tg hle92 ht84
  have ht97 : m_tg M90 u61 = 14 := m_le_tg hle92 ht85
  have ht98 : m_tg M90 u88 = 101 := by rw [hM91, m_tg_al, if_pos rfl]
  obtain ⟨M99, hM100⟩ : ∃ z : Mem, z = (m_pr M90 a0 4 (some u88)) := ⟨_, rfl⟩
  replace hw := hw M99 hM100
  refine pw_putF X (q := (RX1, TX1, tyX1, 8)) (ci := 1) (k := 4) (ref := "PatrolDesk$State") M99 hM100.symm ht94 rfl (by decide) in_X1 tyX1_ok nmX1 q169 (Or.inl rfl) rfl rfl rfl (m_kd_r (fun _ _ => rfl)) m_na m_fa dX1_init_52 ?_
  have hle101 : m_le M90 M99 := by rw [hM100]; exact m_le_pr
  have ht102 : m_tg M99 u2 = 14 := m_le_tg hle101 ht93
  have ht103 : m_tg M99 a0 = 2 := m_le_tg hle101 ht94
  have ht104 : m_tg M99 u18 = 14 := m_le_tg hle101 ht95
  have ht105 : m_tg M99 u38 = 14 := m_le_tg hle101 ht96
  have ht106 : m_tg M99 u61 = 14 := m_le_tg hle101 ht97
  have ht107 : m_tg M99 u88 = 101 := m_le_tg hle101 ht98
  exact pw_vret X hw dX1_init_55
theorem met_X1_init (G : Gp) (l : Launch) (M : Mem) (a0 : Nat) (Q : Mem → Prop) (hw : wp_X1_init G.2 M a0 Q) : m_K G l yX1_init cX1_init 1 none 4 72 [vR (some a0)] M (va_Qv (m_q0 M Q) (m_W G) (m_A G)) := by
  refine m_met (by decide) (Nat.le_of_ble_eq_true rfl) (fun C e X => ?_)
  exact bk_X1_init_0 G C _ _ M Q X M a0 hw
theorem nh_X1_init : m_nMH yX1_init 0 := by decide +kernel

def wp_X1_copy_b151 (g : Nat → Nat) (Q : Option Nat → Mem → Prop) : Nat → Mem → Nat → Nat → Int32 → Prop
  | 0 => fun _ _ _ _ => False
  | n + 1 => fun M la0 la1 lx2 => m_tg M la0 = 2 ∧ ∃ u2 : Nat, (m_gr M la0 3) = some u2 ∧ m_tg M u2 = 14 ∧ wp_J2_size g M u2 (fun (r7 : Int32) (M5 : Mem) => m_le M M5 → ((r7 ≤ lx2 → ∃ u11 : Nat, (m_gr M5 la0 4) = some u11 ∧ m_tg M5 la1 = 2 ∧ ∃ u14 : Nat, (m_gr M5 la1 4) = some u14 ∧ m_tg M5 u11 = 101 ∧ m_tg M5 u14 = 101 ∧ m_cpin M5 u11 u14 0 0 3 ∧ ∀ M19 : Mem, M19 = (m_ci M5 u11 (Int32.toNatClampNeg 0) u14 (Int32.toNatClampNeg 0) (Int32.toNatClampNeg 3)) → ∃ u27 : Nat, (m_gr M19 la0 5) = some u27 ∧ ∀ M29 : Mem, M29 = (m_pr M19 la1 5 (some u27)) → ∀ M37 : Mem, M37 = (m_pi M29 la1 6 (m_gi M29 la0 6)) → ∀ M45 : Mem, M45 = (m_pi M37 la1 7 (m_gi M37 la0 7)) → Q (some la1) M45) ∧ (¬ r7 ≤ lx2 → m_tg M5 la1 = 2 ∧ ∃ u54 : Nat, (m_gr M5 la1 3) = some u54 ∧ ∃ u56 : Nat, (m_gr M5 la0 3) = some u56 ∧ m_tg M5 u56 = 14 ∧ wp_J2_get g M5 u56 lx2 (fun (r61 : Option Nat) (M59 : Mem) => m_le M5 M59 → ∃ u66 : Nat, r61 = some u66 ∧ m_tg M59 u66 = 9 ∧ wp_X8_copy g M59 u66 (fun (r71 : Option Nat) (M69 : Mem) => m_le M59 M69 → m_tg M69 u54 = 14 ∧ wp_J2_add g M69 u54 r71 (fun (r80 : Int32) (M78 : Mem) => m_le M69 M78 → wp_X1_copy_b151 g Q n M78 la0 la1 (lx2 + 1)))))))
def wp_X1_copy_b104 (g : Nat → Nat) (Q : Option Nat → Mem → Prop) : Nat → Mem → Nat → Nat → Int32 → Prop
  | 0 => fun _ _ _ _ => False
  | n + 1 => fun M la0 la1 lx2 => m_tg M la0 = 2 ∧ ∃ u2 : Nat, (m_gr M la0 2) = some u2 ∧ m_tg M u2 = 14 ∧ wp_J2_size g M u2 (fun (r7 : Int32) (M5 : Mem) => m_le M M5 → ((r7 ≤ lx2 → ∃ j151 : Nat, wp_X1_copy_b151 g Q j151 M5 la0 la1 0) ∧ (¬ r7 ≤ lx2 → m_tg M5 la1 = 2 ∧ ∃ u12 : Nat, (m_gr M5 la1 2) = some u12 ∧ ∃ u14 : Nat, (m_gr M5 la0 2) = some u14 ∧ m_tg M5 u14 = 14 ∧ wp_J2_get g M5 u14 lx2 (fun (r19 : Option Nat) (M17 : Mem) => m_le M5 M17 → ∃ u24 : Nat, r19 = some u24 ∧ m_tg M17 u24 = 8 ∧ wp_X7_copy g M17 u24 (fun (r29 : Option Nat) (M27 : Mem) => m_le M17 M27 → m_tg M27 u12 = 14 ∧ wp_J2_add g M27 u12 r29 (fun (r38 : Int32) (M36 : Mem) => m_le M27 M36 → wp_X1_copy_b104 g Q n M36 la0 la1 (lx2 + 1)))))))
def wp_X1_copy_b57 (g : Nat → Nat) (Q : Option Nat → Mem → Prop) : Nat → Mem → Nat → Nat → Int32 → Prop
  | 0 => fun _ _ _ _ => False
  | n + 1 => fun M la0 la1 lx2 => m_tg M la0 = 2 ∧ ∃ u2 : Nat, (m_gr M la0 1) = some u2 ∧ m_tg M u2 = 14 ∧ wp_J2_size g M u2 (fun (r7 : Int32) (M5 : Mem) => m_le M M5 → ((r7 ≤ lx2 → ∃ j104 : Nat, wp_X1_copy_b104 g Q j104 M5 la0 la1 0) ∧ (¬ r7 ≤ lx2 → m_tg M5 la1 = 2 ∧ ∃ u12 : Nat, (m_gr M5 la1 1) = some u12 ∧ ∃ u14 : Nat, (m_gr M5 la0 1) = some u14 ∧ m_tg M5 u14 = 14 ∧ wp_J2_get g M5 u14 lx2 (fun (r19 : Option Nat) (M17 : Mem) => m_le M5 M17 → ∃ u24 : Nat, r19 = some u24 ∧ m_tg M17 u24 = 7 ∧ wp_X6_copy g M17 u24 (fun (r29 : Option Nat) (M27 : Mem) => m_le M17 M27 → m_tg M27 u12 = 14 ∧ wp_J2_add g M27 u12 r29 (fun (r38 : Int32) (M36 : Mem) => m_le M27 M36 → wp_X1_copy_b57 g Q n M36 la0 la1 (lx2 + 1)))))))
def wp_X1_copy_b10 (g : Nat → Nat) (Q : Option Nat → Mem → Prop) : Nat → Mem → Nat → Nat → Int32 → Prop
  | 0 => fun _ _ _ _ => False
  | n + 1 => fun M la0 la1 lx2 => m_tg M la0 = 2 ∧ ∃ u2 : Nat, (m_gr M la0 0) = some u2 ∧ m_tg M u2 = 14 ∧ wp_J2_size g M u2 (fun (r7 : Int32) (M5 : Mem) => m_le M M5 → ((r7 ≤ lx2 → ∃ j57 : Nat, wp_X1_copy_b57 g Q j57 M5 la0 la1 0) ∧ (¬ r7 ≤ lx2 → m_tg M5 la1 = 2 ∧ ∃ u12 : Nat, (m_gr M5 la1 0) = some u12 ∧ ∃ u14 : Nat, (m_gr M5 la0 0) = some u14 ∧ m_tg M5 u14 = 14 ∧ wp_J2_get g M5 u14 lx2 (fun (r19 : Option Nat) (M17 : Mem) => m_le M5 M17 → ∃ u24 : Nat, r19 = some u24 ∧ m_tg M17 u24 = 6 ∧ wp_X5_copy g M17 u24 (fun (r29 : Option Nat) (M27 : Mem) => m_le M17 M27 → m_tg M27 u12 = 14 ∧ wp_J2_add g M27 u12 r29 (fun (r38 : Int32) (M36 : Mem) => m_le M27 M36 → wp_X1_copy_b10 g Q n M36 la0 la1 (lx2 + 1)))))))
def wp_X1_copy (g : Nat → Nat) (M : Mem) (a0 : Nat) (Q : Option Nat → Mem → Prop) : Prop := m_fits M 8 ∧ ∀ u2 : Nat, m_tg M u2 = 0 → ∀ M4 : Mem, M4 = (m_al M u2 2 0 8) → wp_X1_init g M4 u2 (fun (M8 : Mem) => m_le M4 M8 → ∃ j10 : Nat, wp_X1_copy_b10 g Q j10 M8 a0 u2 0)
theorem bk_X1_copy_151 (G : Gp) (C : m_Cx) (n0 s0 : Nat) (M0 : Mem) (Q : Option Nat → Mem → Prop) (X : m_in G C RX1 cX1_copy 3 (some (.object "PatrolDesk$State")) "copy" 7 161 n0 s0) : ∀ (n : Nat) (M : Mem) (la0 : Nat) (la1 : Nat) (lx2 : Int32) (hw : wp_X1_copy_b151 G.2 Q n M la0 la1 lx2), pW G C 3 n0 s0 M0 (m_Q G C n0 s0 (va_Qq (m_q1 M0 Q) (m_W G) (m_A G))) M 151 [(0, vR (some la0)), (1, vR (some la1)), (2, vI lx2)] [] := by
  intro n
  induction n with
  | zero => intro M la0 la1 lx2 hw; exact hw.elim
  | succ n ih =>
    intro M la0 la1 lx2 hw
    refine pw_iload_n X dX1_copy_151 rfl rfl ?_
    refine pw_aload_n X dX1_copy_152 rfl rfl ?_
    obtain ⟨ht1, hw⟩ := hw
    obtain ⟨u2, he3, hw⟩ := hw
    refine pw_get X (q := (RX1, TX1, tyX1, 8)) (ci := 1) (k := 3) (ref := "PatrolDesk$State") (vR (some u2)) ht1 rfl (by decide) in_X1 q167 (Or.inl rfl) (by rw [he3]; rfl) dX1_copy_153 ?_
    obtain ⟨ht4, hw⟩ := hw
    refine pw_runi X (m_cF X (b := u2) (ci := 13) (q := (RJ2, TJ2, tyJ2, 3)) (met_J2_size G C.2.1 M u2 _ hw) ht4 rfl (lw_app (lw_F q1026 q994 q996 q82) (lw_meth q998)) (List.mem_of_getElem? (i := 6) rfl) (by decide +kernel : m_nMH ⟨"java/util/List", "size", "()I"⟩ 0) ⟨Nat.le_of_ble_eq_true rfl, Nat.le_of_ble_eq_true rfl⟩ rfl (Nat.le_of_ble_eq_true rfl) dX1_copy_156) (fun r7 M5 hle6 hx => ?_)
    replace hw := hx hle6
    clear hx
    have ht8 : m_tg M5 la0 = 2 := m_le_tg hle6 ht1
    have ht9 : m_tg M5 u2 = 14 := m_le_tg hle6 ht4
    refine pw_icmp_ge X 196 dX1_copy_161 (by decide) (fun c10 => ?_) (fun c10 => ?_)
    · replace hw := hw.1 c10
      refine pw_aload_n X dX1_copy_196 rfl rfl ?_
      obtain ⟨u11, he12, hw⟩ := hw
      refine pw_get X (q := (RX1, TX1, tyX1, 8)) (ci := 1) (k := 4) (ref := "PatrolDesk$State") (vR (some u11)) ht8 rfl (by decide) in_X1 q169 (Or.inl rfl) (by rw [he12]; rfl) dX1_copy_197 ?_
      refine pw_iconst X 0 dX1_copy_200 (by decide) ?_
      refine pw_aload_n X dX1_copy_201 rfl rfl ?_
      obtain ⟨ht13, hw⟩ := hw
      obtain ⟨u14, he15, hw⟩ := hw
      refine pw_get X (q := (RX1, TX1, tyX1, 8)) (ci := 1) (k := 4) (ref := "PatrolDesk$State") (vR (some u14)) ht13 rfl (by decide) in_X1 q169 (Or.inl rfl) (by rw [he15]; rfl) dX1_copy_202 ?_
      refine pw_iconst X 0 dX1_copy_205 (by decide) ?_
      refine pw_iconst X 3 dX1_copy_206 (by decide) ?_
      obtain ⟨ht16, hw⟩ := hw
      obtain ⟨ht17, hw⟩ := hw
      obtain ⟨hin18, hw⟩ := hw
      obtain ⟨M19, hM20⟩ : ∃ z : Mem, z = (m_ci M5 u11 (Int32.toNatClampNeg 0) u14 (Int32.toNatClampNeg 0) (Int32.toNatClampNeg 3)) := ⟨_, rfl⟩
      replace hw := hw M19 hM20
      have hle21 : m_le M5 M19 := by rw [hM20]; exact m_le_ci
      refine pw_copy X 0 M19 (by decide) hM20 ht16 ht17 hin18 (fun h => by cases h) (fun h => by cases h) q1271 q926 q925 q106 (Nat.le_of_ble_eq_true rfl) (Nat.le_of_ble_eq_true rfl) dX1_copy_207 ?_
      have ht22 : m_tg M19 la0 = 2 := m_le_tg hle21 ht8
      have ht23 : m_tg M19 u2 = 14 := m_le_tg hle21 ht9
      have ht24 : m_tg M19 la1 = 2 := m_le_tg hle21 ht13
      have ht25 : m_tg M19 u11 = 101 := m_le_tg hle21 ht16
      have ht26 : m_tg M19 u14 = 101 := m_le_tg hle21 ht17
      refine pw_aload_n X dX1_copy_210 rfl rfl ?_
      refine pw_aload_n X dX1_copy_211 rfl rfl ?_
      obtain ⟨u27, he28, hw⟩ := hw
      refine pw_get X (q := (RX1, TX1, tyX1, 8)) (ci := 1) (k := 5) (ref := "PatrolDesk$State") (vR (some u27)) ht22 rfl (by decide) in_X1 q171 (Or.inl rfl) (by rw [he28]; rfl) dX1_copy_212 ?_
      obtain ⟨M29, hM30⟩ : ∃ z : Mem, z = (m_pr M19 la1 5 (some u27)) := ⟨_, rfl⟩
      replace hw := hw M29 hM30
      refine pw_put X (q := (RX1, TX1, tyX1, 8)) (ci := 1) (k := 5) (ref := "PatrolDesk$State") M29 hM30.symm ht24 rfl (by decide) in_X1 tyX1_ok nmX1 q171 (Or.inl rfl) rfl (m_kd_r (fun _ _ => rfl)) m_no m_fo dX1_copy_215 ?_
      have hle31 : m_le M19 M29 := by rw [hM30]; exact m_le_pr
      have ht32 : m_tg M29 la0 = 2 := m_le_tg hle31 ht22
      have ht33 : m_tg M29 u2 = 14 := m_le_tg hle31 ht23
      have ht34 : m_tg M29 la1 = 2 := m_le_tg hle31 ht24
      have ht35 : m_tg M29 u11 = 101 := m_le_tg hle31 ht25
      have ht36 : m_tg M29 u14 = 101 := m_le_tg hle31 ht26
      refine pw_aload_n X dX1_copy_218 rfl rfl ?_
      refine pw_aload_n X dX1_copy_219 rfl rfl ?_
      refine pw_get X (q := (RX1, TX1, tyX1, 8)) (ci := 1) (k := 6) (ref := "PatrolDesk$State") (vI (m_gi M29 la0 6)) ht32 rfl (by decide) in_X1 q173 (Or.inl rfl) rfl dX1_copy_220 ?_
      obtain ⟨M37, hM38⟩ : ∃ z : Mem, z = (m_pi M29 la1 6 (m_gi M29 la0 6)) := ⟨_, rfl⟩
      replace hw := hw M37 hM38
      refine pw_put X (q := (RX1, TX1, tyX1, 8)) (ci := 1) (k := 6) (ref := "PatrolDesk$State") M37 hM38.symm ht34 rfl (by decide) in_X1 tyX1_ok nmX1 q173 (Or.inl rfl) rfl (m_kd_i (fun _ _ => rfl)) rfl rfl dX1_copy_223 ?_
      have hle39 : m_le M29 M37 := by rw [hM38]; exact m_le_pi
      have ht40 : m_tg M37 la0 = 2 := m_le_tg hle39 ht32
      have ht41 : m_tg M37 u2 = 14 := m_le_tg hle39 ht33
      have ht42 : m_tg M37 la1 = 2 := m_le_tg hle39 ht34
      have ht43 : m_tg M37 u11 = 101 := m_le_tg hle39 ht35
      have ht44 : m_tg M37 u14 = 101 := m_le_tg hle39 ht36
      refine pw_aload_n X dX1_copy_226 rfl rfl ?_
      refine pw_aload_n X dX1_copy_227 rfl rfl ?_
      refine pw_get X (q := (RX1, TX1, tyX1, 8)) (ci := 1) (k := 7) (ref := "PatrolDesk$State") (vI (m_gi M37 la0 7)) ht40 rfl (by decide) in_X1 q175 (Or.inl rfl) rfl dX1_copy_228 ?_
      obtain ⟨M45, hM46⟩ : ∃ z : Mem, z = (m_pi M37 la1 7 (m_gi M37 la0 7)) := ⟨_, rfl⟩
      replace hw := hw M45 hM46
      refine pw_put X (q := (RX1, TX1, tyX1, 8)) (ci := 1) (k := 7) (ref := "PatrolDesk$State") M45 hM46.symm ht42 rfl (by decide) in_X1 tyX1_ok nmX1 q175 (Or.inl rfl) rfl (m_kd_i (fun _ _ => rfl)) rfl rfl dX1_copy_231 ?_
      have hle47 : m_le M37 M45 := by rw [hM46]; exact m_le_pi
      have ht48 : m_tg M45 la0 = 2 := m_le_tg hle47 ht40
      have ht49 : m_tg M45 u2 = 14 := m_le_tg hle47 ht41
      have ht50 : m_tg M45 la1 = 2 := m_le_tg hle47 ht42
      have ht51 : m_tg M45 u11 = 101 := m_le_tg hle47 ht43
      have ht52 : m_tg M45 u14 = 101 := m_le_tg hle47 ht44
      refine pw_aload_n X dX1_copy_234 rfl rfl ?_
      exact pw_aret X (Or.inl ⟨_, rfl⟩) hw dX1_copy_235
    · replace hw := hw.2 c10
      refine pw_aload_n X dX1_copy_164 rfl rfl ?_
      obtain ⟨ht53, hw⟩ := hw
      obtain ⟨u54, he55, hw⟩ := hw
      refine pw_get X (q := (RX1, TX1, tyX1, 8)) (ci := 1) (k := 3) (ref := "PatrolDesk$State") (vR (some u54)) ht53 rfl (by decide) in_X1 q167 (Or.inl rfl) (by rw [he55]; rfl) dX1_copy_165 ?_
      refine pw_aload_n X dX1_copy_168 rfl rfl ?_
      obtain ⟨u56, he57, hw⟩ := hw
      refine pw_get X (q := (RX1, TX1, tyX1, 8)) (ci := 1) (k := 3) (ref := "PatrolDesk$State") (vR (some u56)) ht8 rfl (by decide) in_X1 q167 (Or.inl rfl) (by rw [he57]; rfl) dX1_copy_169 ?_
      refine pw_iload_n X dX1_copy_172 rfl rfl ?_
      obtain ⟨ht58, hw⟩ := hw
      refine pw_runq X (m_cF X (b := u56) (ci := 13) (q := (RJ2, TJ2, tyJ2, 3)) (met_J2_get G C.2.1 M5 u56 lx2 _ hw) ht58 rfl (lw_app (lw_F q1028 q1031 q1033 q82) (lw_meth q1035)) (List.mem_of_getElem? (i := 2) rfl) (by decide +kernel : m_nMH ⟨"java/util/List", "get", "(I)Ljava/lang/Object;"⟩ 1) ⟨Nat.le_of_ble_eq_true rfl, Nat.le_of_ble_eq_true rfl⟩ rfl (Nat.le_of_ble_eq_true rfl) dX1_copy_173) (fun r61 M59 hle60 hx => ?_)
      replace hw := hx hle60
      clear hx
      have ht62 : m_tg M59 la0 = 2 := m_le_tg hle60 ht8
      have ht63 : m_tg M59 u2 = 14 := m_le_tg hle60 ht9
      have ht64 : m_tg M59 la1 = 2 := m_le_tg hle60 ht53
      have ht65 : m_tg M59 u56 = 14 := m_le_tg hle60 ht58
      obtain ⟨u66, he67, hw⟩ := hw
      subst he67
      obtain ⟨ht68, hw⟩ := hw
      refine pw_cast X 8 (q := (RX8, TX8, tyX8, 13)) rfl (fun _ h => by cases h; exact ht68) q1196 dX1_copy_178 ?_
      refine pw_runq X (m_cV X (b := u66) (ci := 8) (q := (RX8, TX8, tyX8, 13)) (met_X8_copy G C.2.1 M59 u66 _ hw) ht68 rfl (lw_V q1197 q1198 q1199 q112 q1200) ⟨rfl, nh_X8_copy⟩ ⟨Nat.le_of_ble_eq_true rfl, Nat.le_of_ble_eq_true rfl⟩ rfl (Nat.le_of_ble_eq_true rfl) dX1_copy_181) (fun r71 M69 hle70 hx => ?_)
      replace hw := hx hle70
      clear hx
      have ht72 : m_tg M69 la0 = 2 := m_le_tg hle70 ht62
      have ht73 : m_tg M69 u2 = 14 := m_le_tg hle70 ht63
      have ht74 : m_tg M69 la1 = 2 := m_le_tg hle70 ht64
      have ht75 : m_tg M69 u56 = 14 := m_le_tg hle70 ht65
      have ht76 : m_tg M69 u66 = 9 := m_le_tg hle70 ht68
      obtain ⟨ht77, hw⟩ := hw
      refine pw_runi X (m_cF X (b := u54) (ci := 13) (q := (RJ2, TJ2, tyJ2, 3)) (met_J2_add G C.2.1 M69 u54 r71 _ hw) ht77 rfl (lw_app (lw_F q1076 q888 q890 q82) (lw_meth q892)) (List.mem_of_getElem? (i := 1) rfl) (by decide +kernel : m_nMH ⟨"java/util/List", "add", "(Ljava/lang/Object;)Z"⟩ 1) ⟨Nat.le_of_ble_eq_true rfl, Nat.le_of_ble_eq_true rfl⟩ rfl (Nat.le_of_ble_eq_true rfl) dX1_copy_184) (fun r80 M78 hle79 hx => ?_)
      replace hw := hx hle79
      clear hx
      have ht81 : m_tg M78 la0 = 2 := m_le_tg hle79 ht72
      have ht82 : m_tg M78 u2 = 14 := m_le_tg hle79 ht73
      have ht83 : m_tg M78 la1 = 2 := m_le_tg hle79 ht74
      have ht84 : m_tg M78 u56 = 14 := m_le_tg hle79 ht75
      have ht85 : m_tg M78 u66 = 9 := m_le_tg hle79 ht76
      have ht86 : m_tg M78 u54 = 14 := m_le_tg hle79 ht77
      refine pw_pop X dX1_copy_189 ?_
      refine pw_iinc X (lx2 + 1) [(0, vR (some la0)), (1, vR (some la1)), (2, vI (lx2 + 1))] [1, 2, 0] dX1_copy_190 rfl (by first | rfl | decide) (by decide) rfl ?_
      refine pw_goto X 151 dX1_copy_193 (by decide) ?_
      exact ih _ la0 la1 (lx2 + 1) hw
theorem bk_X1_copy_104 (G : Gp) (C : m_Cx) (n0 s0 : Nat) (M0 : Mem) (Q : Option Nat → Mem → Prop) (X : m_in G C RX1 cX1_copy 3 (some (.object "PatrolDesk$State")) "copy" 7 161 n0 s0) : ∀ (n : Nat) (M : Mem) (la0 : Nat) (la1 : Nat) (lx2 : Int32) (hw : wp_X1_copy_b104 G.2 Q n M la0 la1 lx2), pW G C 3 n0 s0 M0 (m_Q G C n0 s0 (va_Qq (m_q1 M0 Q) (m_W G) (m_A G))) M 104 [(0, vR (some la0)), (1, vR (some la1)), (2, vI lx2)] [] := by
  intro n
  induction n with
  | zero => intro M la0 la1 lx2 hw; exact hw.elim
  | succ n ih =>
    intro M la0 la1 lx2 hw
    refine pw_iload_n X dX1_copy_104 rfl rfl ?_
    refine pw_aload_n X dX1_copy_105 rfl rfl ?_
    obtain ⟨ht1, hw⟩ := hw
    obtain ⟨u2, he3, hw⟩ := hw
    refine pw_get X (q := (RX1, TX1, tyX1, 8)) (ci := 1) (k := 2) (ref := "PatrolDesk$State") (vR (some u2)) ht1 rfl (by decide) in_X1 q165 (Or.inl rfl) (by rw [he3]; rfl) dX1_copy_106 ?_
    obtain ⟨ht4, hw⟩ := hw
    refine pw_runi X (m_cF X (b := u2) (ci := 13) (q := (RJ2, TJ2, tyJ2, 3)) (met_J2_size G C.2.1 M u2 _ hw) ht4 rfl (lw_app (lw_F q1026 q994 q996 q82) (lw_meth q998)) (List.mem_of_getElem? (i := 6) rfl) (by decide +kernel : m_nMH ⟨"java/util/List", "size", "()I"⟩ 0) ⟨Nat.le_of_ble_eq_true rfl, Nat.le_of_ble_eq_true rfl⟩ rfl (Nat.le_of_ble_eq_true rfl) dX1_copy_109) (fun r7 M5 hle6 hx => ?_)
    replace hw := hx hle6
    clear hx
    have ht8 : m_tg M5 la0 = 2 := m_le_tg hle6 ht1
    have ht9 : m_tg M5 u2 = 14 := m_le_tg hle6 ht4
    refine pw_icmp_ge X 149 dX1_copy_114 (by decide) (fun c10 => ?_) (fun c10 => ?_)
    · replace hw := hw.1 c10
      refine pw_iconst X 0 dX1_copy_149 (by decide) ?_
      refine pw_istore_n X [(0, vR (some la0)), (1, vR (some la1)), (2, vI 0)] [1, 2, 0] dX1_copy_150 rfl (by decide) rfl ?_
      obtain ⟨n151, hw⟩ := hw
      exact bk_X1_copy_151 G C n0 s0 M0 Q X n151 _ la0 la1 0 hw
    · replace hw := hw.2 c10
      refine pw_aload_n X dX1_copy_117 rfl rfl ?_
      obtain ⟨ht11, hw⟩ := hw
      obtain ⟨u12, he13, hw⟩ := hw
      refine pw_get X (q := (RX1, TX1, tyX1, 8)) (ci := 1) (k := 2) (ref := "PatrolDesk$State") (vR (some u12)) ht11 rfl (by decide) in_X1 q165 (Or.inl rfl) (by rw [he13]; rfl) dX1_copy_118 ?_
      refine pw_aload_n X dX1_copy_121 rfl rfl ?_
      obtain ⟨u14, he15, hw⟩ := hw
      refine pw_get X (q := (RX1, TX1, tyX1, 8)) (ci := 1) (k := 2) (ref := "PatrolDesk$State") (vR (some u14)) ht8 rfl (by decide) in_X1 q165 (Or.inl rfl) (by rw [he15]; rfl) dX1_copy_122 ?_
      refine pw_iload_n X dX1_copy_125 rfl rfl ?_
      obtain ⟨ht16, hw⟩ := hw
      refine pw_runq X (m_cF X (b := u14) (ci := 13) (q := (RJ2, TJ2, tyJ2, 3)) (met_J2_get G C.2.1 M5 u14 lx2 _ hw) ht16 rfl (lw_app (lw_F q1028 q1031 q1033 q82) (lw_meth q1035)) (List.mem_of_getElem? (i := 2) rfl) (by decide +kernel : m_nMH ⟨"java/util/List", "get", "(I)Ljava/lang/Object;"⟩ 1) ⟨Nat.le_of_ble_eq_true rfl, Nat.le_of_ble_eq_true rfl⟩ rfl (Nat.le_of_ble_eq_true rfl) dX1_copy_126) (fun r19 M17 hle18 hx => ?_)
      replace hw := hx hle18
      clear hx
      have ht20 : m_tg M17 la0 = 2 := m_le_tg hle18 ht8
      have ht21 : m_tg M17 u2 = 14 := m_le_tg hle18 ht9
      have ht22 : m_tg M17 la1 = 2 := m_le_tg hle18 ht11
      have ht23 : m_tg M17 u14 = 14 := m_le_tg hle18 ht16
      obtain ⟨u24, he25, hw⟩ := hw
      subst he25
      obtain ⟨ht26, hw⟩ := hw
      refine pw_cast X 7 (q := (RX7, TX7, tyX7, 5)) rfl (fun _ h => by cases h; exact ht26) q1160 dX1_copy_131 ?_
      refine pw_runq X (m_cV X (b := u24) (ci := 7) (q := (RX7, TX7, tyX7, 5)) (met_X7_copy G C.2.1 M17 u24 _ hw) ht26 rfl (lw_V q1161 q1162 q1163 q111 q1164) ⟨rfl, nh_X7_copy⟩ ⟨Nat.le_of_ble_eq_true rfl, Nat.le_of_ble_eq_true rfl⟩ rfl (Nat.le_of_ble_eq_true rfl) dX1_copy_134) (fun r29 M27 hle28 hx => ?_)
      replace hw := hx hle28
      clear hx
      have ht30 : m_tg M27 la0 = 2 := m_le_tg hle28 ht20
      have ht31 : m_tg M27 u2 = 14 := m_le_tg hle28 ht21
      have ht32 : m_tg M27 la1 = 2 := m_le_tg hle28 ht22
      have ht33 : m_tg M27 u14 = 14 := m_le_tg hle28 ht23
      have ht34 : m_tg M27 u24 = 8 := m_le_tg hle28 ht26
      obtain ⟨ht35, hw⟩ := hw
      refine pw_runi X (m_cF X (b := u12) (ci := 13) (q := (RJ2, TJ2, tyJ2, 3)) (met_J2_add G C.2.1 M27 u12 r29 _ hw) ht35 rfl (lw_app (lw_F q1076 q888 q890 q82) (lw_meth q892)) (List.mem_of_getElem? (i := 1) rfl) (by decide +kernel : m_nMH ⟨"java/util/List", "add", "(Ljava/lang/Object;)Z"⟩ 1) ⟨Nat.le_of_ble_eq_true rfl, Nat.le_of_ble_eq_true rfl⟩ rfl (Nat.le_of_ble_eq_true rfl) dX1_copy_137) (fun r38 M36 hle37 hx => ?_)
      replace hw := hx hle37
      clear hx
      have ht39 : m_tg M36 la0 = 2 := m_le_tg hle37 ht30
      have ht40 : m_tg M36 u2 = 14 := m_le_tg hle37 ht31
      have ht41 : m_tg M36 la1 = 2 := m_le_tg hle37 ht32
      have ht42 : m_tg M36 u14 = 14 := m_le_tg hle37 ht33
      have ht43 : m_tg M36 u24 = 8 := m_le_tg hle37 ht34
      have ht44 : m_tg M36 u12 = 14 := m_le_tg hle37 ht35
      refine pw_pop X dX1_copy_142 ?_
      refine pw_iinc X (lx2 + 1) [(0, vR (some la0)), (1, vR (some la1)), (2, vI (lx2 + 1))] [1, 2, 0] dX1_copy_143 rfl (by first | rfl | decide) (by decide) rfl ?_
      refine pw_goto X 104 dX1_copy_146 (by decide) ?_
      exact ih _ la0 la1 (lx2 + 1) hw
theorem bk_X1_copy_57 (G : Gp) (C : m_Cx) (n0 s0 : Nat) (M0 : Mem) (Q : Option Nat → Mem → Prop) (X : m_in G C RX1 cX1_copy 3 (some (.object "PatrolDesk$State")) "copy" 7 161 n0 s0) : ∀ (n : Nat) (M : Mem) (la0 : Nat) (la1 : Nat) (lx2 : Int32) (hw : wp_X1_copy_b57 G.2 Q n M la0 la1 lx2), pW G C 3 n0 s0 M0 (m_Q G C n0 s0 (va_Qq (m_q1 M0 Q) (m_W G) (m_A G))) M 57 [(0, vR (some la0)), (1, vR (some la1)), (2, vI lx2)] [] := by
  intro n
  induction n with
  | zero => intro M la0 la1 lx2 hw; exact hw.elim
  | succ n ih =>
    intro M la0 la1 lx2 hw
    refine pw_iload_n X dX1_copy_57 rfl rfl ?_
    refine pw_aload_n X dX1_copy_58 rfl rfl ?_
    obtain ⟨ht1, hw⟩ := hw
    obtain ⟨u2, he3, hw⟩ := hw
    refine pw_get X (q := (RX1, TX1, tyX1, 8)) (ci := 1) (k := 1) (ref := "PatrolDesk$State") (vR (some u2)) ht1 rfl (by decide) in_X1 q163 (Or.inl rfl) (by rw [he3]; rfl) dX1_copy_59 ?_
    obtain ⟨ht4, hw⟩ := hw
    refine pw_runi X (m_cF X (b := u2) (ci := 13) (q := (RJ2, TJ2, tyJ2, 3)) (met_J2_size G C.2.1 M u2 _ hw) ht4 rfl (lw_app (lw_F q1026 q994 q996 q82) (lw_meth q998)) (List.mem_of_getElem? (i := 6) rfl) (by decide +kernel : m_nMH ⟨"java/util/List", "size", "()I"⟩ 0) ⟨Nat.le_of_ble_eq_true rfl, Nat.le_of_ble_eq_true rfl⟩ rfl (Nat.le_of_ble_eq_true rfl) dX1_copy_62) (fun r7 M5 hle6 hx => ?_)
    replace hw := hx hle6
    clear hx
    have ht8 : m_tg M5 la0 = 2 := m_le_tg hle6 ht1
    have ht9 : m_tg M5 u2 = 14 := m_le_tg hle6 ht4
    refine pw_icmp_ge X 102 dX1_copy_67 (by decide) (fun c10 => ?_) (fun c10 => ?_)
    · replace hw := hw.1 c10
      refine pw_iconst X 0 dX1_copy_102 (by decide) ?_
      refine pw_istore_n X [(0, vR (some la0)), (1, vR (some la1)), (2, vI 0)] [1, 2, 0] dX1_copy_103 rfl (by decide) rfl ?_
      obtain ⟨n104, hw⟩ := hw
      exact bk_X1_copy_104 G C n0 s0 M0 Q X n104 _ la0 la1 0 hw
    · replace hw := hw.2 c10
      refine pw_aload_n X dX1_copy_70 rfl rfl ?_
      obtain ⟨ht11, hw⟩ := hw
      obtain ⟨u12, he13, hw⟩ := hw
      refine pw_get X (q := (RX1, TX1, tyX1, 8)) (ci := 1) (k := 1) (ref := "PatrolDesk$State") (vR (some u12)) ht11 rfl (by decide) in_X1 q163 (Or.inl rfl) (by rw [he13]; rfl) dX1_copy_71 ?_
      refine pw_aload_n X dX1_copy_74 rfl rfl ?_
      obtain ⟨u14, he15, hw⟩ := hw
      refine pw_get X (q := (RX1, TX1, tyX1, 8)) (ci := 1) (k := 1) (ref := "PatrolDesk$State") (vR (some u14)) ht8 rfl (by decide) in_X1 q163 (Or.inl rfl) (by rw [he15]; rfl) dX1_copy_75 ?_
      refine pw_iload_n X dX1_copy_78 rfl rfl ?_
      obtain ⟨ht16, hw⟩ := hw
      refine pw_runq X (m_cF X (b := u14) (ci := 13) (q := (RJ2, TJ2, tyJ2, 3)) (met_J2_get G C.2.1 M5 u14 lx2 _ hw) ht16 rfl (lw_app (lw_F q1028 q1031 q1033 q82) (lw_meth q1035)) (List.mem_of_getElem? (i := 2) rfl) (by decide +kernel : m_nMH ⟨"java/util/List", "get", "(I)Ljava/lang/Object;"⟩ 1) ⟨Nat.le_of_ble_eq_true rfl, Nat.le_of_ble_eq_true rfl⟩ rfl (Nat.le_of_ble_eq_true rfl) dX1_copy_79) (fun r19 M17 hle18 hx => ?_)
      replace hw := hx hle18
      clear hx
      have ht20 : m_tg M17 la0 = 2 := m_le_tg hle18 ht8
      have ht21 : m_tg M17 u2 = 14 := m_le_tg hle18 ht9
      have ht22 : m_tg M17 la1 = 2 := m_le_tg hle18 ht11
      have ht23 : m_tg M17 u14 = 14 := m_le_tg hle18 ht16
      obtain ⟨u24, he25, hw⟩ := hw
      subst he25
      obtain ⟨ht26, hw⟩ := hw
      refine pw_cast X 6 (q := (RX6, TX6, tyX6, 15)) rfl (fun _ h => by cases h; exact ht26) q1077 dX1_copy_84 ?_
      refine pw_runq X (m_cV X (b := u24) (ci := 6) (q := (RX6, TX6, tyX6, 15)) (met_X6_copy G C.2.1 M17 u24 _ hw) ht26 rfl (lw_V q1078 q1079 q1080 q110 q1081) ⟨rfl, nh_X6_copy⟩ ⟨Nat.le_of_ble_eq_true rfl, Nat.le_of_ble_eq_true rfl⟩ rfl (Nat.le_of_ble_eq_true rfl) dX1_copy_87) (fun r29 M27 hle28 hx => ?_)
      replace hw := hx hle28
      clear hx
      have ht30 : m_tg M27 la0 = 2 := m_le_tg hle28 ht20
      have ht31 : m_tg M27 u2 = 14 := m_le_tg hle28 ht21
      have ht32 : m_tg M27 la1 = 2 := m_le_tg hle28 ht22
      have ht33 : m_tg M27 u14 = 14 := m_le_tg hle28 ht23
      have ht34 : m_tg M27 u24 = 7 := m_le_tg hle28 ht26
      obtain ⟨ht35, hw⟩ := hw
      refine pw_runi X (m_cF X (b := u12) (ci := 13) (q := (RJ2, TJ2, tyJ2, 3)) (met_J2_add G C.2.1 M27 u12 r29 _ hw) ht35 rfl (lw_app (lw_F q1076 q888 q890 q82) (lw_meth q892)) (List.mem_of_getElem? (i := 1) rfl) (by decide +kernel : m_nMH ⟨"java/util/List", "add", "(Ljava/lang/Object;)Z"⟩ 1) ⟨Nat.le_of_ble_eq_true rfl, Nat.le_of_ble_eq_true rfl⟩ rfl (Nat.le_of_ble_eq_true rfl) dX1_copy_90) (fun r38 M36 hle37 hx => ?_)
      replace hw := hx hle37
      clear hx
      have ht39 : m_tg M36 la0 = 2 := m_le_tg hle37 ht30
      have ht40 : m_tg M36 u2 = 14 := m_le_tg hle37 ht31
      have ht41 : m_tg M36 la1 = 2 := m_le_tg hle37 ht32
      have ht42 : m_tg M36 u14 = 14 := m_le_tg hle37 ht33
      have ht43 : m_tg M36 u24 = 7 := m_le_tg hle37 ht34
      have ht44 : m_tg M36 u12 = 14 := m_le_tg hle37 ht35
      refine pw_pop X dX1_copy_95 ?_
      refine pw_iinc X (lx2 + 1) [(0, vR (some la0)), (1, vR (some la1)), (2, vI (lx2 + 1))] [1, 2, 0] dX1_copy_96 rfl (by first | rfl | decide) (by decide) rfl ?_
      refine pw_goto X 57 dX1_copy_99 (by decide) ?_
      exact ih _ la0 la1 (lx2 + 1) hw
theorem bk_X1_copy_10 (G : Gp) (C : m_Cx) (n0 s0 : Nat) (M0 : Mem) (Q : Option Nat → Mem → Prop) (X : m_in G C RX1 cX1_copy 3 (some (.object "PatrolDesk$State")) "copy" 7 161 n0 s0) : ∀ (n : Nat) (M : Mem) (la0 : Nat) (la1 : Nat) (lx2 : Int32) (hw : wp_X1_copy_b10 G.2 Q n M la0 la1 lx2), pW G C 3 n0 s0 M0 (m_Q G C n0 s0 (va_Qq (m_q1 M0 Q) (m_W G) (m_A G))) M 10 [(0, vR (some la0)), (1, vR (some la1)), (2, vI lx2)] [] := by
  intro n
  induction n with
  | zero => intro M la0 la1 lx2 hw; exact hw.elim
  | succ n ih =>
    intro M la0 la1 lx2 hw
    refine pw_iload_n X dX1_copy_10 rfl rfl ?_
    refine pw_aload_n X dX1_copy_11 rfl rfl ?_
    obtain ⟨ht1, hw⟩ := hw
    obtain ⟨u2, he3, hw⟩ := hw
    refine pw_get X (q := (RX1, TX1, tyX1, 8)) (ci := 1) (k := 0) (ref := "PatrolDesk$State") (vR (some u2)) ht1 rfl (by decide) in_X1 q161 (Or.inl rfl) (by rw [he3]; rfl) dX1_copy_12 ?_
    obtain ⟨ht4, hw⟩ := hw
    refine pw_runi X (m_cF X (b := u2) (ci := 13) (q := (RJ2, TJ2, tyJ2, 3)) (met_J2_size G C.2.1 M u2 _ hw) ht4 rfl (lw_app (lw_F q1026 q994 q996 q82) (lw_meth q998)) (List.mem_of_getElem? (i := 6) rfl) (by decide +kernel : m_nMH ⟨"java/util/List", "size", "()I"⟩ 0) ⟨Nat.le_of_ble_eq_true rfl, Nat.le_of_ble_eq_true rfl⟩ rfl (Nat.le_of_ble_eq_true rfl) dX1_copy_15) (fun r7 M5 hle6 hx => ?_)
    replace hw := hx hle6
    clear hx
    have ht8 : m_tg M5 la0 = 2 := m_le_tg hle6 ht1
    have ht9 : m_tg M5 u2 = 14 := m_le_tg hle6 ht4
    refine pw_icmp_ge X 55 dX1_copy_20 (by decide) (fun c10 => ?_) (fun c10 => ?_)
    · replace hw := hw.1 c10
      refine pw_iconst X 0 dX1_copy_55 (by decide) ?_
      refine pw_istore_n X [(0, vR (some la0)), (1, vR (some la1)), (2, vI 0)] [1, 2, 0] dX1_copy_56 rfl (by decide) rfl ?_
      obtain ⟨n57, hw⟩ := hw
      exact bk_X1_copy_57 G C n0 s0 M0 Q X n57 _ la0 la1 0 hw
    · replace hw := hw.2 c10
      refine pw_aload_n X dX1_copy_23 rfl rfl ?_
      obtain ⟨ht11, hw⟩ := hw
      obtain ⟨u12, he13, hw⟩ := hw
      refine pw_get X (q := (RX1, TX1, tyX1, 8)) (ci := 1) (k := 0) (ref := "PatrolDesk$State") (vR (some u12)) ht11 rfl (by decide) in_X1 q161 (Or.inl rfl) (by rw [he13]; rfl) dX1_copy_24 ?_
      refine pw_aload_n X dX1_copy_27 rfl rfl ?_
      obtain ⟨u14, he15, hw⟩ := hw
      refine pw_get X (q := (RX1, TX1, tyX1, 8)) (ci := 1) (k := 0) (ref := "PatrolDesk$State") (vR (some u14)) ht8 rfl (by decide) in_X1 q161 (Or.inl rfl) (by rw [he15]; rfl) dX1_copy_28 ?_
      refine pw_iload_n X dX1_copy_31 rfl rfl ?_
      obtain ⟨ht16, hw⟩ := hw
      refine pw_runq X (m_cF X (b := u14) (ci := 13) (q := (RJ2, TJ2, tyJ2, 3)) (met_J2_get G C.2.1 M5 u14 lx2 _ hw) ht16 rfl (lw_app (lw_F q1028 q1031 q1033 q82) (lw_meth q1035)) (List.mem_of_getElem? (i := 2) rfl) (by decide +kernel : m_nMH ⟨"java/util/List", "get", "(I)Ljava/lang/Object;"⟩ 1) ⟨Nat.le_of_ble_eq_true rfl, Nat.le_of_ble_eq_true rfl⟩ rfl (Nat.le_of_ble_eq_true rfl) dX1_copy_32) (fun r19 M17 hle18 hx => ?_)
      replace hw := hx hle18
      clear hx
      have ht20 : m_tg M17 la0 = 2 := m_le_tg hle18 ht8
      have ht21 : m_tg M17 u2 = 14 := m_le_tg hle18 ht9
      have ht22 : m_tg M17 la1 = 2 := m_le_tg hle18 ht11
      have ht23 : m_tg M17 u14 = 14 := m_le_tg hle18 ht16
      obtain ⟨u24, he25, hw⟩ := hw
      subst he25
      obtain ⟨ht26, hw⟩ := hw
      refine pw_cast X 5 (q := (RX5, TX5, tyX5, 5)) rfl (fun _ h => by cases h; exact ht26) q1040 dX1_copy_37 ?_
      refine pw_runq X (m_cV X (b := u24) (ci := 5) (q := (RX5, TX5, tyX5, 5)) (met_X5_copy G C.2.1 M17 u24 _ hw) ht26 rfl (lw_V q1041 q1042 q1043 q109 q1044) ⟨rfl, nh_X5_copy⟩ ⟨Nat.le_of_ble_eq_true rfl, Nat.le_of_ble_eq_true rfl⟩ rfl (Nat.le_of_ble_eq_true rfl) dX1_copy_40) (fun r29 M27 hle28 hx => ?_)
      replace hw := hx hle28
      clear hx
      have ht30 : m_tg M27 la0 = 2 := m_le_tg hle28 ht20
      have ht31 : m_tg M27 u2 = 14 := m_le_tg hle28 ht21
      have ht32 : m_tg M27 la1 = 2 := m_le_tg hle28 ht22
      have ht33 : m_tg M27 u14 = 14 := m_le_tg hle28 ht23
      have ht34 : m_tg M27 u24 = 6 := m_le_tg hle28 ht26
      obtain ⟨ht35, hw⟩ := hw
      refine pw_runi X (m_cF X (b := u12) (ci := 13) (q := (RJ2, TJ2, tyJ2, 3)) (met_J2_add G C.2.1 M27 u12 r29 _ hw) ht35 rfl (lw_app (lw_F q1076 q888 q890 q82) (lw_meth q892)) (List.mem_of_getElem? (i := 1) rfl) (by decide +kernel : m_nMH ⟨"java/util/List", "add", "(Ljava/lang/Object;)Z"⟩ 1) ⟨Nat.le_of_ble_eq_true rfl, Nat.le_of_ble_eq_true rfl⟩ rfl (Nat.le_of_ble_eq_true rfl) dX1_copy_43) (fun r38 M36 hle37 hx => ?_)
      replace hw := hx hle37
      clear hx
      have ht39 : m_tg M36 la0 = 2 := m_le_tg hle37 ht30
      have ht40 : m_tg M36 u2 = 14 := m_le_tg hle37 ht31
      have ht41 : m_tg M36 la1 = 2 := m_le_tg hle37 ht32
      have ht42 : m_tg M36 u14 = 14 := m_le_tg hle37 ht33
      have ht43 : m_tg M36 u24 = 6 := m_le_tg hle37 ht34
      have ht44 : m_tg M36 u12 = 14 := m_le_tg hle37 ht35
      refine pw_pop X dX1_copy_48 ?_
      refine pw_iinc X (lx2 + 1) [(0, vR (some la0)), (1, vR (some la1)), (2, vI (lx2 + 1))] [1, 2, 0] dX1_copy_49 rfl (by first | rfl | decide) (by decide) rfl ?_
      refine pw_goto X 10 dX1_copy_52 (by decide) ?_
      exact ih _ la0 la1 (lx2 + 1) hw
theorem bk_X1_copy_0 (G : Gp) (C : m_Cx) (n0 s0 : Nat) (M0 : Mem) (Q : Option Nat → Mem → Prop) (X : m_in G C RX1 cX1_copy 3 (some (.object "PatrolDesk$State")) "copy" 7 161 n0 s0) (M : Mem) (a0 : Nat) (hw : wp_X1_copy G.2 M a0 Q) : pW G C 3 n0 s0 M0 (m_Q G C n0 s0 (va_Qq (m_q1 M0 Q) (m_W G) (m_A G))) M 0 [(0, vR (some a0))] [] := by
  obtain ⟨hf1, hw⟩ := hw
  refine pw_new X (ci := 1) (q := (RX1, TX1, tyX1, 8)) hf1 rfl in_X1 tyX1_ok q1023 q130 q79 dX1_copy_0 (fun u2 h03 => ?_)
  obtain ⟨M4, hM5⟩ : ∃ z : Mem, z = (m_al M u2 2 0 8) := ⟨_, rfl⟩
  replace hw := hw u2 h03 M4 hM5
  have hle6 : m_le M M4 := by rw [hM5]; exact m_le_al h03
  change pW _ _ _ _ _ _ _ (m_al M u2 2 0 8) _ _ _
  rw [← hM5]
  have ht7 : m_tg M4 u2 = 2 := by rw [hM5, m_tg_al, if_pos rfl]
  refine pw_dup X dX1_copy_3 ?_
  refine pw_runv X (m_cI X (b := u2) (met_X1_init G C.2.1 M4 u2 _ hw) q133 q79 q1024 q132 rfl nh_X1_init ⟨Nat.le_of_ble_eq_true rfl, Nat.le_of_ble_eq_true rfl⟩ rfl (Nat.le_of_ble_eq_true rfl) dX1_copy_4) (fun M8 hle9 hx => ?_)
  replace hw := hx hle9
  clear hx
  have ht10 : m_tg M8 u2 = 2 := m_le_tg hle9 ht7
  refine pw_astore_n X [(0, vR (some a0)), (1, vR (some u2))] [1, 0] dX1_copy_7 rfl (by decide) rfl ?_
  refine pw_iconst X 0 dX1_copy_8 (by decide) ?_
  refine pw_istore_n X [(0, vR (some a0)), (1, vR (some u2)), (2, vI 0)] [1, 2, 0] dX1_copy_9 rfl (by decide) rfl ?_
  obtain ⟨n10, hw⟩ := hw
  exact bk_X1_copy_10 G C n0 s0 M0 Q X n10 _ a0 u2 0 hw
theorem met_X1_copy (G : Gp) (l : Launch) (M : Mem) (a0 : Nat) (Q : Option Nat → Mem → Prop) (hw : wp_X1_copy G.2 M a0 Q) : m_K G l yX1_copy cX1_copy 3 (some (.object "PatrolDesk$State")) 7 161 [vR (some a0)] M (va_Qq (m_q1 M Q) (m_W G) (m_A G)) := by
  refine m_met (by decide) (Nat.le_of_ble_eq_true rfl) (fun C e X => ?_)
  exact bk_X1_copy_0 G C _ _ M Q X M a0 hw
theorem nh_X1_copy : m_nMH yX1_copy 0 := by decide +kernel

def wp_X1_far (g : Nat → Nat) (M : Mem) (a0 : Nat) (x1 : Int32) (x2 : Int32) (Q : Int32 → Mem → Prop) : Prop := m_tg M a0 = 2 ∧ ∃ u2 : Nat, (m_gr M a0 5) = some u2 ∧ m_tg M u2 = 3 ∧ ∃ u5 : Nat, (m_gr M u2 2) = some u5 ∧ m_tg M u5 = 105 ∧ vp_in x1 (m_ln M u5) ∧ ∃ u9 : Nat, (m_gr M u5 (Int32.toNatClampNeg x1)) = some u9 ∧ m_tg M u9 = 101 ∧ vp_in x2 (m_ln M u9) ∧ Q (m_gi M u9 (Int32.toNatClampNeg x2)) M
theorem bk_X1_far_0 (G : Gp) (C : m_Cx) (n0 s0 : Nat) (M0 : Mem) (Q : Int32 → Mem → Prop) (X : m_in G C RX1 cX1_far 3 (some .int) "far" 0 0 n0 s0) (M : Mem) (a0 : Nat) (x1 : Int32) (x2 : Int32) (hw : wp_X1_far G.2 M a0 x1 x2 Q) : pW G C 3 n0 s0 M0 (m_Q G C n0 s0 (va_Qi (m_q1 M0 Q) (m_W G) (m_A G))) M 0 [(0, vR (some a0)), (1, vI x1), (2, vI x2)] [] := by
  refine pw_aload_n X dX1_far_0 rfl rfl ?_
  obtain ⟨ht1, hw⟩ := hw
  obtain ⟨u2, he3, hw⟩ := hw
  refine pw_get X (q := (RX1, TX1, tyX1, 8)) (ci := 1) (k := 5) (ref := "PatrolDesk$State") (vR (some u2)) ht1 rfl (by decide) in_X1 q171 (Or.inl rfl) (by rw [he3]; rfl) dX1_far_1 ?_
  obtain ⟨ht4, hw⟩ := hw
  obtain ⟨u5, he6, hw⟩ := hw
  refine pw_getN X (q := (RX2, TX2, tyX2, 4)) (ci := 2) (k := 2) (ref := "PatrolDesk$Roads") (host := "PatrolDesk") (vR (some u5)) ht4 rfl (by decide) in_X2 q937 (Or.inl rfl) (by rw [he6]; rfl) dX1_far_4 ?_
  refine pw_iload_n X dX1_far_7 rfl rfl ?_
  obtain ⟨ht7, hw⟩ := hw
  obtain ⟨hi8, hw⟩ := hw
  obtain ⟨u9, he10, hw⟩ := hw
  refine pw_aald X (Or.inr (Or.inr ht7)) hi8 dX1_far_8 ?_
  rw [he10]
  refine pw_iload_n X dX1_far_9 rfl rfl ?_
  obtain ⟨ht11, hw⟩ := hw
  obtain ⟨hi12, hw⟩ := hw
  refine pw_iald X ht11 hi12 dX1_far_10 ?_
  exact pw_iret X hw dX1_far_11
theorem met_X1_far (G : Gp) (l : Launch) (M : Mem) (a0 : Nat) (x1 : Int32) (x2 : Int32) (Q : Int32 → Mem → Prop) (hw : wp_X1_far G.2 M a0 x1 x2 Q) : m_K G l yX1_far cX1_far 3 (some .int) 0 0 [vR (some a0), vI x1, vI x2] M (va_Qi (m_q1 M Q) (m_W G) (m_A G)) := by
  refine m_met (by decide) (Nat.le_of_ble_eq_true rfl) (fun C e X => ?_)
  exact bk_X1_far_0 G C _ _ M Q X M a0 x1 x2 hw
theorem nh_X1_far : m_nMH yX1_far 2 := by decide +kernel

def wp_X1_openCall_b2 (g : Nat → Nat) (Q : Option Nat → Mem → Prop) : Nat → Mem → Nat → Int32 → Int32 → Prop
  | 0 => fun _ _ _ _ => False
  | n + 1 => fun M la0 lx1 lx2 => m_tg M la0 = 2 ∧ ∃ u2 : Nat, (m_gr M la0 3) = some u2 ∧ m_tg M u2 = 14 ∧ wp_J2_size g M u2 (fun (r7 : Int32) (M5 : Mem) => m_le M M5 → ((r7 ≤ lx2 → Q none M5) ∧ (¬ r7 ≤ lx2 → ∃ u11 : Nat, (m_gr M5 la0 3) = some u11 ∧ m_tg M5 u11 = 14 ∧ wp_J2_get g M5 u11 lx2 (fun (r16 : Option Nat) (M14 : Mem) => m_le M5 M14 → ∃ u20 : Nat, r16 = some u20 ∧ m_tg M14 u20 = 9 ∧ ((¬ (m_gi M14 u20 1) = lx1 → wp_X1_openCall_b2 g Q n M14 la0 lx1 (lx2 + 1)) ∧ ((m_gi M14 u20 1) = lx1 → ∃ u24 : Nat, (m_gr M14 la0 3) = some u24 ∧ m_tg M14 u24 = 14 ∧ wp_J2_get g M14 u24 lx2 (fun (r29 : Option Nat) (M27 : Mem) => m_le M14 M27 → ∃ u35 : Nat, r29 = some u35 ∧ m_tg M27 u35 = 9 ∧ wp_X8_isUnderWay g M27 u35 (fun (r40 : Int32) (M38 : Mem) => m_le M27 M38 → ((r40 = 0 → wp_X1_openCall_b2 g Q n M38 la0 lx1 (lx2 + 1)) ∧ (¬ r40 = 0 → ∃ u48 : Nat, (m_gr M38 la0 3) = some u48 ∧ m_tg M38 u48 = 14 ∧ wp_J2_get g M38 u48 lx2 (fun (r53 : Option Nat) (M51 : Mem) => m_le M38 M51 → ∃ u61 : Nat, r53 = some u61 ∧ m_tg M51 u61 = 9 ∧ Q (some u61) M51)))))))))))
def wp_X1_openCall (g : Nat → Nat) (M : Mem) (a0 : Nat) (x1 : Int32) (Q : Option Nat → Mem → Prop) : Prop := ∃ j2 : Nat, wp_X1_openCall_b2 g Q j2 M a0 x1 0
theorem bk_X1_openCall_2 (G : Gp) (C : m_Cx) (n0 s0 : Nat) (M0 : Mem) (Q : Option Nat → Mem → Prop) (X : m_in G C RX1 cX1_openCall 3 (some (.object "PatrolDesk$Call")) "openCall" 3 64 n0 s0) : ∀ (n : Nat) (M : Mem) (la0 : Nat) (lx1 : Int32) (lx2 : Int32) (hw : wp_X1_openCall_b2 G.2 Q n M la0 lx1 lx2), pW G C 3 n0 s0 M0 (m_Q G C n0 s0 (va_Qq (m_q1 M0 Q) (m_W G) (m_A G))) M 2 [(0, vR (some la0)), (1, vI lx1), (2, vI lx2)] [] := by
  intro n
  induction n with
  | zero => intro M la0 lx1 lx2 hw; exact hw.elim
  | succ n ih =>
    intro M la0 lx1 lx2 hw
    refine pw_iload_n X dX1_openCall_2 rfl rfl ?_
    refine pw_aload_n X dX1_openCall_3 rfl rfl ?_
    obtain ⟨ht1, hw⟩ := hw
    obtain ⟨u2, he3, hw⟩ := hw
    refine pw_get X (q := (RX1, TX1, tyX1, 8)) (ci := 1) (k := 3) (ref := "PatrolDesk$State") (vR (some u2)) ht1 rfl (by decide) in_X1 q167 (Or.inl rfl) (by rw [he3]; rfl) dX1_openCall_4 ?_
    obtain ⟨ht4, hw⟩ := hw
    refine pw_runi X (m_cF X (b := u2) (ci := 13) (q := (RJ2, TJ2, tyJ2, 3)) (met_J2_size G C.2.1 M u2 _ hw) ht4 rfl (lw_app (lw_F q1026 q994 q996 q82) (lw_meth q998)) (List.mem_of_getElem? (i := 6) rfl) (by decide +kernel : m_nMH ⟨"java/util/List", "size", "()I"⟩ 0) ⟨Nat.le_of_ble_eq_true rfl, Nat.le_of_ble_eq_true rfl⟩ rfl (Nat.le_of_ble_eq_true rfl) dX1_openCall_7) (fun r7 M5 hle6 hx => ?_)
    replace hw := hx hle6
    clear hx
    have ht8 : m_tg M5 la0 = 2 := m_le_tg hle6 ht1
    have ht9 : m_tg M5 u2 = 14 := m_le_tg hle6 ht4
    refine pw_icmp_ge X 74 dX1_openCall_12 (by decide) (fun c10 => ?_) (fun c10 => ?_)
    · replace hw := hw.1 c10
      refine pw_null X dX1_openCall_74 ?_
      exact pw_aret X (Or.inl ⟨_, rfl⟩) hw dX1_openCall_75
    · replace hw := hw.2 c10
      refine pw_aload_n X dX1_openCall_15 rfl rfl ?_
      obtain ⟨u11, he12, hw⟩ := hw
      refine pw_get X (q := (RX1, TX1, tyX1, 8)) (ci := 1) (k := 3) (ref := "PatrolDesk$State") (vR (some u11)) ht8 rfl (by decide) in_X1 q167 (Or.inl rfl) (by rw [he12]; rfl) dX1_openCall_16 ?_
      refine pw_iload_n X dX1_openCall_19 rfl rfl ?_
      obtain ⟨ht13, hw⟩ := hw
      refine pw_runq X (m_cF X (b := u11) (ci := 13) (q := (RJ2, TJ2, tyJ2, 3)) (met_J2_get G C.2.1 M5 u11 lx2 _ hw) ht13 rfl (lw_app (lw_F q1028 q1031 q1033 q82) (lw_meth q1035)) (List.mem_of_getElem? (i := 2) rfl) (by decide +kernel : m_nMH ⟨"java/util/List", "get", "(I)Ljava/lang/Object;"⟩ 1) ⟨Nat.le_of_ble_eq_true rfl, Nat.le_of_ble_eq_true rfl⟩ rfl (Nat.le_of_ble_eq_true rfl) dX1_openCall_20) (fun r16 M14 hle15 hx => ?_)
      replace hw := hx hle15
      clear hx
      have ht17 : m_tg M14 la0 = 2 := m_le_tg hle15 ht8
      have ht18 : m_tg M14 u2 = 14 := m_le_tg hle15 ht9
      have ht19 : m_tg M14 u11 = 14 := m_le_tg hle15 ht13
      obtain ⟨u20, he21, hw⟩ := hw
      subst he21
      obtain ⟨ht22, hw⟩ := hw
      refine pw_cast X 8 (q := (RX8, TX8, tyX8, 13)) rfl (fun _ h => by cases h; exact ht22) q1196 dX1_openCall_25 ?_
      refine pw_getN X (q := (RX8, TX8, tyX8, 13)) (ci := 8) (k := 1) (ref := "PatrolDesk$Call") (host := "PatrolDesk") (vI (m_gi M14 u20 1)) ht22 rfl (by decide) in_X8 q1211 (Or.inl rfl) rfl dX1_openCall_28 ?_
      refine pw_iload_n X dX1_openCall_31 rfl rfl ?_
      refine pw_icmp_ne X 68 dX1_openCall_32 (by decide) (fun c23 => ?_) (fun c23 => ?_)
      · replace hw := hw.1 c23
        refine pw_iinc X (lx2 + 1) [(0, vR (some la0)), (1, vI lx1), (2, vI (lx2 + 1))] [1, 2, 0] dX1_openCall_68 rfl (by first | rfl | decide) (by decide) rfl ?_
        refine pw_goto X 2 dX1_openCall_71 (by decide) ?_
        exact ih _ la0 lx1 (lx2 + 1) hw
      · replace hw := hw.2 c23
        refine pw_aload_n X dX1_openCall_35 rfl rfl ?_
        obtain ⟨u24, he25, hw⟩ := hw
        refine pw_get X (q := (RX1, TX1, tyX1, 8)) (ci := 1) (k := 3) (ref := "PatrolDesk$State") (vR (some u24)) ht17 rfl (by decide) in_X1 q167 (Or.inl rfl) (by rw [he25]; rfl) dX1_openCall_36 ?_
        refine pw_iload_n X dX1_openCall_39 rfl rfl ?_
        obtain ⟨ht26, hw⟩ := hw
        refine pw_runq X (m_cF X (b := u24) (ci := 13) (q := (RJ2, TJ2, tyJ2, 3)) (met_J2_get G C.2.1 M14 u24 lx2 _ hw) ht26 rfl (lw_app (lw_F q1028 q1031 q1033 q82) (lw_meth q1035)) (List.mem_of_getElem? (i := 2) rfl) (by decide +kernel : m_nMH ⟨"java/util/List", "get", "(I)Ljava/lang/Object;"⟩ 1) ⟨Nat.le_of_ble_eq_true rfl, Nat.le_of_ble_eq_true rfl⟩ rfl (Nat.le_of_ble_eq_true rfl) dX1_openCall_40) (fun r29 M27 hle28 hx => ?_)
        replace hw := hx hle28
        clear hx
        have ht30 : m_tg M27 la0 = 2 := m_le_tg hle28 ht17
        have ht31 : m_tg M27 u2 = 14 := m_le_tg hle28 ht18
        have ht32 : m_tg M27 u11 = 14 := m_le_tg hle28 ht19
        have ht33 : m_tg M27 u20 = 9 := m_le_tg hle28 ht22
        have ht34 : m_tg M27 u24 = 14 := m_le_tg hle28 ht26
        obtain ⟨u35, he36, hw⟩ := hw
        subst he36
        obtain ⟨ht37, hw⟩ := hw
        refine pw_cast X 8 (q := (RX8, TX8, tyX8, 13)) rfl (fun _ h => by cases h; exact ht37) q1196 dX1_openCall_45 ?_
        refine pw_runi X (m_cV X (b := u35) (ci := 8) (q := (RX8, TX8, tyX8, 13)) (met_X8_isUnderWay G C.2.1 M27 u35 _ hw) ht37 rfl (lw_V q1378 q1379 q1380 q112 q1381) ⟨rfl, nh_X8_isUnderWay⟩ ⟨Nat.le_of_ble_eq_true rfl, Nat.le_of_ble_eq_true rfl⟩ rfl (Nat.le_of_ble_eq_true rfl) dX1_openCall_48) (fun r40 M38 hle39 hx => ?_)
        replace hw := hx hle39
        clear hx
        have ht41 : m_tg M38 la0 = 2 := m_le_tg hle39 ht30
        have ht42 : m_tg M38 u2 = 14 := m_le_tg hle39 ht31
        have ht43 : m_tg M38 u11 = 14 := m_le_tg hle39 ht32
        have ht44 : m_tg M38 u20 = 9 := m_le_tg hle39 ht33
        have ht45 : m_tg M38 u24 = 14 := m_le_tg hle39 ht34
        have ht46 : m_tg M38 u35 = 9 := m_le_tg hle39 ht37
        refine pw_if_eq X 68 dX1_openCall_51 (by decide) (fun c47 => ?_) (fun c47 => ?_)
        · replace hw := hw.1 c47
          refine pw_iinc X (lx2 + 1) [(0, vR (some la0)), (1, vI lx1), (2, vI (lx2 + 1))] [1, 2, 0] dX1_openCall_68 rfl (by first | rfl | decide) (by decide) rfl ?_
          refine pw_goto X 2 dX1_openCall_71 (by decide) ?_
          exact ih _ la0 lx1 (lx2 + 1) hw
        · replace hw := hw.2 c47
          refine pw_aload_n X dX1_openCall_54 rfl rfl ?_
          obtain ⟨u48, he49, hw⟩ := hw
          refine pw_get X (q := (RX1, TX1, tyX1, 8)) (ci := 1) (k := 3) (ref := "PatrolDesk$State") (vR (some u48)) ht41 rfl (by decide) in_X1 q167 (Or.inl rfl) (by rw [he49]; rfl) dX1_openCall_55 ?_
          refine pw_iload_n X dX1_openCall_58 rfl rfl ?_
          obtain ⟨ht50, hw⟩ := hw
          refine pw_runq X (m_cF X (b := u48) (ci := 13) (q := (RJ2, TJ2, tyJ2, 3)) (met_J2_get G C.2.1 M38 u48 lx2 _ hw) ht50 rfl (lw_app (lw_F q1028 q1031 q1033 q82) (lw_meth q1035)) (List.mem_of_getElem? (i := 2) rfl) (by decide +kernel : m_nMH ⟨"java/util/List", "get", "(I)Ljava/lang/Object;"⟩ 1) ⟨Nat.le_of_ble_eq_true rfl, Nat.le_of_ble_eq_true rfl⟩ rfl (Nat.le_of_ble_eq_true rfl) dX1_openCall_59) (fun r53 M51 hle52 hx => ?_)
          replace hw := hx hle52
          clear hx
          have ht54 : m_tg M51 la0 = 2 := m_le_tg hle52 ht41
          have ht55 : m_tg M51 u2 = 14 := m_le_tg hle52 ht42
          have ht56 : m_tg M51 u11 = 14 := m_le_tg hle52 ht43
          have ht57 : m_tg M51 u20 = 9 := m_le_tg hle52 ht44
          have ht58 : m_tg M51 u24 = 14 := m_le_tg hle52 ht45
          have ht59 : m_tg M51 u35 = 9 := m_le_tg hle52 ht46
          have ht60 : m_tg M51 u48 = 14 := m_le_tg hle52 ht50
          obtain ⟨u61, he62, hw⟩ := hw
          subst he62
          obtain ⟨ht63, hw⟩ := hw
          refine pw_cast X 8 (q := (RX8, TX8, tyX8, 13)) rfl (fun _ h => by cases h; exact ht63) q1196 dX1_openCall_64 ?_
          exact pw_aret X (Or.inl ⟨_, rfl⟩) hw dX1_openCall_67
theorem bk_X1_openCall_0 (G : Gp) (C : m_Cx) (n0 s0 : Nat) (M0 : Mem) (Q : Option Nat → Mem → Prop) (X : m_in G C RX1 cX1_openCall 3 (some (.object "PatrolDesk$Call")) "openCall" 3 64 n0 s0) (M : Mem) (a0 : Nat) (x1 : Int32) (hw : wp_X1_openCall G.2 M a0 x1 Q) : pW G C 3 n0 s0 M0 (m_Q G C n0 s0 (va_Qq (m_q1 M0 Q) (m_W G) (m_A G))) M 0 [(0, vR (some a0)), (1, vI x1)] [] := by
  refine pw_iconst X 0 dX1_openCall_0 (by decide) ?_
  refine pw_istore_n X [(0, vR (some a0)), (1, vI x1), (2, vI 0)] [1, 2, 0] dX1_openCall_1 rfl (by decide) rfl ?_
  obtain ⟨n2, hw⟩ := hw
  exact bk_X1_openCall_2 G C n0 s0 M0 Q X n2 _ a0 x1 0 hw
theorem met_X1_openCall (G : Gp) (l : Launch) (M : Mem) (a0 : Nat) (x1 : Int32) (Q : Option Nat → Mem → Prop) (hw : wp_X1_openCall G.2 M a0 x1 Q) : m_K G l yX1_openCall cX1_openCall 3 (some (.object "PatrolDesk$Call")) 3 64 [vR (some a0), vI x1] M (va_Qq (m_q1 M Q) (m_W G) (m_A G)) := by
  refine m_met (by decide) (Nat.le_of_ble_eq_true rfl) (fun C e X => ?_)
  exact bk_X1_openCall_0 G C _ _ M Q X M a0 x1 hw
theorem nh_X1_openCall : m_nMH yX1_openCall 1 := by decide +kernel

def wp_X1_isAhead (g : Nat → Nat) (M : Mem) (a0 : Nat) (a1 : Nat) (a2 : Nat) (Q : Int32 → Mem → Prop) : Prop := m_tg M a0 = 2 ∧ m_tg M a1 = 9 ∧ wp_X8_rest g M a1 (m_gi M a0 7) (fun (r5 : Int32) (M3 : Mem) => m_le M M3 → m_tg M3 a2 = 9 ∧ wp_X8_rest g M3 a2 (m_gi M3 a0 7) (fun (r11 : Int32) (M9 : Mem) => m_le M3 M9 → ((r5 = r11 → ∃ u16 : Nat, (m_gr M9 a0 0) = some u16 ∧ m_tg M9 u16 = 14 ∧ wp_J2_get g M9 u16 (m_gi M9 a1 1) (fun (r21 : Option Nat) (M19 : Mem) => m_le M9 M19 → ∃ u26 : Nat, r21 = some u26 ∧ m_tg M19 u26 = 6 ∧ ∃ u29 : Nat, (m_gr M19 a0 0) = some u29 ∧ m_tg M19 u29 = 14 ∧ wp_J2_get g M19 u29 (m_gi M19 a2 1) (fun (r34 : Option Nat) (M32 : Mem) => m_le M19 M32 → ∃ u41 : Nat, r34 = some u41 ∧ m_tg M32 u41 = 6 ∧ (((m_gi M19 u26 0) = (m_gi M32 u41 0) → (((m_gi M32 a2 0) ≤ (m_gi M32 a1 0) → Q 0 M32) ∧ (¬ (m_gi M32 a2 0) ≤ (m_gi M32 a1 0) → Q 1 M32))) ∧ (¬ (m_gi M19 u26 0) = (m_gi M32 u41 0) → (((m_gi M19 u26 0) ≤ (m_gi M32 u41 0) → Q 0 M32) ∧ (¬ (m_gi M19 u26 0) ≤ (m_gi M32 u41 0) → Q 1 M32))))))) ∧ (¬ r5 = r11 → wp_X8_rest g M9 a1 (m_gi M9 a0 7) (fun (r49 : Int32) (M47 : Mem) => m_le M9 M47 → wp_X8_rest g M47 a2 (m_gi M47 a0 7) (fun (r55 : Int32) (M53 : Mem) => m_le M47 M53 → ((r55 ≤ r49 → Q 0 M53) ∧ (¬ r55 ≤ r49 → Q 1 M53))))))))
theorem bk_X1_isAhead_0 (G : Gp) (C : m_Cx) (n0 s0 : Nat) (M0 : Mem) (Q : Int32 → Mem → Prop) (X : m_in G C RX1 cX1_isAhead 5 (some .boolean) "isAhead" 3 64 n0 s0) (M : Mem) (a0 : Nat) (a1 : Nat) (a2 : Nat) (hw : wp_X1_isAhead G.2 M a0 a1 a2 Q) : pW G C 5 n0 s0 M0 (m_Q G C n0 s0 (va_Qi (m_q1 M0 Q) (m_W G) (m_A G))) M 0 [(0, vR (some a0)), (1, vR (some a1)), (2, vR (some a2))] [] := by
  refine pw_aload_n X dX1_isAhead_0 rfl rfl ?_
  refine pw_aload_n X dX1_isAhead_1 rfl rfl ?_
  obtain ⟨ht1, hw⟩ := hw
  refine pw_get X (q := (RX1, TX1, tyX1, 8)) (ci := 1) (k := 7) (ref := "PatrolDesk$State") (vI (m_gi M a0 7)) ht1 rfl (by decide) in_X1 q175 (Or.inl rfl) rfl dX1_isAhead_2 ?_
  obtain ⟨ht2, hw⟩ := hw
  refine pw_runi X (m_cV X (b := a1) (ci := 8) (q := (RX8, TX8, tyX8, 13)) (met_X8_rest G C.2.1 M a1 (m_gi M a0 7) _ hw) ht2 rfl (lw_V q1603 q1604 q1605 q112 q1606) ⟨rfl, nh_X8_rest⟩ ⟨Nat.le_of_ble_eq_true rfl, Nat.le_of_ble_eq_true rfl⟩ rfl (Nat.le_of_ble_eq_true rfl) dX1_isAhead_5) (fun r5 M3 hle4 hx => ?_)
  replace hw := hx hle4
  clear hx
  have ht6 : m_tg M3 a0 = 2 := m_le_tg hle4 ht1
  have ht7 : m_tg M3 a1 = 9 := m_le_tg hle4 ht2
  refine pw_aload_n X dX1_isAhead_8 rfl rfl ?_
  refine pw_aload_n X dX1_isAhead_9 rfl rfl ?_
  refine pw_get X (q := (RX1, TX1, tyX1, 8)) (ci := 1) (k := 7) (ref := "PatrolDesk$State") (vI (m_gi M3 a0 7)) ht6 rfl (by decide) in_X1 q175 (Or.inl rfl) rfl dX1_isAhead_10 ?_
  obtain ⟨ht8, hw⟩ := hw
  refine pw_runi X (m_cV X (b := a2) (ci := 8) (q := (RX8, TX8, tyX8, 13)) (met_X8_rest G C.2.1 M3 a2 (m_gi M3 a0 7) _ hw) ht8 rfl (lw_V q1603 q1604 q1605 q112 q1606) ⟨rfl, nh_X8_rest⟩ ⟨Nat.le_of_ble_eq_true rfl, Nat.le_of_ble_eq_true rfl⟩ rfl (Nat.le_of_ble_eq_true rfl) dX1_isAhead_13) (fun r11 M9 hle10 hx => ?_)
  replace hw := hx hle10
  clear hx
  have ht12 : m_tg M9 a0 = 2 := m_le_tg hle10 ht6
  have ht13 : m_tg M9 a1 = 9 := m_le_tg hle10 ht7
  have ht14 : m_tg M9 a2 = 9 := m_le_tg hle10 ht8
  refine pw_icmp_eq X 44 dX1_isAhead_16 (by decide) (fun c15 => ?_) (fun c15 => ?_)
  · replace hw := hw.1 c15
    refine pw_aload_n X dX1_isAhead_44 rfl rfl ?_
    obtain ⟨u16, he17, hw⟩ := hw
    refine pw_get X (q := (RX1, TX1, tyX1, 8)) (ci := 1) (k := 0) (ref := "PatrolDesk$State") (vR (some u16)) ht12 rfl (by decide) in_X1 q161 (Or.inl rfl) (by rw [he17]; rfl) dX1_isAhead_45 ?_
    refine pw_aload_n X dX1_isAhead_48 rfl rfl ?_
    refine pw_getN X (q := (RX8, TX8, tyX8, 13)) (ci := 8) (k := 1) (ref := "PatrolDesk$Call") (host := "PatrolDesk") (vI (m_gi M9 a1 1)) ht13 rfl (by decide) in_X8 q1211 (Or.inl rfl) rfl dX1_isAhead_49 ?_
    obtain ⟨ht18, hw⟩ := hw
    refine pw_runq X (m_cF X (b := u16) (ci := 13) (q := (RJ2, TJ2, tyJ2, 3)) (met_J2_get G C.2.1 M9 u16 (m_gi M9 a1 1) _ hw) ht18 rfl (lw_app (lw_F q1028 q1031 q1033 q82) (lw_meth q1035)) (List.mem_of_getElem? (i := 2) rfl) (by decide +kernel : m_nMH ⟨"java/util/List", "get", "(I)Ljava/lang/Object;"⟩ 1) ⟨Nat.le_of_ble_eq_true rfl, Nat.le_of_ble_eq_true rfl⟩ rfl (Nat.le_of_ble_eq_true rfl) dX1_isAhead_52) (fun r21 M19 hle20 hx => ?_)
    replace hw := hx hle20
    clear hx
    have ht22 : m_tg M19 a0 = 2 := m_le_tg hle20 ht12
    have ht23 : m_tg M19 a1 = 9 := m_le_tg hle20 ht13
    have ht24 : m_tg M19 a2 = 9 := m_le_tg hle20 ht14
    have ht25 : m_tg M19 u16 = 14 := m_le_tg hle20 ht18
    obtain ⟨u26, he27, hw⟩ := hw
    subst he27
    obtain ⟨ht28, hw⟩ := hw
    refine pw_cast X 5 (q := (RX5, TX5, tyX5, 5)) rfl (fun _ h => by cases h; exact ht28) q1040 dX1_isAhead_57 ?_
    refine pw_getN X (q := (RX5, TX5, tyX5, 5)) (ci := 5) (k := 0) (ref := "PatrolDesk$Member") (host := "PatrolDesk") (vI (m_gi M19 u26 0)) ht28 rfl (by decide) in_X5 q1052 (Or.inl rfl) rfl dX1_isAhead_60 ?_
    refine pw_istore_n X [(0, vR (some a0)), (1, vR (some a1)), (2, vR (some a2)), (3, vI (m_gi M19 u26 0))] [1, 2, 3, 0] dX1_isAhead_63 rfl (by decide) rfl ?_
    refine pw_aload_n X dX1_isAhead_64 rfl rfl ?_
    obtain ⟨u29, he30, hw⟩ := hw
    refine pw_get X (q := (RX1, TX1, tyX1, 8)) (ci := 1) (k := 0) (ref := "PatrolDesk$State") (vR (some u29)) ht22 rfl (by decide) in_X1 q161 (Or.inl rfl) (by rw [he30]; rfl) dX1_isAhead_65 ?_
    refine pw_aload_n X dX1_isAhead_68 rfl rfl ?_
    refine pw_getN X (q := (RX8, TX8, tyX8, 13)) (ci := 8) (k := 1) (ref := "PatrolDesk$Call") (host := "PatrolDesk") (vI (m_gi M19 a2 1)) ht24 rfl (by decide) in_X8 q1211 (Or.inl rfl) rfl dX1_isAhead_69 ?_
    obtain ⟨ht31, hw⟩ := hw
    refine pw_runq X (m_cF X (b := u29) (ci := 13) (q := (RJ2, TJ2, tyJ2, 3)) (met_J2_get G C.2.1 M19 u29 (m_gi M19 a2 1) _ hw) ht31 rfl (lw_app (lw_F q1028 q1031 q1033 q82) (lw_meth q1035)) (List.mem_of_getElem? (i := 2) rfl) (by decide +kernel : m_nMH ⟨"java/util/List", "get", "(I)Ljava/lang/Object;"⟩ 1) ⟨Nat.le_of_ble_eq_true rfl, Nat.le_of_ble_eq_true rfl⟩ rfl (Nat.le_of_ble_eq_true rfl) dX1_isAhead_72) (fun r34 M32 hle33 hx => ?_)
    replace hw := hx hle33
    clear hx
    have ht35 : m_tg M32 a0 = 2 := m_le_tg hle33 ht22
    have ht36 : m_tg M32 a1 = 9 := m_le_tg hle33 ht23
    have ht37 : m_tg M32 a2 = 9 := m_le_tg hle33 ht24
    have ht38 : m_tg M32 u16 = 14 := m_le_tg hle33 ht25
    have ht39 : m_tg M32 u26 = 6 := m_le_tg hle33 ht28
    have ht40 : m_tg M32 u29 = 14 := m_le_tg hle33 ht31
    obtain ⟨u41, he42, hw⟩ := hw
    subst he42
    obtain ⟨ht43, hw⟩ := hw
    refine pw_cast X 5 (q := (RX5, TX5, tyX5, 5)) rfl (fun _ h => by cases h; exact ht43) q1040 dX1_isAhead_77 ?_
    refine pw_getN X (q := (RX5, TX5, tyX5, 5)) (ci := 5) (k := 0) (ref := "PatrolDesk$Member") (host := "PatrolDesk") (vI (m_gi M32 u41 0)) ht43 rfl (by decide) in_X5 q1052 (Or.inl rfl) rfl dX1_isAhead_80 ?_
    refine pw_istore X [(1, vR (some a1)), (2, vR (some a2)), (3, vI (m_gi M19 u26 0)), (4, vI (m_gi M32 u41 0))] [2, 3, 4, 0] dX1_isAhead_83 (by decide) rfl ?_
    refine pw_iload_n X dX1_isAhead_85 rfl rfl ?_
    refine pw_iload X dX1_isAhead_86 rfl ?_
    refine pw_icmp_eq X 105 dX1_isAhead_88 (by decide) (fun c44 => ?_) (fun c44 => ?_)
    · replace hw := hw.1 c44
      refine pw_aload_n X dX1_isAhead_105 rfl rfl ?_
      refine pw_getN X (q := (RX8, TX8, tyX8, 13)) (ci := 8) (k := 0) (ref := "PatrolDesk$Call") (host := "PatrolDesk") (vI (m_gi M32 a1 0)) ht36 rfl (by decide) in_X8 q1208 (Or.inl rfl) rfl dX1_isAhead_106 ?_
      refine pw_aload_n X dX1_isAhead_109 rfl rfl ?_
      refine pw_getN X (q := (RX8, TX8, tyX8, 13)) (ci := 8) (k := 0) (ref := "PatrolDesk$Call") (host := "PatrolDesk") (vI (m_gi M32 a2 0)) ht37 rfl (by decide) in_X8 q1208 (Or.inl rfl) rfl dX1_isAhead_110 ?_
      refine pw_icmp_ge X 120 dX1_isAhead_113 (by decide) (fun c45 => ?_) (fun c45 => ?_)
      · replace hw := hw.1 c45
        refine pw_iconst X 0 dX1_isAhead_120 (by decide) ?_
        exact pw_zret X (by decide) hw dX1_isAhead_121
      · replace hw := hw.2 c45
        refine pw_iconst X 1 dX1_isAhead_116 (by decide) ?_
        refine pw_goto X 121 dX1_isAhead_117 (by decide) ?_
        exact pw_zret X (by decide) hw dX1_isAhead_121
    · replace hw := hw.2 c44
      refine pw_iload_n X dX1_isAhead_91 rfl rfl ?_
      refine pw_iload X dX1_isAhead_92 rfl ?_
      refine pw_icmp_le X 101 dX1_isAhead_94 (by decide) (fun c46 => ?_) (fun c46 => ?_)
      · replace hw := hw.1 c46
        refine pw_iconst X 0 dX1_isAhead_101 (by decide) ?_
        refine pw_goto X 121 dX1_isAhead_102 (by decide) ?_
        exact pw_zret X (by decide) hw dX1_isAhead_121
      · replace hw := hw.2 c46
        refine pw_iconst X 1 dX1_isAhead_97 (by decide) ?_
        refine pw_goto X 121 dX1_isAhead_98 (by decide) ?_
        exact pw_zret X (by decide) hw dX1_isAhead_121
  · replace hw := hw.2 c15
    refine pw_aload_n X dX1_isAhead_19 rfl rfl ?_
    refine pw_aload_n X dX1_isAhead_20 rfl rfl ?_
    refine pw_get X (q := (RX1, TX1, tyX1, 8)) (ci := 1) (k := 7) (ref := "PatrolDesk$State") (vI (m_gi M9 a0 7)) ht12 rfl (by decide) in_X1 q175 (Or.inl rfl) rfl dX1_isAhead_21 ?_
    refine pw_runi X (m_cV X (b := a1) (ci := 8) (q := (RX8, TX8, tyX8, 13)) (met_X8_rest G C.2.1 M9 a1 (m_gi M9 a0 7) _ hw) ht13 rfl (lw_V q1603 q1604 q1605 q112 q1606) ⟨rfl, nh_X8_rest⟩ ⟨Nat.le_of_ble_eq_true rfl, Nat.le_of_ble_eq_true rfl⟩ rfl (Nat.le_of_ble_eq_true rfl) dX1_isAhead_24) (fun r49 M47 hle48 hx => ?_)
    replace hw := hx hle48
    clear hx
    have ht50 : m_tg M47 a0 = 2 := m_le_tg hle48 ht12
    have ht51 : m_tg M47 a1 = 9 := m_le_tg hle48 ht13
    have ht52 : m_tg M47 a2 = 9 := m_le_tg hle48 ht14
    refine pw_aload_n X dX1_isAhead_27 rfl rfl ?_
    refine pw_aload_n X dX1_isAhead_28 rfl rfl ?_
    refine pw_get X (q := (RX1, TX1, tyX1, 8)) (ci := 1) (k := 7) (ref := "PatrolDesk$State") (vI (m_gi M47 a0 7)) ht50 rfl (by decide) in_X1 q175 (Or.inl rfl) rfl dX1_isAhead_29 ?_
    refine pw_runi X (m_cV X (b := a2) (ci := 8) (q := (RX8, TX8, tyX8, 13)) (met_X8_rest G C.2.1 M47 a2 (m_gi M47 a0 7) _ hw) ht52 rfl (lw_V q1603 q1604 q1605 q112 q1606) ⟨rfl, nh_X8_rest⟩ ⟨Nat.le_of_ble_eq_true rfl, Nat.le_of_ble_eq_true rfl⟩ rfl (Nat.le_of_ble_eq_true rfl) dX1_isAhead_32) (fun r55 M53 hle54 hx => ?_)
    replace hw := hx hle54
    clear hx
    have ht56 : m_tg M53 a0 = 2 := m_le_tg hle54 ht50
    have ht57 : m_tg M53 a1 = 9 := m_le_tg hle54 ht51
    have ht58 : m_tg M53 a2 = 9 := m_le_tg hle54 ht52
    refine pw_icmp_ge X 42 dX1_isAhead_35 (by decide) (fun c59 => ?_) (fun c59 => ?_)
    · replace hw := hw.1 c59
      refine pw_iconst X 0 dX1_isAhead_42 (by decide) ?_
      exact pw_zret X (by decide) hw dX1_isAhead_43
    · replace hw := hw.2 c59
      refine pw_iconst X 1 dX1_isAhead_38 (by decide) ?_
      refine pw_goto X 43 dX1_isAhead_39 (by decide) ?_
      exact pw_zret X (by decide) hw dX1_isAhead_43
theorem met_X1_isAhead (G : Gp) (l : Launch) (M : Mem) (a0 : Nat) (a1 : Nat) (a2 : Nat) (Q : Int32 → Mem → Prop) (hw : wp_X1_isAhead G.2 M a0 a1 a2 Q) : m_K G l yX1_isAhead cX1_isAhead 5 (some .boolean) 3 64 [vR (some a0), vR (some a1), vR (some a2)] M (va_Qi (m_q1 M Q) (m_W G) (m_A G)) := by
  refine m_met (by decide) (Nat.le_of_ble_eq_true rfl) (fun C e X => ?_)
  exact bk_X1_isAhead_0 G C _ _ M Q X M a0 a1 a2 hw
theorem nh_X1_isAhead : m_nMH yX1_isAhead 2 := by decide +kernel

def wp_X1_waiting_b87 (g : Nat → Nat) (k10 : Mem → Nat → Nat → Int32 → Prop) (M : Mem) (la0 : Nat) (la1 : Nat) (lx2 : Int32) (la3 : Nat) (lx4 : Int32) (Q : Option Nat → Mem → Prop) : Prop := m_tg M la1 = 14 ∧ wp_J2_add_3 g M la1 lx4 (some la3) (fun (M2 : Mem) => m_le M M2 → k10 M2 la0 la1 (lx2 + 1))
def wp_X1_waiting_b55 (g : Nat → Nat) (k10 : Mem → Nat → Nat → Int32 → Prop) (Q : Option Nat → Mem → Prop) : Nat → Mem → Nat → Nat → Int32 → Nat → Int32 → Prop
  | 0 => fun _ _ _ _ _ _ => False
  | n + 1 => fun M la0 la1 lx2 la3 lx4 => ((lx4 ≤ 0 → wp_X1_waiting_b87 g k10 M la0 la1 lx2 la3 lx4 Q) ∧ (¬ lx4 ≤ 0 → m_tg M la1 = 14 ∧ wp_J2_get g M la1 (lx4 - 1) (fun (r5 : Option Nat) (M3 : Mem) => m_le M M3 → ∃ u7 : Nat, r5 = some u7 ∧ m_tg M3 u7 = 9 ∧ m_tg M3 la0 = 2 ∧ wp_X1_isAhead g M3 la0 la3 u7 (fun (r13 : Int32) (M11 : Mem) => m_le M3 M11 → ((r13 = 0 → wp_X1_waiting_b87 g k10 M11 la0 la1 lx2 la3 lx4 Q) ∧ (¬ r13 = 0 → wp_X1_waiting_b55 g k10 Q n M11 la0 la1 lx2 la3 (lx4 + (-1))))))))
def wp_X1_waiting_b10 (g : Nat → Nat) (Q : Option Nat → Mem → Prop) : Nat → Mem → Nat → Nat → Int32 → Prop
  | 0 => fun _ _ _ _ => False
  | n + 1 => fun M la0 la1 lx2 => m_tg M la0 = 2 ∧ ∃ u2 : Nat, (m_gr M la0 3) = some u2 ∧ m_tg M u2 = 14 ∧ wp_J2_size g M u2 (fun (r7 : Int32) (M5 : Mem) => m_le M M5 → ((r7 ≤ lx2 → Q (some la1) M5) ∧ (¬ r7 ≤ lx2 → ∃ u11 : Nat, (m_gr M5 la0 3) = some u11 ∧ m_tg M5 u11 = 14 ∧ wp_J2_get g M5 u11 lx2 (fun (r16 : Option Nat) (M14 : Mem) => m_le M5 M14 → ∃ u20 : Nat, r16 = some u20 ∧ m_tg M14 u20 = 9 ∧ wp_X8_isWaiting g M14 u20 (fun (r25 : Int32) (M23 : Mem) => m_le M14 M23 → ((¬ r25 = 0 → m_tg M23 la1 = 14 ∧ wp_J2_size g M23 la1 (fun (r34 : Int32) (M32 : Mem) => m_le M23 M32 → ∃ j55 : Nat, wp_X1_waiting_b55 g (wp_X1_waiting_b10 g Q n) Q j55 M32 la0 la1 lx2 u20 r34)) ∧ (r25 = 0 → wp_X1_waiting_b10 g Q n M23 la0 la1 (lx2 + 1))))))))
def wp_X1_waiting (g : Nat → Nat) (M : Mem) (a0 : Nat) (Q : Option Nat → Mem → Prop) : Prop := m_fits M 3 ∧ ∀ u2 : Nat, m_tg M u2 = 0 → ∀ M4 : Mem, M4 = (m_al M u2 14 0 3) → wp_J2_init g M4 u2 (fun (M8 : Mem) => m_le M4 M8 → ∃ j10 : Nat, wp_X1_waiting_b10 g Q j10 M8 a0 u2 0)
theorem bk_X1_waiting_87 (G : Gp) (C : m_Cx) (n0 s0 : Nat) (M0 : Mem) (Q : Option Nat → Mem → Prop) (X : m_in G C RX1 cX1_waiting 5 (some (.object "java/util/List")) "waiting" 6 141 n0 s0) (k10 : Mem → Nat → Nat → Int32 → Prop) (hk10 : ∀ (M : Mem) (la0 : Nat) (la1 : Nat) (lx2 : Int32), k10 M la0 la1 lx2 → pW G C 5 n0 s0 M0 (m_Q G C n0 s0 (va_Qq (m_q1 M0 Q) (m_W G) (m_A G))) M 10 [(0, vR (some la0)), (1, vR (some la1)), (2, vI lx2)] []) (M : Mem) (la0 : Nat) (la1 : Nat) (lx2 : Int32) (la3 : Nat) (lx4 : Int32) (hw : wp_X1_waiting_b87 G.2 k10 M la0 la1 lx2 la3 lx4 Q) : pW G C 5 n0 s0 M0 (m_Q G C n0 s0 (va_Qq (m_q1 M0 Q) (m_W G) (m_A G))) M 87 [(0, vR (some la0)), (1, vR (some la1)), (2, vI lx2), (3, vR (some la3)), (4, vI lx4)] [] := by
  refine pw_aload_n X dX1_waiting_87 rfl rfl ?_
  refine pw_iload X dX1_waiting_88 rfl ?_
  refine pw_aload_n X dX1_waiting_90 rfl rfl ?_
  obtain ⟨ht1, hw⟩ := hw
  refine pw_runv X (m_cF X (b := la1) (ci := 13) (q := (RJ2, TJ2, tyJ2, 3)) (met_J2_add_3 G C.2.1 M la1 lx4 (some la3) _ hw) ht1 rfl (lw_app (lw_F q1608 q1611 q1613 q82) (lw_meth q1615)) (List.mem_of_getElem? (i := 0) rfl) (by decide +kernel : m_nMH ⟨"java/util/List", "add", "(ILjava/lang/Object;)V"⟩ 2) ⟨Nat.le_of_ble_eq_true rfl, Nat.le_of_ble_eq_true rfl⟩ rfl (Nat.le_of_ble_eq_true rfl) dX1_waiting_91) (fun M2 hle3 hx => ?_)
  replace hw := hx hle3
  clear hx
  have ht4 : m_tg M2 la1 = 14 := m_le_tg hle3 ht1
  refine pw_iinc X (lx2 + 1) [(0, vR (some la0)), (1, vR (some la1)), (2, vI (lx2 + 1))] [1, 2, 0] dX1_waiting_96 rfl (by first | rfl | decide) (by decide) rfl ?_
  refine pw_goto X 10 dX1_waiting_99 (by decide) ?_
  exact hk10 _ la0 la1 (lx2 + 1) hw
theorem bk_X1_waiting_55 (G : Gp) (C : m_Cx) (n0 s0 : Nat) (M0 : Mem) (Q : Option Nat → Mem → Prop) (X : m_in G C RX1 cX1_waiting 5 (some (.object "java/util/List")) "waiting" 6 141 n0 s0) (k10 : Mem → Nat → Nat → Int32 → Prop) (hk10 : ∀ (M : Mem) (la0 : Nat) (la1 : Nat) (lx2 : Int32), k10 M la0 la1 lx2 → pW G C 5 n0 s0 M0 (m_Q G C n0 s0 (va_Qq (m_q1 M0 Q) (m_W G) (m_A G))) M 10 [(0, vR (some la0)), (1, vR (some la1)), (2, vI lx2)] []) : ∀ (n : Nat) (M : Mem) (la0 : Nat) (la1 : Nat) (lx2 : Int32) (la3 : Nat) (lx4 : Int32) (hw : wp_X1_waiting_b55 G.2 k10 Q n M la0 la1 lx2 la3 lx4), pW G C 5 n0 s0 M0 (m_Q G C n0 s0 (va_Qq (m_q1 M0 Q) (m_W G) (m_A G))) M 55 [(0, vR (some la0)), (1, vR (some la1)), (2, vI lx2), (3, vR (some la3)), (4, vI lx4)] [] := by
  intro n
  induction n with
  | zero => intro M la0 la1 lx2 la3 lx4 hw; exact hw.elim
  | succ n ih =>
    intro M la0 la1 lx2 la3 lx4 hw
    refine pw_iload X dX1_waiting_55 rfl ?_
    refine pw_if_le X 87 dX1_waiting_57 (by decide) (fun c1 => ?_) (fun c1 => ?_)
    · replace hw := hw.1 c1
      exact bk_X1_waiting_87 G C n0 s0 M0 Q X k10 hk10 _ la0 la1 lx2 la3 lx4 hw
    · replace hw := hw.2 c1
      refine pw_aload_n X dX1_waiting_60 rfl rfl ?_
      refine pw_aload_n X dX1_waiting_61 rfl rfl ?_
      refine pw_aload_n X dX1_waiting_62 rfl rfl ?_
      refine pw_iload X dX1_waiting_63 rfl ?_
      refine pw_iconst X 1 dX1_waiting_65 (by decide) ?_
      refine pw_isub X dX1_waiting_66 ?_
      obtain ⟨ht2, hw⟩ := hw
      refine pw_runq X (m_cF X (b := la1) (ci := 13) (q := (RJ2, TJ2, tyJ2, 3)) (met_J2_get G C.2.1 M la1 (lx4 - 1) _ hw) ht2 rfl (lw_app (lw_F q1028 q1031 q1033 q82) (lw_meth q1035)) (List.mem_of_getElem? (i := 2) rfl) (by decide +kernel : m_nMH ⟨"java/util/List", "get", "(I)Ljava/lang/Object;"⟩ 1) ⟨Nat.le_of_ble_eq_true rfl, Nat.le_of_ble_eq_true rfl⟩ rfl (Nat.le_of_ble_eq_true rfl) dX1_waiting_67) (fun r5 M3 hle4 hx => ?_)
      replace hw := hx hle4
      clear hx
      have ht6 : m_tg M3 la1 = 14 := m_le_tg hle4 ht2
      obtain ⟨u7, he8, hw⟩ := hw
      subst he8
      obtain ⟨ht9, hw⟩ := hw
      refine pw_cast X 8 (q := (RX8, TX8, tyX8, 13)) rfl (fun _ h => by cases h; exact ht9) q1196 dX1_waiting_72 ?_
      obtain ⟨ht10, hw⟩ := hw
      refine pw_runi X (m_cV X (b := la0) (ci := 1) (q := (RX1, TX1, tyX1, 8)) (met_X1_isAhead G C.2.1 M3 la0 la3 u7 _ hw) ht10 rfl (lw_V q1599 q1601 qs24 q79 q1602) ⟨rfl, nh_X1_isAhead⟩ ⟨Nat.le_of_ble_eq_true rfl, Nat.le_of_ble_eq_true rfl⟩ rfl (Nat.le_of_ble_eq_true rfl) dX1_waiting_75) (fun r13 M11 hle12 hx => ?_)
      replace hw := hx hle12
      clear hx
      have ht14 : m_tg M11 la1 = 14 := m_le_tg hle12 ht6
      have ht15 : m_tg M11 u7 = 9 := m_le_tg hle12 ht9
      have ht16 : m_tg M11 la0 = 2 := m_le_tg hle12 ht10
      refine pw_if_eq X 87 dX1_waiting_78 (by decide) (fun c17 => ?_) (fun c17 => ?_)
      · replace hw := hw.1 c17
        exact bk_X1_waiting_87 G C n0 s0 M0 Q X k10 hk10 _ la0 la1 lx2 la3 lx4 hw
      · replace hw := hw.2 c17
        refine pw_iinc X (lx4 + (-1)) [(0, vR (some la0)), (1, vR (some la1)), (2, vI lx2), (3, vR (some la3)), (4, vI (lx4 + (-1)))] [1, 2, 3, 4, 0] dX1_waiting_81 rfl (by first | rfl | decide) (by decide) rfl ?_
        refine pw_goto X 55 dX1_waiting_84 (by decide) ?_
        exact ih _ la0 la1 lx2 la3 (lx4 + (-1)) hw
theorem bk_X1_waiting_10 (G : Gp) (C : m_Cx) (n0 s0 : Nat) (M0 : Mem) (Q : Option Nat → Mem → Prop) (X : m_in G C RX1 cX1_waiting 5 (some (.object "java/util/List")) "waiting" 6 141 n0 s0) : ∀ (n : Nat) (M : Mem) (la0 : Nat) (la1 : Nat) (lx2 : Int32) (hw : wp_X1_waiting_b10 G.2 Q n M la0 la1 lx2), pW G C 5 n0 s0 M0 (m_Q G C n0 s0 (va_Qq (m_q1 M0 Q) (m_W G) (m_A G))) M 10 [(0, vR (some la0)), (1, vR (some la1)), (2, vI lx2)] [] := by
  intro n
  induction n with
  | zero => intro M la0 la1 lx2 hw; exact hw.elim
  | succ n ih =>
    intro M la0 la1 lx2 hw
    refine pw_iload_n X dX1_waiting_10 rfl rfl ?_
    refine pw_aload_n X dX1_waiting_11 rfl rfl ?_
    obtain ⟨ht1, hw⟩ := hw
    obtain ⟨u2, he3, hw⟩ := hw
    refine pw_get X (q := (RX1, TX1, tyX1, 8)) (ci := 1) (k := 3) (ref := "PatrolDesk$State") (vR (some u2)) ht1 rfl (by decide) in_X1 q167 (Or.inl rfl) (by rw [he3]; rfl) dX1_waiting_12 ?_
    obtain ⟨ht4, hw⟩ := hw
    refine pw_runi X (m_cF X (b := u2) (ci := 13) (q := (RJ2, TJ2, tyJ2, 3)) (met_J2_size G C.2.1 M u2 _ hw) ht4 rfl (lw_app (lw_F q1026 q994 q996 q82) (lw_meth q998)) (List.mem_of_getElem? (i := 6) rfl) (by decide +kernel : m_nMH ⟨"java/util/List", "size", "()I"⟩ 0) ⟨Nat.le_of_ble_eq_true rfl, Nat.le_of_ble_eq_true rfl⟩ rfl (Nat.le_of_ble_eq_true rfl) dX1_waiting_15) (fun r7 M5 hle6 hx => ?_)
    replace hw := hx hle6
    clear hx
    have ht8 : m_tg M5 la0 = 2 := m_le_tg hle6 ht1
    have ht9 : m_tg M5 u2 = 14 := m_le_tg hle6 ht4
    refine pw_icmp_ge X 102 dX1_waiting_20 (by decide) (fun c10 => ?_) (fun c10 => ?_)
    · replace hw := hw.1 c10
      refine pw_aload_n X dX1_waiting_102 rfl rfl ?_
      exact pw_aret X (Or.inl ⟨_, rfl⟩) hw dX1_waiting_103
    · replace hw := hw.2 c10
      refine pw_aload_n X dX1_waiting_23 rfl rfl ?_
      obtain ⟨u11, he12, hw⟩ := hw
      refine pw_get X (q := (RX1, TX1, tyX1, 8)) (ci := 1) (k := 3) (ref := "PatrolDesk$State") (vR (some u11)) ht8 rfl (by decide) in_X1 q167 (Or.inl rfl) (by rw [he12]; rfl) dX1_waiting_24 ?_
      refine pw_iload_n X dX1_waiting_27 rfl rfl ?_
      obtain ⟨ht13, hw⟩ := hw
      refine pw_runq X (m_cF X (b := u11) (ci := 13) (q := (RJ2, TJ2, tyJ2, 3)) (met_J2_get G C.2.1 M5 u11 lx2 _ hw) ht13 rfl (lw_app (lw_F q1028 q1031 q1033 q82) (lw_meth q1035)) (List.mem_of_getElem? (i := 2) rfl) (by decide +kernel : m_nMH ⟨"java/util/List", "get", "(I)Ljava/lang/Object;"⟩ 1) ⟨Nat.le_of_ble_eq_true rfl, Nat.le_of_ble_eq_true rfl⟩ rfl (Nat.le_of_ble_eq_true rfl) dX1_waiting_28) (fun r16 M14 hle15 hx => ?_)
      replace hw := hx hle15
      clear hx
      have ht17 : m_tg M14 la0 = 2 := m_le_tg hle15 ht8
      have ht18 : m_tg M14 u2 = 14 := m_le_tg hle15 ht9
      have ht19 : m_tg M14 u11 = 14 := m_le_tg hle15 ht13
      obtain ⟨u20, he21, hw⟩ := hw
      subst he21
      obtain ⟨ht22, hw⟩ := hw
      refine pw_cast X 8 (q := (RX8, TX8, tyX8, 13)) rfl (fun _ h => by cases h; exact ht22) q1196 dX1_waiting_33 ?_
      refine pw_astore_n X [(0, vR (some la0)), (1, vR (some la1)), (2, vI lx2), (3, vR (some u20))] [1, 2, 3, 0] dX1_waiting_36 rfl (by decide) rfl ?_
      refine pw_aload_n X dX1_waiting_37 rfl rfl ?_
      refine pw_runi X (m_cV X (b := u20) (ci := 8) (q := (RX8, TX8, tyX8, 13)) (met_X8_isWaiting G C.2.1 M14 u20 _ hw) ht22 rfl (lw_V q1595 q1596 q1597 q112 q1598) ⟨rfl, nh_X8_isWaiting⟩ ⟨Nat.le_of_ble_eq_true rfl, Nat.le_of_ble_eq_true rfl⟩ rfl (Nat.le_of_ble_eq_true rfl) dX1_waiting_38) (fun r25 M23 hle24 hx => ?_)
      replace hw := hx hle24
      clear hx
      have ht26 : m_tg M23 la0 = 2 := m_le_tg hle24 ht17
      have ht27 : m_tg M23 u2 = 14 := m_le_tg hle24 ht18
      have ht28 : m_tg M23 u11 = 14 := m_le_tg hle24 ht19
      have ht29 : m_tg M23 u20 = 9 := m_le_tg hle24 ht22
      refine pw_if_ne X 47 dX1_waiting_41 (by decide) (fun c30 => ?_) (fun c30 => ?_)
      · replace hw := hw.1 c30
        refine pw_aload_n X dX1_waiting_47 rfl rfl ?_
        obtain ⟨ht31, hw⟩ := hw
        refine pw_runi X (m_cF X (b := la1) (ci := 13) (q := (RJ2, TJ2, tyJ2, 3)) (met_J2_size G C.2.1 M23 la1 _ hw) ht31 rfl (lw_app (lw_F q1026 q994 q996 q82) (lw_meth q998)) (List.mem_of_getElem? (i := 6) rfl) (by decide +kernel : m_nMH ⟨"java/util/List", "size", "()I"⟩ 0) ⟨Nat.le_of_ble_eq_true rfl, Nat.le_of_ble_eq_true rfl⟩ rfl (Nat.le_of_ble_eq_true rfl) dX1_waiting_48) (fun r34 M32 hle33 hx => ?_)
        replace hw := hx hle33
        clear hx
        have ht35 : m_tg M32 la0 = 2 := m_le_tg hle33 ht26
        have ht36 : m_tg M32 u2 = 14 := m_le_tg hle33 ht27
        have ht37 : m_tg M32 u11 = 14 := m_le_tg hle33 ht28
        have ht38 : m_tg M32 u20 = 9 := m_le_tg hle33 ht29
        have ht39 : m_tg M32 la1 = 14 := m_le_tg hle33 ht31
        refine pw_istore X [(0, vR (some la0)), (1, vR (some la1)), (2, vI lx2), (3, vR (some u20)), (4, vI r34)] [1, 2, 3, 4, 0] dX1_waiting_53 (by decide) rfl ?_
        obtain ⟨n55, hw⟩ := hw
        exact bk_X1_waiting_55 G C n0 s0 M0 Q X (wp_X1_waiting_b10 G.2 Q n) ih n55 _ la0 la1 lx2 u20 r34 hw
      · replace hw := hw.2 c30
        refine pw_goto X 96 dX1_waiting_44 (by decide) ?_
        refine pw_iinc X (lx2 + 1) [(0, vR (some la0)), (1, vR (some la1)), (2, vI (lx2 + 1))] [1, 2, 0] dX1_waiting_96 rfl (by first | rfl | decide) (by decide) rfl ?_
        refine pw_goto X 10 dX1_waiting_99 (by decide) ?_
        exact ih _ la0 la1 (lx2 + 1) hw
theorem bk_X1_waiting_0 (G : Gp) (C : m_Cx) (n0 s0 : Nat) (M0 : Mem) (Q : Option Nat → Mem → Prop) (X : m_in G C RX1 cX1_waiting 5 (some (.object "java/util/List")) "waiting" 6 141 n0 s0) (M : Mem) (a0 : Nat) (hw : wp_X1_waiting G.2 M a0 Q) : pW G C 5 n0 s0 M0 (m_Q G C n0 s0 (va_Qq (m_q1 M0 Q) (m_W G) (m_A G))) M 0 [(0, vR (some a0))] [] := by
  obtain ⟨hf1, hw⟩ := hw
  refine pw_new X (ci := 13) (q := (RJ2, TJ2, tyJ2, 3)) hf1 rfl in_J2 tyJ2_ok q135 q136 q82 dX1_waiting_0 (fun u2 h03 => ?_)
  obtain ⟨M4, hM5⟩ : ∃ z : Mem, z = (m_al M u2 14 0 3) := ⟨_, rfl⟩
  replace hw := hw u2 h03 M4 hM5
  have hle6 : m_le M M4 := by rw [hM5]; exact m_le_al h03
  change pW _ _ _ _ _ _ _ (m_al M u2 14 0 3) _ _ _
  rw [← hM5]
  have ht7 : m_tg M4 u2 = 14 := by rw [hM5, m_tg_al, if_pos rfl]
  refine pw_dup X dX1_waiting_3 ?_
  refine pw_runv X (m_cI X (b := u2) (met_J2_init G C.2.1 M4 u2 _ hw) q139 q82 q137 q138 rfl nh_J2_init ⟨Nat.le_of_ble_eq_true rfl, Nat.le_of_ble_eq_true rfl⟩ rfl (Nat.le_of_ble_eq_true rfl) dX1_waiting_4) (fun M8 hle9 hx => ?_)
  replace hw := hx hle9
  clear hx
  have ht10 : m_tg M8 u2 = 14 := m_le_tg hle9 ht7
  refine pw_astore_n X [(0, vR (some a0)), (1, vR (some u2))] [1, 0] dX1_waiting_7 rfl (by decide) rfl ?_
  refine pw_iconst X 0 dX1_waiting_8 (by decide) ?_
  refine pw_istore_n X [(0, vR (some a0)), (1, vR (some u2)), (2, vI 0)] [1, 2, 0] dX1_waiting_9 rfl (by decide) rfl ?_
  obtain ⟨n10, hw⟩ := hw
  exact bk_X1_waiting_10 G C n0 s0 M0 Q X n10 _ a0 u2 0 hw
theorem met_X1_waiting (G : Gp) (l : Launch) (M : Mem) (a0 : Nat) (Q : Option Nat → Mem → Prop) (hw : wp_X1_waiting G.2 M a0 Q) : m_K G l yX1_waiting cX1_waiting 5 (some (.object "java/util/List")) 6 141 [vR (some a0)] M (va_Qq (m_q1 M Q) (m_W G) (m_A G)) := by
  refine m_met (by decide) (Nat.le_of_ble_eq_true rfl) (fun C e X => ?_)
  exact bk_X1_waiting_0 G C _ _ M Q X M a0 hw
theorem nh_X1_waiting : m_nMH yX1_waiting 0 := by decide +kernel

def wp_X1_garageFor_b5 (g : Nat → Nat) (Q : Int32 → Mem → Prop) : Nat → Mem → Nat → Int32 → Int32 → Int32 → Prop
  | 0 => fun _ _ _ _ _ => False
  | n + 1 => fun M la0 lx1 lx2 lx3 => m_tg M la0 = 2 ∧ ∃ u2 : Nat, (m_gr M la0 2) = some u2 ∧ m_tg M u2 = 14 ∧ wp_J2_size g M u2 (fun (r7 : Int32) (M5 : Mem) => m_le M M5 → ((r7 ≤ lx3 → Q lx2 M5) ∧ (¬ r7 ≤ lx3 → ∃ u11 : Nat, (m_gr M5 la0 2) = some u11 ∧ m_tg M5 u11 = 14 ∧ wp_J2_get g M5 u11 lx3 (fun (r16 : Option Nat) (M14 : Mem) => m_le M5 M14 → ∃ u20 : Nat, r16 = some u20 ∧ m_tg M14 u20 = 8 ∧ wp_X1_far g M14 la0 lx1 (m_gi M14 u20 0) (fun (r25 : Int32) (M23 : Mem) => m_le M14 M23 → ∃ u30 : Nat, (m_gr M23 la0 2) = some u30 ∧ m_tg M23 u30 = 14 ∧ wp_J2_get g M23 u30 lx3 (fun (r35 : Option Nat) (M33 : Mem) => m_le M23 M33 → ∃ u41 : Nat, r35 = some u41 ∧ m_tg M33 u41 = 8 ∧ wp_X7_hasPlace g M33 u41 (fun (r46 : Int32) (M44 : Mem) => m_le M33 M44 → ((r46 = 0 → wp_X1_garageFor_b5 g Q n M44 la0 lx1 lx2 (lx3 + 1)) ∧ (¬ r46 = 0 → ((r25 = (-5) → wp_X1_garageFor_b5 g Q n M44 la0 lx1 lx2 (lx3 + 1)) ∧ (¬ r25 = (-5) → ((lx2 = (-5) → wp_X1_garageFor_b5 g Q n M44 la0 lx1 lx3 (lx3 + 1)) ∧ (¬ lx2 = (-5) → ∃ u56 : Nat, (m_gr M44 la0 2) = some u56 ∧ m_tg M44 u56 = 14 ∧ wp_J2_get g M44 u56 lx2 (fun (r61 : Option Nat) (M59 : Mem) => m_le M44 M59 → ∃ u69 : Nat, r61 = some u69 ∧ m_tg M59 u69 = 8 ∧ wp_X1_far g M59 la0 lx1 (m_gi M59 u69 0) (fun (r74 : Int32) (M72 : Mem) => m_le M59 M72 → ((r74 ≤ r25 → wp_X1_garageFor_b5 g Q n M72 la0 lx1 lx2 (lx3 + 1)) ∧ (¬ r74 ≤ r25 → wp_X1_garageFor_b5 g Q n M72 la0 lx1 lx3 (lx3 + 1))))))))))))))))))
def wp_X1_garageFor (g : Nat → Nat) (M : Mem) (a0 : Nat) (x1 : Int32) (Q : Int32 → Mem → Prop) : Prop := ∃ j5 : Nat, wp_X1_garageFor_b5 g Q j5 M a0 x1 (-5) 0
theorem bk_X1_garageFor_5 (G : Gp) (C : m_Cx) (n0 s0 : Nat) (M0 : Mem) (Q : Int32 → Mem → Prop) (X : m_in G C RX1 cX1_garageFor 5 (some .int) "garageFor" 3 64 n0 s0) : ∀ (n : Nat) (M : Mem) (la0 : Nat) (lx1 : Int32) (lx2 : Int32) (lx3 : Int32) (hw : wp_X1_garageFor_b5 G.2 Q n M la0 lx1 lx2 lx3), pW G C 5 n0 s0 M0 (m_Q G C n0 s0 (va_Qi (m_q1 M0 Q) (m_W G) (m_A G))) M 5 [(0, vR (some la0)), (1, vI lx1), (2, vI lx2), (3, vI lx3)] [] := by
  intro n
  induction n with
  | zero => intro M la0 lx1 lx2 lx3 hw; exact hw.elim
  | succ n ih =>
    intro M la0 lx1 lx2 lx3 hw
    refine pw_iload_n X dX1_garageFor_5 rfl rfl ?_
    refine pw_aload_n X dX1_garageFor_6 rfl rfl ?_
    obtain ⟨ht1, hw⟩ := hw
    obtain ⟨u2, he3, hw⟩ := hw
    refine pw_get X (q := (RX1, TX1, tyX1, 8)) (ci := 1) (k := 2) (ref := "PatrolDesk$State") (vR (some u2)) ht1 rfl (by decide) in_X1 q165 (Or.inl rfl) (by rw [he3]; rfl) dX1_garageFor_7 ?_
    obtain ⟨ht4, hw⟩ := hw
    refine pw_runi X (m_cF X (b := u2) (ci := 13) (q := (RJ2, TJ2, tyJ2, 3)) (met_J2_size G C.2.1 M u2 _ hw) ht4 rfl (lw_app (lw_F q1026 q994 q996 q82) (lw_meth q998)) (List.mem_of_getElem? (i := 6) rfl) (by decide +kernel : m_nMH ⟨"java/util/List", "size", "()I"⟩ 0) ⟨Nat.le_of_ble_eq_true rfl, Nat.le_of_ble_eq_true rfl⟩ rfl (Nat.le_of_ble_eq_true rfl) dX1_garageFor_10) (fun r7 M5 hle6 hx => ?_)
    replace hw := hx hle6
    clear hx
    have ht8 : m_tg M5 la0 = 2 := m_le_tg hle6 ht1
    have ht9 : m_tg M5 u2 = 14 := m_le_tg hle6 ht4
    refine pw_icmp_ge X 107 dX1_garageFor_15 (by decide) (fun c10 => ?_) (fun c10 => ?_)
    · replace hw := hw.1 c10
      refine pw_iload_n X dX1_garageFor_107 rfl rfl ?_
      exact pw_iret X hw dX1_garageFor_108
    · replace hw := hw.2 c10
      refine pw_aload_n X dX1_garageFor_18 rfl rfl ?_
      refine pw_iload_n X dX1_garageFor_19 rfl rfl ?_
      refine pw_aload_n X dX1_garageFor_20 rfl rfl ?_
      obtain ⟨u11, he12, hw⟩ := hw
      refine pw_get X (q := (RX1, TX1, tyX1, 8)) (ci := 1) (k := 2) (ref := "PatrolDesk$State") (vR (some u11)) ht8 rfl (by decide) in_X1 q165 (Or.inl rfl) (by rw [he12]; rfl) dX1_garageFor_21 ?_
      refine pw_iload_n X dX1_garageFor_24 rfl rfl ?_
      obtain ⟨ht13, hw⟩ := hw
      refine pw_runq X (m_cF X (b := u11) (ci := 13) (q := (RJ2, TJ2, tyJ2, 3)) (met_J2_get G C.2.1 M5 u11 lx3 _ hw) ht13 rfl (lw_app (lw_F q1028 q1031 q1033 q82) (lw_meth q1035)) (List.mem_of_getElem? (i := 2) rfl) (by decide +kernel : m_nMH ⟨"java/util/List", "get", "(I)Ljava/lang/Object;"⟩ 1) ⟨Nat.le_of_ble_eq_true rfl, Nat.le_of_ble_eq_true rfl⟩ rfl (Nat.le_of_ble_eq_true rfl) dX1_garageFor_25) (fun r16 M14 hle15 hx => ?_)
      replace hw := hx hle15
      clear hx
      have ht17 : m_tg M14 la0 = 2 := m_le_tg hle15 ht8
      have ht18 : m_tg M14 u2 = 14 := m_le_tg hle15 ht9
      have ht19 : m_tg M14 u11 = 14 := m_le_tg hle15 ht13
      obtain ⟨u20, he21, hw⟩ := hw
      subst he21
      obtain ⟨ht22, hw⟩ := hw
      refine pw_cast X 7 (q := (RX7, TX7, tyX7, 5)) rfl (fun _ h => by cases h; exact ht22) q1160 dX1_garageFor_30 ?_
      refine pw_getN X (q := (RX7, TX7, tyX7, 5)) (ci := 7) (k := 0) (ref := "PatrolDesk$Garage") (host := "PatrolDesk") (vI (m_gi M14 u20 0)) ht22 rfl (by decide) in_X7 q1172 (Or.inl rfl) rfl dX1_garageFor_33 ?_
      refine pw_runi X (m_cV X (b := la0) (ci := 1) (q := (RX1, TX1, tyX1, 8)) (met_X1_far G C.2.1 M14 la0 lx1 (m_gi M14 u20 0) _ hw) ht17 rfl (lw_V q1472 q1436 q1437 q79 q1438) ⟨rfl, nh_X1_far⟩ ⟨Nat.le_of_ble_eq_true rfl, Nat.le_of_ble_eq_true rfl⟩ rfl (Nat.le_of_ble_eq_true rfl) dX1_garageFor_36) (fun r25 M23 hle24 hx => ?_)
      replace hw := hx hle24
      clear hx
      have ht26 : m_tg M23 la0 = 2 := m_le_tg hle24 ht17
      have ht27 : m_tg M23 u2 = 14 := m_le_tg hle24 ht18
      have ht28 : m_tg M23 u11 = 14 := m_le_tg hle24 ht19
      have ht29 : m_tg M23 u20 = 8 := m_le_tg hle24 ht22
      refine pw_istore X [(0, vR (some la0)), (1, vI lx1), (2, vI lx2), (3, vI lx3), (4, vI r25)] [1, 2, 3, 4, 0] dX1_garageFor_39 (by decide) rfl ?_
      refine pw_aload_n X dX1_garageFor_41 rfl rfl ?_
      obtain ⟨u30, he31, hw⟩ := hw
      refine pw_get X (q := (RX1, TX1, tyX1, 8)) (ci := 1) (k := 2) (ref := "PatrolDesk$State") (vR (some u30)) ht26 rfl (by decide) in_X1 q165 (Or.inl rfl) (by rw [he31]; rfl) dX1_garageFor_42 ?_
      refine pw_iload_n X dX1_garageFor_45 rfl rfl ?_
      obtain ⟨ht32, hw⟩ := hw
      refine pw_runq X (m_cF X (b := u30) (ci := 13) (q := (RJ2, TJ2, tyJ2, 3)) (met_J2_get G C.2.1 M23 u30 lx3 _ hw) ht32 rfl (lw_app (lw_F q1028 q1031 q1033 q82) (lw_meth q1035)) (List.mem_of_getElem? (i := 2) rfl) (by decide +kernel : m_nMH ⟨"java/util/List", "get", "(I)Ljava/lang/Object;"⟩ 1) ⟨Nat.le_of_ble_eq_true rfl, Nat.le_of_ble_eq_true rfl⟩ rfl (Nat.le_of_ble_eq_true rfl) dX1_garageFor_46) (fun r35 M33 hle34 hx => ?_)
      replace hw := hx hle34
      clear hx
      have ht36 : m_tg M33 la0 = 2 := m_le_tg hle34 ht26
      have ht37 : m_tg M33 u2 = 14 := m_le_tg hle34 ht27
      have ht38 : m_tg M33 u11 = 14 := m_le_tg hle34 ht28
      have ht39 : m_tg M33 u20 = 8 := m_le_tg hle34 ht29
      have ht40 : m_tg M33 u30 = 14 := m_le_tg hle34 ht32
      obtain ⟨u41, he42, hw⟩ := hw
      subst he42
      obtain ⟨ht43, hw⟩ := hw
      refine pw_cast X 7 (q := (RX7, TX7, tyX7, 5)) rfl (fun _ h => by cases h; exact ht43) q1160 dX1_garageFor_51 ?_
      refine pw_runi X (m_cV X (b := u41) (ci := 7) (q := (RX7, TX7, tyX7, 5)) (met_X7_hasPlace G C.2.1 M33 u41 _ hw) ht43 rfl (lw_V q1473 q1474 q1475 q111 q1476) ⟨rfl, nh_X7_hasPlace⟩ ⟨Nat.le_of_ble_eq_true rfl, Nat.le_of_ble_eq_true rfl⟩ rfl (Nat.le_of_ble_eq_true rfl) dX1_garageFor_54) (fun r46 M44 hle45 hx => ?_)
      replace hw := hx hle45
      clear hx
      have ht47 : m_tg M44 la0 = 2 := m_le_tg hle45 ht36
      have ht48 : m_tg M44 u2 = 14 := m_le_tg hle45 ht37
      have ht49 : m_tg M44 u11 = 14 := m_le_tg hle45 ht38
      have ht50 : m_tg M44 u20 = 8 := m_le_tg hle45 ht39
      have ht51 : m_tg M44 u30 = 14 := m_le_tg hle45 ht40
      have ht52 : m_tg M44 u41 = 8 := m_le_tg hle45 ht43
      refine pw_if_eq X 101 dX1_garageFor_57 (by decide) (fun c53 => ?_) (fun c53 => ?_)
      · replace hw := hw.1 c53
        refine pw_iinc X (lx3 + 1) [(0, vR (some la0)), (1, vI lx1), (2, vI lx2), (3, vI (lx3 + 1))] [1, 2, 3, 0] dX1_garageFor_101 rfl (by first | rfl | decide) (by decide) rfl ?_
        refine pw_goto X 5 dX1_garageFor_104 (by decide) ?_
        exact ih _ la0 lx1 lx2 (lx3 + 1) hw
      · replace hw := hw.2 c53
        refine pw_iload X dX1_garageFor_60 rfl ?_
        refine pw_bipush X (-5) dX1_garageFor_62 (by decide) ?_
        refine pw_icmp_eq X 101 dX1_garageFor_64 (by decide) (fun c54 => ?_) (fun c54 => ?_)
        · replace hw := hw.1 c54
          refine pw_iinc X (lx3 + 1) [(0, vR (some la0)), (1, vI lx1), (2, vI lx2), (3, vI (lx3 + 1))] [1, 2, 3, 0] dX1_garageFor_101 rfl (by first | rfl | decide) (by decide) rfl ?_
          refine pw_goto X 5 dX1_garageFor_104 (by decide) ?_
          exact ih _ la0 lx1 lx2 (lx3 + 1) hw
        · replace hw := hw.2 c54
          refine pw_iload_n X dX1_garageFor_67 rfl rfl ?_
          refine pw_bipush X (-5) dX1_garageFor_68 (by decide) ?_
          refine pw_icmp_eq X 99 dX1_garageFor_70 (by decide) (fun c55 => ?_) (fun c55 => ?_)
          · replace hw := hw.1 c55
            refine pw_iload_n X dX1_garageFor_99 rfl rfl ?_
            refine pw_istore_n X [(0, vR (some la0)), (1, vI lx1), (2, vI lx3), (3, vI lx3)] [1, 2, 0, 3] dX1_garageFor_100 rfl (by decide) rfl ?_
            refine pw_iinc X (lx3 + 1) [(0, vR (some la0)), (1, vI lx1), (2, vI lx3), (3, vI (lx3 + 1))] [1, 2, 3, 0] dX1_garageFor_101 rfl (by first | rfl | decide) (by decide) rfl ?_
            refine pw_goto X 5 dX1_garageFor_104 (by decide) ?_
            exact ih _ la0 lx1 lx3 (lx3 + 1) hw
          · replace hw := hw.2 c55
            refine pw_iload X dX1_garageFor_73 rfl ?_
            refine pw_aload_n X dX1_garageFor_75 rfl rfl ?_
            refine pw_iload_n X dX1_garageFor_76 rfl rfl ?_
            refine pw_aload_n X dX1_garageFor_77 rfl rfl ?_
            obtain ⟨u56, he57, hw⟩ := hw
            refine pw_get X (q := (RX1, TX1, tyX1, 8)) (ci := 1) (k := 2) (ref := "PatrolDesk$State") (vR (some u56)) ht47 rfl (by decide) in_X1 q165 (Or.inl rfl) (by rw [he57]; rfl) dX1_garageFor_78 ?_
            refine pw_iload_n X dX1_garageFor_81 rfl rfl ?_
            obtain ⟨ht58, hw⟩ := hw
            refine pw_runq X (m_cF X (b := u56) (ci := 13) (q := (RJ2, TJ2, tyJ2, 3)) (met_J2_get G C.2.1 M44 u56 lx2 _ hw) ht58 rfl (lw_app (lw_F q1028 q1031 q1033 q82) (lw_meth q1035)) (List.mem_of_getElem? (i := 2) rfl) (by decide +kernel : m_nMH ⟨"java/util/List", "get", "(I)Ljava/lang/Object;"⟩ 1) ⟨Nat.le_of_ble_eq_true rfl, Nat.le_of_ble_eq_true rfl⟩ rfl (Nat.le_of_ble_eq_true rfl) dX1_garageFor_82) (fun r61 M59 hle60 hx => ?_)
            replace hw := hx hle60
            clear hx
            have ht62 : m_tg M59 la0 = 2 := m_le_tg hle60 ht47
            have ht63 : m_tg M59 u2 = 14 := m_le_tg hle60 ht48
            have ht64 : m_tg M59 u11 = 14 := m_le_tg hle60 ht49
            have ht65 : m_tg M59 u20 = 8 := m_le_tg hle60 ht50
            have ht66 : m_tg M59 u30 = 14 := m_le_tg hle60 ht51
            have ht67 : m_tg M59 u41 = 8 := m_le_tg hle60 ht52
            have ht68 : m_tg M59 u56 = 14 := m_le_tg hle60 ht58
            obtain ⟨u69, he70, hw⟩ := hw
            subst he70
            obtain ⟨ht71, hw⟩ := hw
            refine pw_cast X 7 (q := (RX7, TX7, tyX7, 5)) rfl (fun _ h => by cases h; exact ht71) q1160 dX1_garageFor_87 ?_
            refine pw_getN X (q := (RX7, TX7, tyX7, 5)) (ci := 7) (k := 0) (ref := "PatrolDesk$Garage") (host := "PatrolDesk") (vI (m_gi M59 u69 0)) ht71 rfl (by decide) in_X7 q1172 (Or.inl rfl) rfl dX1_garageFor_90 ?_
            refine pw_runi X (m_cV X (b := la0) (ci := 1) (q := (RX1, TX1, tyX1, 8)) (met_X1_far G C.2.1 M59 la0 lx1 (m_gi M59 u69 0) _ hw) ht62 rfl (lw_V q1472 q1436 q1437 q79 q1438) ⟨rfl, nh_X1_far⟩ ⟨Nat.le_of_ble_eq_true rfl, Nat.le_of_ble_eq_true rfl⟩ rfl (Nat.le_of_ble_eq_true rfl) dX1_garageFor_93) (fun r74 M72 hle73 hx => ?_)
            replace hw := hx hle73
            clear hx
            have ht75 : m_tg M72 la0 = 2 := m_le_tg hle73 ht62
            have ht76 : m_tg M72 u2 = 14 := m_le_tg hle73 ht63
            have ht77 : m_tg M72 u11 = 14 := m_le_tg hle73 ht64
            have ht78 : m_tg M72 u20 = 8 := m_le_tg hle73 ht65
            have ht79 : m_tg M72 u30 = 14 := m_le_tg hle73 ht66
            have ht80 : m_tg M72 u41 = 8 := m_le_tg hle73 ht67
            have ht81 : m_tg M72 u56 = 14 := m_le_tg hle73 ht68
            have ht82 : m_tg M72 u69 = 8 := m_le_tg hle73 ht71
            refine pw_icmp_ge X 101 dX1_garageFor_96 (by decide) (fun c83 => ?_) (fun c83 => ?_)
            · replace hw := hw.1 c83
              refine pw_iinc X (lx3 + 1) [(0, vR (some la0)), (1, vI lx1), (2, vI lx2), (3, vI (lx3 + 1))] [1, 2, 3, 0] dX1_garageFor_101 rfl (by first | rfl | decide) (by decide) rfl ?_
              refine pw_goto X 5 dX1_garageFor_104 (by decide) ?_
              exact ih _ la0 lx1 lx2 (lx3 + 1) hw
            · replace hw := hw.2 c83
              refine pw_iload_n X dX1_garageFor_99 rfl rfl ?_
              refine pw_istore_n X [(0, vR (some la0)), (1, vI lx1), (2, vI lx3), (3, vI lx3)] [1, 2, 0, 3] dX1_garageFor_100 rfl (by decide) rfl ?_
              refine pw_iinc X (lx3 + 1) [(0, vR (some la0)), (1, vI lx1), (2, vI lx3), (3, vI (lx3 + 1))] [1, 2, 3, 0] dX1_garageFor_101 rfl (by first | rfl | decide) (by decide) rfl ?_
              refine pw_goto X 5 dX1_garageFor_104 (by decide) ?_
              exact ih _ la0 lx1 lx3 (lx3 + 1) hw
theorem bk_X1_garageFor_0 (G : Gp) (C : m_Cx) (n0 s0 : Nat) (M0 : Mem) (Q : Int32 → Mem → Prop) (X : m_in G C RX1 cX1_garageFor 5 (some .int) "garageFor" 3 64 n0 s0) (M : Mem) (a0 : Nat) (x1 : Int32) (hw : wp_X1_garageFor G.2 M a0 x1 Q) : pW G C 5 n0 s0 M0 (m_Q G C n0 s0 (va_Qi (m_q1 M0 Q) (m_W G) (m_A G))) M 0 [(0, vR (some a0)), (1, vI x1)] [] := by
  refine pw_bipush X (-5) dX1_garageFor_0 (by decide) ?_
  refine pw_istore_n X [(0, vR (some a0)), (1, vI x1), (2, vI (-5))] [1, 2, 0] dX1_garageFor_2 rfl (by decide) rfl ?_
  refine pw_iconst X 0 dX1_garageFor_3 (by decide) ?_
  refine pw_istore_n X [(0, vR (some a0)), (1, vI x1), (2, vI (-5)), (3, vI 0)] [1, 2, 3, 0] dX1_garageFor_4 rfl (by decide) rfl ?_
  obtain ⟨n5, hw⟩ := hw
  exact bk_X1_garageFor_5 G C n0 s0 M0 Q X n5 _ a0 x1 (-5) 0 hw
theorem met_X1_garageFor (G : Gp) (l : Launch) (M : Mem) (a0 : Nat) (x1 : Int32) (Q : Int32 → Mem → Prop) (hw : wp_X1_garageFor G.2 M a0 x1 Q) : m_K G l yX1_garageFor cX1_garageFor 5 (some .int) 3 64 [vR (some a0), vI x1] M (va_Qi (m_q1 M Q) (m_W G) (m_A G)) := by
  refine m_met (by decide) (Nat.le_of_ble_eq_true rfl) (fun C e X => ?_)
  exact bk_X1_garageFor_0 G C _ _ M Q X M a0 x1 hw
theorem nh_X1_garageFor : m_nMH yX1_garageFor 1 := by decide +kernel

def wp_X1_tow_b148 (g : Nat → Nat) (Q : Mem → Prop) : Nat → Mem → Nat → Nat → Nat → Int32 → Option Nat → Int32 → Int32 → Int32 → Prop
  | 0 => fun _ _ _ _ _ _ _ _ _ => False
  | n + 1 => fun M la0 la1 la2 lx3 lr4 lx5 lx6 lx7 => ((lx5 ≤ lx7 → m_tg M la2 = 9 ∧ ∀ M3 : Mem, M3 = (m_pi M la2 7 4) → m_tg M3 la1 = 7 ∧ ∀ M8 : Mem, M8 = (m_pi M3 la2 8 (m_gi M3 la1 0)) → wp_X6_begin g M8 la1 3 (m_gi M8 la2 0) (if 1 < (2 * lx6) then (2 * lx6) else 1) (fun (M13 : Mem) => m_le M8 M13 → ∃ u17 : Nat, lr4 = some u17 ∧ m_tg M13 u17 = 14 ∧ wp_J2_get g M13 u17 lx5 (fun (r22 : Option Nat) (M20 : Mem) => m_le M13 M20 → ∃ u26 : Nat, r22 = some u26 ∧ m_tg M20 u26 = 150 ∧ wp_J12_intValue g M20 u26 (fun (r31 : Int32) (M29 : Mem) => m_le M20 M29 → ∀ M36 : Mem, M36 = (m_pi M29 la1 8 r31) → ∀ M43 : Mem, M43 = (m_pi M36 la1 9 lx3) → m_tg M43 la0 = 2 ∧ ∃ u51 : Nat, (m_gr M43 la0 2) = some u51 ∧ m_tg M43 u51 = 14 ∧ wp_J2_get g M43 u51 lx3 (fun (r56 : Option Nat) (M54 : Mem) => m_le M43 M54 → ∃ u63 : Nat, r56 = some u63 ∧ m_tg M54 u63 = 8 ∧ ∀ M66 : Mem, M66 = (m_pi M54 u63 3 ((m_gi M54 u63 3) + 1)) → Q M66))))) ∧ (¬ lx5 ≤ lx7 → m_tg M la0 = 2 ∧ ∃ u77 : Nat, (m_gr M la0 5) = some u77 ∧ ∃ u79 : Nat, lr4 = some u79 ∧ m_tg M u79 = 14 ∧ wp_J2_get g M u79 lx7 (fun (r84 : Option Nat) (M82 : Mem) => m_le M M82 → ∃ u87 : Nat, r84 = some u87 ∧ m_tg M82 u87 = 150 ∧ wp_J12_intValue g M82 u87 (fun (r92 : Int32) (M90 : Mem) => m_le M82 M90 → wp_J2_get g M90 u79 (lx7 + 1) (fun (r98 : Option Nat) (M96 : Mem) => m_le M90 M96 → ∃ u102 : Nat, r98 = some u102 ∧ m_tg M96 u102 = 150 ∧ wp_J12_intValue g M96 u102 (fun (r107 : Int32) (M105 : Mem) => m_le M96 M105 → m_tg M105 u77 = 3 ∧ wp_X2_lengthOf g M105 u77 r92 r107 (fun (r115 : Int32) (M113 : Mem) => m_le M105 M113 → wp_X1_tow_b148 g Q n M113 la0 la1 la2 lx3 (some u79) lx5 (lx6 + r115) (lx7 + 1))))))))
def wp_X1_tow_b104 (g : Nat → Nat) (k60 : Mem → Nat → Nat → Nat → Int32 → Option Nat → Int32 → Prop) (M : Mem) (la0 : Nat) (la1 : Nat) (la2 : Nat) (lx3 : Int32) (lr4 : Option Nat) (lx5 : Int32) (Q : Mem → Prop) : Prop := ((lx5 = 0 → k60 M la0 la1 la2 lx3 lr4 (lx5 + 1)) ∧ (¬ lx5 = 0 → ∃ u2 : Nat, lr4 = some u2 ∧ m_tg M u2 = 14 ∧ wp_J2_get g M u2 (lx5 + 1) (fun (r7 : Option Nat) (M5 : Mem) => m_le M M5 → ∃ u9 : Nat, r7 = some u9 ∧ m_tg M5 u9 = 150 ∧ wp_J12_intValue g M5 u9 (fun (r14 : Int32) (M12 : Mem) => m_le M5 M12 → wp_X0_regionOf g M12 r14 (fun (r19 : Int32) (M17 : Mem) => m_le M12 M17 → m_tg M17 la1 = 7 ∧ wp_X6_region g M17 la1 (fun (r25 : Int32) (M23 : Mem) => m_le M17 M23 → ((¬ r19 = r25 → ∃ j148 : Nat, wp_X1_tow_b148 g Q j148 M23 la0 la1 la2 lx3 (some u2) lx5 0 0) ∧ (r19 = r25 → k60 M23 la0 la1 la2 lx3 (some u2) (lx5 + 1)))))))))
def wp_X1_tow_b60 (g : Nat → Nat) (Q : Mem → Prop) : Nat → Mem → Nat → Nat → Nat → Int32 → Option Nat → Int32 → Prop
  | 0 => fun _ _ _ _ _ _ _ => False
  | n + 1 => fun M la0 la1 la2 lx3 lr4 lx5 => ∃ u1 : Nat, lr4 = some u1 ∧ m_tg M u1 = 14 ∧ wp_J2_size g M u1 (fun (r6 : Int32) (M4 : Mem) => m_le M M4 → ((r6 ≤ (lx5 + 1) → ∃ j148 : Nat, wp_X1_tow_b148 g Q j148 M4 la0 la1 la2 lx3 (some u1) lx5 0 0) ∧ (¬ r6 ≤ (lx5 + 1) → ((lx5 = 0 → wp_X1_tow_b104 g (wp_X1_tow_b60 g Q n) M4 la0 la1 la2 lx3 (some u1) lx5 Q) ∧ (¬ lx5 = 0 → wp_J2_get g M4 u1 lx5 (fun (r12 : Option Nat) (M10 : Mem) => m_le M4 M10 → ∃ u14 : Nat, r12 = some u14 ∧ m_tg M10 u14 = 150 ∧ wp_J12_intValue g M10 u14 (fun (r19 : Int32) (M17 : Mem) => m_le M10 M17 → wp_X0_regionOf g M17 r19 (fun (r24 : Int32) (M22 : Mem) => m_le M17 M22 → m_tg M22 la1 = 7 ∧ wp_X6_region g M22 la1 (fun (r30 : Int32) (M28 : Mem) => m_le M22 M28 → ((¬ r24 = r30 → ∃ j148 : Nat, wp_X1_tow_b148 g Q j148 M28 la0 la1 la2 lx3 (some u1) lx5 0 0) ∧ (r24 = r30 → wp_X1_tow_b104 g (wp_X1_tow_b60 g Q n) M28 la0 la1 la2 lx3 (some u1) lx5 Q)))))))))))
def wp_X1_tow (g : Nat → Nat) (M : Mem) (a0 : Nat) (a1 : Nat) (a2 : Nat) (Q : Mem → Prop) : Prop := m_tg M a2 = 9 ∧ m_tg M a0 = 2 ∧ wp_X1_garageFor g M a0 (m_gi M a2 6) (fun (r5 : Int32) (M3 : Mem) => m_le M M3 → ((¬ r5 = (-5) → ∃ u9 : Nat, (m_gr M3 a0 5) = some u9 ∧ ∃ u11 : Nat, (m_gr M3 a0 2) = some u11 ∧ m_tg M3 u11 = 14 ∧ wp_J2_get g M3 u11 r5 (fun (r16 : Option Nat) (M14 : Mem) => m_le M3 M14 → ∃ u20 : Nat, r16 = some u20 ∧ m_tg M14 u20 = 8 ∧ m_tg M14 u9 = 3 ∧ wp_X2_way g M14 u9 (m_gi M3 a2 6) (m_gi M14 u20 0) (fun (r26 : Option Nat) (M24 : Mem) => m_le M14 M24 → ∃ j60 : Nat, wp_X1_tow_b60 g Q j60 M24 a0 a1 a2 r5 r26 0))) ∧ (r5 = (-5) → wp_X8_waitForTow g M3 a2 (m_gi M3 a2 6) (fun (M32 : Mem) => m_le M3 M32 → m_tg M32 a1 = 7 ∧ wp_X6_becomeFree g M32 a1 (fun (M37 : Mem) => m_le M32 M37 → Q M37)))))
theorem bk_X1_tow_148 (G : Gp) (C : m_Cx) (n0 s0 : Nat) (M0 : Mem) (Q : Mem → Prop) (X : m_in G C RX1 cX1_tow 8 none "tow" 9 208 n0 s0) : ∀ (n : Nat) (M : Mem) (la0 : Nat) (la1 : Nat) (la2 : Nat) (lx3 : Int32) (lr4 : Option Nat) (lx5 : Int32) (lx6 : Int32) (lx7 : Int32) (hw : wp_X1_tow_b148 G.2 Q n M la0 la1 la2 lx3 lr4 lx5 lx6 lx7), pW G C 8 n0 s0 M0 (m_Q G C n0 s0 (va_Qv (m_q0 M0 Q) (m_W G) (m_A G))) M 148 [(0, vR (some la0)), (1, vR (some la1)), (2, vR (some la2)), (3, vI lx3), (4, vR lr4), (5, vI lx5), (6, vI lx6), (7, vI lx7)] [] := by
  intro n
  induction n with
  | zero => intro M la0 la1 la2 lx3 lr4 lx5 lx6 lx7 hw; exact hw.elim
  | succ n ih =>
    intro M la0 la1 la2 lx3 lr4 lx5 lx6 lx7 hw
    refine pw_iload X dX1_tow_148 rfl ?_
    refine pw_iload X dX1_tow_150 rfl ?_
    refine pw_icmp_ge X 205 dX1_tow_152 (by decide) (fun c1 => ?_) (fun c1 => ?_)
    · replace hw := hw.1 c1
      refine pw_aload_n X dX1_tow_205 rfl rfl ?_
      refine pw_iconst X 4 dX1_tow_206 (by decide) ?_
      obtain ⟨ht2, hw⟩ := hw
      obtain ⟨M3, hM4⟩ : ∃ z : Mem, z = (m_pi M la2 7 4) := ⟨_, rfl⟩
      replace hw := hw M3 hM4
      refine pw_putN X (q := (RX8, TX8, tyX8, 13)) (ci := 8) (k := 7) (ref := "PatrolDesk$Call") (host := "PatrolDesk") M3 hM4.symm ht2 rfl (by decide) in_X8 tyX8_ok nmX8 q1228 (Or.inl rfl) rfl (m_kd_i (fun _ _ => rfl)) rfl rfl dX1_tow_207 ?_
      have hle5 : m_le M M3 := by rw [hM4]; exact m_le_pi
      have ht6 : m_tg M3 la2 = 9 := m_le_tg hle5 ht2
      refine pw_aload_n X dX1_tow_210 rfl rfl ?_
      refine pw_aload_n X dX1_tow_211 rfl rfl ?_
      obtain ⟨ht7, hw⟩ := hw
      refine pw_getN X (q := (RX6, TX6, tyX6, 15)) (ci := 6) (k := 0) (ref := "PatrolDesk$Patrol") (host := "PatrolDesk") (vI (m_gi M3 la1 0)) ht7 rfl (by decide) in_X6 q1089 (Or.inl rfl) rfl dX1_tow_212 ?_
      obtain ⟨M8, hM9⟩ : ∃ z : Mem, z = (m_pi M3 la2 8 (m_gi M3 la1 0)) := ⟨_, rfl⟩
      replace hw := hw M8 hM9
      refine pw_putN X (q := (RX8, TX8, tyX8, 13)) (ci := 8) (k := 8) (ref := "PatrolDesk$Call") (host := "PatrolDesk") M8 hM9.symm ht6 rfl (by decide) in_X8 tyX8_ok nmX8 q1231 (Or.inl rfl) rfl (m_kd_i (fun _ _ => rfl)) rfl rfl dX1_tow_215 ?_
      have hle10 : m_le M3 M8 := by rw [hM9]; exact m_le_pi
      have ht11 : m_tg M8 la2 = 9 := m_le_tg hle10 ht6
      have ht12 : m_tg M8 la1 = 7 := m_le_tg hle10 ht7
      refine pw_aload_n X dX1_tow_218 rfl rfl ?_
      refine pw_iconst X 3 dX1_tow_219 (by decide) ?_
      refine pw_aload_n X dX1_tow_220 rfl rfl ?_
      refine pw_getN X (q := (RX8, TX8, tyX8, 13)) (ci := 8) (k := 0) (ref := "PatrolDesk$Call") (host := "PatrolDesk") (vI (m_gi M8 la2 0)) ht11 rfl (by decide) in_X8 q1208 (Or.inl rfl) rfl dX1_tow_221 ?_
      refine pw_iconst X 1 dX1_tow_224 (by decide) ?_
      refine pw_iconst X 2 dX1_tow_225 (by decide) ?_
      refine pw_iload X dX1_tow_226 rfl ?_
      refine pw_imul X dX1_tow_228 ?_
      refine pw_mmax X q1566 q298 q92 q299 (Nat.le_of_ble_eq_true rfl) (Nat.le_of_ble_eq_true rfl) dX1_tow_229 ?_
      refine pw_runv X (m_cV X (b := la1) (ci := 6) (q := (RX6, TX6, tyX6, 15)) (met_X6_begin G C.2.1 M8 la1 3 (m_gi M8 la2 0) (if 1 < (2 * lx6) then (2 * lx6) else 1) _ hw) ht12 rfl (lw_V q1567 q1568 q1569 q110 q1570) ⟨rfl, nh_X6_begin⟩ ⟨Nat.le_of_ble_eq_true rfl, Nat.le_of_ble_eq_true rfl⟩ rfl (Nat.le_of_ble_eq_true rfl) dX1_tow_232) (fun M13 hle14 hx => ?_)
      replace hw := hx hle14
      clear hx
      have ht15 : m_tg M13 la2 = 9 := m_le_tg hle14 ht11
      have ht16 : m_tg M13 la1 = 7 := m_le_tg hle14 ht12
      refine pw_aload_n X dX1_tow_235 rfl rfl ?_
      refine pw_aload X dX1_tow_236 rfl ?_
      refine pw_iload X dX1_tow_238 rfl ?_
      obtain ⟨u17, he18, hw⟩ := hw
      subst he18
      obtain ⟨ht19, hw⟩ := hw
      refine pw_runq X (m_cF X (b := u17) (ci := 13) (q := (RJ2, TJ2, tyJ2, 3)) (met_J2_get G C.2.1 M13 u17 lx5 _ hw) ht19 rfl (lw_app (lw_F q1028 q1031 q1033 q82) (lw_meth q1035)) (List.mem_of_getElem? (i := 2) rfl) (by decide +kernel : m_nMH ⟨"java/util/List", "get", "(I)Ljava/lang/Object;"⟩ 1) ⟨Nat.le_of_ble_eq_true rfl, Nat.le_of_ble_eq_true rfl⟩ rfl (Nat.le_of_ble_eq_true rfl) dX1_tow_240) (fun r22 M20 hle21 hx => ?_)
      replace hw := hx hle21
      clear hx
      have ht23 : m_tg M20 la2 = 9 := m_le_tg hle21 ht15
      have ht24 : m_tg M20 la1 = 7 := m_le_tg hle21 ht16
      have ht25 : m_tg M20 u17 = 14 := m_le_tg hle21 ht19
      obtain ⟨u26, he27, hw⟩ := hw
      subst he27
      obtain ⟨ht28, hw⟩ := hw
      refine pw_castI X (fun _ h => by cases h; exact ht28) q1555 q866 dX1_tow_245 ?_
      refine pw_runi X (m_cVI X (b := u26) (met_J12_intValue G C.2.1 M20 u26 _ hw) ht28 (lw_V q1556 q388 q389 q94 q390) ⟨rfl, nh_J12_intValue⟩ ⟨Nat.le_of_ble_eq_true rfl, Nat.le_of_ble_eq_true rfl⟩ rfl (Nat.le_of_ble_eq_true rfl) dX1_tow_248) (fun r31 M29 hle30 hx => ?_)
      replace hw := hx hle30
      clear hx
      have ht32 : m_tg M29 la2 = 9 := m_le_tg hle30 ht23
      have ht33 : m_tg M29 la1 = 7 := m_le_tg hle30 ht24
      have ht34 : m_tg M29 u17 = 14 := m_le_tg hle30 ht25
      have ht35 : m_tg M29 u26 = 150 := m_le_tg hle30 ht28
      obtain ⟨M36, hM37⟩ : ∃ z : Mem, z = (m_pi M29 la1 8 r31) := ⟨_, rfl⟩
      replace hw := hw M36 hM37
      refine pw_putN X (q := (RX6, TX6, tyX6, 15)) (ci := 6) (k := 8) (ref := "PatrolDesk$Patrol") (host := "PatrolDesk") M36 hM37.symm ht33 rfl (by decide) in_X6 tyX6_ok nmX6 q1111 (Or.inl rfl) rfl (m_kd_i (fun _ _ => rfl)) rfl rfl dX1_tow_251 ?_
      have hle38 : m_le M29 M36 := by rw [hM37]; exact m_le_pi
      have ht39 : m_tg M36 la2 = 9 := m_le_tg hle38 ht32
      have ht40 : m_tg M36 la1 = 7 := m_le_tg hle38 ht33
      have ht41 : m_tg M36 u17 = 14 := m_le_tg hle38 ht34
      have ht42 : m_tg M36 u26 = 150 := m_le_tg hle38 ht35
      refine pw_aload_n X dX1_tow_254 rfl rfl ?_
      refine pw_iload_n X dX1_tow_255 rfl rfl ?_
      obtain ⟨M43, hM44⟩ : ∃ z : Mem, z = (m_pi M36 la1 9 lx3) := ⟨_, rfl⟩
      replace hw := hw M43 hM44
      refine pw_putN X (q := (RX6, TX6, tyX6, 15)) (ci := 6) (k := 9) (ref := "PatrolDesk$Patrol") (host := "PatrolDesk") M43 hM44.symm ht40 rfl (by decide) in_X6 tyX6_ok nmX6 q1113 (Or.inl rfl) rfl (m_kd_i (fun _ _ => rfl)) rfl rfl dX1_tow_256 ?_
      have hle45 : m_le M36 M43 := by rw [hM44]; exact m_le_pi
      have ht46 : m_tg M43 la2 = 9 := m_le_tg hle45 ht39
      have ht47 : m_tg M43 la1 = 7 := m_le_tg hle45 ht40
      have ht48 : m_tg M43 u17 = 14 := m_le_tg hle45 ht41
      have ht49 : m_tg M43 u26 = 150 := m_le_tg hle45 ht42
      refine pw_aload_n X dX1_tow_259 rfl rfl ?_
      obtain ⟨ht50, hw⟩ := hw
      obtain ⟨u51, he52, hw⟩ := hw
      refine pw_get X (q := (RX1, TX1, tyX1, 8)) (ci := 1) (k := 2) (ref := "PatrolDesk$State") (vR (some u51)) ht50 rfl (by decide) in_X1 q165 (Or.inl rfl) (by rw [he52]; rfl) dX1_tow_260 ?_
      refine pw_iload_n X dX1_tow_263 rfl rfl ?_
      obtain ⟨ht53, hw⟩ := hw
      refine pw_runq X (m_cF X (b := u51) (ci := 13) (q := (RJ2, TJ2, tyJ2, 3)) (met_J2_get G C.2.1 M43 u51 lx3 _ hw) ht53 rfl (lw_app (lw_F q1028 q1031 q1033 q82) (lw_meth q1035)) (List.mem_of_getElem? (i := 2) rfl) (by decide +kernel : m_nMH ⟨"java/util/List", "get", "(I)Ljava/lang/Object;"⟩ 1) ⟨Nat.le_of_ble_eq_true rfl, Nat.le_of_ble_eq_true rfl⟩ rfl (Nat.le_of_ble_eq_true rfl) dX1_tow_264) (fun r56 M54 hle55 hx => ?_)
      replace hw := hx hle55
      clear hx
      have ht57 : m_tg M54 la2 = 9 := m_le_tg hle55 ht46
      have ht58 : m_tg M54 la1 = 7 := m_le_tg hle55 ht47
      have ht59 : m_tg M54 u17 = 14 := m_le_tg hle55 ht48
      have ht60 : m_tg M54 u26 = 150 := m_le_tg hle55 ht49
      have ht61 : m_tg M54 la0 = 2 := m_le_tg hle55 ht50
      have ht62 : m_tg M54 u51 = 14 := m_le_tg hle55 ht53
      obtain ⟨u63, he64, hw⟩ := hw
      subst he64
      obtain ⟨ht65, hw⟩ := hw
      refine pw_cast X 7 (q := (RX7, TX7, tyX7, 5)) rfl (fun _ h => by cases h; exact ht65) q1160 dX1_tow_269 ?_
      refine pw_dup X dX1_tow_272 ?_
      refine pw_getN X (q := (RX7, TX7, tyX7, 5)) (ci := 7) (k := 3) (ref := "PatrolDesk$Garage") (host := "PatrolDesk") (vI (m_gi M54 u63 3)) ht65 rfl (by decide) in_X7 q1180 (Or.inl rfl) rfl dX1_tow_273 ?_
      refine pw_iconst X 1 dX1_tow_276 (by decide) ?_
      refine pw_iadd X dX1_tow_277 ?_
      obtain ⟨M66, hM67⟩ : ∃ z : Mem, z = (m_pi M54 u63 3 ((m_gi M54 u63 3) + 1)) := ⟨_, rfl⟩
      replace hw := hw M66 hM67
      refine pw_putN X (q := (RX7, TX7, tyX7, 5)) (ci := 7) (k := 3) (ref := "PatrolDesk$Garage") (host := "PatrolDesk") M66 hM67.symm ht65 rfl (by decide) in_X7 tyX7_ok nmX7 q1180 (Or.inl rfl) rfl (m_kd_i (fun _ _ => rfl)) rfl rfl dX1_tow_278 ?_
      have hle68 : m_le M54 M66 := by rw [hM67]; exact m_le_pi
      have ht69 : m_tg M66 la2 = 9 := m_le_tg hle68 ht57
      have ht70 : m_tg M66 la1 = 7 := m_le_tg hle68 ht58
      have ht71 : m_tg M66 u17 = 14 := m_le_tg hle68 ht59
      have ht72 : m_tg M66 u26 = 150 := m_le_tg hle68 ht60
      have ht73 : m_tg M66 la0 = 2 := m_le_tg hle68 ht61
      have ht74 : m_tg M66 u51 = 14 := m_le_tg hle68 ht62
      have ht75 : m_tg M66 u63 = 8 := m_le_tg hle68 ht65
      exact pw_vret X hw dX1_tow_281
    · replace hw := hw.2 c1
      refine pw_iload X dX1_tow_155 rfl ?_
      refine pw_aload_n X dX1_tow_157 rfl rfl ?_
      obtain ⟨ht76, hw⟩ := hw
      obtain ⟨u77, he78, hw⟩ := hw
      refine pw_get X (q := (RX1, TX1, tyX1, 8)) (ci := 1) (k := 5) (ref := "PatrolDesk$State") (vR (some u77)) ht76 rfl (by decide) in_X1 q171 (Or.inl rfl) (by rw [he78]; rfl) dX1_tow_158 ?_
      refine pw_aload X dX1_tow_161 rfl ?_
      refine pw_iload X dX1_tow_163 rfl ?_
      obtain ⟨u79, he80, hw⟩ := hw
      subst he80
      obtain ⟨ht81, hw⟩ := hw
      refine pw_runq X (m_cF X (b := u79) (ci := 13) (q := (RJ2, TJ2, tyJ2, 3)) (met_J2_get G C.2.1 M u79 lx7 _ hw) ht81 rfl (lw_app (lw_F q1028 q1031 q1033 q82) (lw_meth q1035)) (List.mem_of_getElem? (i := 2) rfl) (by decide +kernel : m_nMH ⟨"java/util/List", "get", "(I)Ljava/lang/Object;"⟩ 1) ⟨Nat.le_of_ble_eq_true rfl, Nat.le_of_ble_eq_true rfl⟩ rfl (Nat.le_of_ble_eq_true rfl) dX1_tow_165) (fun r84 M82 hle83 hx => ?_)
      replace hw := hx hle83
      clear hx
      have ht85 : m_tg M82 la0 = 2 := m_le_tg hle83 ht76
      have ht86 : m_tg M82 u79 = 14 := m_le_tg hle83 ht81
      obtain ⟨u87, he88, hw⟩ := hw
      subst he88
      obtain ⟨ht89, hw⟩ := hw
      refine pw_castI X (fun _ h => by cases h; exact ht89) q1555 q866 dX1_tow_170 ?_
      refine pw_runi X (m_cVI X (b := u87) (met_J12_intValue G C.2.1 M82 u87 _ hw) ht89 (lw_V q1556 q388 q389 q94 q390) ⟨rfl, nh_J12_intValue⟩ ⟨Nat.le_of_ble_eq_true rfl, Nat.le_of_ble_eq_true rfl⟩ rfl (Nat.le_of_ble_eq_true rfl) dX1_tow_173) (fun r92 M90 hle91 hx => ?_)
      replace hw := hx hle91
      clear hx
      have ht93 : m_tg M90 la0 = 2 := m_le_tg hle91 ht85
      have ht94 : m_tg M90 u79 = 14 := m_le_tg hle91 ht86
      have ht95 : m_tg M90 u87 = 150 := m_le_tg hle91 ht89
      refine pw_aload X dX1_tow_176 rfl ?_
      refine pw_iload X dX1_tow_178 rfl ?_
      refine pw_iconst X 1 dX1_tow_180 (by decide) ?_
      refine pw_iadd X dX1_tow_181 ?_
      refine pw_runq X (m_cF X (b := u79) (ci := 13) (q := (RJ2, TJ2, tyJ2, 3)) (met_J2_get G C.2.1 M90 u79 (lx7 + 1) _ hw) ht94 rfl (lw_app (lw_F q1028 q1031 q1033 q82) (lw_meth q1035)) (List.mem_of_getElem? (i := 2) rfl) (by decide +kernel : m_nMH ⟨"java/util/List", "get", "(I)Ljava/lang/Object;"⟩ 1) ⟨Nat.le_of_ble_eq_true rfl, Nat.le_of_ble_eq_true rfl⟩ rfl (Nat.le_of_ble_eq_true rfl) dX1_tow_182) (fun r98 M96 hle97 hx => ?_)
      replace hw := hx hle97
      clear hx
      have ht99 : m_tg M96 la0 = 2 := m_le_tg hle97 ht93
      have ht100 : m_tg M96 u79 = 14 := m_le_tg hle97 ht94
      have ht101 : m_tg M96 u87 = 150 := m_le_tg hle97 ht95
      obtain ⟨u102, he103, hw⟩ := hw
      subst he103
      obtain ⟨ht104, hw⟩ := hw
      refine pw_castI X (fun _ h => by cases h; exact ht104) q1555 q866 dX1_tow_187 ?_
      refine pw_runi X (m_cVI X (b := u102) (met_J12_intValue G C.2.1 M96 u102 _ hw) ht104 (lw_V q1556 q388 q389 q94 q390) ⟨rfl, nh_J12_intValue⟩ ⟨Nat.le_of_ble_eq_true rfl, Nat.le_of_ble_eq_true rfl⟩ rfl (Nat.le_of_ble_eq_true rfl) dX1_tow_190) (fun r107 M105 hle106 hx => ?_)
      replace hw := hx hle106
      clear hx
      have ht108 : m_tg M105 la0 = 2 := m_le_tg hle106 ht99
      have ht109 : m_tg M105 u79 = 14 := m_le_tg hle106 ht100
      have ht110 : m_tg M105 u87 = 150 := m_le_tg hle106 ht101
      have ht111 : m_tg M105 u102 = 150 := m_le_tg hle106 ht104
      obtain ⟨ht112, hw⟩ := hw
      refine pw_runi X (m_cV X (b := u77) (ci := 2) (q := (RX2, TX2, tyX2, 4)) (met_X2_lengthOf G C.2.1 M105 u77 r92 r107 _ hw) ht112 rfl (lw_V q1565 q972 q973 q87 q974) ⟨rfl, nh_X2_lengthOf⟩ ⟨Nat.le_of_ble_eq_true rfl, Nat.le_of_ble_eq_true rfl⟩ rfl (Nat.le_of_ble_eq_true rfl) dX1_tow_193) (fun r115 M113 hle114 hx => ?_)
      replace hw := hx hle114
      clear hx
      have ht116 : m_tg M113 la0 = 2 := m_le_tg hle114 ht108
      have ht117 : m_tg M113 u79 = 14 := m_le_tg hle114 ht109
      have ht118 : m_tg M113 u87 = 150 := m_le_tg hle114 ht110
      have ht119 : m_tg M113 u102 = 150 := m_le_tg hle114 ht111
      have ht120 : m_tg M113 u77 = 3 := m_le_tg hle114 ht112
      refine pw_iadd X dX1_tow_196 ?_
      refine pw_istore X [(0, vR (some la0)), (1, vR (some la1)), (2, vR (some la2)), (3, vI lx3), (4, vR (some u79)), (5, vI lx5), (6, vI (lx6 + r115)), (7, vI lx7)] [1, 2, 3, 4, 5, 6, 0, 7] dX1_tow_197 (by decide) rfl ?_
      refine pw_iinc X (lx7 + 1) [(0, vR (some la0)), (1, vR (some la1)), (2, vR (some la2)), (3, vI lx3), (4, vR (some u79)), (5, vI lx5), (6, vI (lx6 + r115)), (7, vI (lx7 + 1))] [1, 2, 3, 4, 5, 6, 7, 0] dX1_tow_199 rfl (by first | rfl | decide) (by decide) rfl ?_
      refine pw_goto X 148 dX1_tow_202 (by decide) ?_
      exact ih _ la0 la1 la2 lx3 (some u79) lx5 (lx6 + r115) (lx7 + 1) hw
theorem bk_X1_tow_104 (G : Gp) (C : m_Cx) (n0 s0 : Nat) (M0 : Mem) (Q : Mem → Prop) (X : m_in G C RX1 cX1_tow 8 none "tow" 9 208 n0 s0) (k60 : Mem → Nat → Nat → Nat → Int32 → Option Nat → Int32 → Prop) (hk60 : ∀ (M : Mem) (la0 : Nat) (la1 : Nat) (la2 : Nat) (lx3 : Int32) (lr4 : Option Nat) (lx5 : Int32), k60 M la0 la1 la2 lx3 lr4 lx5 → pW G C 8 n0 s0 M0 (m_Q G C n0 s0 (va_Qv (m_q0 M0 Q) (m_W G) (m_A G))) M 60 [(0, vR (some la0)), (1, vR (some la1)), (2, vR (some la2)), (3, vI lx3), (4, vR lr4), (5, vI lx5)] []) (M : Mem) (la0 : Nat) (la1 : Nat) (la2 : Nat) (lx3 : Int32) (lr4 : Option Nat) (lx5 : Int32) (hw : wp_X1_tow_b104 G.2 k60 M la0 la1 la2 lx3 lr4 lx5 Q) : pW G C 8 n0 s0 M0 (m_Q G C n0 s0 (va_Qv (m_q0 M0 Q) (m_W G) (m_A G))) M 104 [(0, vR (some la0)), (1, vR (some la1)), (2, vR (some la2)), (3, vI lx3), (4, vR lr4), (5, vI lx5)] [] := by
  refine pw_iload X dX1_tow_104 rfl ?_
  refine pw_if_eq X 136 dX1_tow_106 (by decide) (fun c1 => ?_) (fun c1 => ?_)
  · replace hw := hw.1 c1
    refine pw_iinc X (lx5 + 1) [(0, vR (some la0)), (1, vR (some la1)), (2, vR (some la2)), (3, vI lx3), (4, vR lr4), (5, vI (lx5 + 1))] [1, 2, 3, 4, 5, 0] dX1_tow_136 rfl (by first | rfl | decide) (by decide) rfl ?_
    refine pw_goto X 60 dX1_tow_139 (by decide) ?_
    exact hk60 _ la0 la1 la2 lx3 lr4 (lx5 + 1) hw
  · replace hw := hw.2 c1
    refine pw_aload X dX1_tow_109 rfl ?_
    refine pw_iload X dX1_tow_111 rfl ?_
    refine pw_iconst X 1 dX1_tow_113 (by decide) ?_
    refine pw_iadd X dX1_tow_114 ?_
    obtain ⟨u2, he3, hw⟩ := hw
    subst he3
    obtain ⟨ht4, hw⟩ := hw
    refine pw_runq X (m_cF X (b := u2) (ci := 13) (q := (RJ2, TJ2, tyJ2, 3)) (met_J2_get G C.2.1 M u2 (lx5 + 1) _ hw) ht4 rfl (lw_app (lw_F q1028 q1031 q1033 q82) (lw_meth q1035)) (List.mem_of_getElem? (i := 2) rfl) (by decide +kernel : m_nMH ⟨"java/util/List", "get", "(I)Ljava/lang/Object;"⟩ 1) ⟨Nat.le_of_ble_eq_true rfl, Nat.le_of_ble_eq_true rfl⟩ rfl (Nat.le_of_ble_eq_true rfl) dX1_tow_115) (fun r7 M5 hle6 hx => ?_)
    replace hw := hx hle6
    clear hx
    have ht8 : m_tg M5 u2 = 14 := m_le_tg hle6 ht4
    obtain ⟨u9, he10, hw⟩ := hw
    subst he10
    obtain ⟨ht11, hw⟩ := hw
    refine pw_castI X (fun _ h => by cases h; exact ht11) q1555 q866 dX1_tow_120 ?_
    refine pw_runi X (m_cVI X (b := u9) (met_J12_intValue G C.2.1 M5 u9 _ hw) ht11 (lw_V q1556 q388 q389 q94 q390) ⟨rfl, nh_J12_intValue⟩ ⟨Nat.le_of_ble_eq_true rfl, Nat.le_of_ble_eq_true rfl⟩ rfl (Nat.le_of_ble_eq_true rfl) dX1_tow_123) (fun r14 M12 hle13 hx => ?_)
    replace hw := hx hle13
    clear hx
    have ht15 : m_tg M12 u2 = 14 := m_le_tg hle13 ht8
    have ht16 : m_tg M12 u9 = 150 := m_le_tg hle13 ht11
    refine pw_runi X (m_cSN X (met_X0_regionOf G C.2.1 M12 r14 _ hw) q1559 q1557 q1558 q78 nh_X0_regionOf ⟨Nat.le_of_ble_eq_true rfl, Nat.le_of_ble_eq_true rfl⟩ rfl (Nat.le_of_ble_eq_true rfl) dX1_tow_126) (fun r19 M17 hle18 hx => ?_)
    replace hw := hx hle18
    clear hx
    have ht20 : m_tg M17 u2 = 14 := m_le_tg hle18 ht15
    have ht21 : m_tg M17 u9 = 150 := m_le_tg hle18 ht16
    refine pw_aload_n X dX1_tow_129 rfl rfl ?_
    obtain ⟨ht22, hw⟩ := hw
    refine pw_runi X (m_cV X (b := la1) (ci := 6) (q := (RX6, TX6, tyX6, 15)) (met_X6_region G C.2.1 M17 la1 _ hw) ht22 rfl (lw_V q1560 q1561 q1562 q110 q1563) ⟨rfl, nh_X6_region⟩ ⟨Nat.le_of_ble_eq_true rfl, Nat.le_of_ble_eq_true rfl⟩ rfl (Nat.le_of_ble_eq_true rfl) dX1_tow_130) (fun r25 M23 hle24 hx => ?_)
    replace hw := hx hle24
    clear hx
    have ht26 : m_tg M23 u2 = 14 := m_le_tg hle24 ht20
    have ht27 : m_tg M23 u9 = 150 := m_le_tg hle24 ht21
    have ht28 : m_tg M23 la1 = 7 := m_le_tg hle24 ht22
    refine pw_icmp_ne X 142 dX1_tow_133 (by decide) (fun c29 => ?_) (fun c29 => ?_)
    · replace hw := hw.1 c29
      refine pw_iconst X 0 dX1_tow_142 (by decide) ?_
      refine pw_istore X [(0, vR (some la0)), (1, vR (some la1)), (2, vR (some la2)), (3, vI lx3), (4, vR (some u2)), (5, vI lx5), (6, vI 0)] [1, 2, 3, 4, 5, 6, 0] dX1_tow_143 (by decide) rfl ?_
      refine pw_iconst X 0 dX1_tow_145 (by decide) ?_
      refine pw_istore X [(0, vR (some la0)), (1, vR (some la1)), (2, vR (some la2)), (3, vI lx3), (4, vR (some u2)), (5, vI lx5), (6, vI 0), (7, vI 0)] [1, 2, 3, 4, 5, 6, 7, 0] dX1_tow_146 (by decide) rfl ?_
      obtain ⟨n148, hw⟩ := hw
      exact bk_X1_tow_148 G C n0 s0 M0 Q X n148 _ la0 la1 la2 lx3 (some u2) lx5 0 0 hw
    · replace hw := hw.2 c29
      refine pw_iinc X (lx5 + 1) [(0, vR (some la0)), (1, vR (some la1)), (2, vR (some la2)), (3, vI lx3), (4, vR (some u2)), (5, vI (lx5 + 1))] [1, 2, 3, 4, 5, 0] dX1_tow_136 rfl (by first | rfl | decide) (by decide) rfl ?_
      refine pw_goto X 60 dX1_tow_139 (by decide) ?_
      exact hk60 _ la0 la1 la2 lx3 (some u2) (lx5 + 1) hw
theorem bk_X1_tow_60 (G : Gp) (C : m_Cx) (n0 s0 : Nat) (M0 : Mem) (Q : Mem → Prop) (X : m_in G C RX1 cX1_tow 8 none "tow" 9 208 n0 s0) : ∀ (n : Nat) (M : Mem) (la0 : Nat) (la1 : Nat) (la2 : Nat) (lx3 : Int32) (lr4 : Option Nat) (lx5 : Int32) (hw : wp_X1_tow_b60 G.2 Q n M la0 la1 la2 lx3 lr4 lx5), pW G C 8 n0 s0 M0 (m_Q G C n0 s0 (va_Qv (m_q0 M0 Q) (m_W G) (m_A G))) M 60 [(0, vR (some la0)), (1, vR (some la1)), (2, vR (some la2)), (3, vI lx3), (4, vR lr4), (5, vI lx5)] [] := by
  intro n
  induction n with
  | zero => intro M la0 la1 la2 lx3 lr4 lx5 hw; exact hw.elim
  | succ n ih =>
    intro M la0 la1 la2 lx3 lr4 lx5 hw
    refine pw_iload X dX1_tow_60 rfl ?_
    refine pw_iconst X 1 dX1_tow_62 (by decide) ?_
    refine pw_iadd X dX1_tow_63 ?_
    refine pw_aload X dX1_tow_64 rfl ?_
    obtain ⟨u1, he2, hw⟩ := hw
    subst he2
    obtain ⟨ht3, hw⟩ := hw
    refine pw_runi X (m_cF X (b := u1) (ci := 13) (q := (RJ2, TJ2, tyJ2, 3)) (met_J2_size G C.2.1 M u1 _ hw) ht3 rfl (lw_app (lw_F q1026 q994 q996 q82) (lw_meth q998)) (List.mem_of_getElem? (i := 6) rfl) (by decide +kernel : m_nMH ⟨"java/util/List", "size", "()I"⟩ 0) ⟨Nat.le_of_ble_eq_true rfl, Nat.le_of_ble_eq_true rfl⟩ rfl (Nat.le_of_ble_eq_true rfl) dX1_tow_66) (fun r6 M4 hle5 hx => ?_)
    replace hw := hx hle5
    clear hx
    have ht7 : m_tg M4 u1 = 14 := m_le_tg hle5 ht3
    refine pw_icmp_ge X 142 dX1_tow_71 (by decide) (fun c8 => ?_) (fun c8 => ?_)
    · replace hw := hw.1 c8
      refine pw_iconst X 0 dX1_tow_142 (by decide) ?_
      refine pw_istore X [(0, vR (some la0)), (1, vR (some la1)), (2, vR (some la2)), (3, vI lx3), (4, vR (some u1)), (5, vI lx5), (6, vI 0)] [1, 2, 3, 4, 5, 6, 0] dX1_tow_143 (by decide) rfl ?_
      refine pw_iconst X 0 dX1_tow_145 (by decide) ?_
      refine pw_istore X [(0, vR (some la0)), (1, vR (some la1)), (2, vR (some la2)), (3, vI lx3), (4, vR (some u1)), (5, vI lx5), (6, vI 0), (7, vI 0)] [1, 2, 3, 4, 5, 6, 7, 0] dX1_tow_146 (by decide) rfl ?_
      obtain ⟨n148, hw⟩ := hw
      exact bk_X1_tow_148 G C n0 s0 M0 Q X n148 _ la0 la1 la2 lx3 (some u1) lx5 0 0 hw
    · replace hw := hw.2 c8
      refine pw_iload X dX1_tow_74 rfl ?_
      refine pw_if_eq X 104 dX1_tow_76 (by decide) (fun c9 => ?_) (fun c9 => ?_)
      · replace hw := hw.1 c9
        exact bk_X1_tow_104 G C n0 s0 M0 Q X (wp_X1_tow_b60 G.2 Q n) ih _ la0 la1 la2 lx3 (some u1) lx5 hw
      · replace hw := hw.2 c9
        refine pw_aload X dX1_tow_79 rfl ?_
        refine pw_iload X dX1_tow_81 rfl ?_
        refine pw_runq X (m_cF X (b := u1) (ci := 13) (q := (RJ2, TJ2, tyJ2, 3)) (met_J2_get G C.2.1 M4 u1 lx5 _ hw) ht7 rfl (lw_app (lw_F q1028 q1031 q1033 q82) (lw_meth q1035)) (List.mem_of_getElem? (i := 2) rfl) (by decide +kernel : m_nMH ⟨"java/util/List", "get", "(I)Ljava/lang/Object;"⟩ 1) ⟨Nat.le_of_ble_eq_true rfl, Nat.le_of_ble_eq_true rfl⟩ rfl (Nat.le_of_ble_eq_true rfl) dX1_tow_83) (fun r12 M10 hle11 hx => ?_)
        replace hw := hx hle11
        clear hx
        have ht13 : m_tg M10 u1 = 14 := m_le_tg hle11 ht7
        obtain ⟨u14, he15, hw⟩ := hw
        subst he15
        obtain ⟨ht16, hw⟩ := hw
        refine pw_castI X (fun _ h => by cases h; exact ht16) q1555 q866 dX1_tow_88 ?_
        refine pw_runi X (m_cVI X (b := u14) (met_J12_intValue G C.2.1 M10 u14 _ hw) ht16 (lw_V q1556 q388 q389 q94 q390) ⟨rfl, nh_J12_intValue⟩ ⟨Nat.le_of_ble_eq_true rfl, Nat.le_of_ble_eq_true rfl⟩ rfl (Nat.le_of_ble_eq_true rfl) dX1_tow_91) (fun r19 M17 hle18 hx => ?_)
        replace hw := hx hle18
        clear hx
        have ht20 : m_tg M17 u1 = 14 := m_le_tg hle18 ht13
        have ht21 : m_tg M17 u14 = 150 := m_le_tg hle18 ht16
        refine pw_runi X (m_cSN X (met_X0_regionOf G C.2.1 M17 r19 _ hw) q1559 q1557 q1558 q78 nh_X0_regionOf ⟨Nat.le_of_ble_eq_true rfl, Nat.le_of_ble_eq_true rfl⟩ rfl (Nat.le_of_ble_eq_true rfl) dX1_tow_94) (fun r24 M22 hle23 hx => ?_)
        replace hw := hx hle23
        clear hx
        have ht25 : m_tg M22 u1 = 14 := m_le_tg hle23 ht20
        have ht26 : m_tg M22 u14 = 150 := m_le_tg hle23 ht21
        refine pw_aload_n X dX1_tow_97 rfl rfl ?_
        obtain ⟨ht27, hw⟩ := hw
        refine pw_runi X (m_cV X (b := la1) (ci := 6) (q := (RX6, TX6, tyX6, 15)) (met_X6_region G C.2.1 M22 la1 _ hw) ht27 rfl (lw_V q1560 q1561 q1562 q110 q1563) ⟨rfl, nh_X6_region⟩ ⟨Nat.le_of_ble_eq_true rfl, Nat.le_of_ble_eq_true rfl⟩ rfl (Nat.le_of_ble_eq_true rfl) dX1_tow_98) (fun r30 M28 hle29 hx => ?_)
        replace hw := hx hle29
        clear hx
        have ht31 : m_tg M28 u1 = 14 := m_le_tg hle29 ht25
        have ht32 : m_tg M28 u14 = 150 := m_le_tg hle29 ht26
        have ht33 : m_tg M28 la1 = 7 := m_le_tg hle29 ht27
        refine pw_icmp_ne X 142 dX1_tow_101 (by decide) (fun c34 => ?_) (fun c34 => ?_)
        · replace hw := hw.1 c34
          refine pw_iconst X 0 dX1_tow_142 (by decide) ?_
          refine pw_istore X [(0, vR (some la0)), (1, vR (some la1)), (2, vR (some la2)), (3, vI lx3), (4, vR (some u1)), (5, vI lx5), (6, vI 0)] [1, 2, 3, 4, 5, 6, 0] dX1_tow_143 (by decide) rfl ?_
          refine pw_iconst X 0 dX1_tow_145 (by decide) ?_
          refine pw_istore X [(0, vR (some la0)), (1, vR (some la1)), (2, vR (some la2)), (3, vI lx3), (4, vR (some u1)), (5, vI lx5), (6, vI 0), (7, vI 0)] [1, 2, 3, 4, 5, 6, 7, 0] dX1_tow_146 (by decide) rfl ?_
          obtain ⟨n148, hw⟩ := hw
          exact bk_X1_tow_148 G C n0 s0 M0 Q X n148 _ la0 la1 la2 lx3 (some u1) lx5 0 0 hw
        · replace hw := hw.2 c34
          exact bk_X1_tow_104 G C n0 s0 M0 Q X (wp_X1_tow_b60 G.2 Q n) ih _ la0 la1 la2 lx3 (some u1) lx5 hw
theorem bk_X1_tow_0 (G : Gp) (C : m_Cx) (n0 s0 : Nat) (M0 : Mem) (Q : Mem → Prop) (X : m_in G C RX1 cX1_tow 8 none "tow" 9 208 n0 s0) (M : Mem) (a0 : Nat) (a1 : Nat) (a2 : Nat) (hw : wp_X1_tow G.2 M a0 a1 a2 Q) : pW G C 8 n0 s0 M0 (m_Q G C n0 s0 (va_Qv (m_q0 M0 Q) (m_W G) (m_A G))) M 0 [(0, vR (some a0)), (1, vR (some a1)), (2, vR (some a2))] [] := by
  refine pw_aload_n X dX1_tow_0 rfl rfl ?_
  refine pw_aload_n X dX1_tow_1 rfl rfl ?_
  obtain ⟨ht1, hw⟩ := hw
  refine pw_getN X (q := (RX8, TX8, tyX8, 13)) (ci := 8) (k := 6) (ref := "PatrolDesk$Call") (host := "PatrolDesk") (vI (m_gi M a2 6)) ht1 rfl (by decide) in_X8 q1225 (Or.inl rfl) rfl dX1_tow_2 ?_
  obtain ⟨ht2, hw⟩ := hw
  refine pw_runi X (m_cV X (b := a0) (ci := 1) (q := (RX1, TX1, tyX1, 8)) (met_X1_garageFor G C.2.1 M a0 (m_gi M a2 6) _ hw) ht2 rfl (lw_V q1468 q1470 qs20 q79 q1471) ⟨rfl, nh_X1_garageFor⟩ ⟨Nat.le_of_ble_eq_true rfl, Nat.le_of_ble_eq_true rfl⟩ rfl (Nat.le_of_ble_eq_true rfl) dX1_tow_5) (fun r5 M3 hle4 hx => ?_)
  replace hw := hx hle4
  clear hx
  have ht6 : m_tg M3 a2 = 9 := m_le_tg hle4 ht1
  have ht7 : m_tg M3 a0 = 2 := m_le_tg hle4 ht2
  refine pw_istore_n X [(0, vR (some a0)), (1, vR (some a1)), (2, vR (some a2)), (3, vI r5)] [1, 2, 3, 0] dX1_tow_8 rfl (by decide) rfl ?_
  refine pw_iload_n X dX1_tow_9 rfl rfl ?_
  refine pw_bipush X (-5) dX1_tow_10 (by decide) ?_
  refine pw_icmp_ne X 28 dX1_tow_12 (by decide) (fun c8 => ?_) (fun c8 => ?_)
  · replace hw := hw.1 c8
    refine pw_aload_n X dX1_tow_28 rfl rfl ?_
    obtain ⟨u9, he10, hw⟩ := hw
    refine pw_get X (q := (RX1, TX1, tyX1, 8)) (ci := 1) (k := 5) (ref := "PatrolDesk$State") (vR (some u9)) ht7 rfl (by decide) in_X1 q171 (Or.inl rfl) (by rw [he10]; rfl) dX1_tow_29 ?_
    refine pw_aload_n X dX1_tow_32 rfl rfl ?_
    refine pw_getN X (q := (RX8, TX8, tyX8, 13)) (ci := 8) (k := 6) (ref := "PatrolDesk$Call") (host := "PatrolDesk") (vI (m_gi M3 a2 6)) ht6 rfl (by decide) in_X8 q1225 (Or.inl rfl) rfl dX1_tow_33 ?_
    refine pw_aload_n X dX1_tow_36 rfl rfl ?_
    obtain ⟨u11, he12, hw⟩ := hw
    refine pw_get X (q := (RX1, TX1, tyX1, 8)) (ci := 1) (k := 2) (ref := "PatrolDesk$State") (vR (some u11)) ht7 rfl (by decide) in_X1 q165 (Or.inl rfl) (by rw [he12]; rfl) dX1_tow_37 ?_
    refine pw_iload_n X dX1_tow_40 rfl rfl ?_
    obtain ⟨ht13, hw⟩ := hw
    refine pw_runq X (m_cF X (b := u11) (ci := 13) (q := (RJ2, TJ2, tyJ2, 3)) (met_J2_get G C.2.1 M3 u11 r5 _ hw) ht13 rfl (lw_app (lw_F q1028 q1031 q1033 q82) (lw_meth q1035)) (List.mem_of_getElem? (i := 2) rfl) (by decide +kernel : m_nMH ⟨"java/util/List", "get", "(I)Ljava/lang/Object;"⟩ 1) ⟨Nat.le_of_ble_eq_true rfl, Nat.le_of_ble_eq_true rfl⟩ rfl (Nat.le_of_ble_eq_true rfl) dX1_tow_41) (fun r16 M14 hle15 hx => ?_)
    replace hw := hx hle15
    clear hx
    have ht17 : m_tg M14 a2 = 9 := m_le_tg hle15 ht6
    have ht18 : m_tg M14 a0 = 2 := m_le_tg hle15 ht7
    have ht19 : m_tg M14 u11 = 14 := m_le_tg hle15 ht13
    obtain ⟨u20, he21, hw⟩ := hw
    subst he21
    obtain ⟨ht22, hw⟩ := hw
    refine pw_cast X 7 (q := (RX7, TX7, tyX7, 5)) rfl (fun _ h => by cases h; exact ht22) q1160 dX1_tow_46 ?_
    refine pw_getN X (q := (RX7, TX7, tyX7, 5)) (ci := 7) (k := 0) (ref := "PatrolDesk$Garage") (host := "PatrolDesk") (vI (m_gi M14 u20 0)) ht22 rfl (by decide) in_X7 q1172 (Or.inl rfl) rfl dX1_tow_49 ?_
    obtain ⟨ht23, hw⟩ := hw
    refine pw_runq X (m_cV X (b := u9) (ci := 2) (q := (RX2, TX2, tyX2, 4)) (met_X2_way G C.2.1 M14 u9 (m_gi M3 a2 6) (m_gi M14 u20 0) _ hw) ht23 rfl (lw_V q1482 q1483 q1484 q87 q1485) ⟨rfl, nh_X2_way⟩ ⟨Nat.le_of_ble_eq_true rfl, Nat.le_of_ble_eq_true rfl⟩ rfl (Nat.le_of_ble_eq_true rfl) dX1_tow_52) (fun r26 M24 hle25 hx => ?_)
    replace hw := hx hle25
    clear hx
    have ht27 : m_tg M24 a2 = 9 := m_le_tg hle25 ht17
    have ht28 : m_tg M24 a0 = 2 := m_le_tg hle25 ht18
    have ht29 : m_tg M24 u11 = 14 := m_le_tg hle25 ht19
    have ht30 : m_tg M24 u20 = 8 := m_le_tg hle25 ht22
    have ht31 : m_tg M24 u9 = 3 := m_le_tg hle25 ht23
    refine pw_astore X [(0, vR (some a0)), (1, vR (some a1)), (2, vR (some a2)), (3, vI r5), (4, vR r26)] [1, 2, 3, 4, 0] dX1_tow_55 (by decide) rfl ?_
    refine pw_iconst X 0 dX1_tow_57 (by decide) ?_
    refine pw_istore X [(0, vR (some a0)), (1, vR (some a1)), (2, vR (some a2)), (3, vI r5), (4, vR r26), (5, vI 0)] [1, 2, 3, 4, 5, 0] dX1_tow_58 (by decide) rfl ?_
    obtain ⟨n60, hw⟩ := hw
    exact bk_X1_tow_60 G C n0 s0 M0 Q X n60 _ a0 a1 a2 r5 r26 0 hw
  · replace hw := hw.2 c8
    refine pw_aload_n X dX1_tow_15 rfl rfl ?_
    refine pw_aload_n X dX1_tow_16 rfl rfl ?_
    refine pw_getN X (q := (RX8, TX8, tyX8, 13)) (ci := 8) (k := 6) (ref := "PatrolDesk$Call") (host := "PatrolDesk") (vI (m_gi M3 a2 6)) ht6 rfl (by decide) in_X8 q1225 (Or.inl rfl) rfl dX1_tow_17 ?_
    refine pw_runv X (m_cV X (b := a2) (ci := 8) (q := (RX8, TX8, tyX8, 13)) (met_X8_waitForTow G C.2.1 M3 a2 (m_gi M3 a2 6) _ hw) ht6 rfl (lw_V q1477 q1478 q1479 q112 q1480) ⟨rfl, nh_X8_waitForTow⟩ ⟨Nat.le_of_ble_eq_true rfl, Nat.le_of_ble_eq_true rfl⟩ rfl (Nat.le_of_ble_eq_true rfl) dX1_tow_20) (fun M32 hle33 hx => ?_)
    replace hw := hx hle33
    clear hx
    have ht34 : m_tg M32 a2 = 9 := m_le_tg hle33 ht6
    have ht35 : m_tg M32 a0 = 2 := m_le_tg hle33 ht7
    refine pw_aload_n X dX1_tow_23 rfl rfl ?_
    obtain ⟨ht36, hw⟩ := hw
    refine pw_runv X (m_cV X (b := a1) (ci := 6) (q := (RX6, TX6, tyX6, 15)) (met_X6_becomeFree G C.2.1 M32 a1 _ hw) ht36 rfl (lw_V q1481 q1403 q1404 q110 q1405) ⟨rfl, nh_X6_becomeFree⟩ ⟨Nat.le_of_ble_eq_true rfl, Nat.le_of_ble_eq_true rfl⟩ rfl (Nat.le_of_ble_eq_true rfl) dX1_tow_24) (fun M37 hle38 hx => ?_)
    replace hw := hx hle38
    clear hx
    have ht39 : m_tg M37 a2 = 9 := m_le_tg hle38 ht34
    have ht40 : m_tg M37 a0 = 2 := m_le_tg hle38 ht35
    have ht41 : m_tg M37 a1 = 7 := m_le_tg hle38 ht36
    exact pw_vret X hw dX1_tow_27
theorem met_X1_tow (G : Gp) (l : Launch) (M : Mem) (a0 : Nat) (a1 : Nat) (a2 : Nat) (Q : Mem → Prop) (hw : wp_X1_tow G.2 M a0 a1 a2 Q) : m_K G l yX1_tow cX1_tow 8 none 9 208 [vR (some a0), vR (some a1), vR (some a2)] M (va_Qv (m_q0 M Q) (m_W G) (m_A G)) := by
  refine m_met (by decide) (Nat.le_of_ble_eq_true rfl) (fun C e X => ?_)
  exact bk_X1_tow_0 G C _ _ M Q X M a0 a1 a2 hw
theorem nh_X1_tow : m_nMH yX1_tow 2 := by decide +kernel

def wp_X1_getThere_b97 (g : Nat → Nat) (M : Mem) (la0 : Nat) (la1 : Nat) (la2 : Nat) (Q : Mem → Prop) : Prop := m_tg M la1 = 7 ∧ m_tg M la2 = 9 ∧ (((m_gi M la1 2) < ((m_gi M la2 2) - 3) → wp_X6_mayTowFrom g M la1 (m_gi M la2 6) (fun (r6 : Int32) (M4 : Mem) => m_le M M4 → ((r6 = 0 → wp_X8_waitForTow g M4 la2 (m_gi M4 la2 6) (fun (M10 : Mem) => m_le M4 M10 → wp_X6_becomeFree g M10 la1 (fun (M14 : Mem) => m_le M10 M14 → Q M14))) ∧ (¬ r6 = 0 → m_tg M4 la0 = 2 ∧ wp_X1_tow g M4 la0 la1 la2 (fun (M19 : Mem) => m_le M4 M19 → Q M19))))) ∧ (¬ (m_gi M la1 2) < ((m_gi M la2 2) - 3) → ∀ M24 : Mem, M24 = (m_pi M la2 7 2) → wp_X6_begin g M24 la1 2 (m_gi M24 la2 0) (5 * (m_gi M24 la2 2)) (fun (M29 : Mem) => m_le M24 M29 → Q M29)))
def wp_X1_getThere (g : Nat → Nat) (M : Mem) (a0 : Nat) (a1 : Nat) (a2 : Nat) (Q : Mem → Prop) : Prop := m_tg M a2 = 9 ∧ m_tg M a1 = 7 ∧ ∀ M3 : Mem, M3 = (m_pi M a1 4 (m_gi M a2 6)) → ((¬ (m_gi M3 a2 7) = 3 → ∀ M9 : Mem, M9 = (m_pi M3 a2 9 (m_gi M3 a1 0)) → m_tg M9 a0 = 2 ∧ ∀ M15 : Mem, M15 = (m_pi M9 a2 10 (m_gi M9 a0 7)) → wp_X8_waited g M15 a2 (m_gi M15 a0 7) (fun (r23 : Int32) (M21 : Mem) => m_le M15 M21 → ∀ M27 : Mem, M27 = (m_pi M21 a1 13 ((m_gi M15 a1 13) + r23)) → wp_X8_waited g M27 a2 (m_gi M27 a0 7) (fun (r35 : Int32) (M33 : Mem) => m_le M27 M33 → ((r35 ≤ (m_gi M33 a2 3) → wp_X1_getThere_b97 g M33 a0 a1 a2 Q) ∧ (¬ r35 ≤ (m_gi M33 a2 3) → ∃ u40 : Nat, (m_gr M33 a0 0) = some u40 ∧ m_tg M33 u40 = 14 ∧ wp_J2_get g M33 u40 (m_gi M33 a2 1) (fun (r45 : Option Nat) (M43 : Mem) => m_le M33 M43 → ∃ u50 : Nat, r45 = some u50 ∧ m_tg M43 u50 = 6 ∧ ∀ M53 : Mem, M53 = (m_pi M43 u50 2 ((m_gi M43 u50 2) + 15)) → wp_X1_getThere_b97 g M53 a0 a1 a2 Q)))))) ∧ ((m_gi M3 a2 7) = 3 → m_tg M3 a0 = 2 ∧ wp_X1_tow g M3 a0 a1 a2 (fun (M62 : Mem) => m_le M3 M62 → Q M62)))
theorem bk_X1_getThere_97 (G : Gp) (C : m_Cx) (n0 s0 : Nat) (M0 : Mem) (Q : Mem → Prop) (X : m_in G C RX1 cX1_getThere 3 none "getThere" 10 235 n0 s0) (M : Mem) (la0 : Nat) (la1 : Nat) (la2 : Nat) (hw : wp_X1_getThere_b97 G.2 M la0 la1 la2 Q) : pW G C 3 n0 s0 M0 (m_Q G C n0 s0 (va_Qv (m_q0 M0 Q) (m_W G) (m_A G))) M 97 [(0, vR (some la0)), (1, vR (some la1)), (2, vR (some la2))] [] := by
  refine pw_aload_n X dX1_getThere_97 rfl rfl ?_
  obtain ⟨ht1, hw⟩ := hw
  refine pw_getN X (q := (RX6, TX6, tyX6, 15)) (ci := 6) (k := 2) (ref := "PatrolDesk$Patrol") (host := "PatrolDesk") (vI (m_gi M la1 2)) ht1 rfl (by decide) in_X6 q1094 (Or.inl rfl) rfl dX1_getThere_98 ?_
  refine pw_aload_n X dX1_getThere_101 rfl rfl ?_
  obtain ⟨ht2, hw⟩ := hw
  refine pw_getN X (q := (RX8, TX8, tyX8, 13)) (ci := 8) (k := 2) (ref := "PatrolDesk$Call") (host := "PatrolDesk") (vI (m_gi M la2 2)) ht2 rfl (by decide) in_X8 q1214 (Or.inl rfl) rfl dX1_getThere_102 ?_
  refine pw_iconst X 3 dX1_getThere_105 (by decide) ?_
  refine pw_isub X dX1_getThere_106 ?_
  refine pw_icmp_lt X 133 dX1_getThere_107 (by decide) (fun c3 => ?_) (fun c3 => ?_)
  · replace hw := hw.1 c3
    refine pw_aload_n X dX1_getThere_133 rfl rfl ?_
    refine pw_aload_n X dX1_getThere_134 rfl rfl ?_
    refine pw_getN X (q := (RX8, TX8, tyX8, 13)) (ci := 8) (k := 6) (ref := "PatrolDesk$Call") (host := "PatrolDesk") (vI (m_gi M la2 6)) ht2 rfl (by decide) in_X8 q1225 (Or.inl rfl) rfl dX1_getThere_135 ?_
    refine pw_runi X (m_cV X (b := la1) (ci := 6) (q := (RX6, TX6, tyX6, 15)) (met_X6_mayTowFrom G C.2.1 M la1 (m_gi M la2 6) _ hw) ht1 rfl (lw_V q1572 q1573 q1574 q110 q1575) ⟨rfl, nh_X6_mayTowFrom⟩ ⟨Nat.le_of_ble_eq_true rfl, Nat.le_of_ble_eq_true rfl⟩ rfl (Nat.le_of_ble_eq_true rfl) dX1_getThere_138) (fun r6 M4 hle5 hx => ?_)
    replace hw := hx hle5
    clear hx
    have ht7 : m_tg M4 la1 = 7 := m_le_tg hle5 ht1
    have ht8 : m_tg M4 la2 = 9 := m_le_tg hle5 ht2
    refine pw_if_eq X 153 dX1_getThere_141 (by decide) (fun c9 => ?_) (fun c9 => ?_)
    · replace hw := hw.1 c9
      refine pw_aload_n X dX1_getThere_153 rfl rfl ?_
      refine pw_aload_n X dX1_getThere_154 rfl rfl ?_
      refine pw_getN X (q := (RX8, TX8, tyX8, 13)) (ci := 8) (k := 6) (ref := "PatrolDesk$Call") (host := "PatrolDesk") (vI (m_gi M4 la2 6)) ht8 rfl (by decide) in_X8 q1225 (Or.inl rfl) rfl dX1_getThere_155 ?_
      refine pw_runv X (m_cV X (b := la2) (ci := 8) (q := (RX8, TX8, tyX8, 13)) (met_X8_waitForTow G C.2.1 M4 la2 (m_gi M4 la2 6) _ hw) ht8 rfl (lw_V q1477 q1478 q1479 q112 q1480) ⟨rfl, nh_X8_waitForTow⟩ ⟨Nat.le_of_ble_eq_true rfl, Nat.le_of_ble_eq_true rfl⟩ rfl (Nat.le_of_ble_eq_true rfl) dX1_getThere_158) (fun M10 hle11 hx => ?_)
      replace hw := hx hle11
      clear hx
      have ht12 : m_tg M10 la1 = 7 := m_le_tg hle11 ht7
      have ht13 : m_tg M10 la2 = 9 := m_le_tg hle11 ht8
      refine pw_aload_n X dX1_getThere_161 rfl rfl ?_
      refine pw_runv X (m_cV X (b := la1) (ci := 6) (q := (RX6, TX6, tyX6, 15)) (met_X6_becomeFree G C.2.1 M10 la1 _ hw) ht12 rfl (lw_V q1481 q1403 q1404 q110 q1405) ⟨rfl, nh_X6_becomeFree⟩ ⟨Nat.le_of_ble_eq_true rfl, Nat.le_of_ble_eq_true rfl⟩ rfl (Nat.le_of_ble_eq_true rfl) dX1_getThere_162) (fun M14 hle15 hx => ?_)
      replace hw := hx hle15
      clear hx
      have ht16 : m_tg M14 la1 = 7 := m_le_tg hle15 ht12
      have ht17 : m_tg M14 la2 = 9 := m_le_tg hle15 ht13
      exact pw_vret X hw dX1_getThere_165
    · replace hw := hw.2 c9
      refine pw_aload_n X dX1_getThere_144 rfl rfl ?_
      refine pw_aload_n X dX1_getThere_145 rfl rfl ?_
      refine pw_aload_n X dX1_getThere_146 rfl rfl ?_
      obtain ⟨ht18, hw⟩ := hw
      refine pw_runv X (m_cV X (b := la0) (ci := 1) (q := (RX1, TX1, tyX1, 8)) (met_X1_tow G C.2.1 M4 la0 la1 la2 _ hw) ht18 rfl (lw_V q1464 q1466 qs19 q79 q1467) ⟨rfl, nh_X1_tow⟩ ⟨Nat.le_of_ble_eq_true rfl, Nat.le_of_ble_eq_true rfl⟩ rfl (Nat.le_of_ble_eq_true rfl) dX1_getThere_147) (fun M19 hle20 hx => ?_)
      replace hw := hx hle20
      clear hx
      have ht21 : m_tg M19 la1 = 7 := m_le_tg hle20 ht7
      have ht22 : m_tg M19 la2 = 9 := m_le_tg hle20 ht8
      have ht23 : m_tg M19 la0 = 2 := m_le_tg hle20 ht18
      refine pw_goto X 165 dX1_getThere_150 (by decide) ?_
      exact pw_vret X hw dX1_getThere_165
  · replace hw := hw.2 c3
    refine pw_aload_n X dX1_getThere_110 rfl rfl ?_
    refine pw_iconst X 2 dX1_getThere_111 (by decide) ?_
    obtain ⟨M24, hM25⟩ : ∃ z : Mem, z = (m_pi M la2 7 2) := ⟨_, rfl⟩
    replace hw := hw M24 hM25
    refine pw_putN X (q := (RX8, TX8, tyX8, 13)) (ci := 8) (k := 7) (ref := "PatrolDesk$Call") (host := "PatrolDesk") M24 hM25.symm ht2 rfl (by decide) in_X8 tyX8_ok nmX8 q1228 (Or.inl rfl) rfl (m_kd_i (fun _ _ => rfl)) rfl rfl dX1_getThere_112 ?_
    have hle26 : m_le M M24 := by rw [hM25]; exact m_le_pi
    have ht27 : m_tg M24 la1 = 7 := m_le_tg hle26 ht1
    have ht28 : m_tg M24 la2 = 9 := m_le_tg hle26 ht2
    refine pw_aload_n X dX1_getThere_115 rfl rfl ?_
    refine pw_iconst X 2 dX1_getThere_116 (by decide) ?_
    refine pw_aload_n X dX1_getThere_117 rfl rfl ?_
    refine pw_getN X (q := (RX8, TX8, tyX8, 13)) (ci := 8) (k := 0) (ref := "PatrolDesk$Call") (host := "PatrolDesk") (vI (m_gi M24 la2 0)) ht28 rfl (by decide) in_X8 q1208 (Or.inl rfl) rfl dX1_getThere_118 ?_
    refine pw_iconst X 5 dX1_getThere_121 (by decide) ?_
    refine pw_aload_n X dX1_getThere_122 rfl rfl ?_
    refine pw_getN X (q := (RX8, TX8, tyX8, 13)) (ci := 8) (k := 2) (ref := "PatrolDesk$Call") (host := "PatrolDesk") (vI (m_gi M24 la2 2)) ht28 rfl (by decide) in_X8 q1214 (Or.inl rfl) rfl dX1_getThere_123 ?_
    refine pw_imul X dX1_getThere_126 ?_
    refine pw_runv X (m_cV X (b := la1) (ci := 6) (q := (RX6, TX6, tyX6, 15)) (met_X6_begin G C.2.1 M24 la1 2 (m_gi M24 la2 0) (5 * (m_gi M24 la2 2)) _ hw) ht27 rfl (lw_V q1567 q1568 q1569 q110 q1570) ⟨rfl, nh_X6_begin⟩ ⟨Nat.le_of_ble_eq_true rfl, Nat.le_of_ble_eq_true rfl⟩ rfl (Nat.le_of_ble_eq_true rfl) dX1_getThere_127) (fun M29 hle30 hx => ?_)
    replace hw := hx hle30
    clear hx
    have ht31 : m_tg M29 la1 = 7 := m_le_tg hle30 ht27
    have ht32 : m_tg M29 la2 = 9 := m_le_tg hle30 ht28
    refine pw_goto X 165 dX1_getThere_130 (by decide) ?_
    exact pw_vret X hw dX1_getThere_165
theorem bk_X1_getThere_0 (G : Gp) (C : m_Cx) (n0 s0 : Nat) (M0 : Mem) (Q : Mem → Prop) (X : m_in G C RX1 cX1_getThere 3 none "getThere" 10 235 n0 s0) (M : Mem) (a0 : Nat) (a1 : Nat) (a2 : Nat) (hw : wp_X1_getThere G.2 M a0 a1 a2 Q) : pW G C 3 n0 s0 M0 (m_Q G C n0 s0 (va_Qv (m_q0 M0 Q) (m_W G) (m_A G))) M 0 [(0, vR (some a0)), (1, vR (some a1)), (2, vR (some a2))] [] := by
  refine pw_aload_n X dX1_getThere_0 rfl rfl ?_
  refine pw_aload_n X dX1_getThere_1 rfl rfl ?_
  obtain ⟨ht1, hw⟩ := hw
  refine pw_getN X (q := (RX8, TX8, tyX8, 13)) (ci := 8) (k := 6) (ref := "PatrolDesk$Call") (host := "PatrolDesk") (vI (m_gi M a2 6)) ht1 rfl (by decide) in_X8 q1225 (Or.inl rfl) rfl dX1_getThere_2 ?_
  obtain ⟨ht2, hw⟩ := hw
  obtain ⟨M3, hM4⟩ : ∃ z : Mem, z = (m_pi M a1 4 (m_gi M a2 6)) := ⟨_, rfl⟩
  replace hw := hw M3 hM4
  refine pw_putN X (q := (RX6, TX6, tyX6, 15)) (ci := 6) (k := 4) (ref := "PatrolDesk$Patrol") (host := "PatrolDesk") M3 hM4.symm ht2 rfl (by decide) in_X6 tyX6_ok nmX6 q1099 (Or.inl rfl) rfl (m_kd_i (fun _ _ => rfl)) rfl rfl dX1_getThere_5 ?_
  have hle5 : m_le M M3 := by rw [hM4]; exact m_le_pi
  have ht6 : m_tg M3 a2 = 9 := m_le_tg hle5 ht1
  have ht7 : m_tg M3 a1 = 7 := m_le_tg hle5 ht2
  refine pw_aload_n X dX1_getThere_8 rfl rfl ?_
  refine pw_getN X (q := (RX8, TX8, tyX8, 13)) (ci := 8) (k := 7) (ref := "PatrolDesk$Call") (host := "PatrolDesk") (vI (m_gi M3 a2 7)) ht6 rfl (by decide) in_X8 q1228 (Or.inl rfl) rfl dX1_getThere_9 ?_
  refine pw_iconst X 3 dX1_getThere_12 (by decide) ?_
  refine pw_icmp_ne X 23 dX1_getThere_13 (by decide) (fun c8 => ?_) (fun c8 => ?_)
  · replace hw := hw.1 c8
    refine pw_aload_n X dX1_getThere_23 rfl rfl ?_
    refine pw_aload_n X dX1_getThere_24 rfl rfl ?_
    refine pw_getN X (q := (RX6, TX6, tyX6, 15)) (ci := 6) (k := 0) (ref := "PatrolDesk$Patrol") (host := "PatrolDesk") (vI (m_gi M3 a1 0)) ht7 rfl (by decide) in_X6 q1089 (Or.inl rfl) rfl dX1_getThere_25 ?_
    obtain ⟨M9, hM10⟩ : ∃ z : Mem, z = (m_pi M3 a2 9 (m_gi M3 a1 0)) := ⟨_, rfl⟩
    replace hw := hw M9 hM10
    refine pw_putN X (q := (RX8, TX8, tyX8, 13)) (ci := 8) (k := 9) (ref := "PatrolDesk$Call") (host := "PatrolDesk") M9 hM10.symm ht6 rfl (by decide) in_X8 tyX8_ok nmX8 q1234 (Or.inl rfl) rfl (m_kd_i (fun _ _ => rfl)) rfl rfl dX1_getThere_28 ?_
    have hle11 : m_le M3 M9 := by rw [hM10]; exact m_le_pi
    have ht12 : m_tg M9 a2 = 9 := m_le_tg hle11 ht6
    have ht13 : m_tg M9 a1 = 7 := m_le_tg hle11 ht7
    refine pw_aload_n X dX1_getThere_31 rfl rfl ?_
    refine pw_aload_n X dX1_getThere_32 rfl rfl ?_
    obtain ⟨ht14, hw⟩ := hw
    refine pw_get X (q := (RX1, TX1, tyX1, 8)) (ci := 1) (k := 7) (ref := "PatrolDesk$State") (vI (m_gi M9 a0 7)) ht14 rfl (by decide) in_X1 q175 (Or.inl rfl) rfl dX1_getThere_33 ?_
    obtain ⟨M15, hM16⟩ : ∃ z : Mem, z = (m_pi M9 a2 10 (m_gi M9 a0 7)) := ⟨_, rfl⟩
    replace hw := hw M15 hM16
    refine pw_putN X (q := (RX8, TX8, tyX8, 13)) (ci := 8) (k := 10) (ref := "PatrolDesk$Call") (host := "PatrolDesk") M15 hM16.symm ht12 rfl (by decide) in_X8 tyX8_ok nmX8 q1237 (Or.inl rfl) rfl (m_kd_i (fun _ _ => rfl)) rfl rfl dX1_getThere_36 ?_
    have hle17 : m_le M9 M15 := by rw [hM16]; exact m_le_pi
    have ht18 : m_tg M15 a2 = 9 := m_le_tg hle17 ht12
    have ht19 : m_tg M15 a1 = 7 := m_le_tg hle17 ht13
    have ht20 : m_tg M15 a0 = 2 := m_le_tg hle17 ht14
    refine pw_aload_n X dX1_getThere_39 rfl rfl ?_
    refine pw_dup X dX1_getThere_40 ?_
    refine pw_getN X (q := (RX6, TX6, tyX6, 15)) (ci := 6) (k := 13) (ref := "PatrolDesk$Patrol") (host := "PatrolDesk") (vI (m_gi M15 a1 13)) ht19 rfl (by decide) in_X6 q1124 (Or.inl rfl) rfl dX1_getThere_41 ?_
    refine pw_aload_n X dX1_getThere_44 rfl rfl ?_
    refine pw_aload_n X dX1_getThere_45 rfl rfl ?_
    refine pw_get X (q := (RX1, TX1, tyX1, 8)) (ci := 1) (k := 7) (ref := "PatrolDesk$State") (vI (m_gi M15 a0 7)) ht20 rfl (by decide) in_X1 q175 (Or.inl rfl) rfl dX1_getThere_46 ?_
    refine pw_runi X (m_cV X (b := a2) (ci := 8) (q := (RX8, TX8, tyX8, 13)) (met_X8_waited G C.2.1 M15 a2 (m_gi M15 a0 7) _ hw) ht18 rfl (lw_V q1571 q1411 q1412 q112 q1413) ⟨rfl, nh_X8_waited⟩ ⟨Nat.le_of_ble_eq_true rfl, Nat.le_of_ble_eq_true rfl⟩ rfl (Nat.le_of_ble_eq_true rfl) dX1_getThere_49) (fun r23 M21 hle22 hx => ?_)
    replace hw := hx hle22
    clear hx
    have ht24 : m_tg M21 a2 = 9 := m_le_tg hle22 ht18
    have ht25 : m_tg M21 a1 = 7 := m_le_tg hle22 ht19
    have ht26 : m_tg M21 a0 = 2 := m_le_tg hle22 ht20
    refine pw_iadd X dX1_getThere_52 ?_
    obtain ⟨M27, hM28⟩ : ∃ z : Mem, z = (m_pi M21 a1 13 ((m_gi M15 a1 13) + r23)) := ⟨_, rfl⟩
    replace hw := hw M27 hM28
    refine pw_putN X (q := (RX6, TX6, tyX6, 15)) (ci := 6) (k := 13) (ref := "PatrolDesk$Patrol") (host := "PatrolDesk") M27 hM28.symm ht25 rfl (by decide) in_X6 tyX6_ok nmX6 q1124 (Or.inl rfl) rfl (m_kd_i (fun _ _ => rfl)) rfl rfl dX1_getThere_53 ?_
    have hle29 : m_le M21 M27 := by rw [hM28]; exact m_le_pi
    have ht30 : m_tg M27 a2 = 9 := m_le_tg hle29 ht24
    have ht31 : m_tg M27 a1 = 7 := m_le_tg hle29 ht25
    have ht32 : m_tg M27 a0 = 2 := m_le_tg hle29 ht26
    refine pw_aload_n X dX1_getThere_56 rfl rfl ?_
    refine pw_aload_n X dX1_getThere_57 rfl rfl ?_
    refine pw_get X (q := (RX1, TX1, tyX1, 8)) (ci := 1) (k := 7) (ref := "PatrolDesk$State") (vI (m_gi M27 a0 7)) ht32 rfl (by decide) in_X1 q175 (Or.inl rfl) rfl dX1_getThere_58 ?_
    refine pw_runi X (m_cV X (b := a2) (ci := 8) (q := (RX8, TX8, tyX8, 13)) (met_X8_waited G C.2.1 M27 a2 (m_gi M27 a0 7) _ hw) ht30 rfl (lw_V q1571 q1411 q1412 q112 q1413) ⟨rfl, nh_X8_waited⟩ ⟨Nat.le_of_ble_eq_true rfl, Nat.le_of_ble_eq_true rfl⟩ rfl (Nat.le_of_ble_eq_true rfl) dX1_getThere_61) (fun r35 M33 hle34 hx => ?_)
    replace hw := hx hle34
    clear hx
    have ht36 : m_tg M33 a2 = 9 := m_le_tg hle34 ht30
    have ht37 : m_tg M33 a1 = 7 := m_le_tg hle34 ht31
    have ht38 : m_tg M33 a0 = 2 := m_le_tg hle34 ht32
    refine pw_aload_n X dX1_getThere_64 rfl rfl ?_
    refine pw_getN X (q := (RX8, TX8, tyX8, 13)) (ci := 8) (k := 3) (ref := "PatrolDesk$Call") (host := "PatrolDesk") (vI (m_gi M33 a2 3)) ht36 rfl (by decide) in_X8 q1217 (Or.inl rfl) rfl dX1_getThere_65 ?_
    refine pw_icmp_le X 97 dX1_getThere_68 (by decide) (fun c39 => ?_) (fun c39 => ?_)
    · replace hw := hw.1 c39
      exact bk_X1_getThere_97 G C n0 s0 M0 Q X _ a0 a1 a2 hw
    · replace hw := hw.2 c39
      refine pw_aload_n X dX1_getThere_71 rfl rfl ?_
      obtain ⟨u40, he41, hw⟩ := hw
      refine pw_get X (q := (RX1, TX1, tyX1, 8)) (ci := 1) (k := 0) (ref := "PatrolDesk$State") (vR (some u40)) ht38 rfl (by decide) in_X1 q161 (Or.inl rfl) (by rw [he41]; rfl) dX1_getThere_72 ?_
      refine pw_aload_n X dX1_getThere_75 rfl rfl ?_
      refine pw_getN X (q := (RX8, TX8, tyX8, 13)) (ci := 8) (k := 1) (ref := "PatrolDesk$Call") (host := "PatrolDesk") (vI (m_gi M33 a2 1)) ht36 rfl (by decide) in_X8 q1211 (Or.inl rfl) rfl dX1_getThere_76 ?_
      obtain ⟨ht42, hw⟩ := hw
      refine pw_runq X (m_cF X (b := u40) (ci := 13) (q := (RJ2, TJ2, tyJ2, 3)) (met_J2_get G C.2.1 M33 u40 (m_gi M33 a2 1) _ hw) ht42 rfl (lw_app (lw_F q1028 q1031 q1033 q82) (lw_meth q1035)) (List.mem_of_getElem? (i := 2) rfl) (by decide +kernel : m_nMH ⟨"java/util/List", "get", "(I)Ljava/lang/Object;"⟩ 1) ⟨Nat.le_of_ble_eq_true rfl, Nat.le_of_ble_eq_true rfl⟩ rfl (Nat.le_of_ble_eq_true rfl) dX1_getThere_79) (fun r45 M43 hle44 hx => ?_)
      replace hw := hx hle44
      clear hx
      have ht46 : m_tg M43 a2 = 9 := m_le_tg hle44 ht36
      have ht47 : m_tg M43 a1 = 7 := m_le_tg hle44 ht37
      have ht48 : m_tg M43 a0 = 2 := m_le_tg hle44 ht38
      have ht49 : m_tg M43 u40 = 14 := m_le_tg hle44 ht42
      obtain ⟨u50, he51, hw⟩ := hw
      subst he51
      obtain ⟨ht52, hw⟩ := hw
      refine pw_cast X 5 (q := (RX5, TX5, tyX5, 5)) rfl (fun _ h => by cases h; exact ht52) q1040 dX1_getThere_84 ?_
      refine pw_dup X dX1_getThere_87 ?_
      refine pw_getN X (q := (RX5, TX5, tyX5, 5)) (ci := 5) (k := 2) (ref := "PatrolDesk$Member") (host := "PatrolDesk") (vI (m_gi M43 u50 2)) ht52 rfl (by decide) in_X5 q1058 (Or.inl rfl) rfl dX1_getThere_88 ?_
      refine pw_bipush X 15 dX1_getThere_91 (by decide) ?_
      refine pw_iadd X dX1_getThere_93 ?_
      obtain ⟨M53, hM54⟩ : ∃ z : Mem, z = (m_pi M43 u50 2 ((m_gi M43 u50 2) + 15)) := ⟨_, rfl⟩
      replace hw := hw M53 hM54
      refine pw_putN X (q := (RX5, TX5, tyX5, 5)) (ci := 5) (k := 2) (ref := "PatrolDesk$Member") (host := "PatrolDesk") M53 hM54.symm ht52 rfl (by decide) in_X5 tyX5_ok nmX5 q1058 (Or.inl rfl) rfl (m_kd_i (fun _ _ => rfl)) rfl rfl dX1_getThere_94 ?_
      have hle55 : m_le M43 M53 := by rw [hM54]; exact m_le_pi
      have ht56 : m_tg M53 a2 = 9 := m_le_tg hle55 ht46
      have ht57 : m_tg M53 a1 = 7 := m_le_tg hle55 ht47
      have ht58 : m_tg M53 a0 = 2 := m_le_tg hle55 ht48
      have ht59 : m_tg M53 u40 = 14 := m_le_tg hle55 ht49
      have ht60 : m_tg M53 u50 = 6 := m_le_tg hle55 ht52
      exact bk_X1_getThere_97 G C n0 s0 M0 Q X _ a0 a1 a2 hw
  · replace hw := hw.2 c8
    refine pw_aload_n X dX1_getThere_16 rfl rfl ?_
    refine pw_aload_n X dX1_getThere_17 rfl rfl ?_
    refine pw_aload_n X dX1_getThere_18 rfl rfl ?_
    obtain ⟨ht61, hw⟩ := hw
    refine pw_runv X (m_cV X (b := a0) (ci := 1) (q := (RX1, TX1, tyX1, 8)) (met_X1_tow G C.2.1 M3 a0 a1 a2 _ hw) ht61 rfl (lw_V q1464 q1466 qs19 q79 q1467) ⟨rfl, nh_X1_tow⟩ ⟨Nat.le_of_ble_eq_true rfl, Nat.le_of_ble_eq_true rfl⟩ rfl (Nat.le_of_ble_eq_true rfl) dX1_getThere_19) (fun M62 hle63 hx => ?_)
    replace hw := hx hle63
    clear hx
    have ht64 : m_tg M62 a2 = 9 := m_le_tg hle63 ht6
    have ht65 : m_tg M62 a1 = 7 := m_le_tg hle63 ht7
    have ht66 : m_tg M62 a0 = 2 := m_le_tg hle63 ht61
    exact pw_vret X hw dX1_getThere_22
theorem met_X1_getThere (G : Gp) (l : Launch) (M : Mem) (a0 : Nat) (a1 : Nat) (a2 : Nat) (Q : Mem → Prop) (hw : wp_X1_getThere G.2 M a0 a1 a2 Q) : m_K G l yX1_getThere cX1_getThere 3 none 10 235 [vR (some a0), vR (some a1), vR (some a2)] M (va_Qv (m_q0 M Q) (m_W G) (m_A G)) := by
  refine m_met (by decide) (Nat.le_of_ble_eq_true rfl) (fun C e X => ?_)
  exact bk_X1_getThere_0 G C _ _ M Q X M a0 a1 a2 hw
theorem nh_X1_getThere : m_nMH yX1_getThere 2 := by decide +kernel

def wp_X1_endTow_b125 (g : Nat → Nat) (M : Mem) (la1 : Nat) (lx4 : Int32) (Q : Int32 → Mem → Prop) : Prop := m_tg M la1 = 7 ∧ wp_X6_becomeFree g M la1 (fun (M2 : Mem) => m_le M M2 → ((lx4 = 0 → Q 0 M2) ∧ (¬ lx4 = 0 → Q 1 M2)))
def wp_X1_endTow_b61 (g : Nat → Nat) (M : Mem) (la0 : Nat) (la1 : Nat) (la2 : Nat) (la3 : Nat) (sx0 : Int32) (Q : Int32 → Mem → Prop) : Prop := ((sx0 = 0 → m_tg M la1 = 7 ∧ m_tg M la2 = 9 ∧ wp_X8_waitForTow g M la2 (m_gi M la1 4) (fun (M4 : Mem) => m_le M M4 → wp_X1_endTow_b125 g M4 la1 sx0 Q)) ∧ (¬ sx0 = 0 → m_tg M la3 = 8 ∧ ∀ M9 : Mem, M9 = (m_pi M la3 2 ((m_gi M la3 2) + 1)) → ∀ M13 : Mem, M13 = (m_pi M9 la3 4 ((m_gi M9 la3 4) + 1)) → m_tg M13 la1 = 7 ∧ m_tg M13 la2 = 9 ∧ ∀ M19 : Mem, M19 = (m_pi M13 la2 6 (m_gi M13 la1 4)) → ∀ M25 : Mem, M25 = (m_pi M19 la2 12 (m_gi M19 la1 9)) → m_tg M25 la0 = 2 ∧ wp_X8_end g M25 la2 6 (m_gi M25 la0 7) (fun (M32 : Mem) => m_le M25 M32 → wp_X1_endTow_b125 g M32 la1 sx0 Q)))
def wp_X1_endTow (g : Nat → Nat) (M : Mem) (a0 : Nat) (a1 : Nat) (a2 : Nat) (Q : Int32 → Mem → Prop) : Prop := m_tg M a0 = 2 ∧ ∃ u2 : Nat, (m_gr M a0 2) = some u2 ∧ m_tg M a1 = 7 ∧ m_tg M u2 = 14 ∧ wp_J2_get g M u2 (m_gi M a1 9) (fun (r8 : Option Nat) (M6 : Mem) => m_le M M6 → ∃ u12 : Nat, r8 = some u12 ∧ m_tg M6 u12 = 8 ∧ ∀ M15 : Mem, M15 = (m_pi M6 a1 4 (m_gi M6 a1 8)) → ∀ M22 : Mem, M22 = (m_pi M15 u12 3 ((m_gi M15 u12 3) - 1)) → ∀ M29 : Mem, M29 = (m_pi M22 a1 11 ((m_gi M22 a1 11) + 1)) → ((¬ (m_gi M29 u12 0) = (m_gi M29 a1 4) → wp_X1_endTow_b61 g M29 a0 a1 a2 u12 0 Q) ∧ ((m_gi M29 u12 0) = (m_gi M29 a1 4) → wp_X1_endTow_b61 g M29 a0 a1 a2 u12 1 Q)))
theorem bk_X1_endTow_125 (G : Gp) (C : m_Cx) (n0 s0 : Nat) (M0 : Mem) (Q : Int32 → Mem → Prop) (X : m_in G C RX1 cX1_endTow 5 (some .int) "endTow" 3 64 n0 s0) (M : Mem) (la1 : Nat) (lx4 : Int32) (hw : wp_X1_endTow_b125 G.2 M la1 lx4 Q) : pW G C 5 n0 s0 M0 (m_Q G C n0 s0 (va_Qi (m_q1 M0 Q) (m_W G) (m_A G))) M 125 [(1, vR (some la1)), (4, vI lx4)] [] := by
  refine pw_aload_n X dX1_endTow_125 rfl rfl ?_
  obtain ⟨ht1, hw⟩ := hw
  refine pw_runv X (m_cV X (b := la1) (ci := 6) (q := (RX6, TX6, tyX6, 15)) (met_X6_becomeFree G C.2.1 M la1 _ hw) ht1 rfl (lw_V q1481 q1403 q1404 q110 q1405) ⟨rfl, nh_X6_becomeFree⟩ ⟨Nat.le_of_ble_eq_true rfl, Nat.le_of_ble_eq_true rfl⟩ rfl (Nat.le_of_ble_eq_true rfl) dX1_endTow_126) (fun M2 hle3 hx => ?_)
  replace hw := hx hle3
  clear hx
  have ht4 : m_tg M2 la1 = 7 := m_le_tg hle3 ht1
  refine pw_iload X dX1_endTow_129 rfl ?_
  refine pw_if_eq X 138 dX1_endTow_131 (by decide) (fun c5 => ?_) (fun c5 => ?_)
  · replace hw := hw.1 c5
    refine pw_iconst X 0 dX1_endTow_138 (by decide) ?_
    exact pw_iret X hw dX1_endTow_139
  · replace hw := hw.2 c5
    refine pw_iconst X 1 dX1_endTow_134 (by decide) ?_
    refine pw_goto X 139 dX1_endTow_135 (by decide) ?_
    exact pw_iret X hw dX1_endTow_139
theorem bk_X1_endTow_61 (G : Gp) (C : m_Cx) (n0 s0 : Nat) (M0 : Mem) (Q : Int32 → Mem → Prop) (X : m_in G C RX1 cX1_endTow 5 (some .int) "endTow" 3 64 n0 s0) (M : Mem) (la0 : Nat) (la1 : Nat) (la2 : Nat) (la3 : Nat) (sx0 : Int32) (hw : wp_X1_endTow_b61 G.2 M la0 la1 la2 la3 sx0 Q) : pW G C 5 n0 s0 M0 (m_Q G C n0 s0 (va_Qi (m_q1 M0 Q) (m_W G) (m_A G))) M 61 [(0, vR (some la0)), (1, vR (some la1)), (2, vR (some la2)), (3, vR (some la3))] [vI sx0] := by
  refine pw_istore X [(0, vR (some la0)), (1, vR (some la1)), (2, vR (some la2)), (3, vR (some la3)), (4, vI sx0)] [1, 2, 3, 4, 0] dX1_endTow_61 (by decide) rfl ?_
  refine pw_iload X dX1_endTow_63 rfl ?_
  refine pw_if_eq X 117 dX1_endTow_65 (by decide) (fun c1 => ?_) (fun c1 => ?_)
  · replace hw := hw.1 c1
    refine pw_aload_n X dX1_endTow_117 rfl rfl ?_
    refine pw_aload_n X dX1_endTow_118 rfl rfl ?_
    obtain ⟨ht2, hw⟩ := hw
    refine pw_getN X (q := (RX6, TX6, tyX6, 15)) (ci := 6) (k := 4) (ref := "PatrolDesk$Patrol") (host := "PatrolDesk") (vI (m_gi M la1 4)) ht2 rfl (by decide) in_X6 q1099 (Or.inl rfl) rfl dX1_endTow_119 ?_
    obtain ⟨ht3, hw⟩ := hw
    refine pw_runv X (m_cV X (b := la2) (ci := 8) (q := (RX8, TX8, tyX8, 13)) (met_X8_waitForTow G C.2.1 M la2 (m_gi M la1 4) _ hw) ht3 rfl (lw_V q1477 q1478 q1479 q112 q1480) ⟨rfl, nh_X8_waitForTow⟩ ⟨Nat.le_of_ble_eq_true rfl, Nat.le_of_ble_eq_true rfl⟩ rfl (Nat.le_of_ble_eq_true rfl) dX1_endTow_122) (fun M4 hle5 hx => ?_)
    replace hw := hx hle5
    clear hx
    have ht6 : m_tg M4 la1 = 7 := m_le_tg hle5 ht2
    have ht7 : m_tg M4 la2 = 9 := m_le_tg hle5 ht3
    refine pw_lo [1, 4] rfl ?_
    exact bk_X1_endTow_125 G C n0 s0 M0 Q X _ la1 sx0 hw
  · replace hw := hw.2 c1
    refine pw_aload_n X dX1_endTow_68 rfl rfl ?_
    refine pw_dup X dX1_endTow_69 ?_
    obtain ⟨ht8, hw⟩ := hw
    refine pw_getN X (q := (RX7, TX7, tyX7, 5)) (ci := 7) (k := 2) (ref := "PatrolDesk$Garage") (host := "PatrolDesk") (vI (m_gi M la3 2)) ht8 rfl (by decide) in_X7 q1177 (Or.inl rfl) rfl dX1_endTow_70 ?_
    refine pw_iconst X 1 dX1_endTow_73 (by decide) ?_
    refine pw_iadd X dX1_endTow_74 ?_
    obtain ⟨M9, hM10⟩ : ∃ z : Mem, z = (m_pi M la3 2 ((m_gi M la3 2) + 1)) := ⟨_, rfl⟩
    replace hw := hw M9 hM10
    refine pw_putN X (q := (RX7, TX7, tyX7, 5)) (ci := 7) (k := 2) (ref := "PatrolDesk$Garage") (host := "PatrolDesk") M9 hM10.symm ht8 rfl (by decide) in_X7 tyX7_ok nmX7 q1177 (Or.inl rfl) rfl (m_kd_i (fun _ _ => rfl)) rfl rfl dX1_endTow_75 ?_
    have hle11 : m_le M M9 := by rw [hM10]; exact m_le_pi
    have ht12 : m_tg M9 la3 = 8 := m_le_tg hle11 ht8
    refine pw_aload_n X dX1_endTow_78 rfl rfl ?_
    refine pw_dup X dX1_endTow_79 ?_
    refine pw_getN X (q := (RX7, TX7, tyX7, 5)) (ci := 7) (k := 4) (ref := "PatrolDesk$Garage") (host := "PatrolDesk") (vI (m_gi M9 la3 4)) ht12 rfl (by decide) in_X7 q1183 (Or.inl rfl) rfl dX1_endTow_80 ?_
    refine pw_iconst X 1 dX1_endTow_83 (by decide) ?_
    refine pw_iadd X dX1_endTow_84 ?_
    obtain ⟨M13, hM14⟩ : ∃ z : Mem, z = (m_pi M9 la3 4 ((m_gi M9 la3 4) + 1)) := ⟨_, rfl⟩
    replace hw := hw M13 hM14
    refine pw_putN X (q := (RX7, TX7, tyX7, 5)) (ci := 7) (k := 4) (ref := "PatrolDesk$Garage") (host := "PatrolDesk") M13 hM14.symm ht12 rfl (by decide) in_X7 tyX7_ok nmX7 q1183 (Or.inl rfl) rfl (m_kd_i (fun _ _ => rfl)) rfl rfl dX1_endTow_85 ?_
    have hle15 : m_le M9 M13 := by rw [hM14]; exact m_le_pi
    have ht16 : m_tg M13 la3 = 8 := m_le_tg hle15 ht12
    refine pw_aload_n X dX1_endTow_88 rfl rfl ?_
    refine pw_aload_n X dX1_endTow_89 rfl rfl ?_
    obtain ⟨ht17, hw⟩ := hw
    refine pw_getN X (q := (RX6, TX6, tyX6, 15)) (ci := 6) (k := 4) (ref := "PatrolDesk$Patrol") (host := "PatrolDesk") (vI (m_gi M13 la1 4)) ht17 rfl (by decide) in_X6 q1099 (Or.inl rfl) rfl dX1_endTow_90 ?_
    obtain ⟨ht18, hw⟩ := hw
    obtain ⟨M19, hM20⟩ : ∃ z : Mem, z = (m_pi M13 la2 6 (m_gi M13 la1 4)) := ⟨_, rfl⟩
    replace hw := hw M19 hM20
    refine pw_putN X (q := (RX8, TX8, tyX8, 13)) (ci := 8) (k := 6) (ref := "PatrolDesk$Call") (host := "PatrolDesk") M19 hM20.symm ht18 rfl (by decide) in_X8 tyX8_ok nmX8 q1225 (Or.inl rfl) rfl (m_kd_i (fun _ _ => rfl)) rfl rfl dX1_endTow_93 ?_
    have hle21 : m_le M13 M19 := by rw [hM20]; exact m_le_pi
    have ht22 : m_tg M19 la3 = 8 := m_le_tg hle21 ht16
    have ht23 : m_tg M19 la1 = 7 := m_le_tg hle21 ht17
    have ht24 : m_tg M19 la2 = 9 := m_le_tg hle21 ht18
    refine pw_aload_n X dX1_endTow_96 rfl rfl ?_
    refine pw_aload_n X dX1_endTow_97 rfl rfl ?_
    refine pw_getN X (q := (RX6, TX6, tyX6, 15)) (ci := 6) (k := 9) (ref := "PatrolDesk$Patrol") (host := "PatrolDesk") (vI (m_gi M19 la1 9)) ht23 rfl (by decide) in_X6 q1113 (Or.inl rfl) rfl dX1_endTow_98 ?_
    obtain ⟨M25, hM26⟩ : ∃ z : Mem, z = (m_pi M19 la2 12 (m_gi M19 la1 9)) := ⟨_, rfl⟩
    replace hw := hw M25 hM26
    refine pw_putN X (q := (RX8, TX8, tyX8, 13)) (ci := 8) (k := 12) (ref := "PatrolDesk$Call") (host := "PatrolDesk") M25 hM26.symm ht24 rfl (by decide) in_X8 tyX8_ok nmX8 q1242 (Or.inl rfl) rfl (m_kd_i (fun _ _ => rfl)) rfl rfl dX1_endTow_101 ?_
    have hle27 : m_le M19 M25 := by rw [hM26]; exact m_le_pi
    have ht28 : m_tg M25 la3 = 8 := m_le_tg hle27 ht22
    have ht29 : m_tg M25 la1 = 7 := m_le_tg hle27 ht23
    have ht30 : m_tg M25 la2 = 9 := m_le_tg hle27 ht24
    refine pw_aload_n X dX1_endTow_104 rfl rfl ?_
    refine pw_bipush X 6 dX1_endTow_105 (by decide) ?_
    refine pw_aload_n X dX1_endTow_107 rfl rfl ?_
    obtain ⟨ht31, hw⟩ := hw
    refine pw_get X (q := (RX1, TX1, tyX1, 8)) (ci := 1) (k := 7) (ref := "PatrolDesk$State") (vI (m_gi M25 la0 7)) ht31 rfl (by decide) in_X1 q175 (Or.inl rfl) rfl dX1_endTow_108 ?_
    refine pw_runv X (m_cV X (b := la2) (ci := 8) (q := (RX8, TX8, tyX8, 13)) (met_X8_end G C.2.1 M25 la2 6 (m_gi M25 la0 7) _ hw) ht30 rfl (lw_V q1586 q1407 q1408 q112 q1409) ⟨rfl, nh_X8_end⟩ ⟨Nat.le_of_ble_eq_true rfl, Nat.le_of_ble_eq_true rfl⟩ rfl (Nat.le_of_ble_eq_true rfl) dX1_endTow_111) (fun M32 hle33 hx => ?_)
    replace hw := hx hle33
    clear hx
    have ht34 : m_tg M32 la3 = 8 := m_le_tg hle33 ht28
    have ht35 : m_tg M32 la1 = 7 := m_le_tg hle33 ht29
    have ht36 : m_tg M32 la2 = 9 := m_le_tg hle33 ht30
    have ht37 : m_tg M32 la0 = 2 := m_le_tg hle33 ht31
    refine pw_goto X 125 dX1_endTow_114 (by decide) ?_
    refine pw_lo [1, 4] rfl ?_
    exact bk_X1_endTow_125 G C n0 s0 M0 Q X _ la1 sx0 hw
theorem bk_X1_endTow_0 (G : Gp) (C : m_Cx) (n0 s0 : Nat) (M0 : Mem) (Q : Int32 → Mem → Prop) (X : m_in G C RX1 cX1_endTow 5 (some .int) "endTow" 3 64 n0 s0) (M : Mem) (a0 : Nat) (a1 : Nat) (a2 : Nat) (hw : wp_X1_endTow G.2 M a0 a1 a2 Q) : pW G C 5 n0 s0 M0 (m_Q G C n0 s0 (va_Qi (m_q1 M0 Q) (m_W G) (m_A G))) M 0 [(0, vR (some a0)), (1, vR (some a1)), (2, vR (some a2))] [] := by
  refine pw_aload_n X dX1_endTow_0 rfl rfl ?_
  obtain ⟨ht1, hw⟩ := hw
  obtain ⟨u2, he3, hw⟩ := hw
  refine pw_get X (q := (RX1, TX1, tyX1, 8)) (ci := 1) (k := 2) (ref := "PatrolDesk$State") (vR (some u2)) ht1 rfl (by decide) in_X1 q165 (Or.inl rfl) (by rw [he3]; rfl) dX1_endTow_1 ?_
  refine pw_aload_n X dX1_endTow_4 rfl rfl ?_
  obtain ⟨ht4, hw⟩ := hw
  refine pw_getN X (q := (RX6, TX6, tyX6, 15)) (ci := 6) (k := 9) (ref := "PatrolDesk$Patrol") (host := "PatrolDesk") (vI (m_gi M a1 9)) ht4 rfl (by decide) in_X6 q1113 (Or.inl rfl) rfl dX1_endTow_5 ?_
  obtain ⟨ht5, hw⟩ := hw
  refine pw_runq X (m_cF X (b := u2) (ci := 13) (q := (RJ2, TJ2, tyJ2, 3)) (met_J2_get G C.2.1 M u2 (m_gi M a1 9) _ hw) ht5 rfl (lw_app (lw_F q1028 q1031 q1033 q82) (lw_meth q1035)) (List.mem_of_getElem? (i := 2) rfl) (by decide +kernel : m_nMH ⟨"java/util/List", "get", "(I)Ljava/lang/Object;"⟩ 1) ⟨Nat.le_of_ble_eq_true rfl, Nat.le_of_ble_eq_true rfl⟩ rfl (Nat.le_of_ble_eq_true rfl) dX1_endTow_8) (fun r8 M6 hle7 hx => ?_)
  replace hw := hx hle7
  clear hx
  have ht9 : m_tg M6 a0 = 2 := m_le_tg hle7 ht1
  have ht10 : m_tg M6 a1 = 7 := m_le_tg hle7 ht4
  have ht11 : m_tg M6 u2 = 14 := m_le_tg hle7 ht5
  obtain ⟨u12, he13, hw⟩ := hw
  subst he13
  obtain ⟨ht14, hw⟩ := hw
  refine pw_cast X 7 (q := (RX7, TX7, tyX7, 5)) rfl (fun _ h => by cases h; exact ht14) q1160 dX1_endTow_13 ?_
  refine pw_astore_n X [(0, vR (some a0)), (1, vR (some a1)), (2, vR (some a2)), (3, vR (some u12))] [1, 2, 3, 0] dX1_endTow_16 rfl (by decide) rfl ?_
  refine pw_aload_n X dX1_endTow_17 rfl rfl ?_
  refine pw_aload_n X dX1_endTow_18 rfl rfl ?_
  refine pw_getN X (q := (RX6, TX6, tyX6, 15)) (ci := 6) (k := 8) (ref := "PatrolDesk$Patrol") (host := "PatrolDesk") (vI (m_gi M6 a1 8)) ht10 rfl (by decide) in_X6 q1111 (Or.inl rfl) rfl dX1_endTow_19 ?_
  obtain ⟨M15, hM16⟩ : ∃ z : Mem, z = (m_pi M6 a1 4 (m_gi M6 a1 8)) := ⟨_, rfl⟩
  replace hw := hw M15 hM16
  refine pw_putN X (q := (RX6, TX6, tyX6, 15)) (ci := 6) (k := 4) (ref := "PatrolDesk$Patrol") (host := "PatrolDesk") M15 hM16.symm ht10 rfl (by decide) in_X6 tyX6_ok nmX6 q1099 (Or.inl rfl) rfl (m_kd_i (fun _ _ => rfl)) rfl rfl dX1_endTow_22 ?_
  have hle17 : m_le M6 M15 := by rw [hM16]; exact m_le_pi
  have ht18 : m_tg M15 a0 = 2 := m_le_tg hle17 ht9
  have ht19 : m_tg M15 a1 = 7 := m_le_tg hle17 ht10
  have ht20 : m_tg M15 u2 = 14 := m_le_tg hle17 ht11
  have ht21 : m_tg M15 u12 = 8 := m_le_tg hle17 ht14
  refine pw_aload_n X dX1_endTow_25 rfl rfl ?_
  refine pw_dup X dX1_endTow_26 ?_
  refine pw_getN X (q := (RX7, TX7, tyX7, 5)) (ci := 7) (k := 3) (ref := "PatrolDesk$Garage") (host := "PatrolDesk") (vI (m_gi M15 u12 3)) ht21 rfl (by decide) in_X7 q1180 (Or.inl rfl) rfl dX1_endTow_27 ?_
  refine pw_iconst X 1 dX1_endTow_30 (by decide) ?_
  refine pw_isub X dX1_endTow_31 ?_
  obtain ⟨M22, hM23⟩ : ∃ z : Mem, z = (m_pi M15 u12 3 ((m_gi M15 u12 3) - 1)) := ⟨_, rfl⟩
  replace hw := hw M22 hM23
  refine pw_putN X (q := (RX7, TX7, tyX7, 5)) (ci := 7) (k := 3) (ref := "PatrolDesk$Garage") (host := "PatrolDesk") M22 hM23.symm ht21 rfl (by decide) in_X7 tyX7_ok nmX7 q1180 (Or.inl rfl) rfl (m_kd_i (fun _ _ => rfl)) rfl rfl dX1_endTow_32 ?_
  have hle24 : m_le M15 M22 := by rw [hM23]; exact m_le_pi
  have ht25 : m_tg M22 a0 = 2 := m_le_tg hle24 ht18
  have ht26 : m_tg M22 a1 = 7 := m_le_tg hle24 ht19
  have ht27 : m_tg M22 u2 = 14 := m_le_tg hle24 ht20
  have ht28 : m_tg M22 u12 = 8 := m_le_tg hle24 ht21
  refine pw_aload_n X dX1_endTow_35 rfl rfl ?_
  refine pw_dup X dX1_endTow_36 ?_
  refine pw_getN X (q := (RX6, TX6, tyX6, 15)) (ci := 6) (k := 11) (ref := "PatrolDesk$Patrol") (host := "PatrolDesk") (vI (m_gi M22 a1 11)) ht26 rfl (by decide) in_X6 q1118 (Or.inl rfl) rfl dX1_endTow_37 ?_
  refine pw_iconst X 1 dX1_endTow_40 (by decide) ?_
  refine pw_iadd X dX1_endTow_41 ?_
  obtain ⟨M29, hM30⟩ : ∃ z : Mem, z = (m_pi M22 a1 11 ((m_gi M22 a1 11) + 1)) := ⟨_, rfl⟩
  replace hw := hw M29 hM30
  refine pw_putN X (q := (RX6, TX6, tyX6, 15)) (ci := 6) (k := 11) (ref := "PatrolDesk$Patrol") (host := "PatrolDesk") M29 hM30.symm ht26 rfl (by decide) in_X6 tyX6_ok nmX6 q1118 (Or.inl rfl) rfl (m_kd_i (fun _ _ => rfl)) rfl rfl dX1_endTow_42 ?_
  have hle31 : m_le M22 M29 := by rw [hM30]; exact m_le_pi
  have ht32 : m_tg M29 a0 = 2 := m_le_tg hle31 ht25
  have ht33 : m_tg M29 a1 = 7 := m_le_tg hle31 ht26
  have ht34 : m_tg M29 u2 = 14 := m_le_tg hle31 ht27
  have ht35 : m_tg M29 u12 = 8 := m_le_tg hle31 ht28
  refine pw_aload_n X dX1_endTow_45 rfl rfl ?_
  refine pw_getN X (q := (RX7, TX7, tyX7, 5)) (ci := 7) (k := 0) (ref := "PatrolDesk$Garage") (host := "PatrolDesk") (vI (m_gi M29 u12 0)) ht35 rfl (by decide) in_X7 q1172 (Or.inl rfl) rfl dX1_endTow_46 ?_
  refine pw_aload_n X dX1_endTow_49 rfl rfl ?_
  refine pw_getN X (q := (RX6, TX6, tyX6, 15)) (ci := 6) (k := 4) (ref := "PatrolDesk$Patrol") (host := "PatrolDesk") (vI (m_gi M29 a1 4)) ht33 rfl (by decide) in_X6 q1099 (Or.inl rfl) rfl dX1_endTow_50 ?_
  refine pw_icmp_ne X 60 dX1_endTow_53 (by decide) (fun c36 => ?_) (fun c36 => ?_)
  · replace hw := hw.1 c36
    refine pw_iconst X 0 dX1_endTow_60 (by decide) ?_
    exact bk_X1_endTow_61 G C n0 s0 M0 Q X _ a0 a1 a2 u12 0 hw
  · replace hw := hw.2 c36
    refine pw_iconst X 1 dX1_endTow_56 (by decide) ?_
    refine pw_goto X 61 dX1_endTow_57 (by decide) ?_
    exact bk_X1_endTow_61 G C n0 s0 M0 Q X _ a0 a1 a2 u12 1 hw
theorem met_X1_endTow (G : Gp) (l : Launch) (M : Mem) (a0 : Nat) (a1 : Nat) (a2 : Nat) (Q : Int32 → Mem → Prop) (hw : wp_X1_endTow G.2 M a0 a1 a2 Q) : m_K G l yX1_endTow cX1_endTow 5 (some .int) 3 64 [vR (some a0), vR (some a1), vR (some a2)] M (va_Qi (m_q1 M Q) (m_W G) (m_A G)) := by
  refine m_met (by decide) (Nat.le_of_ble_eq_true rfl) (fun C e X => ?_)
  exact bk_X1_endTow_0 G C _ _ M Q X M a0 a1 a2 hw
theorem nh_X1_endTow : m_nMH yX1_endTow 2 := by decide +kernel

def wp_X1_endRepair (g : Nat → Nat) (M : Mem) (a0 : Nat) (a1 : Nat) (a2 : Nat) (Q : Int32 → Mem → Prop) : Prop := m_tg M a0 = 2 ∧ ∃ u2 : Nat, (m_gr M a0 0) = some u2 ∧ m_tg M a2 = 9 ∧ m_tg M u2 = 14 ∧ wp_J2_get g M u2 (m_gi M a2 1) (fun (r8 : Option Nat) (M6 : Mem) => m_le M M6 → ∃ u12 : Nat, r8 = some u12 ∧ m_tg M6 u12 = 6 ∧ wp_X5_fee g M6 u12 (m_gi M6 a2 5) (fun (r17 : Int32) (M15 : Mem) => m_le M6 M15 → ∀ M22 : Mem, M22 = (m_pi M15 u12 1 ((m_gi M6 u12 1) + r17)) → m_tg M22 a1 = 7 ∧ ∀ M30 : Mem, M30 = (m_pi M22 u12 3 (m_gi M22 a1 0)) → ∀ M38 : Mem, M38 = (m_pi M30 u12 4 (m_gi M30 a0 7)) → ∀ M46 : Mem, M46 = (m_pi M38 a1 10 ((m_gi M38 a1 10) + 1)) → wp_X8_end g M46 a2 5 (m_gi M46 a0 7) (fun (M54 : Mem) => m_le M46 M54 → wp_X6_becomeFree g M54 a1 (fun (M61 : Mem) => m_le M54 M61 → Q 1 M61))))
theorem bk_X1_endRepair_0 (G : Gp) (C : m_Cx) (n0 s0 : Nat) (M0 : Mem) (Q : Int32 → Mem → Prop) (X : m_in G C RX1 cX1_endRepair 4 (some .int) "endRepair" 3 64 n0 s0) (M : Mem) (a0 : Nat) (a1 : Nat) (a2 : Nat) (hw : wp_X1_endRepair G.2 M a0 a1 a2 Q) : pW G C 4 n0 s0 M0 (m_Q G C n0 s0 (va_Qi (m_q1 M0 Q) (m_W G) (m_A G))) M 0 [(0, vR (some a0)), (1, vR (some a1)), (2, vR (some a2))] [] := by
  refine pw_aload_n X dX1_endRepair_0 rfl rfl ?_
  obtain ⟨ht1, hw⟩ := hw
  obtain ⟨u2, he3, hw⟩ := hw
  refine pw_get X (q := (RX1, TX1, tyX1, 8)) (ci := 1) (k := 0) (ref := "PatrolDesk$State") (vR (some u2)) ht1 rfl (by decide) in_X1 q161 (Or.inl rfl) (by rw [he3]; rfl) dX1_endRepair_1 ?_
  refine pw_aload_n X dX1_endRepair_4 rfl rfl ?_
  obtain ⟨ht4, hw⟩ := hw
  refine pw_getN X (q := (RX8, TX8, tyX8, 13)) (ci := 8) (k := 1) (ref := "PatrolDesk$Call") (host := "PatrolDesk") (vI (m_gi M a2 1)) ht4 rfl (by decide) in_X8 q1211 (Or.inl rfl) rfl dX1_endRepair_5 ?_
  obtain ⟨ht5, hw⟩ := hw
  refine pw_runq X (m_cF X (b := u2) (ci := 13) (q := (RJ2, TJ2, tyJ2, 3)) (met_J2_get G C.2.1 M u2 (m_gi M a2 1) _ hw) ht5 rfl (lw_app (lw_F q1028 q1031 q1033 q82) (lw_meth q1035)) (List.mem_of_getElem? (i := 2) rfl) (by decide +kernel : m_nMH ⟨"java/util/List", "get", "(I)Ljava/lang/Object;"⟩ 1) ⟨Nat.le_of_ble_eq_true rfl, Nat.le_of_ble_eq_true rfl⟩ rfl (Nat.le_of_ble_eq_true rfl) dX1_endRepair_8) (fun r8 M6 hle7 hx => ?_)
  replace hw := hx hle7
  clear hx
  have ht9 : m_tg M6 a0 = 2 := m_le_tg hle7 ht1
  have ht10 : m_tg M6 a2 = 9 := m_le_tg hle7 ht4
  have ht11 : m_tg M6 u2 = 14 := m_le_tg hle7 ht5
  obtain ⟨u12, he13, hw⟩ := hw
  subst he13
  obtain ⟨ht14, hw⟩ := hw
  refine pw_cast X 5 (q := (RX5, TX5, tyX5, 5)) rfl (fun _ h => by cases h; exact ht14) q1040 dX1_endRepair_13 ?_
  refine pw_astore_n X [(0, vR (some a0)), (1, vR (some a1)), (2, vR (some a2)), (3, vR (some u12))] [1, 2, 3, 0] dX1_endRepair_16 rfl (by decide) rfl ?_
  refine pw_aload_n X dX1_endRepair_17 rfl rfl ?_
  refine pw_dup X dX1_endRepair_18 ?_
  refine pw_getN X (q := (RX5, TX5, tyX5, 5)) (ci := 5) (k := 1) (ref := "PatrolDesk$Member") (host := "PatrolDesk") (vI (m_gi M6 u12 1)) ht14 rfl (by decide) in_X5 q1055 (Or.inl rfl) rfl dX1_endRepair_19 ?_
  refine pw_aload_n X dX1_endRepair_22 rfl rfl ?_
  refine pw_aload_n X dX1_endRepair_23 rfl rfl ?_
  refine pw_getN X (q := (RX8, TX8, tyX8, 13)) (ci := 8) (k := 5) (ref := "PatrolDesk$Call") (host := "PatrolDesk") (vI (m_gi M6 a2 5)) ht10 rfl (by decide) in_X8 q1222 (Or.inl rfl) rfl dX1_endRepair_24 ?_
  refine pw_runi X (m_cV X (b := u12) (ci := 5) (q := (RX5, TX5, tyX5, 5)) (met_X5_fee G C.2.1 M6 u12 (m_gi M6 a2 5) _ hw) ht14 rfl (lw_V q1581 q1582 q1583 q109 q1584) ⟨rfl, nh_X5_fee⟩ ⟨Nat.le_of_ble_eq_true rfl, Nat.le_of_ble_eq_true rfl⟩ rfl (Nat.le_of_ble_eq_true rfl) dX1_endRepair_27) (fun r17 M15 hle16 hx => ?_)
  replace hw := hx hle16
  clear hx
  have ht18 : m_tg M15 a0 = 2 := m_le_tg hle16 ht9
  have ht19 : m_tg M15 a2 = 9 := m_le_tg hle16 ht10
  have ht20 : m_tg M15 u2 = 14 := m_le_tg hle16 ht11
  have ht21 : m_tg M15 u12 = 6 := m_le_tg hle16 ht14
  refine pw_iadd X dX1_endRepair_30 ?_
  obtain ⟨M22, hM23⟩ : ∃ z : Mem, z = (m_pi M15 u12 1 ((m_gi M6 u12 1) + r17)) := ⟨_, rfl⟩
  replace hw := hw M22 hM23
  refine pw_putN X (q := (RX5, TX5, tyX5, 5)) (ci := 5) (k := 1) (ref := "PatrolDesk$Member") (host := "PatrolDesk") M22 hM23.symm ht21 rfl (by decide) in_X5 tyX5_ok nmX5 q1055 (Or.inl rfl) rfl (m_kd_i (fun _ _ => rfl)) rfl rfl dX1_endRepair_31 ?_
  have hle24 : m_le M15 M22 := by rw [hM23]; exact m_le_pi
  have ht25 : m_tg M22 a0 = 2 := m_le_tg hle24 ht18
  have ht26 : m_tg M22 a2 = 9 := m_le_tg hle24 ht19
  have ht27 : m_tg M22 u2 = 14 := m_le_tg hle24 ht20
  have ht28 : m_tg M22 u12 = 6 := m_le_tg hle24 ht21
  refine pw_aload_n X dX1_endRepair_34 rfl rfl ?_
  refine pw_aload_n X dX1_endRepair_35 rfl rfl ?_
  obtain ⟨ht29, hw⟩ := hw
  refine pw_getN X (q := (RX6, TX6, tyX6, 15)) (ci := 6) (k := 0) (ref := "PatrolDesk$Patrol") (host := "PatrolDesk") (vI (m_gi M22 a1 0)) ht29 rfl (by decide) in_X6 q1089 (Or.inl rfl) rfl dX1_endRepair_36 ?_
  obtain ⟨M30, hM31⟩ : ∃ z : Mem, z = (m_pi M22 u12 3 (m_gi M22 a1 0)) := ⟨_, rfl⟩
  replace hw := hw M30 hM31
  refine pw_putN X (q := (RX5, TX5, tyX5, 5)) (ci := 5) (k := 3) (ref := "PatrolDesk$Member") (host := "PatrolDesk") M30 hM31.symm ht28 rfl (by decide) in_X5 tyX5_ok nmX5 q1061 (Or.inl rfl) rfl (m_kd_i (fun _ _ => rfl)) rfl rfl dX1_endRepair_39 ?_
  have hle32 : m_le M22 M30 := by rw [hM31]; exact m_le_pi
  have ht33 : m_tg M30 a0 = 2 := m_le_tg hle32 ht25
  have ht34 : m_tg M30 a2 = 9 := m_le_tg hle32 ht26
  have ht35 : m_tg M30 u2 = 14 := m_le_tg hle32 ht27
  have ht36 : m_tg M30 u12 = 6 := m_le_tg hle32 ht28
  have ht37 : m_tg M30 a1 = 7 := m_le_tg hle32 ht29
  refine pw_aload_n X dX1_endRepair_42 rfl rfl ?_
  refine pw_aload_n X dX1_endRepair_43 rfl rfl ?_
  refine pw_get X (q := (RX1, TX1, tyX1, 8)) (ci := 1) (k := 7) (ref := "PatrolDesk$State") (vI (m_gi M30 a0 7)) ht33 rfl (by decide) in_X1 q175 (Or.inl rfl) rfl dX1_endRepair_44 ?_
  obtain ⟨M38, hM39⟩ : ∃ z : Mem, z = (m_pi M30 u12 4 (m_gi M30 a0 7)) := ⟨_, rfl⟩
  replace hw := hw M38 hM39
  refine pw_putN X (q := (RX5, TX5, tyX5, 5)) (ci := 5) (k := 4) (ref := "PatrolDesk$Member") (host := "PatrolDesk") M38 hM39.symm ht36 rfl (by decide) in_X5 tyX5_ok nmX5 q1063 (Or.inl rfl) rfl (m_kd_i (fun _ _ => rfl)) rfl rfl dX1_endRepair_47 ?_
  have hle40 : m_le M30 M38 := by rw [hM39]; exact m_le_pi
  have ht41 : m_tg M38 a0 = 2 := m_le_tg hle40 ht33
  have ht42 : m_tg M38 a2 = 9 := m_le_tg hle40 ht34
  have ht43 : m_tg M38 u2 = 14 := m_le_tg hle40 ht35
  have ht44 : m_tg M38 u12 = 6 := m_le_tg hle40 ht36
  have ht45 : m_tg M38 a1 = 7 := m_le_tg hle40 ht37
  refine pw_aload_n X dX1_endRepair_50 rfl rfl ?_
  refine pw_dup X dX1_endRepair_51 ?_
  refine pw_getN X (q := (RX6, TX6, tyX6, 15)) (ci := 6) (k := 10) (ref := "PatrolDesk$Patrol") (host := "PatrolDesk") (vI (m_gi M38 a1 10)) ht45 rfl (by decide) in_X6 q1115 (Or.inl rfl) rfl dX1_endRepair_52 ?_
  refine pw_iconst X 1 dX1_endRepair_55 (by decide) ?_
  refine pw_iadd X dX1_endRepair_56 ?_
  obtain ⟨M46, hM47⟩ : ∃ z : Mem, z = (m_pi M38 a1 10 ((m_gi M38 a1 10) + 1)) := ⟨_, rfl⟩
  replace hw := hw M46 hM47
  refine pw_putN X (q := (RX6, TX6, tyX6, 15)) (ci := 6) (k := 10) (ref := "PatrolDesk$Patrol") (host := "PatrolDesk") M46 hM47.symm ht45 rfl (by decide) in_X6 tyX6_ok nmX6 q1115 (Or.inl rfl) rfl (m_kd_i (fun _ _ => rfl)) rfl rfl dX1_endRepair_57 ?_
  have hle48 : m_le M38 M46 := by rw [hM47]; exact m_le_pi
  have ht49 : m_tg M46 a0 = 2 := m_le_tg hle48 ht41
  have ht50 : m_tg M46 a2 = 9 := m_le_tg hle48 ht42
  have ht51 : m_tg M46 u2 = 14 := m_le_tg hle48 ht43
  have ht52 : m_tg M46 u12 = 6 := m_le_tg hle48 ht44
  have ht53 : m_tg M46 a1 = 7 := m_le_tg hle48 ht45
  refine pw_aload_n X dX1_endRepair_60 rfl rfl ?_
  refine pw_iconst X 5 dX1_endRepair_61 (by decide) ?_
  refine pw_aload_n X dX1_endRepair_62 rfl rfl ?_
  refine pw_get X (q := (RX1, TX1, tyX1, 8)) (ci := 1) (k := 7) (ref := "PatrolDesk$State") (vI (m_gi M46 a0 7)) ht49 rfl (by decide) in_X1 q175 (Or.inl rfl) rfl dX1_endRepair_63 ?_
  refine pw_runv X (m_cV X (b := a2) (ci := 8) (q := (RX8, TX8, tyX8, 13)) (met_X8_end G C.2.1 M46 a2 5 (m_gi M46 a0 7) _ hw) ht50 rfl (lw_V q1586 q1407 q1408 q112 q1409) ⟨rfl, nh_X8_end⟩ ⟨Nat.le_of_ble_eq_true rfl, Nat.le_of_ble_eq_true rfl⟩ rfl (Nat.le_of_ble_eq_true rfl) dX1_endRepair_66) (fun M54 hle55 hx => ?_)
  replace hw := hx hle55
  clear hx
  have ht56 : m_tg M54 a0 = 2 := m_le_tg hle55 ht49
  have ht57 : m_tg M54 a2 = 9 := m_le_tg hle55 ht50
  have ht58 : m_tg M54 u2 = 14 := m_le_tg hle55 ht51
  have ht59 : m_tg M54 u12 = 6 := m_le_tg hle55 ht52
  have ht60 : m_tg M54 a1 = 7 := m_le_tg hle55 ht53
  refine pw_aload_n X dX1_endRepair_69 rfl rfl ?_
  refine pw_runv X (m_cV X (b := a1) (ci := 6) (q := (RX6, TX6, tyX6, 15)) (met_X6_becomeFree G C.2.1 M54 a1 _ hw) ht60 rfl (lw_V q1481 q1403 q1404 q110 q1405) ⟨rfl, nh_X6_becomeFree⟩ ⟨Nat.le_of_ble_eq_true rfl, Nat.le_of_ble_eq_true rfl⟩ rfl (Nat.le_of_ble_eq_true rfl) dX1_endRepair_70) (fun M61 hle62 hx => ?_)
  replace hw := hx hle62
  clear hx
  have ht63 : m_tg M61 a0 = 2 := m_le_tg hle62 ht56
  have ht64 : m_tg M61 a2 = 9 := m_le_tg hle62 ht57
  have ht65 : m_tg M61 u2 = 14 := m_le_tg hle62 ht58
  have ht66 : m_tg M61 u12 = 6 := m_le_tg hle62 ht59
  have ht67 : m_tg M61 a1 = 7 := m_le_tg hle62 ht60
  refine pw_iconst X 1 dX1_endRepair_73 (by decide) ?_
  exact pw_iret X hw dX1_endRepair_74
theorem met_X1_endRepair (G : Gp) (l : Launch) (M : Mem) (a0 : Nat) (a1 : Nat) (a2 : Nat) (Q : Int32 → Mem → Prop) (hw : wp_X1_endRepair G.2 M a0 a1 a2 Q) : m_K G l yX1_endRepair cX1_endRepair 4 (some .int) 3 64 [vR (some a0), vR (some a1), vR (some a2)] M (va_Qi (m_q1 M Q) (m_W G) (m_A G)) := by
  refine m_met (by decide) (Nat.le_of_ble_eq_true rfl) (fun C e X => ?_)
  exact bk_X1_endRepair_0 G C _ _ M Q X M a0 a1 a2 hw
theorem nh_X1_endRepair : m_nMH yX1_endRepair 2 := by decide +kernel

def wp_X1_goOn (g : Nat → Nat) (M : Mem) (a0 : Nat) (a1 : Nat) (Q : Int32 → Mem → Prop) : Prop := m_tg M a1 = 7 ∧ wp_X6_isBusy g M a1 (fun (r4 : Int32) (M2 : Mem) => m_le M M2 → ((¬ r4 = 0 → ∀ M7 : Mem, M7 = (m_pi M2 a1 7 ((m_gi M2 a1 7) - 1)) → ∀ M11 : Mem, M11 = (m_pi M7 a1 14 ((m_gi M7 a1 14) + 1)) → (((m_gi M11 a1 7) ≤ 0 → m_tg M11 a0 = 2 ∧ ∃ u17 : Nat, (m_gr M11 a0 3) = some u17 ∧ m_tg M11 u17 = 14 ∧ wp_J2_get g M11 u17 (m_gi M11 a1 6) (fun (r22 : Option Nat) (M20 : Mem) => m_le M11 M20 → ∃ u26 : Nat, r22 = some u26 ∧ m_tg M20 u26 = 9 ∧ (((m_gi M20 a1 5) = 1 → wp_X1_getThere g M20 a0 a1 u26 (fun (M30 : Mem) => m_le M20 M30 → Q 0 M30)) ∧ (¬ (m_gi M20 a1 5) = 1 → (((m_gi M20 a1 5) = 2 → wp_X1_endRepair g M20 a0 a1 u26 (fun (r39 : Int32) (M37 : Mem) => m_le M20 M37 → Q r39 M37)) ∧ (¬ (m_gi M20 a1 5) = 2 → wp_X1_endTow g M20 a0 a1 u26 (fun (r46 : Int32) (M44 : Mem) => m_le M20 M44 → Q r46 M44))))))) ∧ (¬ (m_gi M11 a1 7) ≤ 0 → Q 0 M11))) ∧ (r4 = 0 → Q 0 M2)))
theorem bk_X1_goOn_0 (G : Gp) (C : m_Cx) (n0 s0 : Nat) (M0 : Mem) (Q : Int32 → Mem → Prop) (X : m_in G C RX1 cX1_goOn 3 (some .int) "goOn" 11 257 n0 s0) (M : Mem) (a0 : Nat) (a1 : Nat) (hw : wp_X1_goOn G.2 M a0 a1 Q) : pW G C 3 n0 s0 M0 (m_Q G C n0 s0 (va_Qi (m_q1 M0 Q) (m_W G) (m_A G))) M 0 [(0, vR (some a0)), (1, vR (some a1))] [] := by
  refine pw_aload_n X dX1_goOn_0 rfl rfl ?_
  obtain ⟨ht1, hw⟩ := hw
  refine pw_runi X (m_cV X (b := a1) (ci := 6) (q := (RX6, TX6, tyX6, 15)) (met_X6_isBusy G C.2.1 M a1 _ hw) ht1 rfl (lw_V q1459 q1423 q1424 q110 q1425) ⟨rfl, nh_X6_isBusy⟩ ⟨Nat.le_of_ble_eq_true rfl, Nat.le_of_ble_eq_true rfl⟩ rfl (Nat.le_of_ble_eq_true rfl) dX1_goOn_1) (fun r4 M2 hle3 hx => ?_)
  replace hw := hx hle3
  clear hx
  have ht5 : m_tg M2 a1 = 7 := m_le_tg hle3 ht1
  refine pw_if_ne X 9 dX1_goOn_4 (by decide) (fun c6 => ?_) (fun c6 => ?_)
  · replace hw := hw.1 c6
    refine pw_aload_n X dX1_goOn_9 rfl rfl ?_
    refine pw_dup X dX1_goOn_10 ?_
    refine pw_getN X (q := (RX6, TX6, tyX6, 15)) (ci := 6) (k := 7) (ref := "PatrolDesk$Patrol") (host := "PatrolDesk") (vI (m_gi M2 a1 7)) ht5 rfl (by decide) in_X6 q1108 (Or.inl rfl) rfl dX1_goOn_11 ?_
    refine pw_iconst X 1 dX1_goOn_14 (by decide) ?_
    refine pw_isub X dX1_goOn_15 ?_
    obtain ⟨M7, hM8⟩ : ∃ z : Mem, z = (m_pi M2 a1 7 ((m_gi M2 a1 7) - 1)) := ⟨_, rfl⟩
    replace hw := hw M7 hM8
    refine pw_putN X (q := (RX6, TX6, tyX6, 15)) (ci := 6) (k := 7) (ref := "PatrolDesk$Patrol") (host := "PatrolDesk") M7 hM8.symm ht5 rfl (by decide) in_X6 tyX6_ok nmX6 q1108 (Or.inl rfl) rfl (m_kd_i (fun _ _ => rfl)) rfl rfl dX1_goOn_16 ?_
    have hle9 : m_le M2 M7 := by rw [hM8]; exact m_le_pi
    have ht10 : m_tg M7 a1 = 7 := m_le_tg hle9 ht5
    refine pw_aload_n X dX1_goOn_19 rfl rfl ?_
    refine pw_dup X dX1_goOn_20 ?_
    refine pw_getN X (q := (RX6, TX6, tyX6, 15)) (ci := 6) (k := 14) (ref := "PatrolDesk$Patrol") (host := "PatrolDesk") (vI (m_gi M7 a1 14)) ht10 rfl (by decide) in_X6 q1127 (Or.inl rfl) rfl dX1_goOn_21 ?_
    refine pw_iconst X 1 dX1_goOn_24 (by decide) ?_
    refine pw_iadd X dX1_goOn_25 ?_
    obtain ⟨M11, hM12⟩ : ∃ z : Mem, z = (m_pi M7 a1 14 ((m_gi M7 a1 14) + 1)) := ⟨_, rfl⟩
    replace hw := hw M11 hM12
    refine pw_putN X (q := (RX6, TX6, tyX6, 15)) (ci := 6) (k := 14) (ref := "PatrolDesk$Patrol") (host := "PatrolDesk") M11 hM12.symm ht10 rfl (by decide) in_X6 tyX6_ok nmX6 q1127 (Or.inl rfl) rfl (m_kd_i (fun _ _ => rfl)) rfl rfl dX1_goOn_26 ?_
    have hle13 : m_le M7 M11 := by rw [hM12]; exact m_le_pi
    have ht14 : m_tg M11 a1 = 7 := m_le_tg hle13 ht10
    refine pw_aload_n X dX1_goOn_29 rfl rfl ?_
    refine pw_getN X (q := (RX6, TX6, tyX6, 15)) (ci := 6) (k := 7) (ref := "PatrolDesk$Patrol") (host := "PatrolDesk") (vI (m_gi M11 a1 7)) ht14 rfl (by decide) in_X6 q1108 (Or.inl rfl) rfl dX1_goOn_30 ?_
    refine pw_if_le X 38 dX1_goOn_33 (by decide) (fun c15 => ?_) (fun c15 => ?_)
    · replace hw := hw.1 c15
      refine pw_aload_n X dX1_goOn_38 rfl rfl ?_
      obtain ⟨ht16, hw⟩ := hw
      obtain ⟨u17, he18, hw⟩ := hw
      refine pw_get X (q := (RX1, TX1, tyX1, 8)) (ci := 1) (k := 3) (ref := "PatrolDesk$State") (vR (some u17)) ht16 rfl (by decide) in_X1 q167 (Or.inl rfl) (by rw [he18]; rfl) dX1_goOn_39 ?_
      refine pw_aload_n X dX1_goOn_42 rfl rfl ?_
      refine pw_getN X (q := (RX6, TX6, tyX6, 15)) (ci := 6) (k := 6) (ref := "PatrolDesk$Patrol") (host := "PatrolDesk") (vI (m_gi M11 a1 6)) ht14 rfl (by decide) in_X6 q1105 (Or.inl rfl) rfl dX1_goOn_43 ?_
      obtain ⟨ht19, hw⟩ := hw
      refine pw_runq X (m_cF X (b := u17) (ci := 13) (q := (RJ2, TJ2, tyJ2, 3)) (met_J2_get G C.2.1 M11 u17 (m_gi M11 a1 6) _ hw) ht19 rfl (lw_app (lw_F q1028 q1031 q1033 q82) (lw_meth q1035)) (List.mem_of_getElem? (i := 2) rfl) (by decide +kernel : m_nMH ⟨"java/util/List", "get", "(I)Ljava/lang/Object;"⟩ 1) ⟨Nat.le_of_ble_eq_true rfl, Nat.le_of_ble_eq_true rfl⟩ rfl (Nat.le_of_ble_eq_true rfl) dX1_goOn_46) (fun r22 M20 hle21 hx => ?_)
      replace hw := hx hle21
      clear hx
      have ht23 : m_tg M20 a1 = 7 := m_le_tg hle21 ht14
      have ht24 : m_tg M20 a0 = 2 := m_le_tg hle21 ht16
      have ht25 : m_tg M20 u17 = 14 := m_le_tg hle21 ht19
      obtain ⟨u26, he27, hw⟩ := hw
      subst he27
      obtain ⟨ht28, hw⟩ := hw
      refine pw_cast X 8 (q := (RX8, TX8, tyX8, 13)) rfl (fun _ h => by cases h; exact ht28) q1196 dX1_goOn_51 ?_
      refine pw_astore_n X [(0, vR (some a0)), (1, vR (some a1)), (2, vR (some u26))] [1, 2, 0] dX1_goOn_54 rfl (by decide) rfl ?_
      refine pw_aload_n X dX1_goOn_55 rfl rfl ?_
      refine pw_getN X (q := (RX6, TX6, tyX6, 15)) (ci := 6) (k := 5) (ref := "PatrolDesk$Patrol") (host := "PatrolDesk") (vI (m_gi M20 a1 5)) ht23 rfl (by decide) in_X6 q1102 (Or.inl rfl) rfl dX1_goOn_56 ?_
      by_cases c29 : (m_gi M20 a1 5) = 1
      · replace hw := hw.1 c29
        refine pw_lookup X (25) 84 dX1_goOn_59 (by decide) (by rw [c29]; decide) (by decide) ?_
        refine pw_aload_n X dX1_goOn_84 rfl rfl ?_
        refine pw_aload_n X dX1_goOn_85 rfl rfl ?_
        refine pw_aload_n X dX1_goOn_86 rfl rfl ?_
        refine pw_runv X (m_cV X (b := a0) (ci := 1) (q := (RX1, TX1, tyX1, 8)) (met_X1_getThere G C.2.1 M20 a0 a1 u26 _ hw) ht24 rfl (lw_V q1460 q1462 qs18 q79 q1463) ⟨rfl, nh_X1_getThere⟩ ⟨Nat.le_of_ble_eq_true rfl, Nat.le_of_ble_eq_true rfl⟩ rfl (Nat.le_of_ble_eq_true rfl) dX1_goOn_87) (fun M30 hle31 hx => ?_)
        replace hw := hx hle31
        clear hx
        have ht32 : m_tg M30 a1 = 7 := m_le_tg hle31 ht23
        have ht33 : m_tg M30 a0 = 2 := m_le_tg hle31 ht24
        have ht34 : m_tg M30 u17 = 14 := m_le_tg hle31 ht25
        have ht35 : m_tg M30 u26 = 9 := m_le_tg hle31 ht28
        refine pw_iconst X 0 dX1_goOn_90 (by decide) ?_
        exact pw_iret X hw dX1_goOn_91
      replace hw := hw.2 c29
      by_cases c36 : (m_gi M20 a1 5) = 2
      · replace hw := hw.1 c36
        refine pw_lookup X (33) 92 dX1_goOn_59 (by decide) (by rw [c36]; decide) (by decide) ?_
        refine pw_aload_n X dX1_goOn_92 rfl rfl ?_
        refine pw_aload_n X dX1_goOn_93 rfl rfl ?_
        refine pw_aload_n X dX1_goOn_94 rfl rfl ?_
        refine pw_runi X (m_cV X (b := a0) (ci := 1) (q := (RX1, TX1, tyX1, 8)) (met_X1_endRepair G C.2.1 M20 a0 a1 u26 _ hw) ht24 rfl (lw_V q1577 q1579 qs22 q79 q1580) ⟨rfl, nh_X1_endRepair⟩ ⟨Nat.le_of_ble_eq_true rfl, Nat.le_of_ble_eq_true rfl⟩ rfl (Nat.le_of_ble_eq_true rfl) dX1_goOn_95) (fun r39 M37 hle38 hx => ?_)
        replace hw := hx hle38
        clear hx
        have ht40 : m_tg M37 a1 = 7 := m_le_tg hle38 ht23
        have ht41 : m_tg M37 a0 = 2 := m_le_tg hle38 ht24
        have ht42 : m_tg M37 u17 = 14 := m_le_tg hle38 ht25
        have ht43 : m_tg M37 u26 = 9 := m_le_tg hle38 ht28
        exact pw_iret X hw dX1_goOn_98
      replace hw := hw.2 c36
      refine pw_lookup X (40) 99 dX1_goOn_59 (by decide) ((lv_osw c29 (a := 1) (by decide)).trans ((lv_osw c36 (a := 2) (by decide)).trans rfl)) (by decide) ?_
      refine pw_aload_n X dX1_goOn_99 rfl rfl ?_
      refine pw_aload_n X dX1_goOn_100 rfl rfl ?_
      refine pw_aload_n X dX1_goOn_101 rfl rfl ?_
      refine pw_runi X (m_cV X (b := a0) (ci := 1) (q := (RX1, TX1, tyX1, 8)) (met_X1_endTow G C.2.1 M20 a0 a1 u26 _ hw) ht24 rfl (lw_V q1587 q1589 qs23 q79 q1590) ⟨rfl, nh_X1_endTow⟩ ⟨Nat.le_of_ble_eq_true rfl, Nat.le_of_ble_eq_true rfl⟩ rfl (Nat.le_of_ble_eq_true rfl) dX1_goOn_102) (fun r46 M44 hle45 hx => ?_)
      replace hw := hx hle45
      clear hx
      have ht47 : m_tg M44 a1 = 7 := m_le_tg hle45 ht23
      have ht48 : m_tg M44 a0 = 2 := m_le_tg hle45 ht24
      have ht49 : m_tg M44 u17 = 14 := m_le_tg hle45 ht25
      have ht50 : m_tg M44 u26 = 9 := m_le_tg hle45 ht28
      exact pw_iret X hw dX1_goOn_105
    · replace hw := hw.2 c15
      refine pw_iconst X 0 dX1_goOn_36 (by decide) ?_
      exact pw_iret X hw dX1_goOn_37
  · replace hw := hw.2 c6
    refine pw_iconst X 0 dX1_goOn_7 (by decide) ?_
    exact pw_iret X hw dX1_goOn_8
theorem met_X1_goOn (G : Gp) (l : Launch) (M : Mem) (a0 : Nat) (a1 : Nat) (Q : Int32 → Mem → Prop) (hw : wp_X1_goOn G.2 M a0 a1 Q) : m_K G l yX1_goOn cX1_goOn 3 (some .int) 11 257 [vR (some a0), vR (some a1)] M (va_Qi (m_q1 M Q) (m_W G) (m_A G)) := by
  refine m_met (by decide) (Nat.le_of_ble_eq_true rfl) (fun C e X => ?_)
  exact bk_X1_goOn_0 G C _ _ M Q X M a0 a1 hw
theorem nh_X1_goOn : m_nMH yX1_goOn 1 := by decide +kernel

def wp_X1_come_b57 (g : Nat → Nat) (M : Mem) (la0 : Nat) (lx1 : Int32) (lx2 : Int32) (lx3 : Int32) (la4 : Nat) (lx5 : Int32) (Q : Mem → Prop) : Prop := m_tg M la0 = 2 ∧ ∃ u2 : Nat, (m_gr M la0 3) = some u2 ∧ m_fits M 13 ∧ ∀ u5 : Nat, m_tg M u5 = 0 → ∀ M7 : Mem, M7 = (m_al M u5 9 0 13) → ∃ u12 : Nat, (m_gr M7 la0 3) = some u12 ∧ m_tg M7 u12 = 14 ∧ wp_J2_size g M7 u12 (fun (r17 : Int32) (M15 : Mem) => m_le M7 M15 → ∃ u21 : Nat, (m_gr M15 la0 4) = some u21 ∧ m_tg M15 la4 = 6 ∧ m_tg M15 u21 = 101 ∧ vp_in (m_gi M15 la4 0) (m_ln M15 u21) ∧ wp_X8_init g M15 u5 r17 lx1 lx2 lx3 ((m_gi M15 u21 (Int32.toNatClampNeg (m_gi M15 la4 0))) + (10 * (m_gi M15 la0 6))) (m_gi M15 la0 7) lx5 (fun (M26 : Mem) => m_le M15 M26 → m_tg M26 u2 = 14 ∧ wp_J2_add g M26 u2 (some u5) (fun (r36 : Int32) (M34 : Mem) => m_le M26 M34 → Q M34)))
def wp_X1_come (g : Nat → Nat) (M : Mem) (a0 : Nat) (x1 : Int32) (x2 : Int32) (x3 : Int32) (Q : Mem → Prop) : Prop := m_tg M a0 = 2 ∧ ∃ u2 : Nat, (m_gr M a0 0) = some u2 ∧ m_tg M u2 = 14 ∧ wp_J2_get g M u2 x1 (fun (r7 : Option Nat) (M5 : Mem) => m_le M M5 → ∃ u10 : Nat, r7 = some u10 ∧ m_tg M5 u10 = 6 ∧ wp_X5_isCallback g M5 u10 (m_gi M5 a0 7) (fun (r15 : Int32) (M13 : Mem) => m_le M5 M13 → ((r15 = 0 → wp_X1_come_b57 g M13 a0 x1 x2 x3 u10 r15 Q) ∧ (¬ r15 = 0 → ∃ u20 : Nat, (m_gr M13 a0 1) = some u20 ∧ m_tg M13 u20 = 14 ∧ wp_J2_get g M13 u20 (m_gi M13 u10 3) (fun (r25 : Option Nat) (M23 : Mem) => m_le M13 M23 → ∃ u30 : Nat, r25 = some u30 ∧ m_tg M23 u30 = 7 ∧ ∀ M33 : Mem, M33 = (m_pi M23 u30 12 ((m_gi M23 u30 12) + 1)) → wp_X1_come_b57 g M33 a0 x1 x2 x3 u10 r15 Q)))))
theorem bk_X1_come_57 (G : Gp) (C : m_Cx) (n0 s0 : Nat) (M0 : Mem) (Q : Mem → Prop) (X : m_in G C RX1 cX1_come 6 none "come" 7 161 n0 s0) (M : Mem) (la0 : Nat) (lx1 : Int32) (lx2 : Int32) (lx3 : Int32) (la4 : Nat) (lx5 : Int32) (hw : wp_X1_come_b57 G.2 M la0 lx1 lx2 lx3 la4 lx5 Q) : pW G C 6 n0 s0 M0 (m_Q G C n0 s0 (va_Qv (m_q0 M0 Q) (m_W G) (m_A G))) M 57 [(0, vR (some la0)), (1, vI lx1), (2, vI lx2), (3, vI lx3), (4, vR (some la4)), (5, vI lx5)] [] := by
  refine pw_aload_n X dX1_come_57 rfl rfl ?_
  obtain ⟨ht1, hw⟩ := hw
  obtain ⟨u2, he3, hw⟩ := hw
  refine pw_get X (q := (RX1, TX1, tyX1, 8)) (ci := 1) (k := 3) (ref := "PatrolDesk$State") (vR (some u2)) ht1 rfl (by decide) in_X1 q167 (Or.inl rfl) (by rw [he3]; rfl) dX1_come_58 ?_
  obtain ⟨hf4, hw⟩ := hw
  refine pw_new X (ci := 8) (q := (RX8, TX8, tyX8, 13)) hf4 rfl in_X8 tyX8_ok q1196 q1202 q112 dX1_come_61 (fun u5 h06 => ?_)
  obtain ⟨M7, hM8⟩ : ∃ z : Mem, z = (m_al M u5 9 0 13) := ⟨_, rfl⟩
  replace hw := hw u5 h06 M7 hM8
  have hle9 : m_le M M7 := by rw [hM8]; exact m_le_al h06
  change pW _ _ _ _ _ _ _ (m_al M u5 9 0 13) _ _ _
  rw [← hM8]
  have ht10 : m_tg M7 la0 = 2 := m_le_tg hle9 ht1
  have ht11 : m_tg M7 u5 = 9 := by rw [hM8, m_tg_al, if_pos rfl]
  refine pw_dup X dX1_come_64 ?_
  refine pw_aload_n X dX1_come_65 rfl rfl ?_
  obtain ⟨u12, he13, hw⟩ := hw
  refine pw_get X (q := (RX1, TX1, tyX1, 8)) (ci := 1) (k := 3) (ref := "PatrolDesk$State") (vR (some u12)) ht10 rfl (by decide) in_X1 q167 (Or.inl rfl) (by rw [he13]; rfl) dX1_come_66 ?_
  obtain ⟨ht14, hw⟩ := hw
  refine pw_runi X (m_cF X (b := u12) (ci := 13) (q := (RJ2, TJ2, tyJ2, 3)) (met_J2_size G C.2.1 M7 u12 _ hw) ht14 rfl (lw_app (lw_F q1026 q994 q996 q82) (lw_meth q998)) (List.mem_of_getElem? (i := 6) rfl) (by decide +kernel : m_nMH ⟨"java/util/List", "size", "()I"⟩ 0) ⟨Nat.le_of_ble_eq_true rfl, Nat.le_of_ble_eq_true rfl⟩ rfl (Nat.le_of_ble_eq_true rfl) dX1_come_69) (fun r17 M15 hle16 hx => ?_)
  replace hw := hx hle16
  clear hx
  have ht18 : m_tg M15 la0 = 2 := m_le_tg hle16 ht10
  have ht19 : m_tg M15 u5 = 9 := m_le_tg hle16 ht11
  have ht20 : m_tg M15 u12 = 14 := m_le_tg hle16 ht14
  refine pw_iload_n X dX1_come_74 rfl rfl ?_
  refine pw_iload_n X dX1_come_75 rfl rfl ?_
  refine pw_iload_n X dX1_come_76 rfl rfl ?_
  refine pw_aload_n X dX1_come_77 rfl rfl ?_
  obtain ⟨u21, he22, hw⟩ := hw
  refine pw_get X (q := (RX1, TX1, tyX1, 8)) (ci := 1) (k := 4) (ref := "PatrolDesk$State") (vR (some u21)) ht18 rfl (by decide) in_X1 q169 (Or.inl rfl) (by rw [he22]; rfl) dX1_come_78 ?_
  refine pw_aload X dX1_come_81 rfl ?_
  obtain ⟨ht23, hw⟩ := hw
  refine pw_getN X (q := (RX5, TX5, tyX5, 5)) (ci := 5) (k := 0) (ref := "PatrolDesk$Member") (host := "PatrolDesk") (vI (m_gi M15 la4 0)) ht23 rfl (by decide) in_X5 q1052 (Or.inl rfl) rfl dX1_come_83 ?_
  obtain ⟨ht24, hw⟩ := hw
  obtain ⟨hi25, hw⟩ := hw
  refine pw_iald X ht24 hi25 dX1_come_86 ?_
  refine pw_bipush X 10 dX1_come_87 (by decide) ?_
  refine pw_aload_n X dX1_come_89 rfl rfl ?_
  refine pw_get X (q := (RX1, TX1, tyX1, 8)) (ci := 1) (k := 6) (ref := "PatrolDesk$State") (vI (m_gi M15 la0 6)) ht18 rfl (by decide) in_X1 q173 (Or.inl rfl) rfl dX1_come_90 ?_
  refine pw_imul X dX1_come_93 ?_
  refine pw_iadd X dX1_come_94 ?_
  refine pw_aload_n X dX1_come_95 rfl rfl ?_
  refine pw_get X (q := (RX1, TX1, tyX1, 8)) (ci := 1) (k := 7) (ref := "PatrolDesk$State") (vI (m_gi M15 la0 7)) ht18 rfl (by decide) in_X1 q175 (Or.inl rfl) rfl dX1_come_96 ?_
  refine pw_iload X dX1_come_99 rfl ?_
  refine pw_runv X (m_cI X (b := u5) (met_X8_init G C.2.1 M15 u5 r17 lx1 lx2 lx3 ((m_gi M15 u21 (Int32.toNatClampNeg (m_gi M15 la4 0))) + (10 * (m_gi M15 la0 6))) (m_gi M15 la0 7) lx5 _ hw) q1205 q112 q1390 q1204 rfl nh_X8_init ⟨Nat.le_of_ble_eq_true rfl, Nat.le_of_ble_eq_true rfl⟩ rfl (Nat.le_of_ble_eq_true rfl) dX1_come_101) (fun M26 hle27 hx => ?_)
  replace hw := hx hle27
  clear hx
  have ht28 : m_tg M26 la0 = 2 := m_le_tg hle27 ht18
  have ht29 : m_tg M26 u5 = 9 := m_le_tg hle27 ht19
  have ht30 : m_tg M26 u12 = 14 := m_le_tg hle27 ht20
  have ht31 : m_tg M26 la4 = 6 := m_le_tg hle27 ht23
  have ht32 : m_tg M26 u21 = 101 := m_le_tg hle27 ht24
  obtain ⟨ht33, hw⟩ := hw
  refine pw_runi X (m_cF X (b := u2) (ci := 13) (q := (RJ2, TJ2, tyJ2, 3)) (met_J2_add G C.2.1 M26 u2 (some u5) _ hw) ht33 rfl (lw_app (lw_F q1076 q888 q890 q82) (lw_meth q892)) (List.mem_of_getElem? (i := 1) rfl) (by decide +kernel : m_nMH ⟨"java/util/List", "add", "(Ljava/lang/Object;)Z"⟩ 1) ⟨Nat.le_of_ble_eq_true rfl, Nat.le_of_ble_eq_true rfl⟩ rfl (Nat.le_of_ble_eq_true rfl) dX1_come_104) (fun r36 M34 hle35 hx => ?_)
  replace hw := hx hle35
  clear hx
  have ht37 : m_tg M34 la0 = 2 := m_le_tg hle35 ht28
  have ht38 : m_tg M34 u5 = 9 := m_le_tg hle35 ht29
  have ht39 : m_tg M34 u12 = 14 := m_le_tg hle35 ht30
  have ht40 : m_tg M34 la4 = 6 := m_le_tg hle35 ht31
  have ht41 : m_tg M34 u21 = 101 := m_le_tg hle35 ht32
  have ht42 : m_tg M34 u2 = 14 := m_le_tg hle35 ht33
  refine pw_pop X dX1_come_109 ?_
  exact pw_vret X hw dX1_come_110
theorem bk_X1_come_0 (G : Gp) (C : m_Cx) (n0 s0 : Nat) (M0 : Mem) (Q : Mem → Prop) (X : m_in G C RX1 cX1_come 6 none "come" 7 161 n0 s0) (M : Mem) (a0 : Nat) (x1 : Int32) (x2 : Int32) (x3 : Int32) (hw : wp_X1_come G.2 M a0 x1 x2 x3 Q) : pW G C 6 n0 s0 M0 (m_Q G C n0 s0 (va_Qv (m_q0 M0 Q) (m_W G) (m_A G))) M 0 [(0, vR (some a0)), (1, vI x1), (2, vI x2), (3, vI x3)] [] := by
  refine pw_aload_n X dX1_come_0 rfl rfl ?_
  obtain ⟨ht1, hw⟩ := hw
  obtain ⟨u2, he3, hw⟩ := hw
  refine pw_get X (q := (RX1, TX1, tyX1, 8)) (ci := 1) (k := 0) (ref := "PatrolDesk$State") (vR (some u2)) ht1 rfl (by decide) in_X1 q161 (Or.inl rfl) (by rw [he3]; rfl) dX1_come_1 ?_
  refine pw_iload_n X dX1_come_4 rfl rfl ?_
  obtain ⟨ht4, hw⟩ := hw
  refine pw_runq X (m_cF X (b := u2) (ci := 13) (q := (RJ2, TJ2, tyJ2, 3)) (met_J2_get G C.2.1 M u2 x1 _ hw) ht4 rfl (lw_app (lw_F q1028 q1031 q1033 q82) (lw_meth q1035)) (List.mem_of_getElem? (i := 2) rfl) (by decide +kernel : m_nMH ⟨"java/util/List", "get", "(I)Ljava/lang/Object;"⟩ 1) ⟨Nat.le_of_ble_eq_true rfl, Nat.le_of_ble_eq_true rfl⟩ rfl (Nat.le_of_ble_eq_true rfl) dX1_come_5) (fun r7 M5 hle6 hx => ?_)
  replace hw := hx hle6
  clear hx
  have ht8 : m_tg M5 a0 = 2 := m_le_tg hle6 ht1
  have ht9 : m_tg M5 u2 = 14 := m_le_tg hle6 ht4
  obtain ⟨u10, he11, hw⟩ := hw
  subst he11
  obtain ⟨ht12, hw⟩ := hw
  refine pw_cast X 5 (q := (RX5, TX5, tyX5, 5)) rfl (fun _ h => by cases h; exact ht12) q1040 dX1_come_10 ?_
  refine pw_astore X [(0, vR (some a0)), (1, vI x1), (2, vI x2), (3, vI x3), (4, vR (some u10))] [1, 2, 3, 4, 0] dX1_come_13 (by decide) rfl ?_
  refine pw_aload X dX1_come_15 rfl ?_
  refine pw_aload_n X dX1_come_17 rfl rfl ?_
  refine pw_get X (q := (RX1, TX1, tyX1, 8)) (ci := 1) (k := 7) (ref := "PatrolDesk$State") (vI (m_gi M5 a0 7)) ht8 rfl (by decide) in_X1 q175 (Or.inl rfl) rfl dX1_come_18 ?_
  refine pw_runi X (m_cV X (b := u10) (ci := 5) (q := (RX5, TX5, tyX5, 5)) (met_X5_isCallback G C.2.1 M5 u10 (m_gi M5 a0 7) _ hw) ht12 rfl (lw_V q1386 q1387 q1388 q109 q1389) ⟨rfl, nh_X5_isCallback⟩ ⟨Nat.le_of_ble_eq_true rfl, Nat.le_of_ble_eq_true rfl⟩ rfl (Nat.le_of_ble_eq_true rfl) dX1_come_21) (fun r15 M13 hle14 hx => ?_)
  replace hw := hx hle14
  clear hx
  have ht16 : m_tg M13 a0 = 2 := m_le_tg hle14 ht8
  have ht17 : m_tg M13 u2 = 14 := m_le_tg hle14 ht9
  have ht18 : m_tg M13 u10 = 6 := m_le_tg hle14 ht12
  refine pw_istore X [(0, vR (some a0)), (1, vI x1), (2, vI x2), (3, vI x3), (4, vR (some u10)), (5, vI r15)] [1, 2, 3, 4, 5, 0] dX1_come_24 (by decide) rfl ?_
  refine pw_iload X dX1_come_26 rfl ?_
  refine pw_if_eq X 57 dX1_come_28 (by decide) (fun c19 => ?_) (fun c19 => ?_)
  · replace hw := hw.1 c19
    exact bk_X1_come_57 G C n0 s0 M0 Q X _ a0 x1 x2 x3 u10 r15 hw
  · replace hw := hw.2 c19
    refine pw_aload_n X dX1_come_31 rfl rfl ?_
    obtain ⟨u20, he21, hw⟩ := hw
    refine pw_get X (q := (RX1, TX1, tyX1, 8)) (ci := 1) (k := 1) (ref := "PatrolDesk$State") (vR (some u20)) ht16 rfl (by decide) in_X1 q163 (Or.inl rfl) (by rw [he21]; rfl) dX1_come_32 ?_
    refine pw_aload X dX1_come_35 rfl ?_
    refine pw_getN X (q := (RX5, TX5, tyX5, 5)) (ci := 5) (k := 3) (ref := "PatrolDesk$Member") (host := "PatrolDesk") (vI (m_gi M13 u10 3)) ht18 rfl (by decide) in_X5 q1061 (Or.inl rfl) rfl dX1_come_37 ?_
    obtain ⟨ht22, hw⟩ := hw
    refine pw_runq X (m_cF X (b := u20) (ci := 13) (q := (RJ2, TJ2, tyJ2, 3)) (met_J2_get G C.2.1 M13 u20 (m_gi M13 u10 3) _ hw) ht22 rfl (lw_app (lw_F q1028 q1031 q1033 q82) (lw_meth q1035)) (List.mem_of_getElem? (i := 2) rfl) (by decide +kernel : m_nMH ⟨"java/util/List", "get", "(I)Ljava/lang/Object;"⟩ 1) ⟨Nat.le_of_ble_eq_true rfl, Nat.le_of_ble_eq_true rfl⟩ rfl (Nat.le_of_ble_eq_true rfl) dX1_come_40) (fun r25 M23 hle24 hx => ?_)
    replace hw := hx hle24
    clear hx
    have ht26 : m_tg M23 a0 = 2 := m_le_tg hle24 ht16
    have ht27 : m_tg M23 u2 = 14 := m_le_tg hle24 ht17
    have ht28 : m_tg M23 u10 = 6 := m_le_tg hle24 ht18
    have ht29 : m_tg M23 u20 = 14 := m_le_tg hle24 ht22
    obtain ⟨u30, he31, hw⟩ := hw
    subst he31
    obtain ⟨ht32, hw⟩ := hw
    refine pw_cast X 6 (q := (RX6, TX6, tyX6, 15)) rfl (fun _ h => by cases h; exact ht32) q1077 dX1_come_45 ?_
    refine pw_dup X dX1_come_48 ?_
    refine pw_getN X (q := (RX6, TX6, tyX6, 15)) (ci := 6) (k := 12) (ref := "PatrolDesk$Patrol") (host := "PatrolDesk") (vI (m_gi M23 u30 12)) ht32 rfl (by decide) in_X6 q1121 (Or.inl rfl) rfl dX1_come_49 ?_
    refine pw_iconst X 1 dX1_come_52 (by decide) ?_
    refine pw_iadd X dX1_come_53 ?_
    obtain ⟨M33, hM34⟩ : ∃ z : Mem, z = (m_pi M23 u30 12 ((m_gi M23 u30 12) + 1)) := ⟨_, rfl⟩
    replace hw := hw M33 hM34
    refine pw_putN X (q := (RX6, TX6, tyX6, 15)) (ci := 6) (k := 12) (ref := "PatrolDesk$Patrol") (host := "PatrolDesk") M33 hM34.symm ht32 rfl (by decide) in_X6 tyX6_ok nmX6 q1121 (Or.inl rfl) rfl (m_kd_i (fun _ _ => rfl)) rfl rfl dX1_come_54 ?_
    have hle35 : m_le M23 M33 := by rw [hM34]; exact m_le_pi
    have ht36 : m_tg M33 a0 = 2 := m_le_tg hle35 ht26
    have ht37 : m_tg M33 u2 = 14 := m_le_tg hle35 ht27
    have ht38 : m_tg M33 u10 = 6 := m_le_tg hle35 ht28
    have ht39 : m_tg M33 u20 = 14 := m_le_tg hle35 ht29
    have ht40 : m_tg M33 u30 = 7 := m_le_tg hle35 ht32
    exact bk_X1_come_57 G C n0 s0 M0 Q X _ a0 x1 x2 x3 u10 r15 hw
theorem met_X1_come (G : Gp) (l : Launch) (M : Mem) (a0 : Nat) (x1 : Int32) (x2 : Int32) (x3 : Int32) (Q : Mem → Prop) (hw : wp_X1_come G.2 M a0 x1 x2 x3 Q) : m_K G l yX1_come cX1_come 6 none 7 161 [vR (some a0), vI x1, vI x2, vI x3] M (va_Qv (m_q0 M Q) (m_W G) (m_A G)) := by
  refine m_met (by decide) (Nat.le_of_ble_eq_true rfl) (fun C e X => ?_)
  exact bk_X1_come_0 G C _ _ M Q X M a0 x1 x2 x3 hw
theorem nh_X1_come : m_nMH yX1_come 3 := by decide +kernel
