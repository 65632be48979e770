/-! PURE: the reference: a minute passes -/
set_option maxRecDepth 100000
def u_Q (D W : Nat → Nat → Nat) : Prop := ∀ a t : Nat, a < 12 → t < 12 → W a t < 100000 → u_P D W a t
/-- what holds while the row is gone through -/
def u_SA (D W : Nat → Nat → Nat) (n : Nat → Nat) (σ : Cn) (f : Nat → Nat) (r : Nat) : Prop := ∀ k : Nat, k ≤ r → u_R n (u_sendAll D W n σ f k) ∧ u_U n (u_sendAll D W n σ f k) ∧ u_B n (u_sendAll D W n σ f k) ∧ (k < r → f k < n 4 ∧ u_waits (u_sendAll D W n σ f k) (f k) = true)
def u_GA (D W : Nat → Nat → Nat) (n : Nat → Nat) (σ : Cn) : Prop := ∀ p : Nat, p ≤ n 2 → u_R n (u_goAll D W n σ p).1 ∧ u_U n (u_goAll D W n σ p).1 ∧ u_B n (u_goAll D W n σ p).1
section
variable {g : Nat → Nat} {M : Mem} {m : Nat} {A : Nat → Nat} {I : Nat → Nat → Int32} {σ σ' : Cn} {n : Nat → Nat} {D W : Nat → Nat → Nat}
theorem r4_sends {Q : Mem → Prop} (hA : q_MA M m A) (hR : u_RI I A D W) (hr : u_R n σ) (hP : u_Q D W) (hS : u_SA D W n σ (u_row σ (n 4)).2 (u_row σ (n 4)).1) (hQ : ∀ J, u_Ieq A m I J → Q (c_rM M A J (u_sent D W n σ))) : wp_X4_sends g (c_rM M A I σ) m Q := by
  have l4 := hr.1.2.2.2.2.2.2.2.2.2
  have hr40 := (u_row_lt (σ := σ) (n 4)).1
  have nm := q_mA hA (k := 0) (by unfold q_isar; omega)
  simp (decide := true) only [wp_X4_sends, rw_ofPatrol, rw_ofCall, rw_ofMember, rw_ofGarage, rw_laysPatrol, rw_laysCall, rw_addsMember, rM_tg, rM_gr, rM_ln, rM_m hA, rM_a hA, rM_at hA, rM_al hA, rM_gi0, rM_pi0, rM_le, hA, c_rn, c_rs, true_and, and_true, forall_const, Option.some.injEq, exists_eq_left', forall_eq, true_implies, vi_0_3, vi_1_3, vi_2_3, vi_0_4, vi_1_4, vi_2_4, vi_3_4, vi_0_13, vi_1_13, vi_2_13, vi_3_13, vi_4_13, vi_5_13, vi_6_13, vi_7_13, vi_8_13, vi_9_13, vi_10_13, vi_11_13, vi_12_13, vi_0_14, vi_1_14, vi_2_14, vi_3_14, vi_4_14, vi_5_14, vi_6_14, vi_7_14, vi_8_14, vi_9_14, vi_10_14, vi_11_14, vi_12_14, vi_13_14, vi_0_16, vi_1_16, vi_2_16, vi_3_16, vi_4_16, vi_5_16, vi_6_16, vi_7_16, vi_8_16, vi_9_16, vi_10_16, vi_11_16, vi_12_16, vi_13_16, vi_14_16, vi_15_16, vi_0_810, vi_1_810, vi_2_810, vi_3_810, vi_4_810, vi_5_810, vi_6_810, vi_7_810, vi_8_810, vi_9_810, vi_10_810, vi_11_810, vi_12_810, vi_13_810, vi_14_810, vi_15_810, vi_0_40, vi_1_40, vi_2_40, vi_3_40, vi_4_40, vi_5_40, vi_6_40, vi_7_40, vi_8_40, vi_9_40, vi_10_40, vi_11_40, vi_12_40, vi_13_40, vi_14_40, vi_15_40, vi_0_60, vi_1_60, vi_2_60, vi_3_60, vi_4_60, vi_5_60, vi_6_60, vi_7_60, vi_8_60, vi_9_60, vi_10_60, vi_11_60, vi_12_60, vi_13_60, vi_14_60, vi_15_60, vi_0_144, vi_1_144, vi_2_144, vi_3_144, vi_4_144, vi_5_144, vi_6_144, vi_7_144, vi_8_144, vi_9_144, vi_10_144, vi_11_144, vi_12_144, vi_13_144, vi_14_144, vi_15_144, vi_0_12, vi_1_12, vi_2_12, vi_3_12, vi_4_12, vi_5_12, vi_6_12, vi_7_12, vi_8_12, vi_9_12, vi_10_12, vi_11_12, cl_0, cl_1, cl_2, cl_3, cl_4, cl_5, cl_6, cl_7, cl_8, cl_9, cl_10, cl_11, cl_12, cl_13, cl_14, cl_15, cl_16]
  refine r4_laysRow hA hr (fun J hJ hrow _ => ⟨(u_row σ (n 4)).1 + 1, ?_⟩)
  have hRJ := u_RI_eq hA hJ hR
  have H : ∀ d k : Nat, k + d = (u_row σ (n 4)).1 → wp_X4_sends_b6 g Q (d + 1) (c_rM M A J (u_sendAll D W n σ (u_row σ (n 4)).2 k)) m (nI k) := by
    intro d
    induction d with
    | zero =>
      intro k hk
      have e : k = (u_row σ (n 4)).1 := by omega
      subst e
      rw [wp_X4_sends_b6]
      simp (decide := true) only [rw_ofPatrol, rw_ofCall, rw_ofMember, rw_ofGarage, rw_laysPatrol, rw_laysCall, rw_addsMember, rM_tg, rM_gr, rM_ln, rM_m hA, rM_a hA, rM_at hA, rM_al hA, rM_gi0, rM_pi0, rM_le, hA, c_rn, c_rs, true_and, and_true, forall_const, Option.some.injEq, exists_eq_left', forall_eq, true_implies, vi_0_3, vi_1_3, vi_2_3, vi_0_4, vi_1_4, vi_2_4, vi_3_4, vi_0_13, vi_1_13, vi_2_13, vi_3_13, vi_4_13, vi_5_13, vi_6_13, vi_7_13, vi_8_13, vi_9_13, vi_10_13, vi_11_13, vi_12_13, vi_0_14, vi_1_14, vi_2_14, vi_3_14, vi_4_14, vi_5_14, vi_6_14, vi_7_14, vi_8_14, vi_9_14, vi_10_14, vi_11_14, vi_12_14, vi_13_14, vi_0_16, vi_1_16, vi_2_16, vi_3_16, vi_4_16, vi_5_16, vi_6_16, vi_7_16, vi_8_16, vi_9_16, vi_10_16, vi_11_16, vi_12_16, vi_13_16, vi_14_16, vi_15_16, vi_0_810, vi_1_810, vi_2_810, vi_3_810, vi_4_810, vi_5_810, vi_6_810, vi_7_810, vi_8_810, vi_9_810, vi_10_810, vi_11_810, vi_12_810, vi_13_810, vi_14_810, vi_15_810, vi_0_40, vi_1_40, vi_2_40, vi_3_40, vi_4_40, vi_5_40, vi_6_40, vi_7_40, vi_8_40, vi_9_40, vi_10_40, vi_11_40, vi_12_40, vi_13_40, vi_14_40, vi_15_40, vi_0_60, vi_1_60, vi_2_60, vi_3_60, vi_4_60, vi_5_60, vi_6_60, vi_7_60, vi_8_60, vi_9_60, vi_10_60, vi_11_60, vi_12_60, vi_13_60, vi_14_60, vi_15_60, vi_0_144, vi_1_144, vi_2_144, vi_3_144, vi_4_144, vi_5_144, vi_6_144, vi_7_144, vi_8_144, vi_9_144, vi_10_144, vi_11_144, vi_12_144, vi_13_144, vi_14_144, vi_15_144, vi_0_12, vi_1_12, vi_2_12, vi_3_12, vi_4_12, vi_5_12, vi_6_12, vi_7_12, vi_8_12, vi_9_12, vi_10_12, vi_11_12, cl_0, cl_1, cl_2, cl_3, cl_4, cl_5, cl_6, cl_7, cl_8, cl_9, cl_10, cl_11, cl_12, cl_13, cl_14, cl_15, cl_16, rM_gi_ne nm, hrow.1, pn_leT (show (u_row σ (n 4)).1 < 2147483648 by omega) (show (u_row σ (n 4)).1 < 2147483648 by omega) (Nat.le_refl _), not_true_eq_false, false_implies]
      exact hQ J hJ
    | succ d ih =>
      intro k hk
      obtain ⟨s1, s2, s3, s4⟩ := hS k (by omega)
      obtain ⟨t1, t2⟩ := s4 (by omega)
      exact r4_send1 hA hRJ s1 s2 t1 t2 hP hrow.1 (by omega) (by omega) (hrow.2 k (by omega)) (ih (k + 1) (by omega))
  exact H (u_row σ (n 4)).1 0 (by omega)
theorem r4_passes {Q : Mem → Prop} (hA : q_MA M m A) (hR : u_RI I A D W) (hP : u_Q D W) (hG : u_GA D W n σ) (hS : u_SA D W n (u_goAll D W n σ (n 2)).1 (u_row (u_goAll D W n σ (n 2)).1 (n 4)).2 (u_row (u_goAll D W n σ (n 2)).1 (n 4)).1) (hQ : ∀ J, u_Ieq A m I J → Q (c_rM M A J (u_pass D W n σ))) : wp_X4_passes g (c_rM M A I σ) m Q := by
  have H : ∀ d p : Nat, p + d = n 2 → wp_X4_passes_b2 g Q (d + 1) (c_rM M A I (u_goAll D W n σ p).1) m (nI p) := by
    intro d
    induction d with
    | zero =>
      intro p hp
      have e : p = n 2 := by omega
      subst e
      obtain ⟨hr, hu, hb⟩ := hG (n 2) (Nat.le_refl _)
      have l2 := hr.1.2.2.2.2.2.2.2.1
      rw [wp_X4_passes_b2]
      simp (decide := true) only [rw_ofPatrol, rw_ofCall, rw_ofMember, rw_ofGarage, rw_laysPatrol, rw_laysCall, rw_addsMember, rM_tg, rM_gr, rM_ln, rM_m hA, rM_a hA, rM_at hA, rM_al hA, rM_gi0, rM_pi0, rM_le, hA, c_rn, c_rs, true_and, and_true, forall_const, Option.some.injEq, exists_eq_left', forall_eq, true_implies, vi_0_3, vi_1_3, vi_2_3, vi_0_4, vi_1_4, vi_2_4, vi_3_4, vi_0_13, vi_1_13, vi_2_13, vi_3_13, vi_4_13, vi_5_13, vi_6_13, vi_7_13, vi_8_13, vi_9_13, vi_10_13, vi_11_13, vi_12_13, vi_0_14, vi_1_14, vi_2_14, vi_3_14, vi_4_14, vi_5_14, vi_6_14, vi_7_14, vi_8_14, vi_9_14, vi_10_14, vi_11_14, vi_12_14, vi_13_14, vi_0_16, vi_1_16, vi_2_16, vi_3_16, vi_4_16, vi_5_16, vi_6_16, vi_7_16, vi_8_16, vi_9_16, vi_10_16, vi_11_16, vi_12_16, vi_13_16, vi_14_16, vi_15_16, vi_0_810, vi_1_810, vi_2_810, vi_3_810, vi_4_810, vi_5_810, vi_6_810, vi_7_810, vi_8_810, vi_9_810, vi_10_810, vi_11_810, vi_12_810, vi_13_810, vi_14_810, vi_15_810, vi_0_40, vi_1_40, vi_2_40, vi_3_40, vi_4_40, vi_5_40, vi_6_40, vi_7_40, vi_8_40, vi_9_40, vi_10_40, vi_11_40, vi_12_40, vi_13_40, vi_14_40, vi_15_40, vi_0_60, vi_1_60, vi_2_60, vi_3_60, vi_4_60, vi_5_60, vi_6_60, vi_7_60, vi_8_60, vi_9_60, vi_10_60, vi_11_60, vi_12_60, vi_13_60, vi_14_60, vi_15_60, vi_0_144, vi_1_144, vi_2_144, vi_3_144, vi_4_144, vi_5_144, vi_6_144, vi_7_144, vi_8_144, vi_9_144, vi_10_144, vi_11_144, vi_12_144, vi_13_144, vi_14_144, vi_15_144, vi_0_12, vi_1_12, vi_2_12, vi_3_12, vi_4_12, vi_5_12, vi_6_12, vi_7_12, vi_8_12, vi_9_12, vi_10_12, vi_11_12, cl_0, cl_1, cl_2, cl_3, cl_4, cl_5, cl_6, cl_7, cl_8, cl_9, cl_10, cl_11, cl_12, cl_13, cl_14, cl_15, cl_16, hr.1.2.2.1, pn_leT (show n 2 < 2147483648 by omega) (show n 2 < 2147483648 by omega) (Nat.le_refl _), not_true_eq_false, false_implies]
      refine r4_sends hA hR hr hP hS (fun J hJ => ?_)
      simp (decide := true) only [rw_ofPatrol, rw_ofCall, rw_ofMember, rw_ofGarage, rw_laysPatrol, rw_laysCall, rw_addsMember, rM_tg, rM_gr, rM_ln, rM_m hA, rM_a hA, rM_at hA, rM_al hA, rM_gi0, rM_pi0, rM_le, hA, c_rn, c_rs, true_and, and_true, forall_const, Option.some.injEq, exists_eq_left', forall_eq, true_implies, vi_0_3, vi_1_3, vi_2_3, vi_0_4, vi_1_4, vi_2_4, vi_3_4, vi_0_13, vi_1_13, vi_2_13, vi_3_13, vi_4_13, vi_5_13, vi_6_13, vi_7_13, vi_8_13, vi_9_13, vi_10_13, vi_11_13, vi_12_13, vi_0_14, vi_1_14, vi_2_14, vi_3_14, vi_4_14, vi_5_14, vi_6_14, vi_7_14, vi_8_14, vi_9_14, vi_10_14, vi_11_14, vi_12_14, vi_13_14, vi_0_16, vi_1_16, vi_2_16, vi_3_16, vi_4_16, vi_5_16, vi_6_16, vi_7_16, vi_8_16, vi_9_16, vi_10_16, vi_11_16, vi_12_16, vi_13_16, vi_14_16, vi_15_16, vi_0_810, vi_1_810, vi_2_810, vi_3_810, vi_4_810, vi_5_810, vi_6_810, vi_7_810, vi_8_810, vi_9_810, vi_10_810, vi_11_810, vi_12_810, vi_13_810, vi_14_810, vi_15_810, vi_0_40, vi_1_40, vi_2_40, vi_3_40, vi_4_40, vi_5_40, vi_6_40, vi_7_40, vi_8_40, vi_9_40, vi_10_40, vi_11_40, vi_12_40, vi_13_40, vi_14_40, vi_15_40, vi_0_60, vi_1_60, vi_2_60, vi_3_60, vi_4_60, vi_5_60, vi_6_60, vi_7_60, vi_8_60, vi_9_60, vi_10_60, vi_11_60, vi_12_60, vi_13_60, vi_14_60, vi_15_60, vi_0_144, vi_1_144, vi_2_144, vi_3_144, vi_4_144, vi_5_144, vi_6_144, vi_7_144, vi_8_144, vi_9_144, vi_10_144, vi_11_144, vi_12_144, vi_13_144, vi_14_144, vi_15_144, vi_0_12, vi_1_12, vi_2_12, vi_3_12, vi_4_12, vi_5_12, vi_6_12, vi_7_12, vi_8_12, vi_9_12, vi_10_12, vi_11_12, cl_0, cl_1, cl_2, cl_3, cl_4, cl_5, cl_6, cl_7, cl_8, cl_9, cl_10, cl_11, cl_12, cl_13, cl_14, cl_15, cl_16]
      unfold u_pass at hQ
      exact hQ J hJ
    | succ d ih =>
      intro p hp
      have ih := ih (p + 1) (by omega)
      obtain ⟨hr, hu, hb⟩ := hG p (by omega)
      have l1 := hr.1.2.2.2.2.2.2.1
      have l2 := hr.1.2.2.2.2.2.2.2.1
      have l3 := hr.1.2.2.2.2.2.2.2.2.1
      have l4 := hr.1.2.2.2.2.2.2.2.2.2
      have hp6 : p < 6 := by omega
      have h7 := hr.1.2.2.1
      obtain ⟨hb1, hb2⟩ := hb.1 p (by omega)
      have hgs : (u_goAll D W n σ (p + 1)).1 = (u_goOn D W n (u_goAll D W n σ p).1 p).1 := rfl
      rw [hgs] at ih
      revert ih hr hu hb hb1 hb2 h7
      generalize (u_goAll D W n σ p).1 = τ
      intro ih hr hu hb h7 hb1 hb2
      rw [wp_X4_passes_b2]
      simp (decide := true) only [rw_ofPatrol, rw_ofCall, rw_ofMember, rw_ofGarage, rw_laysPatrol, rw_laysCall, rw_addsMember, rM_tg, rM_gr, rM_ln, rM_m hA, rM_a hA, rM_at hA, rM_al hA, rM_gi0, rM_pi0, rM_le, hA, c_rn, c_rs, true_and, and_true, forall_const, Option.some.injEq, exists_eq_left', forall_eq, true_implies, vi_0_3, vi_1_3, vi_2_3, vi_0_4, vi_1_4, vi_2_4, vi_3_4, vi_0_13, vi_1_13, vi_2_13, vi_3_13, vi_4_13, vi_5_13, vi_6_13, vi_7_13, vi_8_13, vi_9_13, vi_10_13, vi_11_13, vi_12_13, vi_0_14, vi_1_14, vi_2_14, vi_3_14, vi_4_14, vi_5_14, vi_6_14, vi_7_14, vi_8_14, vi_9_14, vi_10_14, vi_11_14, vi_12_14, vi_13_14, vi_0_16, vi_1_16, vi_2_16, vi_3_16, vi_4_16, vi_5_16, vi_6_16, vi_7_16, vi_8_16, vi_9_16, vi_10_16, vi_11_16, vi_12_16, vi_13_16, vi_14_16, vi_15_16, vi_0_810, vi_1_810, vi_2_810, vi_3_810, vi_4_810, vi_5_810, vi_6_810, vi_7_810, vi_8_810, vi_9_810, vi_10_810, vi_11_810, vi_12_810, vi_13_810, vi_14_810, vi_15_810, vi_0_40, vi_1_40, vi_2_40, vi_3_40, vi_4_40, vi_5_40, vi_6_40, vi_7_40, vi_8_40, vi_9_40, vi_10_40, vi_11_40, vi_12_40, vi_13_40, vi_14_40, vi_15_40, vi_0_60, vi_1_60, vi_2_60, vi_3_60, vi_4_60, vi_5_60, vi_6_60, vi_7_60, vi_8_60, vi_9_60, vi_10_60, vi_11_60, vi_12_60, vi_13_60, vi_14_60, vi_15_60, vi_0_144, vi_1_144, vi_2_144, vi_3_144, vi_4_144, vi_5_144, vi_6_144, vi_7_144, vi_8_144, vi_9_144, vi_10_144, vi_11_144, vi_12_144, vi_13_144, vi_14_144, vi_15_144, vi_0_12, vi_1_12, vi_2_12, vi_3_12, vi_4_12, vi_5_12, vi_6_12, vi_7_12, vi_8_12, vi_9_12, vi_10_12, vi_11_12, cl_0, cl_1, cl_2, cl_3, cl_4, cl_5, cl_6, cl_7, cl_8, cl_9, cl_10, cl_11, cl_12, cl_13, cl_14, cl_15, cl_16, h7, hp6, wp_X4_in, pn_leF (show n 2 < 2147483648 by omega) (show p < 2147483648 by omega) (show p < n 2 by omega), not_false_eq_true, false_implies, pn_succ]
      have hno : ¬ u_busy τ p → wp_X4_passes_b2 g Q (d + 1) (c_rM M A I τ) m (nI (p + 1)) := fun hn => by
        unfold u_goOn at ih
        rw [if_neg (show ¬ (τ 2 p 3 = 1 ∨ τ 2 p 3 = 2 ∨ τ 2 p 3 = 3) from hn)] at ih
        exact ih
      refine ⟨fun z => hno ?_, fun z => ⟨fun z2 => hno ?_, fun z2 => ?_⟩⟩
      · rintro (y | y | y) <;> (rw [y] at z; revert z; decide)
      · rintro (y | y | y) <;> (rw [y] at z2; revert z2; decide)
      · have hbz : u_busy τ p := by
          rcases hb1 with y | y | y
          · rw [y] at z
            exact absurd (by decide) z
          · rw [y] at z2
            exact absurd (by decide) z2
          · exact y
        obtain ⟨c, hc, k1, k2, ⟨l, hl1, hl2, el⟩, k4, k5, k6⟩ := hb2 hbz
        have hc40 : c < 40 := by omega
        obtain ⟨_, _, ⟨k, hk, ek⟩, a, ha, ea⟩ := hr.2.2.2.2 c hc
        obtain ⟨_, _, ⟨h, hh, eh⟩, _⟩ := hr.2.2.1 p (by omega)
        unfold u_goOn at ih
        rw [if_pos (show (τ 2 p 3 = 1 ∨ τ 2 p 3 = 2 ∨ τ 2 p 3 = 3) from hbz)] at ih
        dsimp only at ih
        rw [u_w_of k1 (by omega)] at ih
        have hτr : u_R n (c_up (c_up τ 2 p 6 (τ 2 p 6 - 1)) 2 p 11 (τ 2 p 11 + 1)) := u_R_up (u_R_up hr rfl) rfl
        have hτu : u_U n (c_up (c_up τ 2 p 6 (τ 2 p 6 - 1)) 2 p 11 (τ 2 p 11 + 1)) := u_U_up (u_U_up hu rfl) rfl
        have g5 : (c_up (c_up τ 2 p 6 (τ 2 p 6 - 1)) 2 p 11 (τ 2 p 11 + 1)) 2 p 5 = nI c := by simp (decide := true) only [c_rn]; exact k1
        refine ⟨fun y => ?_, fun y => ⟨fun y2 => ⟨fun y3 => ?_, fun y3 => ?_⟩, fun y2 => ?_⟩⟩
        · rw [if_neg y] at ih
          exact ih
        · have y4 : τ 2 p 3 = 3 := by
            rcases hbz with x | x | x
            · exact absurd x y2
            · exact absurd x y3
            · exact x
          obtain ⟨w1, w2, ⟨at', hat, eat⟩, q, hq, eq1, eq2⟩ := k6 y4
          rw [if_pos y, if_neg y2, if_neg y3, u_w_of eq1 (by omega)] at ih
          exact r4_towed (q := q) hA hp6 hc40 (by omega) g5 (by simp (decide := true) only [c_rn]; exact eq2) (by simp (decide := true) only [c_rn]; exact w2) (fun _ => ih)
        · rw [if_pos y, if_neg y2, if_pos y3, u_w_of ek (by omega)] at ih
          exact r4_repaired (k := k) hA hp6 hc40 (by omega) g5 (by simp (decide := true) only [c_rn]; exact ek) (fun _ => ih)
        · rw [if_pos y, if_pos y2] at ih
          exact r4_gets (a := a) (h := h) (k := k) hA hR hτr hτu hp6 hc40 (by omega) g5 (by simp (decide := true) only [c_rn]; exact ea) ha (by simp (decide := true) only [c_rn]; exact eh) hh (by simp (decide := true) only [c_rn]; exact ek) (fun t ht hwt => hP a t ha ht hwt) (fun _ => ih)
  exact ⟨n 2 + 1, H (n 2) 0 (by omega)⟩
end
