/-! PURE: acts: patrols, garages are added -/
set_option maxRecDepth 100000
section
variable {g : Nat → Nat} {M X1 : Mem} {o : Nat → Nat × Nat × Nat} {x : Nat} {RR : Nat → Nat} {DD : Nat → Nat → Nat → Nat} {U : Nat → Prop} {y0 : Yt} {yh : Nat → Yt} {yk : Yt} {d : Dt} {σ : Cn} {s u : Nat} {m : Nat} {A : Nat → Nat} {I : Nat → Nat → Int32}
theorem x0_patrol {a sk tw : Int32} {Q : Int32 → Mem → Prop} (hobj : ∀ (M : Mem) (y : Nat), q_obj (m_tg M y) → m_asg M y "java/lang/Object") (hX : d_CX g M o x d) (hrm : d_rm M) (htw : tw = 0 ∨ tw = 1) (hQ : ∀ M' o', d_aft g M o x M' o' (s_patrol d a sk tw).2 → Q (s_patrol d a sk tw).1 M') : wp_X0_addPatrol g M x a sk tw Q := by
  obtain ⟨RR, DD, U, y0, yh, yk, hC⟩ := id hX
  have hM := hC.2.2.1.2.1
  have hS := hC.2.2.1.1
  have hI := hC.2.2.1.2.2.2.2.1
  have hR := hI.1.1
  obtain ⟨_, x2, x3, _⟩ := hC.2.2.2.2.2.2
  unfold s_patrol at hQ
  rw [← hM]
  by_cases h1 : a < 0 ∨ 11 < a
  · rw [if_pos h1] at hQ
    simp (decide := true) only [wp_X0_addPatrol, wp_X0_isArea, w_in0, h1, x2, x3, if_true, cM_tg, cM_gr, cM_ln, cM_le, c_rn, c_rs, ct_0 hS, cg_0_6 hS, cp_0_6 hS, cg_0_7 hS, cp_0_7 hS, ct_8 hS, cg_8_0 hS, cp_8_0 hS, cg_8_1 hS, cp_8_1 hS, cg_8_2 hS, cp_8_2 hS, ct_1 hS, cg_1_0 hS, cp_1_0 hS, cg_1_1 hS, cp_1_1 hS, cg_1_2 hS, cp_1_2 hS, cg_1_3 hS, cp_1_3 hS, cg_1_4 hS, cp_1_4 hS, ct_2 hS, cg_2_0 hS, cp_2_0 hS, cg_2_1 hS, cp_2_1 hS, cg_2_2 hS, cp_2_2 hS, cg_2_3 hS, cp_2_3 hS, cg_2_4 hS, cp_2_4 hS, cg_2_5 hS, cp_2_5 hS, cg_2_6 hS, cp_2_6 hS, cg_2_7 hS, cp_2_7 hS, cg_2_8 hS, cp_2_8 hS, cg_2_9 hS, cp_2_9 hS, cg_2_10 hS, cp_2_10 hS, cg_2_11 hS, cp_2_11 hS, cg_2_12 hS, cp_2_12 hS, cg_2_13 hS, cp_2_13 hS, cg_2_14 hS, cp_2_14 hS, ct_3 hS, cg_3_0 hS, cp_3_0 hS, cg_3_1 hS, cp_3_1 hS, cg_3_2 hS, cp_3_2 hS, cg_3_3 hS, cp_3_3 hS, cg_3_4 hS, cp_3_4 hS, ct_4 hS, cg_4_0 hS, cp_4_0 hS, cg_4_1 hS, cp_4_1 hS, cg_4_2 hS, cp_4_2 hS, cg_4_3 hS, cp_4_3 hS, cg_4_4 hS, cp_4_4 hS, cg_4_5 hS, cp_4_5 hS, cg_4_6 hS, cp_4_6 hS, cg_4_7 hS, cp_4_7 hS, cg_4_8 hS, cp_4_8 hS, cg_4_9 hS, cp_4_9 hS, cg_4_10 hS, cp_4_10 hS, cg_4_11 hS, cp_4_11 hS, cg_4_12 hS, cp_4_12 hS, cl_t1 hS, cl_r1 hS, cl_g1 hS, cl_s1 hS, cl_t2 hS, cl_r2 hS, cl_g2 hS, cl_s2 hS, cl_t3 hS, cl_r3 hS, cl_g3 hS, cl_s3 hS, cl_t4 hS, cl_r4 hS, cl_g4 hS, cl_s4 hS, cl_p hS, cl_R hS, cl_8n hS, true_and, and_true, forall_const, Option.some.injEq, exists_eq_left', forall_eq, true_implies, cl_0, cl_1, cl_2, cl_3, cl_4, cl_5, cl_6, cl_7, cl_8, cl_9, cl_10, cl_11, cl_12, cl_13, cl_14, cl_15, cl_16, vi_0_3, vi_1_3, vi_2_3, not_true_eq_false, false_implies]
    rw [hM]
    exact hQ M o (d_no hX)
  by_cases h3 : sk < 1 ∨ 9 < sk
  · rw [if_neg h1, if_pos h3] at hQ
    simp (decide := true) only [wp_X0_addPatrol, wp_X0_isArea, w_in0, h1, h3, x2, x3, if_true, if_false, cM_tg, cM_gr, cM_ln, cM_le, c_rn, c_rs, ct_0 hS, cg_0_6 hS, cp_0_6 hS, cg_0_7 hS, cp_0_7 hS, ct_8 hS, cg_8_0 hS, cp_8_0 hS, cg_8_1 hS, cp_8_1 hS, cg_8_2 hS, cp_8_2 hS, ct_1 hS, cg_1_0 hS, cp_1_0 hS, cg_1_1 hS, cp_1_1 hS, cg_1_2 hS, cp_1_2 hS, cg_1_3 hS, cp_1_3 hS, cg_1_4 hS, cp_1_4 hS, ct_2 hS, cg_2_0 hS, cp_2_0 hS, cg_2_1 hS, cp_2_1 hS, cg_2_2 hS, cp_2_2 hS, cg_2_3 hS, cp_2_3 hS, cg_2_4 hS, cp_2_4 hS, cg_2_5 hS, cp_2_5 hS, cg_2_6 hS, cp_2_6 hS, cg_2_7 hS, cp_2_7 hS, cg_2_8 hS, cp_2_8 hS, cg_2_9 hS, cp_2_9 hS, cg_2_10 hS, cp_2_10 hS, cg_2_11 hS, cp_2_11 hS, cg_2_12 hS, cp_2_12 hS, cg_2_13 hS, cp_2_13 hS, cg_2_14 hS, cp_2_14 hS, ct_3 hS, cg_3_0 hS, cp_3_0 hS, cg_3_1 hS, cp_3_1 hS, cg_3_2 hS, cp_3_2 hS, cg_3_3 hS, cp_3_3 hS, cg_3_4 hS, cp_3_4 hS, ct_4 hS, cg_4_0 hS, cp_4_0 hS, cg_4_1 hS, cp_4_1 hS, cg_4_2 hS, cp_4_2 hS, cg_4_3 hS, cp_4_3 hS, cg_4_4 hS, cp_4_4 hS, cg_4_5 hS, cp_4_5 hS, cg_4_6 hS, cp_4_6 hS, cg_4_7 hS, cp_4_7 hS, cg_4_8 hS, cp_4_8 hS, cg_4_9 hS, cp_4_9 hS, cg_4_10 hS, cp_4_10 hS, cg_4_11 hS, cp_4_11 hS, cg_4_12 hS, cp_4_12 hS, cl_t1 hS, cl_r1 hS, cl_g1 hS, cl_s1 hS, cl_t2 hS, cl_r2 hS, cl_g2 hS, cl_s2 hS, cl_t3 hS, cl_r3 hS, cl_g3 hS, cl_s3 hS, cl_t4 hS, cl_r4 hS, cl_g4 hS, cl_s4 hS, cl_p hS, cl_R hS, cl_8n hS, true_and, and_true, forall_const, Option.some.injEq, exists_eq_left', forall_eq, true_implies, cl_0, cl_1, cl_2, cl_3, cl_4, cl_5, cl_6, cl_7, cl_8, cl_9, cl_10, cl_11, cl_12, cl_13, cl_14, cl_15, cl_16, vi_0_3, vi_1_3, vi_2_3, not_true_eq_false, not_false_eq_true, false_implies]
    rw [hM]
    exact hQ M o (d_no hX)
  rw [if_neg h1, if_neg h3] at hQ
  simp (decide := true) only [wp_X0_addPatrol, wp_X0_isArea, w_in0, h1, h3, x2, x3, if_false, cM_tg, cM_gr, cM_ln, cM_le, c_rn, c_rs, ct_0 hS, cg_0_6 hS, cp_0_6 hS, cg_0_7 hS, cp_0_7 hS, ct_8 hS, cg_8_0 hS, cp_8_0 hS, cg_8_1 hS, cp_8_1 hS, cg_8_2 hS, cp_8_2 hS, ct_1 hS, cg_1_0 hS, cp_1_0 hS, cg_1_1 hS, cp_1_1 hS, cg_1_2 hS, cp_1_2 hS, cg_1_3 hS, cp_1_3 hS, cg_1_4 hS, cp_1_4 hS, ct_2 hS, cg_2_0 hS, cp_2_0 hS, cg_2_1 hS, cp_2_1 hS, cg_2_2 hS, cp_2_2 hS, cg_2_3 hS, cp_2_3 hS, cg_2_4 hS, cp_2_4 hS, cg_2_5 hS, cp_2_5 hS, cg_2_6 hS, cp_2_6 hS, cg_2_7 hS, cp_2_7 hS, cg_2_8 hS, cp_2_8 hS, cg_2_9 hS, cp_2_9 hS, cg_2_10 hS, cp_2_10 hS, cg_2_11 hS, cp_2_11 hS, cg_2_12 hS, cp_2_12 hS, cg_2_13 hS, cp_2_13 hS, cg_2_14 hS, cp_2_14 hS, ct_3 hS, cg_3_0 hS, cp_3_0 hS, cg_3_1 hS, cp_3_1 hS, cg_3_2 hS, cp_3_2 hS, cg_3_3 hS, cp_3_3 hS, cg_3_4 hS, cp_3_4 hS, ct_4 hS, cg_4_0 hS, cp_4_0 hS, cg_4_1 hS, cp_4_1 hS, cg_4_2 hS, cp_4_2 hS, cg_4_3 hS, cp_4_3 hS, cg_4_4 hS, cp_4_4 hS, cg_4_5 hS, cp_4_5 hS, cg_4_6 hS, cp_4_6 hS, cg_4_7 hS, cp_4_7 hS, cg_4_8 hS, cp_4_8 hS, cg_4_9 hS, cp_4_9 hS, cg_4_10 hS, cp_4_10 hS, cg_4_11 hS, cp_4_11 hS, cg_4_12 hS, cp_4_12 hS, cl_t1 hS, cl_r1 hS, cl_g1 hS, cl_s1 hS, cl_t2 hS, cl_r2 hS, cl_g2 hS, cl_s2 hS, cl_t3 hS, cl_r3 hS, cl_g3 hS, cl_s3 hS, cl_t4 hS, cl_r4 hS, cl_g4 hS, cl_s4 hS, cl_p hS, cl_R hS, cl_8n hS, true_and, and_true, forall_const, Option.some.injEq, exists_eq_left', forall_eq, true_implies, cl_0, cl_1, cl_2, cl_3, cl_4, cl_5, cl_6, cl_7, cl_8, cl_9, cl_10, cl_11, cl_12, cl_13, cl_14, cl_15, cl_16, vi_0_3, vi_1_3, vi_2_3, not_false_eq_true, true_implies, false_implies]
  have d1 := hR.1.2.2.2.2.2.2.2.1
  refine ⟨fun h2 => ?_, fun h2 => ?_⟩
  · have hn : d.1.2 2 ≠ 6 := fun z => h2 (by rw [z]; rfl)
    rw [if_neg hn] at hQ
    obtain ⟨k, hk, ek⟩ := u_ix (N := 12) h1 (by decide)
    rw [hM]
    refine d_record hobj hC (d_rm8 hrm) (fun M1 o1 y1 p1 p2 p3 p4 _ => ?_)
    have r1 := hrm.1
    have r2 := hrm.2
    have hS1 : c_St g M1 o1 y0.1 y0.2.1 d.1.2 (RR y0.2.2) := p1.2.2.1.1
    obtain ⟨_, z2, z3, _⟩ := p1.2.2.2.2.2.2
    refine ⟨y0.2.1 0 0, z3, ct_0 hS1, y0.2.1 6 2, cl_r2 hS1, ⟨by omega, by omega⟩, fun u hu => ?_⟩
    generalize e0' : m_al M1 u 7 0 15 = M32
    have e0 := e0'.symm
    refine ⟨by rw [e0, m_tg_al, if_pos rfl], fun N1 f1 N2 f2 N3 f3 N4 f4 N5 f5 N6 f6 N7 f7 => ⟨htw, fun N8 f8 X1 f9 _ => ?_⟩⟩
    have cell : ∀ b : Nat, b ≠ u → X1.1 b = M1.1 b := fun b hb => by rw [f9, u_pi_ne hb, f8, u_pi_ne hb, f7, u_pi_ne hb, f6, u_pi_ne hb, f5, u_pi_ne hb, f4, u_pi_ne hb, f3, u_pi_ne hb, f2, u_pi_ne hb, f1, u_pi_ne hb, e0, u_al_ne hb]
    have nL : y0.2.1 6 2 ≠ u := fun z => by have := cl_t2 hS1; rw [z, hu] at this; cases this
    refine ⟨(c_cell_tg (cell _ nL)).trans (cl_t2 hS1), ?_⟩
    have hn5 : u_at d.1.2 2 (d.1.2 2 + 1) 5 = d.1.2 5 := u_at_ne (by decide)
    have zz := hI.1.2.2.2.2.2.2.2.2.2.2.1 (d.1.2 2) (Nat.le_refl _)
    refine d_add (d := d_rec d) (σ := u_pat d.1.2 d.1.1 a sk tw) (v := fun j => if j = 0 then nI (d.1.2 2) else if j = 1 then a else if j = 2 then sk else if j = 3 then tw else if j = 4 then a else if j = 6 then -5 else if j = 7 then -5 else if j = 8 then -5 else if j = 9 then -5 else 0) hobj p1 (by decide) (by decide) (by show d.1.2 2 < 40; omega) hu cell ?_ ?_ ⟨?_, ?_⟩ ⟨by omega, by omega⟩ (fun t' k' j hd z hz => ?_) (fun j z hz => ?_) ⟨?_, ?_, ?_⟩ (u_Dk_cg (fun _ _ => u_pat5) _) (fun X2 o2 q1 q2 q3 q4 _ _ => ?_)
    · rw [f9, m_tg_pi, f8, m_tg_pi, f7, m_tg_pi, f6, m_tg_pi, f5, m_tg_pi, f4, m_tg_pi, f3, m_tg_pi, f2, m_tg_pi, f1, m_tg_pi, e0, m_tg_al, if_pos rfl]
      rfl
    · apply u_lt15 <;> simp (decide := true) only [f9, f8, f7, f6, f5, f4, f3, f2, f1, e0, m_gi_pi, m_gi_al, if_true, if_false, and_true, and_false, false_and, true_and, and_self]
    · rw [f9, f8, f7, f6, f5, f4, f3, f2, f1, e0]; exact Nat.le_refl _
    · rw [f9, f8, f7, f6, f5, f4, f3, f2, f1, e0]
      exact Nat.le_refl _
    · have hne : t' = 2 → k' ≠ d.1.2 2 := fun e w => by
        rcases hd with h | h | ⟨v1, v2, v3⟩ | h
        · omega
        · omega
        · have v3' : k' < d.1.2 t' := v3
          rw [e] at v3'
          omega
        · omega
      show u_pat d.1.2 d.1.1 a sk tw z.1 k' z.2 = d.1.1 z.1 k' z.2
      unfold c_mp at hz
      split at hz <;> first | (cases hz; done) | (cases hz; unfold u_pat; simp (decide := true) only [c_rn, c_rx]; done) | (cases hz; have hk1 := hne rfl; unfold u_pat; simp (decide := true) only [c_rk hk1, c_rx])
    · show _ = u_pat d.1.2 d.1.1 a sk tw z.1 (d.1.2 2) z.2
      unfold c_mp at hz
      split at hz <;> first | omega | (cases hz; unfold u_pat; simp (decide := true) only [c_rn, c_rs, if_true, if_false, zz.1, zz.2.1, zz.2.2.1, zz.2.2.2.1, zz.2.2.2.2]; done) | cases hz
    · show u_I _ (u_pat d.1.2 d.1.1 a sk tw)
      rw [ek]
      exact u_I_pat (n := d.1.2) (σ := d.1.1) hI.1 (by omega) hk htw
    · show u_Rds (u_pat d.1.2 d.1.1 a sk tw) (u_at d.1.2 2 (d.1.2 2 + 1) 5)
      rw [hn5]
      exact u_Rds_cg (fun _ _ => u_pat5) hI.2.1
    · intro k' f hk'
      show u_pat d.1.2 d.1.1 a sk tw 4 k' f = 0
      rw [show u_pat d.1.2 d.1.1 a sk tw 4 k' f = d.1.1 4 k' f by unfold u_pat; simp (decide := true) only [c_rx]]
      exact hI.2.2 k' f hk'
    · exact hQ X2 o2 ⟨⟨RR, DD, U, _, _, _, q1⟩, c_same_tr p2 q2, by omega, by omega⟩
  · have hn : d.1.2 2 = 6 := (pn_inj (b := 6) (by omega) (by omega)).mp h2
    rw [if_pos hn] at hQ
    rw [hM]
    exact hQ M o (d_no hX)
theorem r4_patrol {a sk tw : Int32} {Q : Int32 → Mem → Prop} (hA : q_MA M m A) (hR : d_Rf m A I d) (hS : u_R d.1.2 d.1.1) (htw : tw = 0 ∨ tw = 1) (hQ : ∀ J, d_Rf m A J (s_patrol d a sk tw).2 → d_fr m A I J → Q (s_patrol d a sk tw).1 (c_rM M A J (s_patrol d a sk tw).2.1.1)) : wp_X4_addPatrol g (c_rM M A I d.1.1) m a sk tw Q := by
  unfold s_patrol at hQ
  have e7 := hS.1.2.2.1
  have d1 := hS.1.2.2.2.2.2.2.2.1
  by_cases h1 : a < 0 ∨ 11 < a
  · rw [if_pos h1] at hQ
    simp (decide := true) only [wp_X4_addPatrol, wp_X4_isArea, w_in4, h1, if_true, rw_ofPatrol, rw_ofCall, rw_ofMember, rw_ofGarage, rw_laysPatrol, rw_laysCall, rw_addsMember, rM_tg, rM_gr, rM_ln, rM_m hA, rM_a hA, rM_at hA, rM_al hA, rM_gi0, rM_pi0, rM_le, hA, c_rn, c_rs, true_and, and_true, forall_const, Option.some.injEq, exists_eq_left', forall_eq, true_implies, vi_0_3, vi_1_3, vi_2_3, vi_0_4, vi_1_4, vi_2_4, vi_3_4, vi_0_13, vi_1_13, vi_2_13, vi_3_13, vi_4_13, vi_5_13, vi_6_13, vi_7_13, vi_8_13, vi_9_13, vi_10_13, vi_11_13, vi_12_13, vi_0_14, vi_1_14, vi_2_14, vi_3_14, vi_4_14, vi_5_14, vi_6_14, vi_7_14, vi_8_14, vi_9_14, vi_10_14, vi_11_14, vi_12_14, vi_13_14, vi_0_16, vi_1_16, vi_2_16, vi_3_16, vi_4_16, vi_5_16, vi_6_16, vi_7_16, vi_8_16, vi_9_16, vi_10_16, vi_11_16, vi_12_16, vi_13_16, vi_14_16, vi_15_16, vi_0_810, vi_1_810, vi_2_810, vi_3_810, vi_4_810, vi_5_810, vi_6_810, vi_7_810, vi_8_810, vi_9_810, vi_10_810, vi_11_810, vi_12_810, vi_13_810, vi_14_810, vi_15_810, vi_0_40, vi_1_40, vi_2_40, vi_3_40, vi_4_40, vi_5_40, vi_6_40, vi_7_40, vi_8_40, vi_9_40, vi_10_40, vi_11_40, vi_12_40, vi_13_40, vi_14_40, vi_15_40, vi_0_60, vi_1_60, vi_2_60, vi_3_60, vi_4_60, vi_5_60, vi_6_60, vi_7_60, vi_8_60, vi_9_60, vi_10_60, vi_11_60, vi_12_60, vi_13_60, vi_14_60, vi_15_60, vi_0_144, vi_1_144, vi_2_144, vi_3_144, vi_4_144, vi_5_144, vi_6_144, vi_7_144, vi_8_144, vi_9_144, vi_10_144, vi_11_144, vi_12_144, vi_13_144, vi_14_144, vi_15_144, vi_0_12, vi_1_12, vi_2_12, vi_3_12, vi_4_12, vi_5_12, vi_6_12, vi_7_12, vi_8_12, vi_9_12, vi_10_12, vi_11_12, cl_0, cl_1, cl_2, cl_3, cl_4, cl_5, cl_6, cl_7, cl_8, cl_9, cl_10, cl_11, cl_12, cl_13, cl_14, cl_15, cl_16, not_true_eq_false, false_implies, m_lerf]
    exact hQ I hR d_fr_rf
  by_cases h3 : sk < 1 ∨ 9 < sk
  · rw [if_neg h1, if_pos h3] at hQ
    simp (decide := true) only [wp_X4_addPatrol, wp_X4_isArea, w_in4, h1, h3, if_true, if_false, rw_ofPatrol, rw_ofCall, rw_ofMember, rw_ofGarage, rw_laysPatrol, rw_laysCall, rw_addsMember, rM_tg, rM_gr, rM_ln, rM_m hA, rM_a hA, rM_at hA, rM_al hA, rM_gi0, rM_pi0, rM_le, hA, c_rn, c_rs, true_and, and_true, forall_const, Option.some.injEq, exists_eq_left', forall_eq, true_implies, vi_0_3, vi_1_3, vi_2_3, vi_0_4, vi_1_4, vi_2_4, vi_3_4, vi_0_13, vi_1_13, vi_2_13, vi_3_13, vi_4_13, vi_5_13, vi_6_13, vi_7_13, vi_8_13, vi_9_13, vi_10_13, vi_11_13, vi_12_13, vi_0_14, vi_1_14, vi_2_14, vi_3_14, vi_4_14, vi_5_14, vi_6_14, vi_7_14, vi_8_14, vi_9_14, vi_10_14, vi_11_14, vi_12_14, vi_13_14, vi_0_16, vi_1_16, vi_2_16, vi_3_16, vi_4_16, vi_5_16, vi_6_16, vi_7_16, vi_8_16, vi_9_16, vi_10_16, vi_11_16, vi_12_16, vi_13_16, vi_14_16, vi_15_16, vi_0_810, vi_1_810, vi_2_810, vi_3_810, vi_4_810, vi_5_810, vi_6_810, vi_7_810, vi_8_810, vi_9_810, vi_10_810, vi_11_810, vi_12_810, vi_13_810, vi_14_810, vi_15_810, vi_0_40, vi_1_40, vi_2_40, vi_3_40, vi_4_40, vi_5_40, vi_6_40, vi_7_40, vi_8_40, vi_9_40, vi_10_40, vi_11_40, vi_12_40, vi_13_40, vi_14_40, vi_15_40, vi_0_60, vi_1_60, vi_2_60, vi_3_60, vi_4_60, vi_5_60, vi_6_60, vi_7_60, vi_8_60, vi_9_60, vi_10_60, vi_11_60, vi_12_60, vi_13_60, vi_14_60, vi_15_60, vi_0_144, vi_1_144, vi_2_144, vi_3_144, vi_4_144, vi_5_144, vi_6_144, vi_7_144, vi_8_144, vi_9_144, vi_10_144, vi_11_144, vi_12_144, vi_13_144, vi_14_144, vi_15_144, vi_0_12, vi_1_12, vi_2_12, vi_3_12, vi_4_12, vi_5_12, vi_6_12, vi_7_12, vi_8_12, vi_9_12, vi_10_12, vi_11_12, cl_0, cl_1, cl_2, cl_3, cl_4, cl_5, cl_6, cl_7, cl_8, cl_9, cl_10, cl_11, cl_12, cl_13, cl_14, cl_15, cl_16, not_true_eq_false, not_false_eq_true, false_implies, m_lerf]
    exact hQ I hR d_fr_rf
  rw [if_neg h1, if_neg h3] at hQ
  simp (decide := true) only [wp_X4_addPatrol, wp_X4_isArea, w_in4, h1, h3, e7, if_false, rw_ofPatrol, rw_ofCall, rw_ofMember, rw_ofGarage, rw_laysPatrol, rw_laysCall, rw_addsMember, rM_tg, rM_gr, rM_ln, rM_m hA, rM_a hA, rM_at hA, rM_al hA, rM_gi0, rM_pi0, rM_le, hA, c_rn, c_rs, true_and, and_true, forall_const, Option.some.injEq, exists_eq_left', forall_eq, true_implies, vi_0_3, vi_1_3, vi_2_3, vi_0_4, vi_1_4, vi_2_4, vi_3_4, vi_0_13, vi_1_13, vi_2_13, vi_3_13, vi_4_13, vi_5_13, vi_6_13, vi_7_13, vi_8_13, vi_9_13, vi_10_13, vi_11_13, vi_12_13, vi_0_14, vi_1_14, vi_2_14, vi_3_14, vi_4_14, vi_5_14, vi_6_14, vi_7_14, vi_8_14, vi_9_14, vi_10_14, vi_11_14, vi_12_14, vi_13_14, vi_0_16, vi_1_16, vi_2_16, vi_3_16, vi_4_16, vi_5_16, vi_6_16, vi_7_16, vi_8_16, vi_9_16, vi_10_16, vi_11_16, vi_12_16, vi_13_16, vi_14_16, vi_15_16, vi_0_810, vi_1_810, vi_2_810, vi_3_810, vi_4_810, vi_5_810, vi_6_810, vi_7_810, vi_8_810, vi_9_810, vi_10_810, vi_11_810, vi_12_810, vi_13_810, vi_14_810, vi_15_810, vi_0_40, vi_1_40, vi_2_40, vi_3_40, vi_4_40, vi_5_40, vi_6_40, vi_7_40, vi_8_40, vi_9_40, vi_10_40, vi_11_40, vi_12_40, vi_13_40, vi_14_40, vi_15_40, vi_0_60, vi_1_60, vi_2_60, vi_3_60, vi_4_60, vi_5_60, vi_6_60, vi_7_60, vi_8_60, vi_9_60, vi_10_60, vi_11_60, vi_12_60, vi_13_60, vi_14_60, vi_15_60, vi_0_144, vi_1_144, vi_2_144, vi_3_144, vi_4_144, vi_5_144, vi_6_144, vi_7_144, vi_8_144, vi_9_144, vi_10_144, vi_11_144, vi_12_144, vi_13_144, vi_14_144, vi_15_144, vi_0_12, vi_1_12, vi_2_12, vi_3_12, vi_4_12, vi_5_12, vi_6_12, vi_7_12, vi_8_12, vi_9_12, vi_10_12, vi_11_12, cl_0, cl_1, cl_2, cl_3, cl_4, cl_5, cl_6, cl_7, cl_8, cl_9, cl_10, cl_11, cl_12, cl_13, cl_14, cl_15, cl_16, not_false_eq_true, true_implies, false_implies, m_lerf]
  refine ⟨fun h2 => ?_, fun h2 => ?_⟩
  · have hn : d.1.2 2 ≠ 6 := fun z => h2 (by rw [z]; rfl)
    have hn6 : d.1.2 2 < 6 := by omega
    rw [if_neg hn] at hQ
    refine d_r4_records hA hR (fun J j1 j2 _ => ?_)
    have := hQ J (d_Rf_to (d := d_rec d) (a := (u_pat d.1.2 d.1.1 a sk tw, u_at d.1.2 2 (d.1.2 2 + 1))) j1 (by show u_Dk _ (u_at d.1.2 2 (d.1.2 2 + 1) 5) = _; rw [u_at_ne (by decide)]; exact u_Dk_cg (fun _ _ => u_pat5) _)) j2
    unfold u_pat at this
    rcases htw with z | z <;> subst z
    · simp (decide := true) only [e7, hn6, wp_X4_addPatrol_b79, wp_X4_frees, rw_ofPatrol, rw_ofCall, rw_ofMember, rw_ofGarage, rw_laysPatrol, rw_laysCall, rw_addsMember, rM_tg, rM_gr, rM_ln, rM_m hA, rM_a hA, rM_at hA, rM_al hA, rM_gi0, rM_pi0, rM_le, hA, c_rn, c_rs, true_and, and_true, forall_const, Option.some.injEq, exists_eq_left', forall_eq, true_implies, vi_0_3, vi_1_3, vi_2_3, vi_0_4, vi_1_4, vi_2_4, vi_3_4, vi_0_13, vi_1_13, vi_2_13, vi_3_13, vi_4_13, vi_5_13, vi_6_13, vi_7_13, vi_8_13, vi_9_13, vi_10_13, vi_11_13, vi_12_13, vi_0_14, vi_1_14, vi_2_14, vi_3_14, vi_4_14, vi_5_14, vi_6_14, vi_7_14, vi_8_14, vi_9_14, vi_10_14, vi_11_14, vi_12_14, vi_13_14, vi_0_16, vi_1_16, vi_2_16, vi_3_16, vi_4_16, vi_5_16, vi_6_16, vi_7_16, vi_8_16, vi_9_16, vi_10_16, vi_11_16, vi_12_16, vi_13_16, vi_14_16, vi_15_16, vi_0_810, vi_1_810, vi_2_810, vi_3_810, vi_4_810, vi_5_810, vi_6_810, vi_7_810, vi_8_810, vi_9_810, vi_10_810, vi_11_810, vi_12_810, vi_13_810, vi_14_810, vi_15_810, vi_0_40, vi_1_40, vi_2_40, vi_3_40, vi_4_40, vi_5_40, vi_6_40, vi_7_40, vi_8_40, vi_9_40, vi_10_40, vi_11_40, vi_12_40, vi_13_40, vi_14_40, vi_15_40, vi_0_60, vi_1_60, vi_2_60, vi_3_60, vi_4_60, vi_5_60, vi_6_60, vi_7_60, vi_8_60, vi_9_60, vi_10_60, vi_11_60, vi_12_60, vi_13_60, vi_14_60, vi_15_60, vi_0_144, vi_1_144, vi_2_144, vi_3_144, vi_4_144, vi_5_144, vi_6_144, vi_7_144, vi_8_144, vi_9_144, vi_10_144, vi_11_144, vi_12_144, vi_13_144, vi_14_144, vi_15_144, vi_0_12, vi_1_12, vi_2_12, vi_3_12, vi_4_12, vi_5_12, vi_6_12, vi_7_12, vi_8_12, vi_9_12, vi_10_12, vi_11_12, cl_0, cl_1, cl_2, cl_3, cl_4, cl_5, cl_6, cl_7, cl_8, cl_9, cl_10, cl_11, cl_12, cl_13, cl_14, cl_15, cl_16, true_implies, false_implies, not_true_eq_false]
      simp (decide := true) only [rM_gh, e7] at this
      exact this
    · simp (decide := true) only [e7, hn6, wp_X4_addPatrol_b79, wp_X4_frees, rw_ofPatrol, rw_ofCall, rw_ofMember, rw_ofGarage, rw_laysPatrol, rw_laysCall, rw_addsMember, rM_tg, rM_gr, rM_ln, rM_m hA, rM_a hA, rM_at hA, rM_al hA, rM_gi0, rM_pi0, rM_le, hA, c_rn, c_rs, true_and, and_true, forall_const, Option.some.injEq, exists_eq_left', forall_eq, true_implies, vi_0_3, vi_1_3, vi_2_3, vi_0_4, vi_1_4, vi_2_4, vi_3_4, vi_0_13, vi_1_13, vi_2_13, vi_3_13, vi_4_13, vi_5_13, vi_6_13, vi_7_13, vi_8_13, vi_9_13, vi_10_13, vi_11_13, vi_12_13, vi_0_14, vi_1_14, vi_2_14, vi_3_14, vi_4_14, vi_5_14, vi_6_14, vi_7_14, vi_8_14, vi_9_14, vi_10_14, vi_11_14, vi_12_14, vi_13_14, vi_0_16, vi_1_16, vi_2_16, vi_3_16, vi_4_16, vi_5_16, vi_6_16, vi_7_16, vi_8_16, vi_9_16, vi_10_16, vi_11_16, vi_12_16, vi_13_16, vi_14_16, vi_15_16, vi_0_810, vi_1_810, vi_2_810, vi_3_810, vi_4_810, vi_5_810, vi_6_810, vi_7_810, vi_8_810, vi_9_810, vi_10_810, vi_11_810, vi_12_810, vi_13_810, vi_14_810, vi_15_810, vi_0_40, vi_1_40, vi_2_40, vi_3_40, vi_4_40, vi_5_40, vi_6_40, vi_7_40, vi_8_40, vi_9_40, vi_10_40, vi_11_40, vi_12_40, vi_13_40, vi_14_40, vi_15_40, vi_0_60, vi_1_60, vi_2_60, vi_3_60, vi_4_60, vi_5_60, vi_6_60, vi_7_60, vi_8_60, vi_9_60, vi_10_60, vi_11_60, vi_12_60, vi_13_60, vi_14_60, vi_15_60, vi_0_144, vi_1_144, vi_2_144, vi_3_144, vi_4_144, vi_5_144, vi_6_144, vi_7_144, vi_8_144, vi_9_144, vi_10_144, vi_11_144, vi_12_144, vi_13_144, vi_14_144, vi_15_144, vi_0_12, vi_1_12, vi_2_12, vi_3_12, vi_4_12, vi_5_12, vi_6_12, vi_7_12, vi_8_12, vi_9_12, vi_10_12, vi_11_12, cl_0, cl_1, cl_2, cl_3, cl_4, cl_5, cl_6, cl_7, cl_8, cl_9, cl_10, cl_11, cl_12, cl_13, cl_14, cl_15, cl_16, true_implies, false_implies, not_false_eq_true]
      simp (decide := true) only [rM_gh, e7] at this
      exact this
  · have hn : d.1.2 2 = 6 := (pn_inj (b := 6) (by omega) (by omega)).mp h2
    rw [if_pos hn] at hQ
    exact hQ I hR d_fr_rf
theorem x0_garage {a pl : Int32} {Q : Int32 → Mem → Prop} (hobj : ∀ (M : Mem) (y : Nat), q_obj (m_tg M y) → m_asg M y "java/lang/Object") (hX : d_CX g M o x d) (hrm : d_rm M) (hQ : ∀ M' o', d_aft g M o x M' o' (s_garage d a pl).2 → Q (s_garage d a pl).1 M') : wp_X0_addGarage g M x a pl Q := by
  obtain ⟨RR, DD, U, y0, yh, yk, hC⟩ := id hX
  have hM := hC.2.2.1.2.1
  have hS := hC.2.2.1.1
  have hI := hC.2.2.1.2.2.2.2.1
  have hR := hI.1.1
  obtain ⟨_, x2, x3, _⟩ := hC.2.2.2.2.2.2
  unfold s_garage at hQ
  rw [← hM]
  by_cases h1 : a < 0 ∨ 11 < a
  · rw [if_pos h1] at hQ
    simp (decide := true) only [wp_X0_addGarage, wp_X0_isArea, w_in0, h1, x2, x3, if_true, cM_tg, cM_gr, cM_ln, cM_le, c_rn, c_rs, ct_0 hS, cg_0_6 hS, cp_0_6 hS, cg_0_7 hS, cp_0_7 hS, ct_8 hS, cg_8_0 hS, cp_8_0 hS, cg_8_1 hS, cp_8_1 hS, cg_8_2 hS, cp_8_2 hS, ct_1 hS, cg_1_0 hS, cp_1_0 hS, cg_1_1 hS, cp_1_1 hS, cg_1_2 hS, cp_1_2 hS, cg_1_3 hS, cp_1_3 hS, cg_1_4 hS, cp_1_4 hS, ct_2 hS, cg_2_0 hS, cp_2_0 hS, cg_2_1 hS, cp_2_1 hS, cg_2_2 hS, cp_2_2 hS, cg_2_3 hS, cp_2_3 hS, cg_2_4 hS, cp_2_4 hS, cg_2_5 hS, cp_2_5 hS, cg_2_6 hS, cp_2_6 hS, cg_2_7 hS, cp_2_7 hS, cg_2_8 hS, cp_2_8 hS, cg_2_9 hS, cp_2_9 hS, cg_2_10 hS, cp_2_10 hS, cg_2_11 hS, cp_2_11 hS, cg_2_12 hS, cp_2_12 hS, cg_2_13 hS, cp_2_13 hS, cg_2_14 hS, cp_2_14 hS, ct_3 hS, cg_3_0 hS, cp_3_0 hS, cg_3_1 hS, cp_3_1 hS, cg_3_2 hS, cp_3_2 hS, cg_3_3 hS, cp_3_3 hS, cg_3_4 hS, cp_3_4 hS, ct_4 hS, cg_4_0 hS, cp_4_0 hS, cg_4_1 hS, cp_4_1 hS, cg_4_2 hS, cp_4_2 hS, cg_4_3 hS, cp_4_3 hS, cg_4_4 hS, cp_4_4 hS, cg_4_5 hS, cp_4_5 hS, cg_4_6 hS, cp_4_6 hS, cg_4_7 hS, cp_4_7 hS, cg_4_8 hS, cp_4_8 hS, cg_4_9 hS, cp_4_9 hS, cg_4_10 hS, cp_4_10 hS, cg_4_11 hS, cp_4_11 hS, cg_4_12 hS, cp_4_12 hS, cl_t1 hS, cl_r1 hS, cl_g1 hS, cl_s1 hS, cl_t2 hS, cl_r2 hS, cl_g2 hS, cl_s2 hS, cl_t3 hS, cl_r3 hS, cl_g3 hS, cl_s3 hS, cl_t4 hS, cl_r4 hS, cl_g4 hS, cl_s4 hS, cl_p hS, cl_R hS, cl_8n hS, true_and, and_true, forall_const, Option.some.injEq, exists_eq_left', forall_eq, true_implies, cl_0, cl_1, cl_2, cl_3, cl_4, cl_5, cl_6, cl_7, cl_8, cl_9, cl_10, cl_11, cl_12, cl_13, cl_14, cl_15, cl_16, vi_0_3, vi_1_3, vi_2_3, not_true_eq_false, false_implies]
    rw [hM]
    exact hQ M o (d_no hX)
  by_cases h3 : pl < 1 ∨ 9 < pl
  · rw [if_neg h1, if_pos h3] at hQ
    simp (decide := true) only [wp_X0_addGarage, wp_X0_isArea, w_in0, h1, h3, x2, x3, if_true, if_false, cM_tg, cM_gr, cM_ln, cM_le, c_rn, c_rs, ct_0 hS, cg_0_6 hS, cp_0_6 hS, cg_0_7 hS, cp_0_7 hS, ct_8 hS, cg_8_0 hS, cp_8_0 hS, cg_8_1 hS, cp_8_1 hS, cg_8_2 hS, cp_8_2 hS, ct_1 hS, cg_1_0 hS, cp_1_0 hS, cg_1_1 hS, cp_1_1 hS, cg_1_2 hS, cp_1_2 hS, cg_1_3 hS, cp_1_3 hS, cg_1_4 hS, cp_1_4 hS, ct_2 hS, cg_2_0 hS, cp_2_0 hS, cg_2_1 hS, cp_2_1 hS, cg_2_2 hS, cp_2_2 hS, cg_2_3 hS, cp_2_3 hS, cg_2_4 hS, cp_2_4 hS, cg_2_5 hS, cp_2_5 hS, cg_2_6 hS, cp_2_6 hS, cg_2_7 hS, cp_2_7 hS, cg_2_8 hS, cp_2_8 hS, cg_2_9 hS, cp_2_9 hS, cg_2_10 hS, cp_2_10 hS, cg_2_11 hS, cp_2_11 hS, cg_2_12 hS, cp_2_12 hS, cg_2_13 hS, cp_2_13 hS, cg_2_14 hS, cp_2_14 hS, ct_3 hS, cg_3_0 hS, cp_3_0 hS, cg_3_1 hS, cp_3_1 hS, cg_3_2 hS, cp_3_2 hS, cg_3_3 hS, cp_3_3 hS, cg_3_4 hS, cp_3_4 hS, ct_4 hS, cg_4_0 hS, cp_4_0 hS, cg_4_1 hS, cp_4_1 hS, cg_4_2 hS, cp_4_2 hS, cg_4_3 hS, cp_4_3 hS, cg_4_4 hS, cp_4_4 hS, cg_4_5 hS, cp_4_5 hS, cg_4_6 hS, cp_4_6 hS, cg_4_7 hS, cp_4_7 hS, cg_4_8 hS, cp_4_8 hS, cg_4_9 hS, cp_4_9 hS, cg_4_10 hS, cp_4_10 hS, cg_4_11 hS, cp_4_11 hS, cg_4_12 hS, cp_4_12 hS, cl_t1 hS, cl_r1 hS, cl_g1 hS, cl_s1 hS, cl_t2 hS, cl_r2 hS, cl_g2 hS, cl_s2 hS, cl_t3 hS, cl_r3 hS, cl_g3 hS, cl_s3 hS, cl_t4 hS, cl_r4 hS, cl_g4 hS, cl_s4 hS, cl_p hS, cl_R hS, cl_8n hS, true_and, and_true, forall_const, Option.some.injEq, exists_eq_left', forall_eq, true_implies, cl_0, cl_1, cl_2, cl_3, cl_4, cl_5, cl_6, cl_7, cl_8, cl_9, cl_10, cl_11, cl_12, cl_13, cl_14, cl_15, cl_16, vi_0_3, vi_1_3, vi_2_3, not_true_eq_false, not_false_eq_true, false_implies]
    rw [hM]
    exact hQ M o (d_no hX)
  rw [if_neg h1, if_neg h3] at hQ
  simp (decide := true) only [wp_X0_addGarage, wp_X0_isArea, w_in0, h1, h3, x2, x3, if_false, cM_tg, cM_gr, cM_ln, cM_le, c_rn, c_rs, ct_0 hS, cg_0_6 hS, cp_0_6 hS, cg_0_7 hS, cp_0_7 hS, ct_8 hS, cg_8_0 hS, cp_8_0 hS, cg_8_1 hS, cp_8_1 hS, cg_8_2 hS, cp_8_2 hS, ct_1 hS, cg_1_0 hS, cp_1_0 hS, cg_1_1 hS, cp_1_1 hS, cg_1_2 hS, cp_1_2 hS, cg_1_3 hS, cp_1_3 hS, cg_1_4 hS, cp_1_4 hS, ct_2 hS, cg_2_0 hS, cp_2_0 hS, cg_2_1 hS, cp_2_1 hS, cg_2_2 hS, cp_2_2 hS, cg_2_3 hS, cp_2_3 hS, cg_2_4 hS, cp_2_4 hS, cg_2_5 hS, cp_2_5 hS, cg_2_6 hS, cp_2_6 hS, cg_2_7 hS, cp_2_7 hS, cg_2_8 hS, cp_2_8 hS, cg_2_9 hS, cp_2_9 hS, cg_2_10 hS, cp_2_10 hS, cg_2_11 hS, cp_2_11 hS, cg_2_12 hS, cp_2_12 hS, cg_2_13 hS, cp_2_13 hS, cg_2_14 hS, cp_2_14 hS, ct_3 hS, cg_3_0 hS, cp_3_0 hS, cg_3_1 hS, cp_3_1 hS, cg_3_2 hS, cp_3_2 hS, cg_3_3 hS, cp_3_3 hS, cg_3_4 hS, cp_3_4 hS, ct_4 hS, cg_4_0 hS, cp_4_0 hS, cg_4_1 hS, cp_4_1 hS, cg_4_2 hS, cp_4_2 hS, cg_4_3 hS, cp_4_3 hS, cg_4_4 hS, cp_4_4 hS, cg_4_5 hS, cp_4_5 hS, cg_4_6 hS, cp_4_6 hS, cg_4_7 hS, cp_4_7 hS, cg_4_8 hS, cp_4_8 hS, cg_4_9 hS, cp_4_9 hS, cg_4_10 hS, cp_4_10 hS, cg_4_11 hS, cp_4_11 hS, cg_4_12 hS, cp_4_12 hS, cl_t1 hS, cl_r1 hS, cl_g1 hS, cl_s1 hS, cl_t2 hS, cl_r2 hS, cl_g2 hS, cl_s2 hS, cl_t3 hS, cl_r3 hS, cl_g3 hS, cl_s3 hS, cl_t4 hS, cl_r4 hS, cl_g4 hS, cl_s4 hS, cl_p hS, cl_R hS, cl_8n hS, true_and, and_true, forall_const, Option.some.injEq, exists_eq_left', forall_eq, true_implies, cl_0, cl_1, cl_2, cl_3, cl_4, cl_5, cl_6, cl_7, cl_8, cl_9, cl_10, cl_11, cl_12, cl_13, cl_14, cl_15, cl_16, vi_0_3, vi_1_3, vi_2_3, not_false_eq_true, true_implies, false_implies]
  have d1 := hR.1.2.2.2.2.2.2.2.2.1
  refine ⟨fun h2 => ?_, fun h2 => ?_⟩
  · have hn : d.1.2 3 ≠ 5 := fun z => h2 (by rw [z]; rfl)
    rw [if_neg hn] at hQ
    obtain ⟨k, hk, ek⟩ := u_ix (N := 12) h1 (by decide)
    rw [hM]
    refine d_record hobj hC (d_rm8 hrm) (fun M1 o1 y1 p1 p2 p3 p4 _ => ?_)
    have r1 := hrm.1
    have r2 := hrm.2
    have hS1 : c_St g M1 o1 y0.1 y0.2.1 d.1.2 (RR y0.2.2) := p1.2.2.1.1
    obtain ⟨_, z2, z3, _⟩ := p1.2.2.2.2.2.2
    refine ⟨y0.2.1 0 0, z3, ct_0 hS1, y0.2.1 6 3, cl_r3 hS1, ⟨by omega, by omega⟩, fun u hu => ?_⟩
    generalize e0' : m_al M1 u 8 0 5 = M32
    have e0 := e0'.symm
    refine ⟨by rw [e0, m_tg_al, if_pos rfl], fun N1 f1 X1 f2 _ => ?_⟩
    have cell : ∀ b : Nat, b ≠ u → X1.1 b = M1.1 b := fun b hb => by rw [f2, u_pi_ne hb, f1, u_pi_ne hb, e0, u_al_ne hb]
    have nL : y0.2.1 6 3 ≠ u := fun z => by have := cl_t3 hS1; rw [z, hu] at this; cases this
    refine ⟨(c_cell_tg (cell _ nL)).trans (cl_t3 hS1), ?_⟩
    have hn5 : u_at d.1.2 3 (d.1.2 3 + 1) 5 = d.1.2 5 := u_at_ne (by decide)
    have zz := hI.1.2.2.2.2.2.2.2.2.2.2.2.1 (d.1.2 3) (Nat.le_refl _)
    refine d_add (d := d_rec d) (σ := u_grg d.1.2 d.1.1 a pl) (v := fun j => if j = 0 then a else if j = 1 then pl else 0) hobj p1 (by decide) (by decide) (by show d.1.2 3 < 40; omega) hu cell ?_ ?_ ⟨?_, ?_⟩ ⟨by omega, by omega⟩ (fun t' k' j hd z hz => ?_) (fun j z hz => ?_) ⟨?_, ?_, ?_⟩ (u_Dk_cg (fun _ _ => u_grg5) _) (fun X2 o2 q1 q2 q3 q4 _ _ => ?_)
    · rw [f2, m_tg_pi, f1, m_tg_pi, e0, m_tg_al, if_pos rfl]
      rfl
    · apply u_lt5 <;> simp (decide := true) only [f2, f1, e0, m_gi_pi, m_gi_al, if_true, if_false, and_true, and_false, false_and, true_and, and_self]
    · rw [f2, f1, e0]; exact Nat.le_refl _
    · rw [f2, f1, e0]
      show m_ns M1 + 5 ≤ _
      omega
    · have hne : t' = 3 → k' ≠ d.1.2 3 := fun e w => by
        rcases hd with h | h | ⟨v1, v2, v3⟩ | h
        · omega
        · omega
        · have v3' : k' < d.1.2 t' := v3
          rw [e] at v3'
          omega
        · omega
      show u_grg d.1.2 d.1.1 a pl z.1 k' z.2 = d.1.1 z.1 k' z.2
      unfold c_mp at hz
      split at hz <;> first | (cases hz; done) | (cases hz; unfold u_grg; simp (decide := true) only [c_rn, c_rx]; done) | (cases hz; have hk1 := hne rfl; unfold u_grg; simp (decide := true) only [c_rk hk1, c_rx])
    · show _ = u_grg d.1.2 d.1.1 a pl z.1 (d.1.2 3) z.2
      unfold c_mp at hz
      split at hz <;> first | omega | (cases hz; unfold u_grg; simp (decide := true) only [c_rn, c_rs, if_true, if_false, zz.1, zz.2]; done) | cases hz
    · show u_I _ (u_grg d.1.2 d.1.1 a pl)
      rw [ek]
      exact u_I_grg (n := d.1.2) (σ := d.1.1) hI.1 (by omega) hk
    · show u_Rds (u_grg d.1.2 d.1.1 a pl) (u_at d.1.2 3 (d.1.2 3 + 1) 5)
      rw [hn5]
      exact u_Rds_cg (fun _ _ => u_grg5) hI.2.1
    · intro k' f hk'
      show u_grg d.1.2 d.1.1 a pl 4 k' f = 0
      rw [show u_grg d.1.2 d.1.1 a pl 4 k' f = d.1.1 4 k' f by unfold u_grg; simp (decide := true) only [c_rx]]
      exact hI.2.2 k' f hk'
    · have hS2 := q1.2.2.1.1
      obtain ⟨_, w2, w3, _⟩ := q1.2.2.2.2.2.2
      refine ⟨_, w3, ct_0 hS2, _, cl_r3 hS2, cl_t3 hS2, ?_⟩
      have sz := u_sz (Q := fun (r65 : Int32) (M63 : Mem) => m_le X2 M63 → Q (r65 - 1) M63) q1.2.2.1.2.1 hS2 (s := 3) (by decide) (by decide)
      rw [sz]
      intro _
      have e1 : nI (u_at d.1.2 3 (d.1.2 3 + 1) 3) - 1 = nI (d.1.2 3) := by
        rw [u_at_eq]
        exact pn_sub (b := 1) (by omega)
      show Q (nI (u_at d.1.2 3 (d.1.2 3 + 1) 3) - 1) X2
      rw [e1]
      exact hQ X2 o2 ⟨⟨RR, DD, U, _, _, _, q1⟩, c_same_tr p2 q2, by omega, by omega⟩
  · have hn : d.1.2 3 = 5 := (pn_inj (b := 5) (by omega) (by omega)).mp h2
    rw [if_pos hn] at hQ
    rw [hM]
    exact hQ M o (d_no hX)
theorem r4_garage {a pl : Int32} {Q : Int32 → Mem → Prop} (hA : q_MA M m A) (hR : d_Rf m A I d) (hS : u_R d.1.2 d.1.1) (hQ : ∀ J, d_Rf m A J (s_garage d a pl).2 → d_fr m A I J → Q (s_garage d a pl).1 (c_rM M A J (s_garage d a pl).2.1.1)) : wp_X4_addGarage g (c_rM M A I d.1.1) m a pl Q := by
  unfold s_garage at hQ
  have e8 := hS.1.2.2.2.1
  have d1 := hS.1.2.2.2.2.2.2.2.2.1
  by_cases h1 : a < 0 ∨ 11 < a
  · rw [if_pos h1] at hQ
    simp (decide := true) only [wp_X4_addGarage, wp_X4_isArea, w_in4, h1, if_true, rw_ofPatrol, rw_ofCall, rw_ofMember, rw_ofGarage, rw_laysPatrol, rw_laysCall, rw_addsMember, rM_tg, rM_gr, rM_ln, rM_m hA, rM_a hA, rM_at hA, rM_al hA, rM_gi0, rM_pi0, rM_le, hA, c_rn, c_rs, true_and, and_true, forall_const, Option.some.injEq, exists_eq_left', forall_eq, true_implies, vi_0_3, vi_1_3, vi_2_3, vi_0_4, vi_1_4, vi_2_4, vi_3_4, vi_0_13, vi_1_13, vi_2_13, vi_3_13, vi_4_13, vi_5_13, vi_6_13, vi_7_13, vi_8_13, vi_9_13, vi_10_13, vi_11_13, vi_12_13, vi_0_14, vi_1_14, vi_2_14, vi_3_14, vi_4_14, vi_5_14, vi_6_14, vi_7_14, vi_8_14, vi_9_14, vi_10_14, vi_11_14, vi_12_14, vi_13_14, vi_0_16, vi_1_16, vi_2_16, vi_3_16, vi_4_16, vi_5_16, vi_6_16, vi_7_16, vi_8_16, vi_9_16, vi_10_16, vi_11_16, vi_12_16, vi_13_16, vi_14_16, vi_15_16, vi_0_810, vi_1_810, vi_2_810, vi_3_810, vi_4_810, vi_5_810, vi_6_810, vi_7_810, vi_8_810, vi_9_810, vi_10_810, vi_11_810, vi_12_810, vi_13_810, vi_14_810, vi_15_810, vi_0_40, vi_1_40, vi_2_40, vi_3_40, vi_4_40, vi_5_40, vi_6_40, vi_7_40, vi_8_40, vi_9_40, vi_10_40, vi_11_40, vi_12_40, vi_13_40, vi_14_40, vi_15_40, vi_0_60, vi_1_60, vi_2_60, vi_3_60, vi_4_60, vi_5_60, vi_6_60, vi_7_60, vi_8_60, vi_9_60, vi_10_60, vi_11_60, vi_12_60, vi_13_60, vi_14_60, vi_15_60, vi_0_144, vi_1_144, vi_2_144, vi_3_144, vi_4_144, vi_5_144, vi_6_144, vi_7_144, vi_8_144, vi_9_144, vi_10_144, vi_11_144, vi_12_144, vi_13_144, vi_14_144, vi_15_144, vi_0_12, vi_1_12, vi_2_12, vi_3_12, vi_4_12, vi_5_12, vi_6_12, vi_7_12, vi_8_12, vi_9_12, vi_10_12, vi_11_12, cl_0, cl_1, cl_2, cl_3, cl_4, cl_5, cl_6, cl_7, cl_8, cl_9, cl_10, cl_11, cl_12, cl_13, cl_14, cl_15, cl_16, not_true_eq_false, false_implies, m_lerf]
    exact hQ I hR d_fr_rf
  by_cases h3 : pl < 1 ∨ 9 < pl
  · rw [if_neg h1, if_pos h3] at hQ
    simp (decide := true) only [wp_X4_addGarage, wp_X4_isArea, w_in4, h1, h3, if_true, if_false, rw_ofPatrol, rw_ofCall, rw_ofMember, rw_ofGarage, rw_laysPatrol, rw_laysCall, rw_addsMember, rM_tg, rM_gr, rM_ln, rM_m hA, rM_a hA, rM_at hA, rM_al hA, rM_gi0, rM_pi0, rM_le, hA, c_rn, c_rs, true_and, and_true, forall_const, Option.some.injEq, exists_eq_left', forall_eq, true_implies, vi_0_3, vi_1_3, vi_2_3, vi_0_4, vi_1_4, vi_2_4, vi_3_4, vi_0_13, vi_1_13, vi_2_13, vi_3_13, vi_4_13, vi_5_13, vi_6_13, vi_7_13, vi_8_13, vi_9_13, vi_10_13, vi_11_13, vi_12_13, vi_0_14, vi_1_14, vi_2_14, vi_3_14, vi_4_14, vi_5_14, vi_6_14, vi_7_14, vi_8_14, vi_9_14, vi_10_14, vi_11_14, vi_12_14, vi_13_14, vi_0_16, vi_1_16, vi_2_16, vi_3_16, vi_4_16, vi_5_16, vi_6_16, vi_7_16, vi_8_16, vi_9_16, vi_10_16, vi_11_16, vi_12_16, vi_13_16, vi_14_16, vi_15_16, vi_0_810, vi_1_810, vi_2_810, vi_3_810, vi_4_810, vi_5_810, vi_6_810, vi_7_810, vi_8_810, vi_9_810, vi_10_810, vi_11_810, vi_12_810, vi_13_810, vi_14_810, vi_15_810, vi_0_40, vi_1_40, vi_2_40, vi_3_40, vi_4_40, vi_5_40, vi_6_40, vi_7_40, vi_8_40, vi_9_40, vi_10_40, vi_11_40, vi_12_40, vi_13_40, vi_14_40, vi_15_40, vi_0_60, vi_1_60, vi_2_60, vi_3_60, vi_4_60, vi_5_60, vi_6_60, vi_7_60, vi_8_60, vi_9_60, vi_10_60, vi_11_60, vi_12_60, vi_13_60, vi_14_60, vi_15_60, vi_0_144, vi_1_144, vi_2_144, vi_3_144, vi_4_144, vi_5_144, vi_6_144, vi_7_144, vi_8_144, vi_9_144, vi_10_144, vi_11_144, vi_12_144, vi_13_144, vi_14_144, vi_15_144, vi_0_12, vi_1_12, vi_2_12, vi_3_12, vi_4_12, vi_5_12, vi_6_12, vi_7_12, vi_8_12, vi_9_12, vi_10_12, vi_11_12, cl_0, cl_1, cl_2, cl_3, cl_4, cl_5, cl_6, cl_7, cl_8, cl_9, cl_10, cl_11, cl_12, cl_13, cl_14, cl_15, cl_16, not_true_eq_false, not_false_eq_true, false_implies, m_lerf]
    exact hQ I hR d_fr_rf
  rw [if_neg h1, if_neg h3] at hQ
  simp (decide := true) only [wp_X4_addGarage, wp_X4_isArea, w_in4, h1, h3, e8, if_false, rw_ofPatrol, rw_ofCall, rw_ofMember, rw_ofGarage, rw_laysPatrol, rw_laysCall, rw_addsMember, rM_tg, rM_gr, rM_ln, rM_m hA, rM_a hA, rM_at hA, rM_al hA, rM_gi0, rM_pi0, rM_le, hA, c_rn, c_rs, true_and, and_true, forall_const, Option.some.injEq, exists_eq_left', forall_eq, true_implies, vi_0_3, vi_1_3, vi_2_3, vi_0_4, vi_1_4, vi_2_4, vi_3_4, vi_0_13, vi_1_13, vi_2_13, vi_3_13, vi_4_13, vi_5_13, vi_6_13, vi_7_13, vi_8_13, vi_9_13, vi_10_13, vi_11_13, vi_12_13, vi_0_14, vi_1_14, vi_2_14, vi_3_14, vi_4_14, vi_5_14, vi_6_14, vi_7_14, vi_8_14, vi_9_14, vi_10_14, vi_11_14, vi_12_14, vi_13_14, vi_0_16, vi_1_16, vi_2_16, vi_3_16, vi_4_16, vi_5_16, vi_6_16, vi_7_16, vi_8_16, vi_9_16, vi_10_16, vi_11_16, vi_12_16, vi_13_16, vi_14_16, vi_15_16, vi_0_810, vi_1_810, vi_2_810, vi_3_810, vi_4_810, vi_5_810, vi_6_810, vi_7_810, vi_8_810, vi_9_810, vi_10_810, vi_11_810, vi_12_810, vi_13_810, vi_14_810, vi_15_810, vi_0_40, vi_1_40, vi_2_40, vi_3_40, vi_4_40, vi_5_40, vi_6_40, vi_7_40, vi_8_40, vi_9_40, vi_10_40, vi_11_40, vi_12_40, vi_13_40, vi_14_40, vi_15_40, vi_0_60, vi_1_60, vi_2_60, vi_3_60, vi_4_60, vi_5_60, vi_6_60, vi_7_60, vi_8_60, vi_9_60, vi_10_60, vi_11_60, vi_12_60, vi_13_60, vi_14_60, vi_15_60, vi_0_144, vi_1_144, vi_2_144, vi_3_144, vi_4_144, vi_5_144, vi_6_144, vi_7_144, vi_8_144, vi_9_144, vi_10_144, vi_11_144, vi_12_144, vi_13_144, vi_14_144, vi_15_144, vi_0_12, vi_1_12, vi_2_12, vi_3_12, vi_4_12, vi_5_12, vi_6_12, vi_7_12, vi_8_12, vi_9_12, vi_10_12, vi_11_12, cl_0, cl_1, cl_2, cl_3, cl_4, cl_5, cl_6, cl_7, cl_8, cl_9, cl_10, cl_11, cl_12, cl_13, cl_14, cl_15, cl_16, not_false_eq_true, true_implies, false_implies, m_lerf]
  refine ⟨fun h2 => ?_, fun h2 => ?_⟩
  · have hn : d.1.2 3 ≠ 5 := fun z => h2 (by rw [z]; rfl)
    have hn5 : d.1.2 3 < 5 := by omega
    rw [if_neg hn] at hQ
    refine d_r4_records hA hR (fun J j1 j2 _ => ?_)
    have ix : (270 : Int32) + 4 * nI (d.1.2 3) = nI (270 + 4 * d.1.2 3) := by
      rw [show (4 : Int32) = nI 4 from rfl, pn_mul, show (270 : Int32) = nI 270 from rfl, pn_add]
    have i1 : vp_in (270 + 4 * nI (d.1.2 3)) 810 := by rw [ix]; exact (pn_in (by omega)).mpr (by omega)
    have i2 : (270 + 4 * nI (d.1.2 3)).toNatClampNeg = 270 + 4 * d.1.2 3 + 0 := by rw [ix]; exact pn_cl (by omega)
    have i3 : vp_in (270 + 4 * nI (d.1.2 3) + 1) 810 := by rw [ix, pn_succ]; exact (pn_in (by omega)).mpr (by omega)
    have i4 : (270 + 4 * nI (d.1.2 3) + 1).toNatClampNeg = 270 + 4 * d.1.2 3 + 1 := by rw [ix, pn_succ]; exact pn_cl (by omega)
    have e1 : nI (d.1.2 3) + 1 - 1 = nI (d.1.2 3) := by rw [pn_succ]; exact pn_sub (b := 1) (by omega)
    simp (decide := true) only [e8, i1, i2, i3, i4, rM_pi3 hn5, e1, rw_ofPatrol, rw_ofCall, rw_ofMember, rw_ofGarage, rw_laysPatrol, rw_laysCall, rw_addsMember, rM_tg, rM_gr, rM_ln, rM_m hA, rM_a hA, rM_at hA, rM_al hA, rM_gi0, rM_pi0, rM_le, hA, c_rn, c_rs, true_and, and_true, forall_const, Option.some.injEq, exists_eq_left', forall_eq, true_implies, vi_0_3, vi_1_3, vi_2_3, vi_0_4, vi_1_4, vi_2_4, vi_3_4, vi_0_13, vi_1_13, vi_2_13, vi_3_13, vi_4_13, vi_5_13, vi_6_13, vi_7_13, vi_8_13, vi_9_13, vi_10_13, vi_11_13, vi_12_13, vi_0_14, vi_1_14, vi_2_14, vi_3_14, vi_4_14, vi_5_14, vi_6_14, vi_7_14, vi_8_14, vi_9_14, vi_10_14, vi_11_14, vi_12_14, vi_13_14, vi_0_16, vi_1_16, vi_2_16, vi_3_16, vi_4_16, vi_5_16, vi_6_16, vi_7_16, vi_8_16, vi_9_16, vi_10_16, vi_11_16, vi_12_16, vi_13_16, vi_14_16, vi_15_16, vi_0_810, vi_1_810, vi_2_810, vi_3_810, vi_4_810, vi_5_810, vi_6_810, vi_7_810, vi_8_810, vi_9_810, vi_10_810, vi_11_810, vi_12_810, vi_13_810, vi_14_810, vi_15_810, vi_0_40, vi_1_40, vi_2_40, vi_3_40, vi_4_40, vi_5_40, vi_6_40, vi_7_40, vi_8_40, vi_9_40, vi_10_40, vi_11_40, vi_12_40, vi_13_40, vi_14_40, vi_15_40, vi_0_60, vi_1_60, vi_2_60, vi_3_60, vi_4_60, vi_5_60, vi_6_60, vi_7_60, vi_8_60, vi_9_60, vi_10_60, vi_11_60, vi_12_60, vi_13_60, vi_14_60, vi_15_60, vi_0_144, vi_1_144, vi_2_144, vi_3_144, vi_4_144, vi_5_144, vi_6_144, vi_7_144, vi_8_144, vi_9_144, vi_10_144, vi_11_144, vi_12_144, vi_13_144, vi_14_144, vi_15_144, vi_0_12, vi_1_12, vi_2_12, vi_3_12, vi_4_12, vi_5_12, vi_6_12, vi_7_12, vi_8_12, vi_9_12, vi_10_12, vi_11_12, cl_0, cl_1, cl_2, cl_3, cl_4, cl_5, cl_6, cl_7, cl_8, cl_9, cl_10, cl_11, cl_12, cl_13, cl_14, cl_15, cl_16]
    have := hQ J (d_Rf_to (d := d_rec d) (a := (u_grg d.1.2 d.1.1 a pl, u_at d.1.2 3 (d.1.2 3 + 1))) j1 (by show u_Dk _ (u_at d.1.2 3 (d.1.2 3 + 1) 5) = _; rw [u_at_ne (by decide)]; exact u_Dk_cg (fun _ _ => u_grg5) _)) j2
    unfold u_grg at this
    simp (decide := true) only [rM_gh, e8] at this
    exact this
  · have hn : d.1.2 3 = 5 := (pn_inj (b := 5) (by omega) (by omega)).mp h2
    rw [if_pos hn] at hQ
    exact hQ I hR d_fr_rf
end
