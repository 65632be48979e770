/-! PURE: acts: a road is added, whole -/
set_option maxRecDepth 100000
section
variable {g : Nat → Nat} {M X : Mem} {o o1 : Nat → Nat × Nat × Nat} {x : Nat} {d : Dt} {m : Nat} {A : Nat → Nat} {I : Nat → Nat → Int32}
theorem u_min {a b : Nat} (ha : a < 12) (hb : b < 12) : (if nI b < nI a then nI b else nI a) = nI (min a b) ∧ (if nI a < nI b then nI b else nI a) = nI (max a b) := by
  constructor
  · by_cases h : b < a
    · rw [if_pos ((pn_lt (by omega) (by omega)).mpr h)]
      congr 1
      omega
    · rw [if_neg (fun z => h ((pn_lt (by omega) (by omega)).mp z))]
      congr 1
      omega
  · by_cases h : a < b
    · rw [if_pos ((pn_lt (by omega) (by omega)).mpr h)]
      congr 1
      omega
    · rw [if_neg (fun z => h ((pn_lt (by omega) (by omega)).mp z))]
      congr 1
      omega
theorem x0_road {a b v : Int32} {Q : Int32 → Mem → Prop} (hobj : ∀ (M : Mem) (y : Nat), q_obj (m_tg M y) → m_asg M y "java/lang/Object") (hnode : ∀ (M : Mem) (y : Nat), m_tg M y = 19 → m_asg M y "java/util/HashMap$Node") (hX : d_CX g M o x d) (hrm : d_rm M) (hQ : ∀ M' o', d_aft g M o x M' o' (s_road d a b v).2 → Q (s_road d a b v).1 M') : wp_X0_addRoad g M x a b v Q := by
  obtain ⟨RR, DD, U, y0, yh, yk, hC⟩ := id hX
  have hM := hC.2.2.1.2.1
  have hS := hC.2.2.1.1
  have hI := hC.2.2.1.2.2.2.2.1
  have hR := hI.1.1
  obtain ⟨_, x2, x3, _⟩ := hC.2.2.2.2.2.2
  obtain ⟨⟨uu, hu144, hD⟩, hrr, hrr4, hDok, hOK⟩ := d_road_of hC hC.2.2.1
  unfold s_road at hQ
  rw [← hM]
  by_cases h1 : a < 0 ∨ 11 < a
  · rw [if_pos h1] at hQ
    simp (decide := true) only [wp_X0_addRoad, wp_X0_isArea, w_in0, h1, x2, x3, if_true, cM_tg, cM_gr, cM_ln, cM_le, c_rn, c_rs, ct_0 hS, cg_0_6 hS, cp_0_6 hS, cg_0_7 hS, cp_0_7 hS, ct_8 hS, cg_8_0 hS, cp_8_0 hS, cg_8_1 hS, cp_8_1 hS, cg_8_2 hS, cp_8_2 hS, ct_1 hS, cg_1_0 hS, cp_1_0 hS, cg_1_1 hS, cp_1_1 hS, cg_1_2 hS, cp_1_2 hS, cg_1_3 hS, cp_1_3 hS, cg_1_4 hS, cp_1_4 hS, ct_2 hS, cg_2_0 hS, cp_2_0 hS, cg_2_1 hS, cp_2_1 hS, cg_2_2 hS, cp_2_2 hS, cg_2_3 hS, cp_2_3 hS, cg_2_4 hS, cp_2_4 hS, cg_2_5 hS, cp_2_5 hS, cg_2_6 hS, cp_2_6 hS, cg_2_7 hS, cp_2_7 hS, cg_2_8 hS, cp_2_8 hS, cg_2_9 hS, cp_2_9 hS, cg_2_10 hS, cp_2_10 hS, cg_2_11 hS, cp_2_11 hS, cg_2_12 hS, cp_2_12 hS, cg_2_13 hS, cp_2_13 hS, cg_2_14 hS, cp_2_14 hS, ct_3 hS, cg_3_0 hS, cp_3_0 hS, cg_3_1 hS, cp_3_1 hS, cg_3_2 hS, cp_3_2 hS, cg_3_3 hS, cp_3_3 hS, cg_3_4 hS, cp_3_4 hS, ct_4 hS, cg_4_0 hS, cp_4_0 hS, cg_4_1 hS, cp_4_1 hS, cg_4_2 hS, cp_4_2 hS, cg_4_3 hS, cp_4_3 hS, cg_4_4 hS, cp_4_4 hS, cg_4_5 hS, cp_4_5 hS, cg_4_6 hS, cp_4_6 hS, cg_4_7 hS, cp_4_7 hS, cg_4_8 hS, cp_4_8 hS, cg_4_9 hS, cp_4_9 hS, cg_4_10 hS, cp_4_10 hS, cg_4_11 hS, cp_4_11 hS, cg_4_12 hS, cp_4_12 hS, cl_t1 hS, cl_r1 hS, cl_g1 hS, cl_s1 hS, cl_t2 hS, cl_r2 hS, cl_g2 hS, cl_s2 hS, cl_t3 hS, cl_r3 hS, cl_g3 hS, cl_s3 hS, cl_t4 hS, cl_r4 hS, cl_g4 hS, cl_s4 hS, cl_p hS, cl_R hS, cl_8n hS, true_and, and_true, forall_const, Option.some.injEq, exists_eq_left', forall_eq, true_implies, cl_0, cl_1, cl_2, cl_3, cl_4, cl_5, cl_6, cl_7, cl_8, cl_9, cl_10, cl_11, cl_12, cl_13, cl_14, cl_15, cl_16, vi_0_3, vi_1_3, vi_2_3, not_true_eq_false, false_implies]
    rw [hM]
    exact hQ M o (d_no hX)
  by_cases h2 : b < 0 ∨ 11 < b
  · rw [if_neg h1, if_pos h2] at hQ
    simp (decide := true) only [wp_X0_addRoad, wp_X0_isArea, w_in0, h1, h2, x2, x3, if_true, if_false, cM_tg, cM_gr, cM_ln, cM_le, c_rn, c_rs, ct_0 hS, cg_0_6 hS, cp_0_6 hS, cg_0_7 hS, cp_0_7 hS, ct_8 hS, cg_8_0 hS, cp_8_0 hS, cg_8_1 hS, cp_8_1 hS, cg_8_2 hS, cp_8_2 hS, ct_1 hS, cg_1_0 hS, cp_1_0 hS, cg_1_1 hS, cp_1_1 hS, cg_1_2 hS, cp_1_2 hS, cg_1_3 hS, cp_1_3 hS, cg_1_4 hS, cp_1_4 hS, ct_2 hS, cg_2_0 hS, cp_2_0 hS, cg_2_1 hS, cp_2_1 hS, cg_2_2 hS, cp_2_2 hS, cg_2_3 hS, cp_2_3 hS, cg_2_4 hS, cp_2_4 hS, cg_2_5 hS, cp_2_5 hS, cg_2_6 hS, cp_2_6 hS, cg_2_7 hS, cp_2_7 hS, cg_2_8 hS, cp_2_8 hS, cg_2_9 hS, cp_2_9 hS, cg_2_10 hS, cp_2_10 hS, cg_2_11 hS, cp_2_11 hS, cg_2_12 hS, cp_2_12 hS, cg_2_13 hS, cp_2_13 hS, cg_2_14 hS, cp_2_14 hS, ct_3 hS, cg_3_0 hS, cp_3_0 hS, cg_3_1 hS, cp_3_1 hS, cg_3_2 hS, cp_3_2 hS, cg_3_3 hS, cp_3_3 hS, cg_3_4 hS, cp_3_4 hS, ct_4 hS, cg_4_0 hS, cp_4_0 hS, cg_4_1 hS, cp_4_1 hS, cg_4_2 hS, cp_4_2 hS, cg_4_3 hS, cp_4_3 hS, cg_4_4 hS, cp_4_4 hS, cg_4_5 hS, cp_4_5 hS, cg_4_6 hS, cp_4_6 hS, cg_4_7 hS, cp_4_7 hS, cg_4_8 hS, cp_4_8 hS, cg_4_9 hS, cp_4_9 hS, cg_4_10 hS, cp_4_10 hS, cg_4_11 hS, cp_4_11 hS, cg_4_12 hS, cp_4_12 hS, cl_t1 hS, cl_r1 hS, cl_g1 hS, cl_s1 hS, cl_t2 hS, cl_r2 hS, cl_g2 hS, cl_s2 hS, cl_t3 hS, cl_r3 hS, cl_g3 hS, cl_s3 hS, cl_t4 hS, cl_r4 hS, cl_g4 hS, cl_s4 hS, cl_p hS, cl_R hS, cl_8n hS, true_and, and_true, forall_const, Option.some.injEq, exists_eq_left', forall_eq, true_implies, cl_0, cl_1, cl_2, cl_3, cl_4, cl_5, cl_6, cl_7, cl_8, cl_9, cl_10, cl_11, cl_12, cl_13, cl_14, cl_15, cl_16, vi_0_3, vi_1_3, vi_2_3, not_true_eq_false, not_false_eq_true, false_implies]
    rw [hM]
    exact hQ M o (d_no hX)
  by_cases h3 : v < 1 ∨ 60 < v
  · rw [if_neg h1, if_neg h2, if_pos h3] at hQ
    simp (decide := true) only [wp_X0_addRoad, wp_X0_isArea, w_in0, h1, h2, h3, x2, x3, if_true, if_false, cM_tg, cM_gr, cM_ln, cM_le, c_rn, c_rs, ct_0 hS, cg_0_6 hS, cp_0_6 hS, cg_0_7 hS, cp_0_7 hS, ct_8 hS, cg_8_0 hS, cp_8_0 hS, cg_8_1 hS, cp_8_1 hS, cg_8_2 hS, cp_8_2 hS, ct_1 hS, cg_1_0 hS, cp_1_0 hS, cg_1_1 hS, cp_1_1 hS, cg_1_2 hS, cp_1_2 hS, cg_1_3 hS, cp_1_3 hS, cg_1_4 hS, cp_1_4 hS, ct_2 hS, cg_2_0 hS, cp_2_0 hS, cg_2_1 hS, cp_2_1 hS, cg_2_2 hS, cp_2_2 hS, cg_2_3 hS, cp_2_3 hS, cg_2_4 hS, cp_2_4 hS, cg_2_5 hS, cp_2_5 hS, cg_2_6 hS, cp_2_6 hS, cg_2_7 hS, cp_2_7 hS, cg_2_8 hS, cp_2_8 hS, cg_2_9 hS, cp_2_9 hS, cg_2_10 hS, cp_2_10 hS, cg_2_11 hS, cp_2_11 hS, cg_2_12 hS, cp_2_12 hS, cg_2_13 hS, cp_2_13 hS, cg_2_14 hS, cp_2_14 hS, ct_3 hS, cg_3_0 hS, cp_3_0 hS, cg_3_1 hS, cp_3_1 hS, cg_3_2 hS, cp_3_2 hS, cg_3_3 hS, cp_3_3 hS, cg_3_4 hS, cp_3_4 hS, ct_4 hS, cg_4_0 hS, cp_4_0 hS, cg_4_1 hS, cp_4_1 hS, cg_4_2 hS, cp_4_2 hS, cg_4_3 hS, cp_4_3 hS, cg_4_4 hS, cp_4_4 hS, cg_4_5 hS, cp_4_5 hS, cg_4_6 hS, cp_4_6 hS, cg_4_7 hS, cp_4_7 hS, cg_4_8 hS, cp_4_8 hS, cg_4_9 hS, cp_4_9 hS, cg_4_10 hS, cp_4_10 hS, cg_4_11 hS, cp_4_11 hS, cg_4_12 hS, cp_4_12 hS, cl_t1 hS, cl_r1 hS, cl_g1 hS, cl_s1 hS, cl_t2 hS, cl_r2 hS, cl_g2 hS, cl_s2 hS, cl_t3 hS, cl_r3 hS, cl_g3 hS, cl_s3 hS, cl_t4 hS, cl_r4 hS, cl_g4 hS, cl_s4 hS, cl_p hS, cl_R hS, cl_8n hS, true_and, and_true, forall_const, Option.some.injEq, exists_eq_left', forall_eq, true_implies, cl_0, cl_1, cl_2, cl_3, cl_4, cl_5, cl_6, cl_7, cl_8, cl_9, cl_10, cl_11, cl_12, cl_13, cl_14, cl_15, cl_16, vi_0_3, vi_1_3, vi_2_3, not_true_eq_false, not_false_eq_true, false_implies]
    rw [hM]
    exact hQ M o (d_no hX)
  by_cases h4 : a = b
  · rw [if_neg h1, if_neg h2, if_neg h3, if_pos h4] at hQ
    simp (decide := true) only [wp_X0_addRoad, wp_X0_isArea, w_in0, h1, h2, h3, h4, x2, x3, if_true, if_false, cM_tg, cM_gr, cM_ln, cM_le, c_rn, c_rs, ct_0 hS, cg_0_6 hS, cp_0_6 hS, cg_0_7 hS, cp_0_7 hS, ct_8 hS, cg_8_0 hS, cp_8_0 hS, cg_8_1 hS, cp_8_1 hS, cg_8_2 hS, cp_8_2 hS, ct_1 hS, cg_1_0 hS, cp_1_0 hS, cg_1_1 hS, cp_1_1 hS, cg_1_2 hS, cp_1_2 hS, cg_1_3 hS, cp_1_3 hS, cg_1_4 hS, cp_1_4 hS, ct_2 hS, cg_2_0 hS, cp_2_0 hS, cg_2_1 hS, cp_2_1 hS, cg_2_2 hS, cp_2_2 hS, cg_2_3 hS, cp_2_3 hS, cg_2_4 hS, cp_2_4 hS, cg_2_5 hS, cp_2_5 hS, cg_2_6 hS, cp_2_6 hS, cg_2_7 hS, cp_2_7 hS, cg_2_8 hS, cp_2_8 hS, cg_2_9 hS, cp_2_9 hS, cg_2_10 hS, cp_2_10 hS, cg_2_11 hS, cp_2_11 hS, cg_2_12 hS, cp_2_12 hS, cg_2_13 hS, cp_2_13 hS, cg_2_14 hS, cp_2_14 hS, ct_3 hS, cg_3_0 hS, cp_3_0 hS, cg_3_1 hS, cp_3_1 hS, cg_3_2 hS, cp_3_2 hS, cg_3_3 hS, cp_3_3 hS, cg_3_4 hS, cp_3_4 hS, ct_4 hS, cg_4_0 hS, cp_4_0 hS, cg_4_1 hS, cp_4_1 hS, cg_4_2 hS, cp_4_2 hS, cg_4_3 hS, cp_4_3 hS, cg_4_4 hS, cp_4_4 hS, cg_4_5 hS, cp_4_5 hS, cg_4_6 hS, cp_4_6 hS, cg_4_7 hS, cp_4_7 hS, cg_4_8 hS, cp_4_8 hS, cg_4_9 hS, cp_4_9 hS, cg_4_10 hS, cp_4_10 hS, cg_4_11 hS, cp_4_11 hS, cg_4_12 hS, cp_4_12 hS, cl_t1 hS, cl_r1 hS, cl_g1 hS, cl_s1 hS, cl_t2 hS, cl_r2 hS, cl_g2 hS, cl_s2 hS, cl_t3 hS, cl_r3 hS, cl_g3 hS, cl_s3 hS, cl_t4 hS, cl_r4 hS, cl_g4 hS, cl_s4 hS, cl_p hS, cl_R hS, cl_8n hS, true_and, and_true, forall_const, Option.some.injEq, exists_eq_left', forall_eq, true_implies, cl_0, cl_1, cl_2, cl_3, cl_4, cl_5, cl_6, cl_7, cl_8, cl_9, cl_10, cl_11, cl_12, cl_13, cl_14, cl_15, cl_16, vi_0_3, vi_1_3, vi_2_3, not_true_eq_false, not_false_eq_true, false_implies]
    rw [hM]
    exact hQ M o (d_no hX)
  rw [if_neg h1, if_neg h2, if_neg h3, if_neg h4] at hQ
  obtain ⟨a', ha, ea⟩ := u_ix (N := 12) h1 (by decide)
  obtain ⟨b', hb, eb⟩ := u_ix (N := 12) h2 (by decide)
  have hv3 : ∃ l : Nat, l < 61 ∧ v = nI l := by
    refine u_ix (N := 61) (fun z => h3 ?_) (by decide)
    rcases z with z | z
    · left
      refine Int32.lt_of_lt_of_le z ?_
      decide
    · exact Or.inr z
  obtain ⟨l, hl, el⟩ := hv3
  subst ea
  subst eb
  subst el
  have hl1 : 1 ≤ l := by
    apply Classical.byContradiction
    intro z
    have : l = 0 := by omega
    subst this
    exact h3 (Or.inl (by decide))
  have hab : a' ≠ b' := fun z => h4 (by rw [z])
  rw [pn_cl (by omega), pn_cl (by omega)] at hQ
  have hDle := (hOK.1 a' b' ha hb).1
  have h1' : ¬ (nI a' < 0 ∨ 11 < nI a') := h1
  simp (decide := true) only [wp_X0_addRoad, wp_X0_isArea, w_in0, h1, h2, h3, h4, x2, x3, if_false, cM_tg, cM_gr, cM_ln, cM_le, c_rn, c_rs, ct_0 hS, cg_0_6 hS, cp_0_6 hS, cg_0_7 hS, cp_0_7 hS, ct_8 hS, cg_8_0 hS, cp_8_0 hS, cg_8_1 hS, cp_8_1 hS, cg_8_2 hS, cp_8_2 hS, ct_1 hS, cg_1_0 hS, cp_1_0 hS, cg_1_1 hS, cp_1_1 hS, cg_1_2 hS, cp_1_2 hS, cg_1_3 hS, cp_1_3 hS, cg_1_4 hS, cp_1_4 hS, ct_2 hS, cg_2_0 hS, cp_2_0 hS, cg_2_1 hS, cp_2_1 hS, cg_2_2 hS, cp_2_2 hS, cg_2_3 hS, cp_2_3 hS, cg_2_4 hS, cp_2_4 hS, cg_2_5 hS, cp_2_5 hS, cg_2_6 hS, cp_2_6 hS, cg_2_7 hS, cp_2_7 hS, cg_2_8 hS, cp_2_8 hS, cg_2_9 hS, cp_2_9 hS, cg_2_10 hS, cp_2_10 hS, cg_2_11 hS, cp_2_11 hS, cg_2_12 hS, cp_2_12 hS, cg_2_13 hS, cp_2_13 hS, cg_2_14 hS, cp_2_14 hS, ct_3 hS, cg_3_0 hS, cp_3_0 hS, cg_3_1 hS, cp_3_1 hS, cg_3_2 hS, cp_3_2 hS, cg_3_3 hS, cp_3_3 hS, cg_3_4 hS, cp_3_4 hS, ct_4 hS, cg_4_0 hS, cp_4_0 hS, cg_4_1 hS, cp_4_1 hS, cg_4_2 hS, cp_4_2 hS, cg_4_3 hS, cp_4_3 hS, cg_4_4 hS, cp_4_4 hS, cg_4_5 hS, cp_4_5 hS, cg_4_6 hS, cp_4_6 hS, cg_4_7 hS, cp_4_7 hS, cg_4_8 hS, cp_4_8 hS, cg_4_9 hS, cp_4_9 hS, cg_4_10 hS, cp_4_10 hS, cg_4_11 hS, cp_4_11 hS, cg_4_12 hS, cp_4_12 hS, cl_t1 hS, cl_r1 hS, cl_g1 hS, cl_s1 hS, cl_t2 hS, cl_r2 hS, cl_g2 hS, cl_s2 hS, cl_t3 hS, cl_r3 hS, cl_g3 hS, cl_s3 hS, cl_t4 hS, cl_r4 hS, cl_g4 hS, cl_s4 hS, cl_p hS, cl_R hS, cl_8n hS, true_and, and_true, forall_const, Option.some.injEq, exists_eq_left', forall_eq, true_implies, cl_0, cl_1, cl_2, cl_3, cl_4, cl_5, cl_6, cl_7, cl_8, cl_9, cl_10, cl_11, cl_12, cl_13, cl_14, cl_15, cl_16, vi_0_3, vi_1_3, vi_2_3, not_false_eq_true, true_implies, false_implies]
  rw [hM]
  refine ⟨hD.2.1, ?_⟩
  rw [c2_lengthOf hD ha hb]
  refine fun _ => ⟨fun h5 => ?_, fun h5 => ?_⟩
  · rw [c_far_no hDle] at h5
    rw [if_neg h5] at hQ
    obtain ⟨_, _, _, ⟨Hm, hm1, hm2⟩, _⟩ := hC.2.1 _ hC.2.2.1.2.2.1
    rw [hC.2.2.1.2.2.2.1] at hm2
    have hsz := (c_Mh_H hm2).2.2
    rw [u_np_rds _ hI.2.1] at hsz
    refine ⟨_, x3, ct_0 hS, _, cl_R hS, hD.2.1, Hm, hm1, (c_Mh_H hm2).2.1, (c_Mh_H hm2).2.1, ?_⟩
    rw [hsz]
    have d5 := hR.1.2.2.2.2.2.1
    refine fun _ => ⟨fun h6 => ?_, fun h6 => ?_⟩
    · have hn : d.1.2 5 ≠ 30 := fun z => h6 (by rw [z]; rfl)
      rw [if_neg hn] at hQ
      refine d_record hobj hC (d_rm8 hrm) (fun M1 o1 y1 p1 p2 p3 p4 _ => ?_)
      have r1 := hrm.1
      have r2 := hrm.2
      have hS1 : c_St g M1 o1 y0.1 y0.2.1 d.1.2 (RR y0.2.2) := p1.2.2.1.1
      obtain ⟨_, z2, z3, _⟩ := p1.2.2.2.2.2.2
      obtain ⟨⟨uu1, _, hD1⟩, _, _, _, _⟩ := d_road_of p1 p1.2.2.1
      refine ⟨_, z3, ⟨by omega, by omega⟩, fun R hR0 => ?_⟩
      generalize e60' : m_al M1 R 3 0 4 = M60
      have e60 := e60'.symm
      have R1 : ∀ q : Nat, m_tg M1 q ≠ 0 → M60.1 q = M1.1 q := fun q hq => by rw [e60, u_al_ne (fun z => hq (by rw [z]; exact hR0))]
      have tR60 : m_tg M60 R = 3 := by rw [e60, m_tg_al, if_pos rfl]
      have cx := R1 x (by rw [z2]; decide)
      have cS := R1 (y0.2.1 0 0) (by rw [ct_0 hS1]; decide)
      have nc60 : m_nc M60 = m_nc M1 + 1 := by rw [e60]; rfl
      have ns60 : m_ns M60 = m_ns M1 + 4 := by rw [e60]; rfl
      refine ⟨_, (c_cell_gr cx).trans z3, (c_cell_tg cS).trans (ct_0 hS1), _, (c_cell_gr cS).trans (cl_R hS1), ⟨by omega, by omega⟩, fun key hk0 => ?_⟩
      generalize e78' : m_al M60 key 4 0 2 = M78
      have e78 := e78'.symm
      have tR78 : m_tg M78 R = 3 := by rw [e78, m_tg_al, if_neg (fun z => by rw [← z, tR60] at hk0; cases hk0)]; exact tR60
      have tk : m_tg M78 key = 4 := by rw [e78, m_tg_al, if_pos rfl]
      have hk1 : m_tg M1 key = 0 := Classical.byContradiction (fun z => by
        rw [c_cell_tg (R1 key z)] at hk0
        exact z hk0)
      refine ⟨tk, fun M2 e2 M90 e90 _ => ?_⟩
      obtain ⟨emin, emax⟩ := u_min ha hb
      have nw : c_nw M1 M90 := by
        have c90 : ∀ q : Nat, m_tg M1 q ≠ 0 → M90.1 q = M1.1 q := fun q hq => by
          have qk : q ≠ key := fun z => hq (by rw [z]; exact hk1)
          rw [e90, u_pi_ne qk, e2, u_pi_ne qk, e78, u_al_ne qk, R1 q hq]
        exact ⟨fun q hq => ⟨c_cell_tg (c90 q hq), c_cell_ln (c90 q hq)⟩, c90⟩
      obtain ⟨b1, b2, b3, N0, b4⟩ := id p1.1
      have nc90 : m_nc M90 = m_nc M1 + 2 := by rw [e90, e2, e78]; show m_nc M60 + 1 = _; omega
      have ns90 : m_ns M90 = m_ns M1 + 6 := by rw [e90, e2, e78]; show m_ns M60 + 2 = _; omega
      obtain ⟨_, _, _, ⟨H1, hh1, hh2⟩, _⟩ := p1.2.1 _ p1.2.2.1.2.2.1
      have eDD : DD y0.2.2 = u_Dk d.1.1 (d.1.2 5) := p1.2.2.1.2.2.2.1
      rw [eDD] at hh2
      have hn5 : u_at d.1.2 5 (d.1.2 5 + 1) 5 = d.1.2 5 + 1 := u_at_eq
      have hno : u_Dk d.1.1 (d.1.2 5) a' b' = 100000 := by omega
      obtain ⟨k1, k2⟩ := u_road_ok (σ := d.1.1) (n := d.1.2) (l := l) hI (by omega) ha hb hab hl1 (by omega) hno
      have hDk := u_np_rds _ k1.2.1
      have hok' : u_Dok (u_Dk (u_road d.1.2 d.1.1 (nI a') (nI b') (nI l)) (d.1.2 5 + 1)) := by
        have := u_Dk_ok (σ := u_road d.1.2 d.1.1 (nI a') (nI b') (nI l)) (d.1.2 5 + 1) (fun r hr => (k1.2.1 r (by show r < u_at d.1.2 5 (d.1.2 5 + 1) 5; rw [hn5]; exact hr)).1)
        exact this
      refine c2_init1 (Xa := M1) (o := o1) (rr := 3 * N0 + 4) (rm := 3 * N0 + 4 + 1) (lo := min a' b') (hi := max a' b') (v := l) (Db := u_Dk d.1.1 (d.1.2 5)) (D := u_Dk (u_road d.1.2 d.1.1 (nI a') (nI b') (nI l)) (d.1.2 5 + 1)) hobj hnode nw ?_ hR0 b1 ⟨?_, hk1, ?_, ?_⟩ (by omega) (by omega) rfl hl1 (by omega) ⟨hD1.2.1, H1, fun q => (o1 q).1 = y0.2.2 + 1, hh1, fun q hq => b1 q (by rw [hq]; omega), hh2, ?_⟩ hDok ?_ ?_ hok' (fun p q hpq hq => ?_) ?_ ⟨by omega, by omega⟩ (fun X' o' t1 t2 t3 _ => ?_)
      · rw [e90, m_tg_pi, e2, m_tg_pi]; exact tR78
      · rw [e90, m_tg_pi, e2, m_tg_pi]; exact tk
      · rw [e90, m_gi_pi, if_neg (by omega), e2, m_gi_pi, if_pos ⟨rfl, rfl⟩]
        exact emin
      · rw [e90, m_gi_pi, if_pos ⟨rfl, rfl⟩]
        exact emax
      · rw [u_np_rds _ hI.2.1]
        exact d5
      · rcases Nat.lt_or_ge a' b' with w | w
        · rw [show min a' b' = a' by omega, show max a' b' = b' by omega]
          exact hno
        · rw [show min a' b' = b' by omega, show max a' b' = a' by omega, (hDok b' a' hb ha).1]
          exact hno
      · rw [u_np_rds _ hI.2.1]
        omega
      · rw [k2 p q]
        by_cases w : p = min a' b' ∧ q = max a' b'
        · rw [if_pos w, if_pos (by omega)]
        · rw [if_neg w, if_neg (by omega)]
      · have e1 : u_np (u_Dk (u_road d.1.2 d.1.1 (nI a') (nI b') (nI l)) (d.1.2 5 + 1)) 144 = d.1.2 5 + 1 := by
          have := hDk
          rw [show ((u_road d.1.2 d.1.1 (nI a') (nI b') (nI l), u_at d.1.2 5 (d.1.2 5 + 1)) : Cs).2 5 = d.1.2 5 + 1 from hn5] at this
          exact this
        rw [e1, u_np_rds _ hI.2.1]
      · have tS1 : m_tg M1 (y0.2.1 0 0) = 2 := ct_0 hS1
        refine ⟨by rw [(t1.2.2.2.2.2.1.1 _ (by rw [tS1]; decide)).1]; exact tS1, ?_⟩
        generalize e113' : m_pr X' (y0.2.1 0 0) 5 (some R) = M113
        have e113 := e113'.symm
        have hσ : c_cM M1 o1 y0.1 (u_road d.1.2 d.1.1 (nI a') (nI b') (nI l)) = M1 := by
          have := p1.2.2.1.2.1
          unfold u_road
          rw [cM_gh rfl, cM_gh rfl, cM_gh rfl, cM_gh rfl]
          exact this
        obtain ⟨RR', DD', U', w1, w2⟩ := d_newroads (d := d_rec d) (a' := (u_road d.1.2 d.1.1 (nI a') (nI b') (nI l), u_at d.1.2 5 (d.1.2 5 + 1))) p1 b4 t1 hok' (by show _ = u_Dk _ (u_at d.1.2 5 (d.1.2 5 + 1) 5); rw [hn5]) k1 (fun s q1 q2 => u_at_ne (by omega)) hσ
        rw [← e113] at w1 w2
        exact hQ M113 o' ⟨⟨RR', DD', U', _, _, _, w1⟩, c_same_tr p2 w2, by rw [e113, m_nc_pr]; omega, by rw [e113, m_ns_pr]; omega⟩
    · have hn : d.1.2 5 = 30 := (pn_inj (b := 30) (by omega) (by omega)).mp h6
      rw [if_pos hn] at hQ
      exact hQ M o (d_no hX)
  · rw [c_far_no hDle] at h5
    rw [if_pos (Classical.not_not.mp h5)] at hQ
    exact hQ M o (d_no hX)
theorem r4_road {a b v : Int32} {Q : Int32 → Mem → Prop} (hA : q_MA M m A) (hR : d_Rf m A I d) (hK : d_ok d) (hQ : ∀ J, d_Rf m A J (s_road d a b v).2 → d_fr m A I J → Q (s_road d a b v).1 (c_rM M A J (s_road d a b v).2.1.1)) : wp_X4_addRoad g (c_rM M A I d.1.1) m a b v Q := by
  have hI := hK.1
  have hR1 := hI.1.1
  have e5 : d.1.1 0 0 5 = nI (d.1.2 5) := hR1.1.1
  have d5 := hR1.1.2.2.2.2.2.1
  unfold s_road at hQ
  by_cases h1 : a < 0 ∨ 11 < a
  · rw [if_pos h1] at hQ
    simp (decide := true) only [wp_X4_addRoad, wp_X4_isArea, w_in4, h1, if_true, rw_ofPatrol, rw_ofCall, rw_ofMember, rw_ofGarage, rw_laysPatrol, rw_laysCall, rw_addsMember, rM_tg, rM_gr, rM_ln, rM_m hA, rM_a hA, rM_at hA, rM_al hA, rM_gi0, rM_pi0, rM_le, hA, c_rn, c_rs, true_and, and_true, forall_const, Option.some.injEq, exists_eq_left', forall_eq, true_implies, vi_0_3, vi_1_3, vi_2_3, vi_0_4, vi_1_4, vi_2_4, vi_3_4, vi_0_13, vi_1_13, vi_2_13, vi_3_13, vi_4_13, vi_5_13, vi_6_13, vi_7_13, vi_8_13, vi_9_13, vi_10_13, vi_11_13, vi_12_13, vi_0_14, vi_1_14, vi_2_14, vi_3_14, vi_4_14, vi_5_14, vi_6_14, vi_7_14, vi_8_14, vi_9_14, vi_10_14, vi_11_14, vi_12_14, vi_13_14, vi_0_16, vi_1_16, vi_2_16, vi_3_16, vi_4_16, vi_5_16, vi_6_16, vi_7_16, vi_8_16, vi_9_16, vi_10_16, vi_11_16, vi_12_16, vi_13_16, vi_14_16, vi_15_16, vi_0_810, vi_1_810, vi_2_810, vi_3_810, vi_4_810, vi_5_810, vi_6_810, vi_7_810, vi_8_810, vi_9_810, vi_10_810, vi_11_810, vi_12_810, vi_13_810, vi_14_810, vi_15_810, vi_0_40, vi_1_40, vi_2_40, vi_3_40, vi_4_40, vi_5_40, vi_6_40, vi_7_40, vi_8_40, vi_9_40, vi_10_40, vi_11_40, vi_12_40, vi_13_40, vi_14_40, vi_15_40, vi_0_60, vi_1_60, vi_2_60, vi_3_60, vi_4_60, vi_5_60, vi_6_60, vi_7_60, vi_8_60, vi_9_60, vi_10_60, vi_11_60, vi_12_60, vi_13_60, vi_14_60, vi_15_60, vi_0_144, vi_1_144, vi_2_144, vi_3_144, vi_4_144, vi_5_144, vi_6_144, vi_7_144, vi_8_144, vi_9_144, vi_10_144, vi_11_144, vi_12_144, vi_13_144, vi_14_144, vi_15_144, vi_0_12, vi_1_12, vi_2_12, vi_3_12, vi_4_12, vi_5_12, vi_6_12, vi_7_12, vi_8_12, vi_9_12, vi_10_12, vi_11_12, cl_0, cl_1, cl_2, cl_3, cl_4, cl_5, cl_6, cl_7, cl_8, cl_9, cl_10, cl_11, cl_12, cl_13, cl_14, cl_15, cl_16, not_true_eq_false, false_implies, m_lerf]
    exact hQ I hR d_fr_rf
  by_cases h2 : b < 0 ∨ 11 < b
  · rw [if_neg h1, if_pos h2] at hQ
    simp (decide := true) only [wp_X4_addRoad, wp_X4_isArea, w_in4, h1, h2, if_true, if_false, rw_ofPatrol, rw_ofCall, rw_ofMember, rw_ofGarage, rw_laysPatrol, rw_laysCall, rw_addsMember, rM_tg, rM_gr, rM_ln, rM_m hA, rM_a hA, rM_at hA, rM_al hA, rM_gi0, rM_pi0, rM_le, hA, c_rn, c_rs, true_and, and_true, forall_const, Option.some.injEq, exists_eq_left', forall_eq, true_implies, vi_0_3, vi_1_3, vi_2_3, vi_0_4, vi_1_4, vi_2_4, vi_3_4, vi_0_13, vi_1_13, vi_2_13, vi_3_13, vi_4_13, vi_5_13, vi_6_13, vi_7_13, vi_8_13, vi_9_13, vi_10_13, vi_11_13, vi_12_13, vi_0_14, vi_1_14, vi_2_14, vi_3_14, vi_4_14, vi_5_14, vi_6_14, vi_7_14, vi_8_14, vi_9_14, vi_10_14, vi_11_14, vi_12_14, vi_13_14, vi_0_16, vi_1_16, vi_2_16, vi_3_16, vi_4_16, vi_5_16, vi_6_16, vi_7_16, vi_8_16, vi_9_16, vi_10_16, vi_11_16, vi_12_16, vi_13_16, vi_14_16, vi_15_16, vi_0_810, vi_1_810, vi_2_810, vi_3_810, vi_4_810, vi_5_810, vi_6_810, vi_7_810, vi_8_810, vi_9_810, vi_10_810, vi_11_810, vi_12_810, vi_13_810, vi_14_810, vi_15_810, vi_0_40, vi_1_40, vi_2_40, vi_3_40, vi_4_40, vi_5_40, vi_6_40, vi_7_40, vi_8_40, vi_9_40, vi_10_40, vi_11_40, vi_12_40, vi_13_40, vi_14_40, vi_15_40, vi_0_60, vi_1_60, vi_2_60, vi_3_60, vi_4_60, vi_5_60, vi_6_60, vi_7_60, vi_8_60, vi_9_60, vi_10_60, vi_11_60, vi_12_60, vi_13_60, vi_14_60, vi_15_60, vi_0_144, vi_1_144, vi_2_144, vi_3_144, vi_4_144, vi_5_144, vi_6_144, vi_7_144, vi_8_144, vi_9_144, vi_10_144, vi_11_144, vi_12_144, vi_13_144, vi_14_144, vi_15_144, vi_0_12, vi_1_12, vi_2_12, vi_3_12, vi_4_12, vi_5_12, vi_6_12, vi_7_12, vi_8_12, vi_9_12, vi_10_12, vi_11_12, cl_0, cl_1, cl_2, cl_3, cl_4, cl_5, cl_6, cl_7, cl_8, cl_9, cl_10, cl_11, cl_12, cl_13, cl_14, cl_15, cl_16, not_true_eq_false, not_false_eq_true, false_implies, m_lerf]
    exact hQ I hR d_fr_rf
  by_cases h3 : v < 1 ∨ 60 < v
  · rw [if_neg h1, if_neg h2, if_pos h3] at hQ
    simp (decide := true) only [wp_X4_addRoad, wp_X4_isArea, w_in4, h1, h2, h3, if_true, if_false, rw_ofPatrol, rw_ofCall, rw_ofMember, rw_ofGarage, rw_laysPatrol, rw_laysCall, rw_addsMember, rM_tg, rM_gr, rM_ln, rM_m hA, rM_a hA, rM_at hA, rM_al hA, rM_gi0, rM_pi0, rM_le, hA, c_rn, c_rs, true_and, and_true, forall_const, Option.some.injEq, exists_eq_left', forall_eq, true_implies, vi_0_3, vi_1_3, vi_2_3, vi_0_4, vi_1_4, vi_2_4, vi_3_4, vi_0_13, vi_1_13, vi_2_13, vi_3_13, vi_4_13, vi_5_13, vi_6_13, vi_7_13, vi_8_13, vi_9_13, vi_10_13, vi_11_13, vi_12_13, vi_0_14, vi_1_14, vi_2_14, vi_3_14, vi_4_14, vi_5_14, vi_6_14, vi_7_14, vi_8_14, vi_9_14, vi_10_14, vi_11_14, vi_12_14, vi_13_14, vi_0_16, vi_1_16, vi_2_16, vi_3_16, vi_4_16, vi_5_16, vi_6_16, vi_7_16, vi_8_16, vi_9_16, vi_10_16, vi_11_16, vi_12_16, vi_13_16, vi_14_16, vi_15_16, vi_0_810, vi_1_810, vi_2_810, vi_3_810, vi_4_810, vi_5_810, vi_6_810, vi_7_810, vi_8_810, vi_9_810, vi_10_810, vi_11_810, vi_12_810, vi_13_810, vi_14_810, vi_15_810, vi_0_40, vi_1_40, vi_2_40, vi_3_40, vi_4_40, vi_5_40, vi_6_40, vi_7_40, vi_8_40, vi_9_40, vi_10_40, vi_11_40, vi_12_40, vi_13_40, vi_14_40, vi_15_40, vi_0_60, vi_1_60, vi_2_60, vi_3_60, vi_4_60, vi_5_60, vi_6_60, vi_7_60, vi_8_60, vi_9_60, vi_10_60, vi_11_60, vi_12_60, vi_13_60, vi_14_60, vi_15_60, vi_0_144, vi_1_144, vi_2_144, vi_3_144, vi_4_144, vi_5_144, vi_6_144, vi_7_144, vi_8_144, vi_9_144, vi_10_144, vi_11_144, vi_12_144, vi_13_144, vi_14_144, vi_15_144, vi_0_12, vi_1_12, vi_2_12, vi_3_12, vi_4_12, vi_5_12, vi_6_12, vi_7_12, vi_8_12, vi_9_12, vi_10_12, vi_11_12, cl_0, cl_1, cl_2, cl_3, cl_4, cl_5, cl_6, cl_7, cl_8, cl_9, cl_10, cl_11, cl_12, cl_13, cl_14, cl_15, cl_16, not_true_eq_false, not_false_eq_true, false_implies, m_lerf]
    exact hQ I hR d_fr_rf
  by_cases h4 : a = b
  · rw [if_neg h1, if_neg h2, if_neg h3, if_pos h4] at hQ
    simp (decide := true) only [wp_X4_addRoad, wp_X4_isArea, w_in4, h1, h2, h3, h4, if_true, if_false, rw_ofPatrol, rw_ofCall, rw_ofMember, rw_ofGarage, rw_laysPatrol, rw_laysCall, rw_addsMember, rM_tg, rM_gr, rM_ln, rM_m hA, rM_a hA, rM_at hA, rM_al hA, rM_gi0, rM_pi0, rM_le, hA, c_rn, c_rs, true_and, and_true, forall_const, Option.some.injEq, exists_eq_left', forall_eq, true_implies, vi_0_3, vi_1_3, vi_2_3, vi_0_4, vi_1_4, vi_2_4, vi_3_4, vi_0_13, vi_1_13, vi_2_13, vi_3_13, vi_4_13, vi_5_13, vi_6_13, vi_7_13, vi_8_13, vi_9_13, vi_10_13, vi_11_13, vi_12_13, vi_0_14, vi_1_14, vi_2_14, vi_3_14, vi_4_14, vi_5_14, vi_6_14, vi_7_14, vi_8_14, vi_9_14, vi_10_14, vi_11_14, vi_12_14, vi_13_14, vi_0_16, vi_1_16, vi_2_16, vi_3_16, vi_4_16, vi_5_16, vi_6_16, vi_7_16, vi_8_16, vi_9_16, vi_10_16, vi_11_16, vi_12_16, vi_13_16, vi_14_16, vi_15_16, vi_0_810, vi_1_810, vi_2_810, vi_3_810, vi_4_810, vi_5_810, vi_6_810, vi_7_810, vi_8_810, vi_9_810, vi_10_810, vi_11_810, vi_12_810, vi_13_810, vi_14_810, vi_15_810, vi_0_40, vi_1_40, vi_2_40, vi_3_40, vi_4_40, vi_5_40, vi_6_40, vi_7_40, vi_8_40, vi_9_40, vi_10_40, vi_11_40, vi_12_40, vi_13_40, vi_14_40, vi_15_40, vi_0_60, vi_1_60, vi_2_60, vi_3_60, vi_4_60, vi_5_60, vi_6_60, vi_7_60, vi_8_60, vi_9_60, vi_10_60, vi_11_60, vi_12_60, vi_13_60, vi_14_60, vi_15_60, vi_0_144, vi_1_144, vi_2_144, vi_3_144, vi_4_144, vi_5_144, vi_6_144, vi_7_144, vi_8_144, vi_9_144, vi_10_144, vi_11_144, vi_12_144, vi_13_144, vi_14_144, vi_15_144, vi_0_12, vi_1_12, vi_2_12, vi_3_12, vi_4_12, vi_5_12, vi_6_12, vi_7_12, vi_8_12, vi_9_12, vi_10_12, vi_11_12, cl_0, cl_1, cl_2, cl_3, cl_4, cl_5, cl_6, cl_7, cl_8, cl_9, cl_10, cl_11, cl_12, cl_13, cl_14, cl_15, cl_16, not_true_eq_false, not_false_eq_true, false_implies, m_lerf]
    exact hQ I hR d_fr_rf
  rw [if_neg h1, if_neg h2, if_neg h3, if_neg h4] at hQ
  obtain ⟨a', ha, ea⟩ := u_ix (N := 12) h1 (by decide)
  obtain ⟨b', hb, eb⟩ := u_ix (N := 12) h2 (by decide)
  have hv3 : ∃ l : Nat, l < 61 ∧ v = nI l := by
    refine u_ix (N := 61) (fun z => h3 ?_) (by decide)
    rcases z with z | z
    · left
      refine Int32.lt_of_lt_of_le z ?_
      decide
    · exact Or.inr z
  obtain ⟨l, hl, el⟩ := hv3
  subst ea
  subst eb
  subst el
  have hl1 : 1 ≤ l := by
    apply Classical.byContradiction
    intro z
    have : l = 0 := by omega
    subst this
    exact h3 (Or.inl (by decide))
  have hab : a' ≠ b' := fun z => h4 (by rw [z])
  rw [pn_cl (by omega), pn_cl (by omega)] at hQ
  obtain ⟨q1, q2, _, _⟩ := hR.2.2.2.2.2.2.2 a' b' ha hb
  obtain ⟨g8, t8, n8⟩ := hA.2.1 8 i_8
  have ix : (12 : Int32) * nI a' + nI b' = nI (12 * a' + b') := by rw [show (12 : Int32) = nI 12 from rfl, pn_mul, pn_add]
  simp (decide := true) only [wp_X4_addRoad, wp_X4_isArea, w_in4, h1, h2, h3, h4, e5, if_false, rw_ofPatrol, rw_ofCall, rw_ofMember, rw_ofGarage, rw_laysPatrol, rw_laysCall, rw_addsMember, rM_tg, rM_gr, rM_ln, rM_m hA, rM_a hA, rM_at hA, rM_al hA, rM_gi0, rM_pi0, rM_le, hA, c_rn, c_rs, true_and, and_true, forall_const, Option.some.injEq, exists_eq_left', forall_eq, true_implies, vi_0_3, vi_1_3, vi_2_3, vi_0_4, vi_1_4, vi_2_4, vi_3_4, vi_0_13, vi_1_13, vi_2_13, vi_3_13, vi_4_13, vi_5_13, vi_6_13, vi_7_13, vi_8_13, vi_9_13, vi_10_13, vi_11_13, vi_12_13, vi_0_14, vi_1_14, vi_2_14, vi_3_14, vi_4_14, vi_5_14, vi_6_14, vi_7_14, vi_8_14, vi_9_14, vi_10_14, vi_11_14, vi_12_14, vi_13_14, vi_0_16, vi_1_16, vi_2_16, vi_3_16, vi_4_16, vi_5_16, vi_6_16, vi_7_16, vi_8_16, vi_9_16, vi_10_16, vi_11_16, vi_12_16, vi_13_16, vi_14_16, vi_15_16, vi_0_810, vi_1_810, vi_2_810, vi_3_810, vi_4_810, vi_5_810, vi_6_810, vi_7_810, vi_8_810, vi_9_810, vi_10_810, vi_11_810, vi_12_810, vi_13_810, vi_14_810, vi_15_810, vi_0_40, vi_1_40, vi_2_40, vi_3_40, vi_4_40, vi_5_40, vi_6_40, vi_7_40, vi_8_40, vi_9_40, vi_10_40, vi_11_40, vi_12_40, vi_13_40, vi_14_40, vi_15_40, vi_0_60, vi_1_60, vi_2_60, vi_3_60, vi_4_60, vi_5_60, vi_6_60, vi_7_60, vi_8_60, vi_9_60, vi_10_60, vi_11_60, vi_12_60, vi_13_60, vi_14_60, vi_15_60, vi_0_144, vi_1_144, vi_2_144, vi_3_144, vi_4_144, vi_5_144, vi_6_144, vi_7_144, vi_8_144, vi_9_144, vi_10_144, vi_11_144, vi_12_144, vi_13_144, vi_14_144, vi_15_144, vi_0_12, vi_1_12, vi_2_12, vi_3_12, vi_4_12, vi_5_12, vi_6_12, vi_7_12, vi_8_12, vi_9_12, vi_10_12, vi_11_12, cl_0, cl_1, cl_2, cl_3, cl_4, cl_5, cl_6, cl_7, cl_8, cl_9, cl_10, cl_11, cl_12, cl_13, cl_14, cl_15, cl_16, not_false_eq_true, true_implies, false_implies, m_lerf]
  rw [ix]
  have gv : m_gi (c_rM M A I d.1.1) (A 8) (12 * a' + b') = nI (u_Dk d.1.1 (d.1.2 5) a' b') := (rM_gi_ne (q_ne hA i_8 i_0 (by decide))).trans q1
  refine ⟨A 8, g8, t8, by rw [n8]; exact (pn_in (by omega)).mpr (by show _ < 144; omega), ?_⟩
  rw [pn_cl (by omega), gv]
  refine ⟨fun h5 => ?_, fun h5 => ?_⟩
  · have h5' : ¬ u_Dk d.1.1 (d.1.2 5) a' b' < 100000 := by
      have := (pn_le (a := 100000) (by omega) (by omega)).mp h5
      omega
    rw [if_neg h5'] at hQ
    refine ⟨fun h6 => ?_, fun h6 => ?_⟩
    · have hn : d.1.2 5 ≠ 30 := fun z => h6 (by rw [z]; rfl)
      rw [if_neg hn] at hQ
      obtain ⟨k1, k2⟩ := u_road_ok (σ := d.1.1) (n := d.1.2) (l := l) hI (by omega) ha hb hab hl1 (by omega) (by omega)
      refine d_r4_records hA hR (fun J j1 j2 _ => ?_)
      have x3 : (16 : Int32) + 3 * nI (d.1.2 5) = nI (16 + 3 * d.1.2 5) := by rw [show (3 : Int32) = nI 3 from rfl, pn_mul, show (16 : Int32) = nI 16 from rfl, pn_add]
      have x4 : nI (16 + 3 * d.1.2 5) + 1 = nI (16 + 3 * d.1.2 5 + 1) := pn_succ
      have x5 : nI (16 + 3 * d.1.2 5) + 2 = nI (16 + 3 * d.1.2 5 + 2) := pn_add _ 2
      have v3 : vp_in (nI (16 + 3 * d.1.2 5)) 810 := (pn_in (by omega)).mpr (by omega)
      have v4 : vp_in (nI (16 + 3 * d.1.2 5 + 1)) 810 := (pn_in (by omega)).mpr (by omega)
      have v5 : vp_in (nI (16 + 3 * d.1.2 5 + 2)) 810 := (pn_in (by omega)).mpr (by omega)
      have c3 : (nI (16 + 3 * d.1.2 5)).toNatClampNeg = 16 + 3 * d.1.2 5 := pn_cl (by omega)
      have c4 : (nI (16 + 3 * d.1.2 5 + 1)).toNatClampNeg = 16 + 3 * d.1.2 5 + 1 := pn_cl (by omega)
      have c5 : (nI (16 + 3 * d.1.2 5 + 2)).toNatClampNeg = 16 + 3 * d.1.2 5 + 2 := pn_cl (by omega)
      have p5 : ∀ (σ : Cn) (f : Nat) (w : Int32), f < 3 → m_pi (c_rM M A J σ) (A 0) (16 + 3 * d.1.2 5 + f) w = c_rM M A J (c_up σ 5 (d.1.2 5) f w) := fun σ f w hf => by
        unfold c_rM
        rw [q_piI, c_rE_up (c_dec5 (by omega) hf)]
      have p50 : ∀ (σ : Cn) (w : Int32), m_pi (c_rM M A J σ) (A 0) (16 + 3 * d.1.2 5) w = c_rM M A J (c_up σ 5 (d.1.2 5) 0 w) := fun σ w => p5 σ 0 w (by decide)
      have p51 : ∀ (σ : Cn) (w : Int32), m_pi (c_rM M A J σ) (A 0) (16 + 3 * d.1.2 5 + 1) w = c_rM M A J (c_up σ 5 (d.1.2 5) 1 w) := fun σ w => p5 σ 1 w (by decide)
      have p52 : ∀ (σ : Cn) (w : Int32), m_pi (c_rM M A J σ) (A 0) (16 + 3 * d.1.2 5 + 2) w = c_rM M A J (c_up σ 5 (d.1.2 5) 2 w) := fun σ w => p5 σ 2 w (by decide)
      simp (decide := true) only [x3, x4, x5, v3, v4, v5, c3, c4, c5, p50, p51, p52, e5, rw_ofPatrol, rw_ofCall, rw_ofMember, rw_ofGarage, rw_laysPatrol, rw_laysCall, rw_addsMember, rM_tg, rM_gr, rM_ln, rM_m hA, rM_a hA, rM_at hA, rM_al hA, rM_gi0, rM_pi0, rM_le, hA, c_rn, c_rs, true_and, and_true, forall_const, Option.some.injEq, exists_eq_left', forall_eq, true_implies, vi_0_3, vi_1_3, vi_2_3, vi_0_4, vi_1_4, vi_2_4, vi_3_4, vi_0_13, vi_1_13, vi_2_13, vi_3_13, vi_4_13, vi_5_13, vi_6_13, vi_7_13, vi_8_13, vi_9_13, vi_10_13, vi_11_13, vi_12_13, vi_0_14, vi_1_14, vi_2_14, vi_3_14, vi_4_14, vi_5_14, vi_6_14, vi_7_14, vi_8_14, vi_9_14, vi_10_14, vi_11_14, vi_12_14, vi_13_14, vi_0_16, vi_1_16, vi_2_16, vi_3_16, vi_4_16, vi_5_16, vi_6_16, vi_7_16, vi_8_16, vi_9_16, vi_10_16, vi_11_16, vi_12_16, vi_13_16, vi_14_16, vi_15_16, vi_0_810, vi_1_810, vi_2_810, vi_3_810, vi_4_810, vi_5_810, vi_6_810, vi_7_810, vi_8_810, vi_9_810, vi_10_810, vi_11_810, vi_12_810, vi_13_810, vi_14_810, vi_15_810, vi_0_40, vi_1_40, vi_2_40, vi_3_40, vi_4_40, vi_5_40, vi_6_40, vi_7_40, vi_8_40, vi_9_40, vi_10_40, vi_11_40, vi_12_40, vi_13_40, vi_14_40, vi_15_40, vi_0_60, vi_1_60, vi_2_60, vi_3_60, vi_4_60, vi_5_60, vi_6_60, vi_7_60, vi_8_60, vi_9_60, vi_10_60, vi_11_60, vi_12_60, vi_13_60, vi_14_60, vi_15_60, vi_0_144, vi_1_144, vi_2_144, vi_3_144, vi_4_144, vi_5_144, vi_6_144, vi_7_144, vi_8_144, vi_9_144, vi_10_144, vi_11_144, vi_12_144, vi_13_144, vi_14_144, vi_15_144, vi_0_12, vi_1_12, vi_2_12, vi_3_12, vi_4_12, vi_5_12, vi_6_12, vi_7_12, vi_8_12, vi_9_12, vi_10_12, vi_11_12, cl_0, cl_1, cl_2, cl_3, cl_4, cl_5, cl_6, cl_7, cl_8, cl_9, cl_10, cl_11, cl_12, cl_13, cl_14, cl_15, cl_16]
      have hm5 : u_at d.1.2 5 (d.1.2 5 + 1) 5 = d.1.2 5 + 1 := u_at_eq
      have hrd := k1.2.1
      have hrd' : u_Rds (u_road d.1.2 d.1.1 (nI a') (nI b') (nI l)) (d.1.2 5 + 1) := by
        have h : u_Rds (u_road d.1.2 d.1.1 (nI a') (nI b') (nI l)) (u_at d.1.2 5 (d.1.2 5 + 1) 5) := hrd
        rw [hm5] at h
        exact h
      have eR : c_up (c_up (c_up (c_up d.1.1 5 (d.1.2 5) 0 (nI a')) 5 (d.1.2 5) 1 (nI b')) 5 (d.1.2 5) 2 (nI l)) 0 0 5 (nI (d.1.2 5) + 1) = u_road d.1.2 d.1.1 (nI a') (nI b') (nI l) := by
        unfold u_road
        rw [e5]
      have g5 : u_road d.1.2 d.1.1 (nI a') (nI b') (nI l) 0 0 5 = nI (d.1.2 5 + 1) := by
        rw [← eR, c_rs]
        exact pn_succ
      rw [eR]
      refine r4_lays hA g5 (by omega) hrd' (fun K p1 p2 _ => ?_)
      obtain ⟨s1, s2, s3, s4, s5, s6, s7, s8⟩ := id j1
      have jm : ∀ j : Nat, K m j = J m j := fun j => p1 m j (q_mA hA i_0) (q_mA hA i_8) (q_mA hA i_9)
      have jA : ∀ k : Nat, q_isar k → k ≠ 0 → k ≠ 8 → k ≠ 9 → ∀ j : Nat, K (A k) j = J (A k) j := fun k hk q1 q2 q3 j => p1 _ j (q_ne hA hk i_0 q1) (q_ne hA hk i_8 q2) (q_ne hA hk i_9 q3)
      refine hQ K ⟨(jm 2).trans s1, s2, fun i j hi hj => (jA 1 i_1 (by decide) (by decide) (by decide) _).trans (s3 i j hi hj), ?_, (jm 7).trans s5, s6, fun k hk => (jA 6 i_6 (by decide) (by decide) (by decide) k).trans (s7 k hk), ?_⟩ (fun b j q1 q2 => (p1 b j (q2 0 i_0) (q2 8 i_8) (q2 9 i_9)).trans (j2 b j q1 q2))
      · rcases s4 with ⟨w1, w2⟩ | ⟨a', w1, w2, w3⟩
        · exact Or.inl ⟨w1, (jm 4).trans w2⟩
        · exact Or.inr ⟨a', w1, (jm 4).trans w2, fun j hj => (jA 3 i_3 (by decide) (by decide) (by decide) j).trans (w3 j hj)⟩
      · show u_RI K A (u_Dk (u_road d.1.2 d.1.1 (nI a') (nI b') (nI l)) (u_at d.1.2 5 (d.1.2 5 + 1) 5)) (u_Wk (u_Dk (u_road d.1.2 d.1.1 (nI a') (nI b') (nI l)) (u_at d.1.2 5 (d.1.2 5 + 1) 5)) 12)
        rw [hm5]
        exact p2
    · have hn : d.1.2 5 = 30 := (pn_inj (b := 30) (by omega) (by omega)).mp h6
      rw [if_pos hn] at hQ
      exact hQ I hR d_fr_rf
  · have h5' : u_Dk d.1.1 (d.1.2 5) a' b' < 100000 := by
      refine Classical.byContradiction (fun w => h5 ((pn_le (a := 100000) (b := u_Dk d.1.1 (d.1.2 5) a' b') (by omega) (by omega)).mpr (by omega)))
    rw [if_pos h5'] at hQ
    exact hQ I hR d_fr_rf
end
