/-! PURE: acts: a road is added, whole -/
set_option maxRecDepth 100000
section
variable {g : Nat → Nat} {M X : Mem} {o o1 : Nat → Nat × Nat × Nat} {x : Nat} {d : Dt} {m : Nat} {A : Nat → Nat} {I : Nat → Nat → Int32}
theorem u_min {a b : Nat} (ha : a < 12) (hb : b < 12) : (if nI b < nI a then nI b else nI a) = nI (min a b) ∧ (if nI a < nI b then nI b else nI a) = nI (max a b) := by
  constructor
  · by_cases h : b < a
    · rw [if_pos ((pn_lt (by omega) (by omega)).mpr h)]
      congr 1
      omega
    · rw [if_neg (fun z => h ((pn_lt (by omega) (by omega)).mp z))]
      congr 1
      omega
  · by_cases h : a < b
    · rw [if_pos ((pn_lt (by omega) (by omega)).mpr h)]
      congr 1
      omega
    · rw [if_neg (fun z => h ((pn_lt (by omega) (by omega)).mp z))]
      congr 1
      omega
theorem x0_road {a b v : Int32} {Q : Int32 → Mem → Prop} (hobj : ∀ (M : Mem) (y : Nat), q_obj (m_tg M y) → m_asg M y "java/lang/Object") (hnode : ∀ (M : Mem) (y : Nat), m_tg M y = 19 → m_asg M y "java/util/HashMap$Node") (hX : d_CX g M o x d) (hrm : d_rm M) (hQ : ∀ M' o', d_aft g M o x M' o' (s_road d a b v).2 → Q (s_road d a b v).1 M') : wp_X0_addRoad g M x a b v Q := by
  obtain ⟨RR, DD, U, y0, yh, yk, hC⟩ := id hX
  have hM := hC.2.2.1.2.1
  have hS := hC.2.2.1.1
  have hI := hC.2.2.1.2.2.2.2.1
  have hR := hI.1.1
  obtain ⟨_, x2, x3, _⟩ := hC.2.2.2.2.2.2
  obtain ⟨⟨uu, hu144, hD⟩, hrr, hrr4, hDok, hOK⟩ := d_road_of hC hC.2.2.1
  unfold s_road at hQ
  rw [← hM]
  by_cases h1 : a < 0 ∨ 11 < a
  · rw [if_pos h1] at hQ
    simp (decide := true) only [wp_X0_addRoad, wp_X0_isArea, w_in0, h1, x2, x3, if_true, cM_tg, cM_gr, cM_ln, cM_le, c_rn, c_rs, ct_0 hS, cg_0_6 hS, cp_0_6 hS, cg_0_7 hS, cp_0_7 hS, ct_8 hS, cg_8_0 hS, cp_8_0 hS, cg_8_1 hS, cp_8_1 hS, cg_8_2 hS, cp_8_2 hS, ct_1 hS, cg_1_0 hS, cp_1_0 hS, cg_1_1 hS, cp_1_1 hS, cg_1_2 hS, cp_1_2 hS, cg_1_3 hS, cp_1_3 hS, cg_1_4 hS, cp_1_4 hS, ct_2 hS, cg_2_0 hS, cp_2_0 hS, cg_2_1 hS, cp_2_1 hS, cg_2_2 hS, cp_2_2 hS, cg_2_3 hS, cp_2_3 hS, cg_2_4 hS, cp_2_4 hS, cg_2_5 hS, cp_2_5 hS, cg_2_6 hS, cp_2_6 hS, cg_2_7 hS, cp_2_7 hS, cg_2_8 hS, cp_2_8 hS, cg_2_9 hS, cp_2_9 hS, cg_2_10 hS, cp_2_10 hS, cg_2_11 hS, cp_2_11 hS, cg_2_12 hS, cp_2_12 hS, cg_2_13 hS, cp_2_13 hS, cg_2_14 hS, cp_2_14 hS, ct_3 hS, cg_3_0 hS, cp_3_0 hS, cg_3_1 hS, cp_3_1 hS, cg_3_2 hS, cp_3_2 hS, cg_3_3 hS, cp_3_3 hS, cg_3_4 hS, cp_3_4 hS, ct_4 hS, cg_4_0 hS, cp_4_0 hS, cg_4_1 hS, cp_4_1 hS, cg_4_2 hS, cp_4_2 hS, cg_4_3 hS, cp_4_3 hS, cg_4_4 hS, cp_4_4 hS, cg_4_5 hS, cp_4_5 hS, cg_4_6 hS, cp_4_6 hS, cg_4_7 hS, cp_4_7 hS, cg_4_8 hS, cp_4_8 hS, cg_4_9 hS, cp_4_9 hS, cg_4_10 hS, cp_4_10 hS, cg_4_11 hS, cp_4_11 hS, cg_4_12 hS, cp_4_12 hS, cl_t1 hS, cl_r1 hS, cl_g1 hS, cl_s1 hS, cl_t2 hS, cl_r2 hS, cl_g2 hS, cl_s2 hS, cl_t3 hS, cl_r3 hS, cl_g3 hS, cl_s3 hS, cl_t4 hS, cl_r4 hS, cl_g4 hS, cl_s4 hS, cl_p hS, cl_R hS, cl_8n hS, true_and, and_true, forall_const, Option.some.injEq, exists_eq_left', forall_eq, true_implies, cl_0, cl_1, cl_2, cl_3, cl_4, cl_5, cl_6, cl_7, cl_8, cl_9, cl_10, cl_11, cl_12, cl_13, cl_14, cl_15, cl_16, vi_0_3, vi_1_3, vi_2_3, not_true_eq_false, false_implies]
    rw [hM]
    exact hQ M o (d_no hX)
  by_cases h2 : b < 0 ∨ 11 < b
  · rw [if_neg h1, if_pos h2] at hQ
    simp (decide := true) only [wp_X0_addRoad, wp_X0_isArea, w_in0, h1, h2, x2, x3, if_true, if_false, cM_tg, cM_gr, cM_ln, cM_le, c_rn, c_rs, ct_0 hS, cg_0_6 hS, cp_0_6 hS, cg_0_7 hS, cp_0_7 hS, ct_8 hS, cg_8_0 hS, cp_8_0 hS, cg_8_1 hS, cp_8_1 hS, cg_8_2 hS, cp_8_2 hS, ct_1 hS, cg_1_0 hS, cp_1_0 hS, cg_1_1 hS, cp_1_1 hS, cg_1_2 hS, cp_1_2 hS, cg_1_3 hS, cp_1_3 hS, cg_1_4 hS, cp_1_4 hS, ct_2 hS, cg_2_0 hS, cp_2_0 hS, cg_2_1 hS, cp_2_1 hS, cg_2_2 hS, cp_2_2 hS, cg_2_3 hS, cp_2_3 hS, cg_2_4 hS, cp_2_4 hS, cg_2_5 hS, cp_2_5 hS, cg_2_6 hS, cp_2_6 hS, cg_2_7 hS, cp_2_7 hS, cg_2_8 hS, cp_2_8 hS, cg_2_9 hS, cp_2_9 hS, cg_2_10 hS, cp_2_10 hS, cg_2_11 hS, cp_2_11 hS, cg_2_12 hS, cp_2_12 hS, cg_2_13 hS, cp_2_13 hS, cg_2_14 hS, cp_2_14 hS, ct_3 hS, cg_3_0 hS, cp_3_0 hS, cg_3_1 hS, cp_3_1 hS, cg_3_2 hS, cp_3_2 hS, cg_3_3 hS, cp_3_3 hS, cg_3_4 hS, cp_3_4 hS, ct_4 hS, cg_4_0 hS, cp_4_0 hS, cg_4_1 hS, cp_4_1 hS, cg_4_2 hS, cp_4_2 hS, cg_4_3 hS, cp_4_3 hS, cg_4_4 hS, cp_4_4 hS, cg_4_5 hS, cp_4_5 hS, cg_4_6 hS, cp_4_6 hS, cg_4_7 hS, cp_4_7 hS, cg_4_8 hS, cp_4_8 hS, cg_4_9 hS, cp_4_9 hS, cg_4_10 hS, cp_4_10 hS, cg_4_11 hS, cp_4_11 hS, cg_4_12 hS, cp_4_12 hS, cl_t1 hS, cl_r1 hS, cl_g1 hS, cl_s1 hS, cl_t2 hS, cl_r2 hS, cl_g2 hS, cl_s2 hS, cl_t3 hS, cl_r3 hS, cl_g3 hS, cl_s3 hS, cl_t4 hS, cl_r4 hS, cl_g4 hS, cl_s4 hS, cl_p hS, cl_R hS, cl_8n hS, true_and, and_true, forall_const, Option.some.injEq, exists_eq_left', forall_eq, true_implies, cl_0, cl_1, cl_2, cl_3, cl_4, cl_5, cl_6, cl_7, cl_8, cl_9, cl_10, cl_11, cl_12, cl_13, cl_14, cl_15, cl_16, vi_0_3, vi_1_3, vi_2_3, not_true_eq_false, not_false_eq_true, false_implies]
    rw [hM]
    exact hQ M o (d_no hX)
  by_cases h3 : v < 1 ∨ 60 < v
  · rw [if_neg h1, if_neg h2, if_pos h3] at hQ
    simp (decide := true) only [wp_X0_addRoad, wp_X0_isArea, w_in0, h1, h2, h3, x2, x3, if_true, if_false, cM_tg, cM_gr, cM_ln, cM_le, c_rn, c_rs, ct_0 hS, cg_0_6 hS, cp_0_6 hS, cg_0_7 hS, cp_0_7 hS, ct_8 hS, cg_8_0 hS, cp_8_0 hS, cg_8_1 hS, cp_8_1 hS, cg_8_2 hS, cp_8_2 hS, ct_1 hS, cg_1_0 hS, cp_1_0 hS, cg_1_1 hS, cp_1_1 hS, cg_1_2 hS, cp_1_2 hS, cg_1_3 hS, cp_1_3 hS, cg_1_4 hS, cp_1_4 hS, ct_2 hS, cg_2_0 hS, cp_2_0 hS, cg_2_1 hS, cp_2_1 hS, cg_2_2 hS, cp_2_2 hS, cg_2_3 hS, cp_2_3 hS, cg_2_4 hS, cp_2_4 hS, cg_2_5 hS, cp_2_5 hS, cg_2_6 hS, cp_2_6 hS, cg_2_7 hS, cp_2_7 hS, cg_2_8 hS, cp_2_8 hS, cg_2_9 hS, cp_2_9 hS, cg_2_10 hS, cp_2_10 hS, cg_2_11 hS, cp_2_11 hS, cg_2_12 hS, cp_2_12 hS, cg_2_13 hS, cp_2_13 hS, cg_2_14 hS, cp_2_14 hS, ct_3 hS, cg_3_0 hS, cp_3_0 hS, cg_3_1 hS, cp_3_1 hS, cg_3_2 hS, cp_3_2 hS, cg_3_3 hS, cp_3_3 hS, cg_3_4 hS, cp_3_4 hS, ct_4 hS, cg_4_0 hS, cp_4_0 hS, cg_4_1 hS, cp_4_1 hS, cg_4_2 hS, cp_4_2 hS, cg_4_3 hS, cp_4_3 hS, cg_4_4 hS, cp_4_4 hS, cg_4_5 hS, cp_4_5 hS, cg_4_6 hS, cp_4_6 hS, cg_4_7 hS, cp_4_7 hS, cg_4_8 hS, cp_4_8 hS, cg_4_9 hS, cp_4_9 hS, cg_4_10 hS, cp_4_10 hS, cg_4_11 hS, cp_4_11 hS, cg_4_12 hS, cp_4_12 hS, cl_t1 hS, cl_r1 hS, cl_g1 hS, cl_s1 hS, cl_t2 hS, cl_r2 hS, cl_g2 hS, cl_s2 hS, cl_t3 hS, cl_r3 hS, cl_g3 hS, cl_s3 hS, cl_t4 hS, cl_r4 hS, cl_g4 hS, cl_s4 hS, cl_p hS, cl_R hS, cl_8n hS, true_and, and_true, forall_const, Option.some.injEq, exists_eq_left', forall_eq, true_implies, cl_0, cl_1, cl_2, cl_3, cl_4, cl_5, cl_6, cl_7, cl_8, cl_9, cl_10, cl_11, cl_12, cl_13, cl_14, cl_15, cl_16, vi_0_3, vi_1_3, vi_2_3, not_true_eq_false, not_false_eq_true, false_implies]
    rw [hM]
    exact hQ M o (d_no hX)
  by_cases h4 : a = b
  · rw [if_neg h1, if_neg h2, if_neg h3, if_pos h4] at hQ
    simp (decide := true) only [wp_X0_addRoad, wp_X0_isArea, w_in0, h1, h2, h3, h4, x2, x3, if_true, if_false, cM_tg, cM_gr, cM_ln, cM_le, c_rn, c_rs, ct_0 hS, cg_0_6 hS, cp_0_6 hS, cg_0_7 hS, cp_0_7 hS, ct_8 hS, cg_8_0 hS, cp_8_0 hS, cg_8_1 hS, cp_8_1 hS, cg_8_2 hS, cp_8_2 hS, ct_1 hS, cg_1_0 hS, cp_1_0 hS, cg_1_1 hS, cp_1_1 hS, cg_1_2 hS, cp_1_2 hS, cg_1_3 hS, cp_1_3 hS, cg_1_4 hS, cp_1_4 hS, ct_2 hS, cg_2_0 hS, cp_2_0 hS, cg_2_1 hS, cp_2_1 hS, cg_2_2 hS, cp_2_2 hS, cg_2_3 hS, cp_2_3 hS, cg_2_4 hS, cp_2_4 hS, cg_2_5 hS, cp_2_5 hS, cg_2_6 hS, cp_2_6 hS, cg_2_7 hS, cp_2_7 hS, cg_2_8 hS, cp_2_8 hS, cg_2_9 hS, cp_2_9 hS, cg_2_10 hS, cp_2_10 hS, cg_2_11 hS, cp_2_11 hS, cg_2_12 hS, cp_2_12 hS, cg_2_13 hS, cp_2_13 hS, cg_2_14 hS, cp_2_14 hS, ct_3 hS, cg_3_0 hS, cp_3_0 hS, cg_3_1 hS, cp_3_1 hS, cg_3_2 hS, cp_3_2 hS, cg_3_3 hS, cp_3_3 hS, cg_3_4 hS, cp_3_4 hS, ct_4 hS, cg_4_0 hS, cp_4_0 hS, cg_4_1 hS, cp_4_1 hS, cg_4_2 hS, cp_4_2 hS, cg_4_3 hS, cp_4_3 hS, cg_4_4 hS, cp_4_4 hS, cg_4_5 hS, cp_4_5 hS, cg_4_6 hS, cp_4_6 hS, cg_4_7 hS, cp_4_7 hS, cg_4_8 hS, cp_4_8 hS, cg_4_9 hS, cp_4_9 hS, cg_4_10 hS, cp_4_10 hS, cg_4_11 hS, cp_4_11 hS, cg_4_12 hS, cp_4_12 hS, cl_t1 hS, cl_r1 hS, cl_g1 hS, cl_s1 hS, cl_t2 hS, cl_r2 hS, cl_g2 hS, cl_s2 hS, cl_t3 hS, cl_r3 hS, cl_g3 hS, cl_s3 hS, cl_t4 hS, cl_r4 hS, cl_g4 hS, cl_s4 hS, cl_p hS, cl_R hS, cl_8n hS, true_and, and_true, forall_const, Option.some.injEq, exists_eq_left', forall_eq, true_implies, cl_0, cl_1, cl_2, cl_3, cl_4, cl_5, cl_6, cl_7, cl_8, cl_9, cl_10, cl_11, cl_12, cl_13, cl_14, cl_15, cl_16, vi_0_3, vi_1_3, vi_2_3, not_true_eq_false, not_false_eq_true, false_implies]
    rw [hM]
    exact hQ M o (d_no hX)
  rw [if_neg h1, if_neg h2, if_neg h3, if_neg h4] at hQ
  obtain ⟨a', ha, ea⟩ := u_ix (N := 12) h1 (by decide)
  obtain ⟨b', hb, eb⟩ := u_ix (N := 12) h2 (by decide)
  have hv3 : ∃ l : Nat, l < 61 ∧ v = nI l := by
    refine u_ix (N := 61) (fun z => h3 ?_) (by decide)
    rcases z with z | z
    · left
      refine Int32.lt_of_lt_of_le z ?_
      decide
    · exact Or.inr z
  obtain ⟨l, hl, el⟩ := hv3
  subst ea
  subst eb
  subst el
  have hl1 : 1 ≤ l := by
    apply Classical.byContradiction
    intro z
    have : l = 0 := by omega
    subst this
    exact h3 (Or.inl (by decide))
  have hab : a' ≠ b' := fun z => h4 (by rw [z])
  rw [pn_cl (by omega), pn_cl (by omega)] at hQ
  have hDle := (hOK.1 a' b' ha hb).1
  have h1' : ¬ (nI a' < 0 ∨ 11 < nI a') := h1
  simp (decide := true) only [wp_X0_addRoad, wp_X0_isArea, w_in0, h1, h2, h3, h4, x2, x3, if_false, cM_tg, cM_gr, cM_ln, cM_le, c_rn, c_rs, ct_0 hS, cg_0_6 hS, cp_0_6 hS, cg_0_7 hS, cp_0_7 hS, ct_8 hS, cg_8_0 hS, cp_8_0 hS, cg_8_1 hS, cp_8_1 hS, cg_8_2 hS, cp_8_2 hS, ct_1 hS, cg_1_0 hS, cp_1_0 hS, cg_1_1 hS, cp_1_1 hS, cg_1_2 hS, cp_1_2 hS, cg_1_3 hS, cp_1_3 hS, cg_1_4 hS, cp_1_4 hS, ct_2 hS, cg_2_0 hS, cp_2_0 hS, cg_2_1 hS, cp_2_1 hS, cg_2_2 hS, cp_2_2 hS, cg_2_3 hS, cp_2_3 hS, cg_2_4 hS, cp_2_4 hS, cg_2_5 hS, cp_2_5 hS, cg_2_6 hS, cp_2_6 hS, cg_2_7 hS, cp_2_7 hS, cg_2_8 hS, cp_2_8 hS, cg_2_9 hS, cp_2_9 hS, cg_2_10 hS, cp_2_10 hS, cg_2_11 hS, cp_2_11 hS, cg_2_12 hS, cp_2_12 hS, cg_2_13 hS, cp_2_13 hS, cg_2_14 hS, cp_2_14 hS, ct_3 hS, cg_3_0 hS, cp_3_0 hS, cg_3_1 hS, cp_3_1 hS, cg_3_2 hS, cp_3_2 hS, cg_3_3 hS, cp_3_3 hS, cg_3_4 hS, cp_3_4 hS, ct_4 hS, cg_4_0 hS, cp_4_0 hS, cg_4_1 hS, cp_4_1 hS, cg_4_2 hS, cp_4_2 hS, cg_4_3 hS, cp_4_3 hS, cg_4_4 hS, cp_4_4 hS, cg_4_5 hS, cp_4_5 hS, cg_4_6 hS, cp_4_6 hS, cg_4_7 hS, cp_4_7 hS, cg_4_8 hS, cp_4_8 hS, cg_4_9 hS, cp_4_9 hS, cg_4_10 hS, cp_4_10 hS, cg_4_11 hS, cp_4_11 hS, cg_4_12 hS, cp_4_12 hS, cl_t1 hS, cl_r1 hS, cl_g1 hS, cl_s1 hS, cl_t2 hS, cl_r2 hS, cl_g2 hS, cl_s2 hS, cl_t3 hS, cl_r3 hS, cl_g3 hS, cl_s3 hS, cl_t4 hS, cl_r4 hS, cl_g4 hS, cl_s4 hS, cl_p hS, cl_R hS, cl_8n hS, true_and, and_true, forall_const, Option.some.injEq, exists_eq_left', forall_eq, true_implies, cl_0, cl_1, cl_2, cl_3, cl_4, cl_5, cl_6, cl_7, cl_8, cl_9, cl_10, cl_11, cl_12, cl_13, cl_14, cl_15, cl_16, vi_0_3, vi_1_3, vi_2_3, not_false_eq_true, true_implies, false_implies]
  rw [hM]
  refine ⟨hD.2.1, ?_⟩
  rw [c2_lengthOf hD ha hb]
  refine fun _ => ⟨fun h5 => ?_, fun h5 => ?_⟩
  · rw [c_far_no hDle] at h5
    rw [if_neg h5] at hQ
    obtain ⟨_, _, _, ⟨Hm, hm1, hm2⟩, _⟩ := hC.2.1 _ hC.2.2.1.2.2.1
    rw [hC.2.2.1.2.2.2.1] at hm2
    have hsz := (c_Mh_H hm2).2.2
    rw [u_np_rds _ hI.2.1] at hsz
    refine ⟨_, x3, ct_0 hS, _, cl_R hS, hD.2.1, Hm, hm1, (c_Mh_H hm2).2.1, (c_Mh_H hm2).2.1, ?_⟩
    rw [hsz]
    have d5 := hR.1.2.2.2.2.2.1
    refine fun _ => ⟨fun h6 => ?_, fun h6 => ?_⟩
    · have hn : d.1.2 5 ≠ 30 := fun z => h6 (by rw [z]; rfl)
      rw [if_neg hn] at hQ
      refine d_record hobj hC (d_rm8 hrm) (fun M1 o1 y1 p1 p2 p3 p4 _ => ?_)
      have r1 := hrm.1
      have r2 := hrm.2
      have hS1 : c_St g M1 o1 y0.1 y0.2.1 d.1.2 (RR y0.2.2) := p1.2.2.1.1
      obtain ⟨_, z2, z3, _⟩ := p1.2.2.2.2.2.2
      obtain ⟨⟨uu1, _, hD1⟩, _, _, _, _⟩ := d_road_of p1 p1.2.2.1
      refine ⟨_, z3, ⟨by omega, by omega⟩, fun R hR0 M60 e60 => ?_⟩
      have R1 : ∀ q : Nat, m_tg M1 q ≠ 0 → M60.1 q = M1.1 q := fun q hq => by rw [e60, u_al_ne (fun z => hq (by rw [z]; exact hR0))]
      have tR60 : m_tg M60 R = 3 := by rw [e60, m_tg_al, if_pos rfl]
      have cx := R1 x (by rw [z2]; decide)
      have cS := R1 (y0.2.1 0 0) (by rw [ct_0 hS1]; decide)
      have nc60 : m_nc M60 = m_nc M1 + 1 := by rw [e60]; rfl
      have ns60 : m_ns M60 = m_ns M1 + 4 := by rw [e60]; rfl
      refine ⟨_, (c_cell_gr cx).trans z3, (c_cell_tg cS).trans (ct_0 hS1), _, (c_cell_gr cS).trans (cl_R hS1), ⟨by omega, by omega⟩, fun key hk0 M78 e78 => ?_⟩
      have tR78 : m_tg M78 R = 3 := by rw [e78, m_tg_al, if_neg (fun z => by rw [← z, tR60] at hk0; cases hk0)]; exact tR60
      have tk : m_tg M78 key = 4 := by rw [e78, m_tg_al, if_pos rfl]
      have hk1 : m_tg M1 key = 0 := Classical.byContradiction (fun z => by
        rw [c_cell_tg (R1 key z)] at hk0
        exact z hk0)
      refine ⟨tk, fun M2 e2 M90 e90 _ => ?_⟩
      obtain ⟨emin, emax⟩ := u_min ha hb
      have nw : c_nw M1 M90 := by
        have c90 : ∀ q : Nat, m_tg M1 q ≠ 0 → M90.1 q = M1.1 q := fun q hq => by
          have qk : q ≠ key := fun z => hq (by rw [z]; exact hk1)
          rw [e90, u_pi_ne qk, e2, u_pi_ne qk, e78, u_al_ne qk, R1 q hq]
        exact ⟨fun q hq => ⟨c_cell_tg (c90 q hq), c_cell_ln (c90 q hq)⟩, c90⟩
      obtain ⟨b1, b2, b3, N0, b4⟩ := id p1.1
      have nc90 : m_nc M90 = m_nc M1 + 2 := by rw [e90, e2, e78]; show m_nc M60 + 1 = _; omega
      have ns90 : m_ns M90 = m_ns M1 + 6 := by rw [e90, e2, e78]; show m_ns M60 + 2 = _; omega
      obtain ⟨_, _, _, ⟨H1, hh1, hh2⟩, _⟩ := p1.2.1 _ p1.2.2.1.2.2.1
      have eDD : DD y0.2.2 = u_Dk d.1.1 (d.1.2 5) := p1.2.2.1.2.2.2.1
      rw [eDD] at hh2
      have hn5 : u_at d.1.2 5 (d.1.2 5 + 1) 5 = d.1.2 5 + 1 := u_at_eq
      have hno : u_Dk d.1.1 (d.1.2 5) a' b' = 100000 := by omega
      obtain ⟨k1, k2⟩ := u_road_ok (σ := d.1.1) (n := d.1.2) (l := l) hI (by omega) ha hb hab hl1 (by omega) hno
      have hDk := u_np_rds _ k1.2.1
      have hok' : u_Dok (u_Dk (u_road d.1.2 d.1.1 (nI a') (nI b') (nI l)) (d.1.2 5 + 1)) := by
        have := u_Dk_ok (σ := u_road d.1.2 d.1.1 (nI a') (nI b') (nI l)) (d.1.2 5 + 1) (fun r hr => (k1.2.1 r (by show r < u_at d.1.2 5 (d.1.2 5 + 1) 5; rw [hn5]; exact hr)).1)
        exact this
      refine c2_init1 (Xa := M1) (o := o1) (rr := 3 * N0 + 4) (rm := 3 * N0 + 4 + 1) (lo := min a' b') (hi := max a' b') (v := l) (Db := u_Dk d.1.1 (d.1.2 5)) (D := u_Dk (u_road d.1.2 d.1.1 (nI a') (nI b') (nI l)) (d.1.2 5 + 1)) hobj hnode nw ?_ hR0 b1 ⟨?_, hk1, ?_, ?_⟩ (by omega) (by omega) rfl hl1 (by omega) ⟨hD1.2.1, H1, fun q => (o1 q).1 = y0.2.2 + 1, hh1, fun q hq => b1 q (by rw [hq]; omega), hh2, ?_⟩ hDok ?_ ?_ hok' (fun p q hpq hq => ?_) ?_ ⟨by omega, by omega⟩ (fun X' o' t1 t2 t3 _ => ?_)
      · rw [e90, m_tg_pi, e2, m_tg_pi]; exact tR78
      · rw [e90, m_tg_pi, e2, m_tg_pi]; exact tk
      · rw [e90, m_gi_pi, if_neg (by omega), e2, m_gi_pi, if_pos ⟨rfl, rfl⟩]
        exact emin
      · rw [e90, m_gi_pi, if_pos ⟨rfl, rfl⟩]
        exact emax
      · rw [u_np_rds _ hI.2.1]
        exact d5
      · rcases Nat.lt_or_ge a' b' with w | w
        · rw [show min a' b' = a' by omega, show max a' b' = b' by omega]
          exact hno
        · rw [show min a' b' = b' by omega, show max a' b' = a' by omega, (hDok b' a' hb ha).1]
          exact hno
      · rw [u_np_rds _ hI.2.1]
        omega
      · rw [k2 p q]
        by_cases w : p = min a' b' ∧ q = max a' b'
        · rw [if_pos w, if_pos (by omega)]
        · rw [if_neg w, if_neg (by omega)]
      · have e1 : u_np (u_Dk (u_road d.1.2 d.1.1 (nI a') (nI b') (nI l)) (d.1.2 5 + 1)) 144 = d.1.2 5 + 1 := by
          have := hDk
          rw [show ((u_road d.1.2 d.1.1 (nI a') (nI b') (nI l), u_at d.1.2 5 (d.1.2 5 + 1)) : Cs).2 5 = d.1.2 5 + 1 from hn5] at this
          exact this
        rw [e1, u_np_rds _ hI.2.1]
      · have tS1 : m_tg M1 (y0.2.1 0 0) = 2 := ct_0 hS1
        refine ⟨by rw [(t1.2.2.2.2.2.1.1 _ (by rw [tS1]; decide)).1]; exact tS1, fun M113 e113 => ?_⟩
        have hσ : c_cM M1 o1 y0.1 (u_road d.1.2 d.1.1 (nI a') (nI b') (nI l)) = M1 := by
          have := p1.2.2.1.2.1
          unfold u_road
          rw [cM_gh rfl, cM_gh rfl, cM_gh rfl, cM_gh rfl]
          exact this
        obtain ⟨RR', DD', U', w1, w2⟩ := d_newroads (d := d_rec d) (a' := (u_road d.1.2 d.1.1 (nI a') (nI b') (nI l), u_at d.1.2 5 (d.1.2 5 + 1))) p1 b4 t1 hok' (by show _ = u_Dk _ (u_at d.1.2 5 (d.1.2 5 + 1) 5); rw [hn5]) k1 (fun s q1 q2 => u_at_ne (by omega)) hσ
        rw [← e113] at w1 w2
        exact hQ M113 o' ⟨⟨RR', DD', U', _, _, _, w1⟩, c_same_tr p2 w2, by rw [e113, m_nc_pr]; omega, by rw [e113, m_ns_pr]; omega⟩
    · have hn : d.1.2 5 = 30 := (pn_inj (b := 30) (by omega) (by omega)).mp h6
      rw [if_pos hn] at hQ
      exact hQ M o (d_no hX)
  · rw [c_far_no hDle] at h5
    rw [if_pos (Classical.not_not.mp h5)] at hQ
    exact hQ M o (d_no hX)
end
