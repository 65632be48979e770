/-! PURE: acts: members, patrols, garages are added -/
set_option maxRecDepth 100000
def s_member (d : Dt) (t : Int32) : Int32 × Dt := if t < 0 ∨ 2 < t then (-2, d) else if d.1.2 1 = 20 then (-3, d) else (nI (d.1.2 1), ((u_mem d.1.2 d.1.1 t, u_at d.1.2 1 (d.1.2 1 + 1)), (d_rec d).2))
def s_patrol (d : Dt) (a sk tw : Int32) : Int32 × Dt := if a < 0 ∨ 11 < a then (-1, d) else if sk < 1 ∨ 9 < sk then (-2, d) else if d.1.2 2 = 6 then (-3, d) else (nI (d.1.2 2), ((u_pat d.1.2 d.1.1 a sk tw, u_at d.1.2 2 (d.1.2 2 + 1)), (d_rec d).2))
def s_garage (d : Dt) (a pl : Int32) : Int32 × Dt := if a < 0 ∨ 11 < a then (-1, d) else if pl < 1 ∨ 9 < pl then (-2, d) else if d.1.2 3 = 5 then (-3, d) else (nI (d.1.2 3), ((u_grg d.1.2 d.1.1 a pl, u_at d.1.2 3 (d.1.2 3 + 1)), (d_rec d).2))
section
variable {g : Nat → Nat} {M X1 : Mem} {o : Nat → Nat × Nat × Nat} {x : Nat} {RR : Nat → Nat} {DD : Nat → Nat → Nat → Nat} {U : Nat → Prop} {y0 : Yt} {yh : Nat → Yt} {yk : Yt} {d : Dt} {σ : Cn} {s u : Nat} {m : Nat} {A : Nat → Nat} {I : Nat → Nat → Int32}
theorem d_add {v : Nat → Int32} {Q : Int32 → Mem → Prop} (hobj : ∀ (M : Mem) (y : Nat), q_obj (m_tg M y) → m_asg M y "java/lang/Object") (hC : d_C g M o x RR DD U y0 yh yk d) (hs1 : 1 ≤ s) (hs4 : s ≤ 4) (hns : d.1.2 s < 40) (hu : m_tg M u = 0) (hX1 : ∀ b : Nat, b ≠ u → X1.1 b = M.1 b) (htu : m_tg X1 u = c_tgs s) (hv : ∀ j : Nat, j < c_nf s → m_gi X1 u j = v j) (hsz : m_nc X1 ≤ m_nc M + 1 ∧ m_ns X1 ≤ m_ns M + 15) (hroom : m_nc M + 10 ≤ m_CM ∧ m_ns M + 200 ≤ m_SM)
    (hold : ∀ t k j : Nat, c_dom d.1.2 t k → ∀ z : Nat × Nat, c_mp t j = some z → σ z.1 k z.2 = d.1.1 z.1 k z.2) (hnew : ∀ (j : Nat) (z : Nat × Nat), c_mp s j = some z → v j = σ z.1 (d.1.2 s) z.2) (hS : u_Sv (σ, u_at d.1.2 s (d.1.2 s + 1))) (hD : u_Dk σ (d.1.2 5) = u_Dk d.1.1 (d.1.2 5))
    (hQ : ∀ X2 o', d_C g X2 o' x RR DD U (y0.1, u_at2 y0.2.1 s (d.1.2 s) u, y0.2.2) yh yk ((σ, u_at d.1.2 s (d.1.2 s + 1)), d.2) → c_same M o X2 o' 3 → m_nc X2 ≤ m_nc M + 2 → m_ns X2 ≤ m_ns M + 105 → m_le X1 X2 → Q 1 X2) : wp_J2_add g X1 (y0.2.1 6 s) (some u) Q := by
  have c1 := hC.2.2.1.1
  obtain ⟨dd, hL, hod⟩ := St_L c1 hs1 hs4
  have b3 := hC.1.2.2.1
  have tt := c_tgs_el hs1 hs4
  have old : ∀ b : Nat, m_tg M b ≠ 0 → X1.1 b = M.1 b := fun b hb => hX1 b (fun z => hb (by rw [z]; exact hu))
  have el : ∀ b t : Nat, 1 ≤ t → t ≤ 4 → m_tg X1 b = c_tgs t → q_obj (m_tg X1 b) := fun b t q1 q2 q3 => by
    rw [q3, c_tgs_el q1 q2]
    unfold q_obj
    omega
  have oL := old (y0.2.1 6 s) (by rw [hL.1]; decide)
  have od := old dd (by rcases c_L_tag hL b3 with z | z <;> rw [z] <;> decide)
  have og := old (g 1) (by rw [b3.1]; decide)
  refine q_add hobj ⟨(c_cell_tg og).trans b3.1, (c_cell_ln og).trans b3.2⟩ (c_L_same hL oL od) (by omega) ⟨by omega, by omega⟩ (fun k hk y hy => ?_) (fun y hy => ?_) (fun X2 d' kc hkc hL2 hf => ?_)
  · cases hy
    have e := St_t c1 (d_k hs1 hs4 hk)
    exact el _ s hs1 hs4 ((c_cell_tg (old _ (by rw [e, tt]; omega))).trans e)
  · cases hy
    exact el _ s hs1 hs4 htu
  · have hd' : (d' = dd ∧ m_tg X1 dd = 103) ∨ m_tg X1 d' = 0 := by
      rcases hkc with ⟨_, e1, e2, _⟩ | ⟨_, e1, _⟩
      · exact Or.inl ⟨e1, e2⟩
      · exact Or.inr e1
    have hk1 : kc ≤ 1 := by rcases hkc with ⟨e, _⟩ | ⟨e, _⟩ <;> omega
    obtain ⟨o', p1, p2, p3, p4⟩ := d_grow hC hs1 hs4 hns hu hX1 htu hv hsz hL hod hL2 hd' hk1 hf hold hnew hS hD
    exact hQ X2 o' p1 p2 p3 p4 hf.1
theorem d_Rf_to {a : Cs} (h : d_Rf m A I d) (hD : u_Dk a.1 (a.2 5) = u_Dk d.1.1 (d.1.2 5)) : d_Rf m A I (a, d.2) := by
  obtain ⟨r1, r2, r3, r4, r5, r6, r7, r8⟩ := h
  refine ⟨r1, r2, r3, r4, r5, r6, r7, ?_⟩
  show u_RI I A (u_Dk a.1 (a.2 5)) (u_Wk (u_Dk a.1 (a.2 5)) 12)
  rw [hD]
  exact r8
theorem u_mem5 {n : Nat → Nat} {t : Int32} {k f : Nat} : u_mem n σ t 5 k f = σ 5 k f := by unfold u_mem; simp (decide := true) only [c_rx]
theorem u_pat5 {n : Nat → Nat} {a sk tw : Int32} {k f : Nat} : u_pat n σ a sk tw 5 k f = σ 5 k f := by unfold u_pat; simp (decide := true) only [c_rx]
theorem u_grg5 {n : Nat → Nat} {a pl : Int32} {k f : Nat} : u_grg n σ a pl 5 k f = σ 5 k f := by unfold u_grg; simp (decide := true) only [c_rx]
theorem x0_member {t : Int32} {Q : Int32 → Mem → Prop} (hobj : ∀ (M : Mem) (y : Nat), q_obj (m_tg M y) → m_asg M y "java/lang/Object") (hX : d_CX g M o x d) (hrm : d_rm M) (hQ : ∀ M' o', d_aft g M o x M' o' (s_member d t).2 → Q (s_member d t).1 M') : wp_X0_addMember g M x t Q := by
  obtain ⟨RR, DD, U, y0, yh, yk, hC⟩ := id hX
  have hM := hC.2.2.1.2.1
  have hS := hC.2.2.1.1
  have hI := hC.2.2.1.2.2.2.2.1
  have hR := hI.1.1
  obtain ⟨_, x2, x3, _⟩ := hC.2.2.2.2.2.2
  unfold s_member at hQ
  rw [← hM]
  by_cases h1 : t < 0 ∨ 2 < t
  · rw [if_pos h1] at hQ
    simp (decide := true) only [wp_X0_addMember, w_in0, h1, x2, x3, if_true, cM_tg, cM_gr, cM_ln, cM_le, c_rn, c_rs, ct_0 hS, cg_0_6 hS, cp_0_6 hS, cg_0_7 hS, cp_0_7 hS, ct_8 hS, cg_8_0 hS, cp_8_0 hS, cg_8_1 hS, cp_8_1 hS, cg_8_2 hS, cp_8_2 hS, ct_1 hS, cg_1_0 hS, cp_1_0 hS, cg_1_1 hS, cp_1_1 hS, cg_1_2 hS, cp_1_2 hS, cg_1_3 hS, cp_1_3 hS, cg_1_4 hS, cp_1_4 hS, ct_2 hS, cg_2_0 hS, cp_2_0 hS, cg_2_1 hS, cp_2_1 hS, cg_2_2 hS, cp_2_2 hS, cg_2_3 hS, cp_2_3 hS, cg_2_4 hS, cp_2_4 hS, cg_2_5 hS, cp_2_5 hS, cg_2_6 hS, cp_2_6 hS, cg_2_7 hS, cp_2_7 hS, cg_2_8 hS, cp_2_8 hS, cg_2_9 hS, cp_2_9 hS, cg_2_10 hS, cp_2_10 hS, cg_2_11 hS, cp_2_11 hS, cg_2_12 hS, cp_2_12 hS, cg_2_13 hS, cp_2_13 hS, cg_2_14 hS, cp_2_14 hS, ct_3 hS, cg_3_0 hS, cp_3_0 hS, cg_3_1 hS, cp_3_1 hS, cg_3_2 hS, cp_3_2 hS, cg_3_3 hS, cp_3_3 hS, cg_3_4 hS, cp_3_4 hS, ct_4 hS, cg_4_0 hS, cp_4_0 hS, cg_4_1 hS, cp_4_1 hS, cg_4_2 hS, cp_4_2 hS, cg_4_3 hS, cp_4_3 hS, cg_4_4 hS, cp_4_4 hS, cg_4_5 hS, cp_4_5 hS, cg_4_6 hS, cp_4_6 hS, cg_4_7 hS, cp_4_7 hS, cg_4_8 hS, cp_4_8 hS, cg_4_9 hS, cp_4_9 hS, cg_4_10 hS, cp_4_10 hS, cg_4_11 hS, cp_4_11 hS, cg_4_12 hS, cp_4_12 hS, cl_t1 hS, cl_r1 hS, cl_g1 hS, cl_s1 hS, cl_t2 hS, cl_r2 hS, cl_g2 hS, cl_s2 hS, cl_t3 hS, cl_r3 hS, cl_g3 hS, cl_s3 hS, cl_t4 hS, cl_r4 hS, cl_g4 hS, cl_s4 hS, cl_p hS, cl_R hS, cl_8n hS, true_and, and_true, forall_const, Option.some.injEq, exists_eq_left', forall_eq, true_implies, cl_0, cl_1, cl_2, cl_3, cl_4, cl_5, cl_6, cl_7, cl_8, cl_9, cl_10, cl_11, cl_12, cl_13, cl_14, cl_15, cl_16, vi_0_3, vi_1_3, vi_2_3, not_true_eq_false, false_implies]
    rw [hM]
    exact hQ M o (d_no hX)
  rw [if_neg h1] at hQ
  simp (decide := true) only [wp_X0_addMember, w_in0, h1, x2, x3, if_false, cM_tg, cM_gr, cM_ln, cM_le, c_rn, c_rs, ct_0 hS, cg_0_6 hS, cp_0_6 hS, cg_0_7 hS, cp_0_7 hS, ct_8 hS, cg_8_0 hS, cp_8_0 hS, cg_8_1 hS, cp_8_1 hS, cg_8_2 hS, cp_8_2 hS, ct_1 hS, cg_1_0 hS, cp_1_0 hS, cg_1_1 hS, cp_1_1 hS, cg_1_2 hS, cp_1_2 hS, cg_1_3 hS, cp_1_3 hS, cg_1_4 hS, cp_1_4 hS, ct_2 hS, cg_2_0 hS, cp_2_0 hS, cg_2_1 hS, cp_2_1 hS, cg_2_2 hS, cp_2_2 hS, cg_2_3 hS, cp_2_3 hS, cg_2_4 hS, cp_2_4 hS, cg_2_5 hS, cp_2_5 hS, cg_2_6 hS, cp_2_6 hS, cg_2_7 hS, cp_2_7 hS, cg_2_8 hS, cp_2_8 hS, cg_2_9 hS, cp_2_9 hS, cg_2_10 hS, cp_2_10 hS, cg_2_11 hS, cp_2_11 hS, cg_2_12 hS, cp_2_12 hS, cg_2_13 hS, cp_2_13 hS, cg_2_14 hS, cp_2_14 hS, ct_3 hS, cg_3_0 hS, cp_3_0 hS, cg_3_1 hS, cp_3_1 hS, cg_3_2 hS, cp_3_2 hS, cg_3_3 hS, cp_3_3 hS, cg_3_4 hS, cp_3_4 hS, ct_4 hS, cg_4_0 hS, cp_4_0 hS, cg_4_1 hS, cp_4_1 hS, cg_4_2 hS, cp_4_2 hS, cg_4_3 hS, cp_4_3 hS, cg_4_4 hS, cp_4_4 hS, cg_4_5 hS, cp_4_5 hS, cg_4_6 hS, cp_4_6 hS, cg_4_7 hS, cp_4_7 hS, cg_4_8 hS, cp_4_8 hS, cg_4_9 hS, cp_4_9 hS, cg_4_10 hS, cp_4_10 hS, cg_4_11 hS, cp_4_11 hS, cg_4_12 hS, cp_4_12 hS, cl_t1 hS, cl_r1 hS, cl_g1 hS, cl_s1 hS, cl_t2 hS, cl_r2 hS, cl_g2 hS, cl_s2 hS, cl_t3 hS, cl_r3 hS, cl_g3 hS, cl_s3 hS, cl_t4 hS, cl_r4 hS, cl_g4 hS, cl_s4 hS, cl_p hS, cl_R hS, cl_8n hS, true_and, and_true, forall_const, Option.some.injEq, exists_eq_left', forall_eq, true_implies, cl_0, cl_1, cl_2, cl_3, cl_4, cl_5, cl_6, cl_7, cl_8, cl_9, cl_10, cl_11, cl_12, cl_13, cl_14, cl_15, cl_16, vi_0_3, vi_1_3, vi_2_3, not_false_eq_true, true_implies, false_implies]
  have d1 := hR.1.2.2.2.2.2.2.1
  refine ⟨fun h2 => ?_, fun h2 => ?_⟩
  · have hn : d.1.2 1 ≠ 20 := fun z => h2 (by rw [z]; rfl)
    rw [if_neg hn] at hQ
    obtain ⟨k, hk, ek⟩ := u_ix (N := 3) h1 (by decide)
    rw [hM]
    refine d_record hobj hC (d_rm8 hrm) (fun M1 o1 y1 p1 p2 p3 p4 _ => ?_)
    have r1 := hrm.1
    have r2 := hrm.2
    have hS1 : c_St g M1 o1 y0.1 y0.2.1 d.1.2 (RR y0.2.2) := p1.2.2.1.1
    obtain ⟨_, z2, z3, _⟩ := p1.2.2.2.2.2.2
    refine ⟨y0.2.1 0 0, z3, ct_0 hS1, y0.2.1 6 1, cl_r1 hS1, ⟨by omega, by omega⟩, fun u hu => ?_⟩
    generalize e32' : m_al M1 u 6 0 5 = M32
    have e32 := e32'.symm
    refine ⟨by rw [e32, m_tg_al, if_pos rfl], fun M2 e2 X1 e6 _ => ?_⟩
    have cell : ∀ b : Nat, b ≠ u → X1.1 b = M1.1 b := fun b hb => by rw [e6, u_pi_ne hb, e2, u_pi_ne hb, e32, u_al_ne hb]
    have nL : y0.2.1 6 1 ≠ u := fun z => by have := cl_t1 hS1; rw [z, hu] at this; cases this
    refine ⟨(c_cell_tg (cell _ nL)).trans (cl_t1 hS1), ?_⟩
    have hn5 : u_at d.1.2 1 (d.1.2 1 + 1) 5 = d.1.2 5 := u_at_ne (by decide)
    refine d_add (d := d_rec d) (σ := u_mem d.1.2 d.1.1 t) (v := fun j => if j = 0 then t else if j = 3 then -5 else 0) hobj p1 (by decide) (by decide) (by show d.1.2 1 < 40; omega) hu cell ?_ ?_ ⟨?_, ?_⟩ ⟨by omega, by omega⟩ (fun t' k' j hd z hz => ?_) (fun j z hz => ?_) ⟨?_, ?_, ?_⟩ (u_Dk_cg (fun _ _ => u_mem5) _) (fun X2 o2 q1 q2 q3 q4 _ _ => ?_)
    · rw [e6, m_tg_pi, e2, m_tg_pi, e32, m_tg_al, if_pos rfl]
      rfl
    · apply u_lt5 <;> simp (decide := true) only [e6, e2, e32, m_gi_pi, m_gi_al, if_true, if_false, and_true, and_false, false_and, true_and, and_self]
    · rw [e6, e2, e32]; exact Nat.le_refl _
    · rw [e6, e2, e32]
      show m_ns M1 + 5 ≤ _
      omega
    · have hne : t' = 1 → k' ≠ d.1.2 1 := fun e w => by
        rcases hd with h | h | ⟨v1, v2, v3⟩ | h
        · omega
        · omega
        · have v3' : k' < d.1.2 t' := v3
          rw [e] at v3'
          omega
        · omega
      show u_mem d.1.2 d.1.1 t z.1 k' z.2 = d.1.1 z.1 k' z.2
      unfold c_mp at hz
      split at hz <;> first | (cases hz; done) | (cases hz; unfold u_mem; simp (decide := true) only [c_rn, c_rx]; done) | (cases hz; have hk1 := hne rfl; unfold u_mem; simp (decide := true) only [c_rk hk1, c_rx])
    · show _ = u_mem d.1.2 d.1.1 t z.1 (d.1.2 1) z.2
      unfold c_mp at hz
      split at hz <;> first | omega | (cases hz; unfold u_mem; simp (decide := true) only [c_rn, c_rs, if_true, if_false]; done) | cases hz
    · show u_I _ (u_mem d.1.2 d.1.1 t)
      rw [ek]
      exact u_I_mem (n := d.1.2) (σ := d.1.1) hI.1 (by omega) hk
    · show u_Rds (u_mem d.1.2 d.1.1 t) (u_at d.1.2 1 (d.1.2 1 + 1) 5)
      rw [hn5]
      exact u_Rds_cg (fun _ _ => u_mem5) hI.2.1
    · intro k' f hk'
      show u_mem d.1.2 d.1.1 t 4 k' f = 0
      rw [show u_mem d.1.2 d.1.1 t 4 k' f = d.1.1 4 k' f by unfold u_mem; simp (decide := true) only [c_rx]]
      exact hI.2.2 k' f hk'
    · have hS2 := q1.2.2.1.1
      obtain ⟨_, w2, w3, _⟩ := q1.2.2.2.2.2.2
      refine ⟨_, w3, ct_0 hS2, _, cl_r1 hS2, cl_t1 hS2, ?_⟩
      have sz := u_sz (Q := fun (r65 : Int32) (M63 : Mem) => m_le X2 M63 → Q (r65 - 1) M63) q1.2.2.1.2.1 hS2 (s := 1) (by decide) (by decide)
      rw [sz]
      intro _
      have e1 : nI (u_at d.1.2 1 (d.1.2 1 + 1) 1) - 1 = nI (d.1.2 1) := by
        rw [u_at_eq]
        exact pn_sub (b := 1) (by omega)
      show Q (nI (u_at d.1.2 1 (d.1.2 1 + 1) 1) - 1) X2
      rw [e1]
      exact hQ X2 o2 ⟨⟨RR, DD, U, _, _, _, q1⟩, c_same_tr p2 q2, by omega, by omega⟩
  · have hn : d.1.2 1 = 20 := (pn_inj (b := 20) (by omega) (by omega)).mp h2
    rw [if_pos hn] at hQ
    rw [hM]
    exact hQ M o (d_no hX)
theorem r4_member {t : Int32} {Q : Int32 → Mem → Prop} (hA : q_MA M m A) (hR : d_Rf m A I d) (hS : u_R d.1.2 d.1.1) (hQ : ∀ J, d_Rf m A J (s_member d t).2 → d_fr m A I J → Q (s_member d t).1 (c_rM M A J (s_member d t).2.1.1)) : wp_X4_addMember g (c_rM M A I d.1.1) m t Q := by
  unfold s_member at hQ
  have e6 := hS.1.2.1
  have d1 := hS.1.2.2.2.2.2.2.1
  by_cases h1 : t < 0 ∨ 2 < t
  · rw [if_pos h1] at hQ
    simp (decide := true) only [wp_X4_addMember, w_in4, h1, if_true, rw_ofPatrol, rw_ofCall, rw_ofMember, rw_ofGarage, rw_laysPatrol, rw_laysCall, rw_addsMember, rM_tg, rM_gr, rM_ln, rM_m hA, rM_a hA, rM_at hA, rM_al hA, rM_gi0, rM_pi0, rM_le, hA, c_rn, c_rs, true_and, and_true, forall_const, Option.some.injEq, exists_eq_left', forall_eq, true_implies, vi_0_3, vi_1_3, vi_2_3, vi_0_4, vi_1_4, vi_2_4, vi_3_4, vi_0_13, vi_1_13, vi_2_13, vi_3_13, vi_4_13, vi_5_13, vi_6_13, vi_7_13, vi_8_13, vi_9_13, vi_10_13, vi_11_13, vi_12_13, vi_0_14, vi_1_14, vi_2_14, vi_3_14, vi_4_14, vi_5_14, vi_6_14, vi_7_14, vi_8_14, vi_9_14, vi_10_14, vi_11_14, vi_12_14, vi_13_14, vi_0_16, vi_1_16, vi_2_16, vi_3_16, vi_4_16, vi_5_16, vi_6_16, vi_7_16, vi_8_16, vi_9_16, vi_10_16, vi_11_16, vi_12_16, vi_13_16, vi_14_16, vi_15_16, vi_0_810, vi_1_810, vi_2_810, vi_3_810, vi_4_810, vi_5_810, vi_6_810, vi_7_810, vi_8_810, vi_9_810, vi_10_810, vi_11_810, vi_12_810, vi_13_810, vi_14_810, vi_15_810, vi_0_40, vi_1_40, vi_2_40, vi_3_40, vi_4_40, vi_5_40, vi_6_40, vi_7_40, vi_8_40, vi_9_40, vi_10_40, vi_11_40, vi_12_40, vi_13_40, vi_14_40, vi_15_40, vi_0_60, vi_1_60, vi_2_60, vi_3_60, vi_4_60, vi_5_60, vi_6_60, vi_7_60, vi_8_60, vi_9_60, vi_10_60, vi_11_60, vi_12_60, vi_13_60, vi_14_60, vi_15_60, vi_0_144, vi_1_144, vi_2_144, vi_3_144, vi_4_144, vi_5_144, vi_6_144, vi_7_144, vi_8_144, vi_9_144, vi_10_144, vi_11_144, vi_12_144, vi_13_144, vi_14_144, vi_15_144, vi_0_12, vi_1_12, vi_2_12, vi_3_12, vi_4_12, vi_5_12, vi_6_12, vi_7_12, vi_8_12, vi_9_12, vi_10_12, vi_11_12, cl_0, cl_1, cl_2, cl_3, cl_4, cl_5, cl_6, cl_7, cl_8, cl_9, cl_10, cl_11, cl_12, cl_13, cl_14, cl_15, cl_16, not_true_eq_false, false_implies, m_lerf]
    exact hQ I hR d_fr_rf
  rw [if_neg h1] at hQ
  simp (decide := true) only [wp_X4_addMember, w_in4, h1, e6, if_false, rw_ofPatrol, rw_ofCall, rw_ofMember, rw_ofGarage, rw_laysPatrol, rw_laysCall, rw_addsMember, rM_tg, rM_gr, rM_ln, rM_m hA, rM_a hA, rM_at hA, rM_al hA, rM_gi0, rM_pi0, rM_le, hA, c_rn, c_rs, true_and, and_true, forall_const, Option.some.injEq, exists_eq_left', forall_eq, true_implies, vi_0_3, vi_1_3, vi_2_3, vi_0_4, vi_1_4, vi_2_4, vi_3_4, vi_0_13, vi_1_13, vi_2_13, vi_3_13, vi_4_13, vi_5_13, vi_6_13, vi_7_13, vi_8_13, vi_9_13, vi_10_13, vi_11_13, vi_12_13, vi_0_14, vi_1_14, vi_2_14, vi_3_14, vi_4_14, vi_5_14, vi_6_14, vi_7_14, vi_8_14, vi_9_14, vi_10_14, vi_11_14, vi_12_14, vi_13_14, vi_0_16, vi_1_16, vi_2_16, vi_3_16, vi_4_16, vi_5_16, vi_6_16, vi_7_16, vi_8_16, vi_9_16, vi_10_16, vi_11_16, vi_12_16, vi_13_16, vi_14_16, vi_15_16, vi_0_810, vi_1_810, vi_2_810, vi_3_810, vi_4_810, vi_5_810, vi_6_810, vi_7_810, vi_8_810, vi_9_810, vi_10_810, vi_11_810, vi_12_810, vi_13_810, vi_14_810, vi_15_810, vi_0_40, vi_1_40, vi_2_40, vi_3_40, vi_4_40, vi_5_40, vi_6_40, vi_7_40, vi_8_40, vi_9_40, vi_10_40, vi_11_40, vi_12_40, vi_13_40, vi_14_40, vi_15_40, vi_0_60, vi_1_60, vi_2_60, vi_3_60, vi_4_60, vi_5_60, vi_6_60, vi_7_60, vi_8_60, vi_9_60, vi_10_60, vi_11_60, vi_12_60, vi_13_60, vi_14_60, vi_15_60, vi_0_144, vi_1_144, vi_2_144, vi_3_144, vi_4_144, vi_5_144, vi_6_144, vi_7_144, vi_8_144, vi_9_144, vi_10_144, vi_11_144, vi_12_144, vi_13_144, vi_14_144, vi_15_144, vi_0_12, vi_1_12, vi_2_12, vi_3_12, vi_4_12, vi_5_12, vi_6_12, vi_7_12, vi_8_12, vi_9_12, vi_10_12, vi_11_12, cl_0, cl_1, cl_2, cl_3, cl_4, cl_5, cl_6, cl_7, cl_8, cl_9, cl_10, cl_11, cl_12, cl_13, cl_14, cl_15, cl_16, not_false_eq_true, true_implies, false_implies, m_lerf]
  refine ⟨fun h2 => ?_, fun h2 => ?_⟩
  · have hn : d.1.2 1 ≠ 20 := fun z => h2 (by rw [z]; rfl)
    have hn20 : d.1.2 1 < 20 := by omega
    rw [if_neg hn] at hQ
    refine d_r4_records hA hR (fun J j1 j2 _ => ?_)
    have ix : (106 : Int32) + 4 * nI (d.1.2 1) = nI (106 + 4 * d.1.2 1) := by
      rw [show (4 : Int32) = nI 4 from rfl, pn_mul, show (106 : Int32) = nI 106 from rfl, pn_add]
    have i1 : vp_in (106 + 4 * nI (d.1.2 1)) 810 := by rw [ix]; exact (pn_in (by omega)).mpr (by omega)
    have i2 : (106 + 4 * nI (d.1.2 1)).toNatClampNeg = 106 + 4 * d.1.2 1 + 0 := by rw [ix]; exact pn_cl (by omega)
    have e1 : nI (d.1.2 1) + 1 - 1 = nI (d.1.2 1) := by rw [pn_succ]; exact pn_sub (b := 1) (by omega)
    simp (decide := true) only [e6, i1, i2, rM_pi1 hn20, e1, rw_ofPatrol, rw_ofCall, rw_ofMember, rw_ofGarage, rw_laysPatrol, rw_laysCall, rw_addsMember, rM_tg, rM_gr, rM_ln, rM_m hA, rM_a hA, rM_at hA, rM_al hA, rM_gi0, rM_pi0, rM_le, hA, c_rn, c_rs, true_and, and_true, forall_const, Option.some.injEq, exists_eq_left', forall_eq, true_implies, vi_0_3, vi_1_3, vi_2_3, vi_0_4, vi_1_4, vi_2_4, vi_3_4, vi_0_13, vi_1_13, vi_2_13, vi_3_13, vi_4_13, vi_5_13, vi_6_13, vi_7_13, vi_8_13, vi_9_13, vi_10_13, vi_11_13, vi_12_13, vi_0_14, vi_1_14, vi_2_14, vi_3_14, vi_4_14, vi_5_14, vi_6_14, vi_7_14, vi_8_14, vi_9_14, vi_10_14, vi_11_14, vi_12_14, vi_13_14, vi_0_16, vi_1_16, vi_2_16, vi_3_16, vi_4_16, vi_5_16, vi_6_16, vi_7_16, vi_8_16, vi_9_16, vi_10_16, vi_11_16, vi_12_16, vi_13_16, vi_14_16, vi_15_16, vi_0_810, vi_1_810, vi_2_810, vi_3_810, vi_4_810, vi_5_810, vi_6_810, vi_7_810, vi_8_810, vi_9_810, vi_10_810, vi_11_810, vi_12_810, vi_13_810, vi_14_810, vi_15_810, vi_0_40, vi_1_40, vi_2_40, vi_3_40, vi_4_40, vi_5_40, vi_6_40, vi_7_40, vi_8_40, vi_9_40, vi_10_40, vi_11_40, vi_12_40, vi_13_40, vi_14_40, vi_15_40, vi_0_60, vi_1_60, vi_2_60, vi_3_60, vi_4_60, vi_5_60, vi_6_60, vi_7_60, vi_8_60, vi_9_60, vi_10_60, vi_11_60, vi_12_60, vi_13_60, vi_14_60, vi_15_60, vi_0_144, vi_1_144, vi_2_144, vi_3_144, vi_4_144, vi_5_144, vi_6_144, vi_7_144, vi_8_144, vi_9_144, vi_10_144, vi_11_144, vi_12_144, vi_13_144, vi_14_144, vi_15_144, vi_0_12, vi_1_12, vi_2_12, vi_3_12, vi_4_12, vi_5_12, vi_6_12, vi_7_12, vi_8_12, vi_9_12, vi_10_12, vi_11_12, cl_0, cl_1, cl_2, cl_3, cl_4, cl_5, cl_6, cl_7, cl_8, cl_9, cl_10, cl_11, cl_12, cl_13, cl_14, cl_15, cl_16]
    have := hQ J (d_Rf_to (d := d_rec d) (a := (u_mem d.1.2 d.1.1 t, u_at d.1.2 1 (d.1.2 1 + 1))) j1 (by show u_Dk _ (u_at d.1.2 1 (d.1.2 1 + 1) 5) = _; rw [u_at_ne (by decide)]; exact u_Dk_cg (fun _ _ => u_mem5) _)) j2
    unfold u_mem at this
    simp (decide := true) only [rM_gh, e6] at this
    exact this
  · have hn : d.1.2 1 = 20 := (pn_inj (b := 20) (by omega) (by omega)).mp h2
    rw [if_pos hn] at hQ
    exact hQ I hR d_fr_rf
end
