/-! PURE: the component: the patrol that is sent -/
set_option maxRecDepth 100000
theorem pn_subI {x y : Nat} (hx : x ≤ 1000000) (hy : y ≤ 1000000) : (nI x - nI y).toInt = (x : Int) - (y : Int) := by
  rw [Int32.toInt_sub, pn_toInt (by omega), pn_toInt (by omega)]
  exact Int.bmod_eq_of_le (by omega) (by omega)
theorem pn_sub0 {x y : Nat} (hx : x ≤ 1000000) (hy : y ≤ 1000000) : (0 < nI x - nI y) = (y < x) := by
  rw [Int32.lt_iff_toInt_lt, pn_subI hx hy]
  show ((0 : Int) < _) = _
  exact propext ⟨fun h => by omega, fun h => by omega⟩
theorem pn_sub1 {x y : Nat} (hx : x ≤ 1000000) (hy : y ≤ 1000000) : (nI x - nI y = 0) = (x = y) := by
  rw [← Int32.toInt_inj, pn_subI hx hy]
  show (_ = (0 : Int)) = _
  exact propext ⟨fun h => by omega, fun h => by omega⟩
theorem u_abs3 {x y : Nat} (hx : x < 3) (hy : y < 3) : (1 < (if 0 ≤ nI x - nI y then nI x - nI y else 0 - (nI x - nI y))) ↔ ¬ (x ≤ y + 1 ∧ y ≤ x + 1) := by
  have h1 : x = 0 ∨ x = 1 ∨ x = 2 := by omega
  have h2 : y = 0 ∨ y = 1 ∨ y = 2 := by omega
  rcases h1 with rfl | rfl | rfl <;> rcases h2 with rfl | rfl | rfl <;> decide
section
variable {g : Nat → Nat} {M : Mem} {o : Nat → Nat × Nat × Nat} {r rr : Nat} {E : Nat → Nat → Nat} {n : Nat → Nat} {R : Nat} {σ σ' : Cn} {D W : Nat → Nat → Nat} {u : Nat}
theorem c6_mayTowFrom {p a h : Nat} {Q : Int32 → Mem → Prop} (hS : c_St g M o r E n R) (hp : p < n 2) (e2 : σ 2 p 2 = 0 ∨ σ 2 p 2 = 1) (e3 : σ 2 p 0 = nI h) (hh : h < 12) (ha : a < 12) (hQ : Q (u_b (decide (σ 2 p 2 = 1 ∧ h / 4 = a / 4))) (c_cM M o r σ)) : wp_X6_mayTowFrom g (c_cM M o r σ) (E 2 p) (nI a) Q := by
  have r1 : nI h / 4 = nI (h / 4) := pn_div (b := 4) (by omega) (by omega) (by omega)
  have r2 : nI a / 4 = nI (a / 4) := pn_div (b := 4) (by omega) (by omega) (by omega)
  have r3 : (nI (h / 4) = nI (a / 4)) = (h / 4 = a / 4) := pn_eqe (by omega) (by omega)
  simp (decide := true) only [wp_X6_mayTowFrom, wp_X6_region, wp_X0_regionOf, hp, e3, r1, r2, r3, cM_tg, cM_gr, cM_ln, cM_le, c_rn, c_rs, ct_0 hS, cg_0_6 hS, cp_0_6 hS, cg_0_7 hS, cp_0_7 hS, ct_8 hS, cg_8_0 hS, cp_8_0 hS, cg_8_1 hS, cp_8_1 hS, cg_8_2 hS, cp_8_2 hS, ct_1 hS, cg_1_0 hS, cp_1_0 hS, cg_1_1 hS, cp_1_1 hS, cg_1_2 hS, cp_1_2 hS, cg_1_3 hS, cp_1_3 hS, cg_1_4 hS, cp_1_4 hS, ct_2 hS, cg_2_0 hS, cp_2_0 hS, cg_2_1 hS, cp_2_1 hS, cg_2_2 hS, cp_2_2 hS, cg_2_3 hS, cp_2_3 hS, cg_2_4 hS, cp_2_4 hS, cg_2_5 hS, cp_2_5 hS, cg_2_6 hS, cp_2_6 hS, cg_2_7 hS, cp_2_7 hS, cg_2_8 hS, cp_2_8 hS, cg_2_9 hS, cp_2_9 hS, cg_2_10 hS, cp_2_10 hS, cg_2_11 hS, cp_2_11 hS, cg_2_12 hS, cp_2_12 hS, cg_2_13 hS, cp_2_13 hS, cg_2_14 hS, cp_2_14 hS, ct_3 hS, cg_3_0 hS, cp_3_0 hS, cg_3_1 hS, cp_3_1 hS, cg_3_2 hS, cp_3_2 hS, cg_3_3 hS, cp_3_3 hS, cg_3_4 hS, cp_3_4 hS, ct_4 hS, cg_4_0 hS, cp_4_0 hS, cg_4_1 hS, cp_4_1 hS, cg_4_2 hS, cp_4_2 hS, cg_4_3 hS, cp_4_3 hS, cg_4_4 hS, cp_4_4 hS, cg_4_5 hS, cp_4_5 hS, cg_4_6 hS, cp_4_6 hS, cg_4_7 hS, cp_4_7 hS, cg_4_8 hS, cp_4_8 hS, cg_4_9 hS, cp_4_9 hS, cg_4_10 hS, cp_4_10 hS, cg_4_11 hS, cp_4_11 hS, cg_4_12 hS, cp_4_12 hS, cl_t1 hS, cl_r1 hS, cl_g1 hS, cl_s1 hS, cl_t2 hS, cl_r2 hS, cl_g2 hS, cl_s2 hS, cl_t3 hS, cl_r3 hS, cl_g3 hS, cl_s3 hS, cl_t4 hS, cl_r4 hS, cl_g4 hS, cl_s4 hS, cl_p hS, cl_R hS, cl_8n hS, true_and, and_true, forall_const, Option.some.injEq, exists_eq_left', forall_eq, true_implies, cl_0, cl_1, cl_2, cl_3, cl_4, cl_5, cl_6, cl_7, cl_8, cl_9, cl_10, cl_11, cl_12, cl_13, cl_14, cl_15, cl_16, vi_0_3, vi_1_3, vi_2_3]
  refine ⟨fun z => ?_, fun z => ⟨fun z2 => ?_, fun z2 => ?_⟩⟩
  · rw [decide_eq_false (fun y => by rw [z] at y; exact absurd y.1 (by decide))] at hQ
    exact hQ
  · rw [decide_eq_false (fun y => z2 y.2)] at hQ
    exact hQ
  · rw [decide_eq_true ⟨e2.resolve_left z, z2⟩] at hQ
    exact hQ
theorem c_test {p c a h l : Nat} {Q : Int32 → Mem → Prop} (hS : c_St g M o r E n R) (hp : p < n 2) (hl : (σ 4 c 5 = 0 ∧ m_tg M l = 201) ∨ (σ 4 c 5 ≠ 0 ∧ m_tg M l = 202)) (e1 : σ 4 c 1 = nI a) (ha : a < 12) (e2 : σ 2 p 2 = 0 ∨ σ 2 p 2 = 1) (e3 : σ 2 p 0 = nI h) (hh : h < 12) (hQ : Q (u_b (u_fit σ p c)) (c_cM M o r σ)) : wp_test g (c_cM M o r σ) l (E 2 p) (nI a) Q := by
  have r1 : nI h / 4 = nI (h / 4) := pn_div (b := 4) (by omega) (by omega) (by omega)
  have r2 : nI a / 4 = nI (a / 4) := pn_div (b := 4) (by omega) (by omega) (by omega)
  have r3 : (nI (h / 4) = nI (a / 4)) = (h / 4 = a / 4) := pn_eqe (by omega) (by omega)
  have hi := u_abs3 (x := h / 4) (y := a / 4) (by omega) (by omega)
  unfold u_fit at hQ
  rw [u_w_of e1 (by omega), u_w_of e3 (by omega)] at hQ
  rcases hl with ⟨hs, hl⟩ | ⟨hs, hl⟩
  · rw [if_pos hs] at hQ
    refine Or.inl ⟨hl, ?_⟩
    simp (decide := true) only [wp_X1_lambda_nearest_0, wp_X6_mayRepairIn, wp_X6_region, wp_X0_regionOf, hp, e3, r1, r2, r3, cM_tg, cM_gr, cM_ln, cM_le, c_rn, c_rs, ct_0 hS, cg_0_6 hS, cp_0_6 hS, cg_0_7 hS, cp_0_7 hS, ct_8 hS, cg_8_0 hS, cp_8_0 hS, cg_8_1 hS, cp_8_1 hS, cg_8_2 hS, cp_8_2 hS, ct_1 hS, cg_1_0 hS, cp_1_0 hS, cg_1_1 hS, cp_1_1 hS, cg_1_2 hS, cp_1_2 hS, cg_1_3 hS, cp_1_3 hS, cg_1_4 hS, cp_1_4 hS, ct_2 hS, cg_2_0 hS, cp_2_0 hS, cg_2_1 hS, cp_2_1 hS, cg_2_2 hS, cp_2_2 hS, cg_2_3 hS, cp_2_3 hS, cg_2_4 hS, cp_2_4 hS, cg_2_5 hS, cp_2_5 hS, cg_2_6 hS, cp_2_6 hS, cg_2_7 hS, cp_2_7 hS, cg_2_8 hS, cp_2_8 hS, cg_2_9 hS, cp_2_9 hS, cg_2_10 hS, cp_2_10 hS, cg_2_11 hS, cp_2_11 hS, cg_2_12 hS, cp_2_12 hS, cg_2_13 hS, cp_2_13 hS, cg_2_14 hS, cp_2_14 hS, ct_3 hS, cg_3_0 hS, cp_3_0 hS, cg_3_1 hS, cp_3_1 hS, cg_3_2 hS, cp_3_2 hS, cg_3_3 hS, cp_3_3 hS, cg_3_4 hS, cp_3_4 hS, ct_4 hS, cg_4_0 hS, cp_4_0 hS, cg_4_1 hS, cp_4_1 hS, cg_4_2 hS, cp_4_2 hS, cg_4_3 hS, cp_4_3 hS, cg_4_4 hS, cp_4_4 hS, cg_4_5 hS, cp_4_5 hS, cg_4_6 hS, cp_4_6 hS, cg_4_7 hS, cp_4_7 hS, cg_4_8 hS, cp_4_8 hS, cg_4_9 hS, cp_4_9 hS, cg_4_10 hS, cp_4_10 hS, cg_4_11 hS, cp_4_11 hS, cg_4_12 hS, cp_4_12 hS, cl_t1 hS, cl_r1 hS, cl_g1 hS, cl_s1 hS, cl_t2 hS, cl_r2 hS, cl_g2 hS, cl_s2 hS, cl_t3 hS, cl_r3 hS, cl_g3 hS, cl_s3 hS, cl_t4 hS, cl_r4 hS, cl_g4 hS, cl_s4 hS, cl_p hS, cl_R hS, cl_8n hS, true_and, and_true, forall_const, Option.some.injEq, exists_eq_left', forall_eq, true_implies, cl_0, cl_1, cl_2, cl_3, cl_4, cl_5, cl_6, cl_7, cl_8, cl_9, cl_10, cl_11, cl_12, cl_13, cl_14, cl_15, cl_16, vi_0_3, vi_1_3, vi_2_3]
    refine ⟨fun z => ?_, fun z => ?_⟩
    · rw [decide_eq_false (hi.mp z)] at hQ
      exact hQ
    · rw [decide_eq_true (Classical.not_not.mp (fun y => z (hi.mpr y)))] at hQ
      exact hQ
  · rw [if_neg hs] at hQ
    refine Or.inr ⟨hl, ct_2 hS hp, c6_mayTowFrom hS hp e2 e3 hh ha (fun _ => ?_)⟩
    have h01 : ∀ b : Bool, u_b b = 0 ∨ u_b b = 1 := fun b => by cases b; exact Or.inl rfl; exact Or.inr rfl
    exact ⟨h01 _, h01 _, hQ⟩
theorem c1_nearestOf {c a l : Nat} {Q : Option Nat → Mem → Prop} (hS : c_St g M o r E n R) (hD : c_Rd g M o rr R D W u) (hne : rr ≠ r) (hr : u_R n σ) (hb : ∀ a b : Nat, a < 12 → b < 12 → D a b ≤ 100000 ∧ W a b ≤ 100000) (hc : c < n 4) (e1 : σ 4 c 1 = nI a) (ha : a < 12) (hl : (σ 4 c 5 = 0 ∧ m_tg M l = 201) ∨ (σ 4 c 5 ≠ 0 ∧ m_tg M l = 202)) (hQ : Q ((u_near W σ c (n 2)).map (E 2)) (c_cM M o r σ)) : wp_X1_nearestOf g (c_cM M o r σ) (E 0 0) (nI a) l Q := by
  obtain ⟨⟨_, _, _, _, _, _, _, l2, _, _⟩, _, r2, _, _⟩ := hr
  have H : ∀ d p : Nat, p + d = n 2 → wp_X1_nearestOf_b5 g Q (d + 1) (c_cM M o r σ) (E 0 0) (nI a) l ((u_near W σ c p).map (E 2)) (nI p) := by
    intro d
    induction d with
    | zero =>
      intro p hp
      have e : p = n 2 := by omega
      subst e
      rw [wp_X1_nearestOf_b5]
      simp (decide := true) only [cM_tg, cM_gr, cM_ln, cM_le, c_rn, c_rs, ct_0 hS, cg_0_6 hS, cp_0_6 hS, cg_0_7 hS, cp_0_7 hS, ct_8 hS, cg_8_0 hS, cp_8_0 hS, cg_8_1 hS, cp_8_1 hS, cg_8_2 hS, cp_8_2 hS, ct_1 hS, cg_1_0 hS, cp_1_0 hS, cg_1_1 hS, cp_1_1 hS, cg_1_2 hS, cp_1_2 hS, cg_1_3 hS, cp_1_3 hS, cg_1_4 hS, cp_1_4 hS, ct_2 hS, cg_2_0 hS, cp_2_0 hS, cg_2_1 hS, cp_2_1 hS, cg_2_2 hS, cp_2_2 hS, cg_2_3 hS, cp_2_3 hS, cg_2_4 hS, cp_2_4 hS, cg_2_5 hS, cp_2_5 hS, cg_2_6 hS, cp_2_6 hS, cg_2_7 hS, cp_2_7 hS, cg_2_8 hS, cp_2_8 hS, cg_2_9 hS, cp_2_9 hS, cg_2_10 hS, cp_2_10 hS, cg_2_11 hS, cp_2_11 hS, cg_2_12 hS, cp_2_12 hS, cg_2_13 hS, cp_2_13 hS, cg_2_14 hS, cp_2_14 hS, ct_3 hS, cg_3_0 hS, cp_3_0 hS, cg_3_1 hS, cp_3_1 hS, cg_3_2 hS, cp_3_2 hS, cg_3_3 hS, cp_3_3 hS, cg_3_4 hS, cp_3_4 hS, ct_4 hS, cg_4_0 hS, cp_4_0 hS, cg_4_1 hS, cp_4_1 hS, cg_4_2 hS, cp_4_2 hS, cg_4_3 hS, cp_4_3 hS, cg_4_4 hS, cp_4_4 hS, cg_4_5 hS, cp_4_5 hS, cg_4_6 hS, cp_4_6 hS, cg_4_7 hS, cp_4_7 hS, cg_4_8 hS, cp_4_8 hS, cg_4_9 hS, cp_4_9 hS, cg_4_10 hS, cp_4_10 hS, cg_4_11 hS, cp_4_11 hS, cg_4_12 hS, cp_4_12 hS, cl_t1 hS, cl_r1 hS, cl_g1 hS, cl_s1 hS, cl_t2 hS, cl_r2 hS, cl_g2 hS, cl_s2 hS, cl_t3 hS, cl_r3 hS, cl_g3 hS, cl_s3 hS, cl_t4 hS, cl_r4 hS, cl_g4 hS, cl_s4 hS, cl_p hS, cl_R hS, cl_8n hS, true_and, and_true, forall_const, Option.some.injEq, exists_eq_left', forall_eq, true_implies, cl_0, cl_1, cl_2, cl_3, cl_4, cl_5, cl_6, cl_7, cl_8, cl_9, cl_10, cl_11, cl_12, cl_13, cl_14, cl_15, cl_16, vi_0_3, vi_1_3, vi_2_3]
      exact ⟨fun _ => hQ, fun z => absurd ((pn_le (by omega) (by omega)).mpr (Nat.le_refl _)) z⟩
    | succ d ih =>
      intro p hp
      have hp2 : p < n 2 := by omega
      have ih := ih (p + 1) (by omega)
      obtain ⟨_, et, ⟨h, hh, eh⟩, b, hbb, eb⟩ := r2 p hp2
      have hw : W b a ≤ 100000 := (hb b a hbb ha).2
      have hn : u_near W σ c (p + 1) = if u_may W σ p c = true then (match u_near W σ c p with
        | none => some p
        | some b => if W (u_w σ 2 p 4) (u_w σ 4 c 1) < W (u_w σ 2 b 4) (u_w σ 4 c 1) ∨ (W (u_w σ 2 p 4) (u_w σ 4 c 1) = W (u_w σ 2 b 4) (u_w σ 4 c 1) ∧ σ 2 b 1 < σ 2 p 1) then some p else some b) else u_near W σ c p := rfl
      rw [u_w_of e1 (by omega), u_w_of eb (by omega)] at hn
      have hno : u_may W σ p c = false → wp_X1_nearestOf_b5 g Q (d + 1) (c_cM M o r σ) (E 0 0) (nI a) l ((u_near W σ c p).map (E 2)) (nI (p + 1)) := fun hm => by
        rw [hn, hm, if_neg (by decide)] at ih
        exact ih
      have hmay : u_may W σ p c = decide (σ 2 p 3 = 0 ∧ W b a < 100000 ∧ u_fit σ p c = true) := by
        unfold u_may
        rw [u_w_of e1 (by omega), u_w_of eb (by omega)]
      rw [wp_X1_nearestOf_b5]
      simp (decide := true) only [hp2, eb, c1_far hS hD hne hbb ha, c_far_no hw, cM_tg, cM_gr, cM_ln, cM_le, c_rn, c_rs, ct_0 hS, cg_0_6 hS, cp_0_6 hS, cg_0_7 hS, cp_0_7 hS, ct_8 hS, cg_8_0 hS, cp_8_0 hS, cg_8_1 hS, cp_8_1 hS, cg_8_2 hS, cp_8_2 hS, ct_1 hS, cg_1_0 hS, cp_1_0 hS, cg_1_1 hS, cp_1_1 hS, cg_1_2 hS, cp_1_2 hS, cg_1_3 hS, cp_1_3 hS, cg_1_4 hS, cp_1_4 hS, ct_2 hS, cg_2_0 hS, cp_2_0 hS, cg_2_1 hS, cp_2_1 hS, cg_2_2 hS, cp_2_2 hS, cg_2_3 hS, cp_2_3 hS, cg_2_4 hS, cp_2_4 hS, cg_2_5 hS, cp_2_5 hS, cg_2_6 hS, cp_2_6 hS, cg_2_7 hS, cp_2_7 hS, cg_2_8 hS, cp_2_8 hS, cg_2_9 hS, cp_2_9 hS, cg_2_10 hS, cp_2_10 hS, cg_2_11 hS, cp_2_11 hS, cg_2_12 hS, cp_2_12 hS, cg_2_13 hS, cp_2_13 hS, cg_2_14 hS, cp_2_14 hS, ct_3 hS, cg_3_0 hS, cp_3_0 hS, cg_3_1 hS, cp_3_1 hS, cg_3_2 hS, cp_3_2 hS, cg_3_3 hS, cp_3_3 hS, cg_3_4 hS, cp_3_4 hS, ct_4 hS, cg_4_0 hS, cp_4_0 hS, cg_4_1 hS, cp_4_1 hS, cg_4_2 hS, cp_4_2 hS, cg_4_3 hS, cp_4_3 hS, cg_4_4 hS, cp_4_4 hS, cg_4_5 hS, cp_4_5 hS, cg_4_6 hS, cp_4_6 hS, cg_4_7 hS, cp_4_7 hS, cg_4_8 hS, cp_4_8 hS, cg_4_9 hS, cp_4_9 hS, cg_4_10 hS, cp_4_10 hS, cg_4_11 hS, cp_4_11 hS, cg_4_12 hS, cp_4_12 hS, cl_t1 hS, cl_r1 hS, cl_g1 hS, cl_s1 hS, cl_t2 hS, cl_r2 hS, cl_g2 hS, cl_s2 hS, cl_t3 hS, cl_r3 hS, cl_g3 hS, cl_s3 hS, cl_t4 hS, cl_r4 hS, cl_g4 hS, cl_s4 hS, cl_p hS, cl_R hS, cl_8n hS, true_and, and_true, forall_const, Option.some.injEq, exists_eq_left', forall_eq, true_implies, cl_0, cl_1, cl_2, cl_3, cl_4, cl_5, cl_6, cl_7, cl_8, cl_9, cl_10, cl_11, cl_12, cl_13, cl_14, cl_15, cl_16, vi_0_3, vi_1_3, vi_2_3, pn_succ]
      refine ⟨fun z => ?_, fun _ => ⟨fun z => hno ?_, fun z => ⟨fun z2 => hno ?_, fun z2 => c_test hS hp2 hl e1 ha et eh hh (fun _ => ⟨fun z3 => ⟨fun z4 => ?_, fun v z4 => ?_⟩, fun z3 => hno ?_⟩)⟩⟩⟩
      · have := (pn_le (by omega) (by omega)).mp z
        omega
      · rw [hmay]
        exact decide_eq_false (fun y => z y.1)
      · rw [hmay]
        exact decide_eq_false (fun y => z2 y.2.1)
      · have z2' := Classical.not_not.mp z2
        have hf : u_fit σ p c = true := by
          cases hf : u_fit σ p c with
          | true => rfl
          | false => rw [hf] at z3; exact absurd rfl z3
        have hm : u_may W σ p c = true := by rw [hmay]; exact decide_eq_true ⟨z, z2', hf⟩
        rw [hn, hm, if_pos rfl] at ih
        cases hg : u_near W σ c p with
        | some k => rw [hg] at z4; cases z4
        | none =>
          rw [hg] at ih
          refine ⟨fun _ => ?_, fun y => absurd (by decide) y⟩
          rw [pn_succ]
          exact ih
      · have z2' := Classical.not_not.mp z2
        have hf : u_fit σ p c = true := by
          cases hf : u_fit σ p c with
          | true => rfl
          | false => rw [hf] at z3; exact absurd rfl z3
        have hm : u_may W σ p c = true := by rw [hmay]; exact decide_eq_true ⟨z, z2', hf⟩
        rw [hn, hm, if_pos rfl] at ih
        cases hg : u_near W σ c p with
        | none => rw [hg] at z4; cases z4
        | some k =>
          have hk := (u_near_lt hg).1
          have hkm := (u_near_lt hg).2
          have hk2 : k < n 2 := by omega
          rw [hg] at z4
          cases z4
          obtain ⟨_, _, _, bk, hbk, ebk⟩ := r2 k (by omega)
          have hwk : W bk a ≤ 100000 := (hb bk a hbk ha).2
          have hwk2 : W bk a < 100000 := by
            unfold u_may at hkm
            have := (of_decide_eq_true hkm).2.1
            rw [u_w_of e1 (by omega), u_w_of ebk (by omega)] at this
            exact this
          rw [hg] at ih
          dsimp only at ih
          rw [u_w_of ebk (by omega)] at ih
          simp (decide := true) only [wp_X1_nearestOf_b101, hp2, hk2, eb, ebk, c1_far hS hD hne hbb ha, c1_far hS hD hne hbk ha, c_far_yes z2', c_far_yes hwk2, pn_sub0 (show W bk a ≤ 1000000 by omega) (show W b a ≤ 1000000 by omega), pn_sub1 (show W bk a ≤ 1000000 by omega) (show W b a ≤ 1000000 by omega), cM_tg, cM_gr, cM_ln, cM_le, c_rn, c_rs, ct_0 hS, cg_0_6 hS, cp_0_6 hS, cg_0_7 hS, cp_0_7 hS, ct_8 hS, cg_8_0 hS, cp_8_0 hS, cg_8_1 hS, cp_8_1 hS, cg_8_2 hS, cp_8_2 hS, ct_1 hS, cg_1_0 hS, cp_1_0 hS, cg_1_1 hS, cp_1_1 hS, cg_1_2 hS, cp_1_2 hS, cg_1_3 hS, cp_1_3 hS, cg_1_4 hS, cp_1_4 hS, ct_2 hS, cg_2_0 hS, cp_2_0 hS, cg_2_1 hS, cp_2_1 hS, cg_2_2 hS, cp_2_2 hS, cg_2_3 hS, cp_2_3 hS, cg_2_4 hS, cp_2_4 hS, cg_2_5 hS, cp_2_5 hS, cg_2_6 hS, cp_2_6 hS, cg_2_7 hS, cp_2_7 hS, cg_2_8 hS, cp_2_8 hS, cg_2_9 hS, cp_2_9 hS, cg_2_10 hS, cp_2_10 hS, cg_2_11 hS, cp_2_11 hS, cg_2_12 hS, cp_2_12 hS, cg_2_13 hS, cp_2_13 hS, cg_2_14 hS, cp_2_14 hS, ct_3 hS, cg_3_0 hS, cp_3_0 hS, cg_3_1 hS, cp_3_1 hS, cg_3_2 hS, cp_3_2 hS, cg_3_3 hS, cp_3_3 hS, cg_3_4 hS, cp_3_4 hS, ct_4 hS, cg_4_0 hS, cp_4_0 hS, cg_4_1 hS, cp_4_1 hS, cg_4_2 hS, cp_4_2 hS, cg_4_3 hS, cp_4_3 hS, cg_4_4 hS, cp_4_4 hS, cg_4_5 hS, cp_4_5 hS, cg_4_6 hS, cp_4_6 hS, cg_4_7 hS, cp_4_7 hS, cg_4_8 hS, cp_4_8 hS, cg_4_9 hS, cp_4_9 hS, cg_4_10 hS, cp_4_10 hS, cg_4_11 hS, cp_4_11 hS, cg_4_12 hS, cp_4_12 hS, cl_t1 hS, cl_r1 hS, cl_g1 hS, cl_s1 hS, cl_t2 hS, cl_r2 hS, cl_g2 hS, cl_s2 hS, cl_t3 hS, cl_r3 hS, cl_g3 hS, cl_s3 hS, cl_t4 hS, cl_r4 hS, cl_g4 hS, cl_s4 hS, cl_p hS, cl_R hS, cl_8n hS, true_and, and_true, forall_const, Option.some.injEq, exists_eq_left', forall_eq, true_implies, cl_0, cl_1, cl_2, cl_3, cl_4, cl_5, cl_6, cl_7, cl_8, cl_9, cl_10, cl_11, cl_12, cl_13, cl_14, cl_15, cl_16, vi_0_3, vi_1_3, vi_2_3, pn_succ]
          refine ⟨fun y => ?_, fun y => ⟨fun y2 => ?_, fun y2 => ⟨fun y3 => ?_, fun y3 => ?_⟩⟩⟩
          · rw [if_pos (Or.inl y)] at ih
            exact ih
          · rw [if_neg (fun w => w.elim y (fun w => y2 w.1.symm))] at ih
            exact ih
          · rw [if_neg (fun w => w.elim y (fun w => Int32.not_lt.mpr y3 w.2))] at ih
            exact ih
          · rw [if_pos (Or.inr ⟨y2.symm, Int32.not_le.mp y3⟩)] at ih
            exact ih
      · rw [hmay]
        refine decide_eq_false (fun y => ?_)
        rw [y.2.2] at z3
        exact absurd z3 (by decide)
  exact ⟨n 2 + 1, H (n 2) 0 (by omega)⟩
theorem c1_nearest {c a : Nat} {Q : Option Nat → Mem → Prop} (hS : c_St g M o r E n R) (hD : c_Rd g M o rr R D W u) (hne : rr ≠ r) (hr : u_R n σ) (hb : ∀ a b : Nat, a < 12 → b < 12 → D a b ≤ 100000 ∧ W a b ≤ 100000) (hc : c < n 4) (e1 : σ 4 c 1 = nI a) (ha : a < 12) (hQ : Q ((u_near W σ c (n 2)).map (E 2)) (c_cM M o r σ)) : wp_X1_nearest g (c_cM M o r σ) (E 0 0) (E 4 c) Q := by
  simp (decide := true) only [wp_X1_nearest, hc, e1, cM_tg, cM_gr, cM_ln, cM_le, c_rn, c_rs, ct_0 hS, cg_0_6 hS, cp_0_6 hS, cg_0_7 hS, cp_0_7 hS, ct_8 hS, cg_8_0 hS, cp_8_0 hS, cg_8_1 hS, cp_8_1 hS, cg_8_2 hS, cp_8_2 hS, ct_1 hS, cg_1_0 hS, cp_1_0 hS, cg_1_1 hS, cp_1_1 hS, cg_1_2 hS, cp_1_2 hS, cg_1_3 hS, cp_1_3 hS, cg_1_4 hS, cp_1_4 hS, ct_2 hS, cg_2_0 hS, cp_2_0 hS, cg_2_1 hS, cp_2_1 hS, cg_2_2 hS, cp_2_2 hS, cg_2_3 hS, cp_2_3 hS, cg_2_4 hS, cp_2_4 hS, cg_2_5 hS, cp_2_5 hS, cg_2_6 hS, cp_2_6 hS, cg_2_7 hS, cp_2_7 hS, cg_2_8 hS, cp_2_8 hS, cg_2_9 hS, cp_2_9 hS, cg_2_10 hS, cp_2_10 hS, cg_2_11 hS, cp_2_11 hS, cg_2_12 hS, cp_2_12 hS, cg_2_13 hS, cp_2_13 hS, cg_2_14 hS, cp_2_14 hS, ct_3 hS, cg_3_0 hS, cp_3_0 hS, cg_3_1 hS, cp_3_1 hS, cg_3_2 hS, cp_3_2 hS, cg_3_3 hS, cp_3_3 hS, cg_3_4 hS, cp_3_4 hS, ct_4 hS, cg_4_0 hS, cp_4_0 hS, cg_4_1 hS, cp_4_1 hS, cg_4_2 hS, cp_4_2 hS, cg_4_3 hS, cp_4_3 hS, cg_4_4 hS, cp_4_4 hS, cg_4_5 hS, cp_4_5 hS, cg_4_6 hS, cp_4_6 hS, cg_4_7 hS, cp_4_7 hS, cg_4_8 hS, cp_4_8 hS, cg_4_9 hS, cp_4_9 hS, cg_4_10 hS, cp_4_10 hS, cg_4_11 hS, cp_4_11 hS, cg_4_12 hS, cp_4_12 hS, cl_t1 hS, cl_r1 hS, cl_g1 hS, cl_s1 hS, cl_t2 hS, cl_r2 hS, cl_g2 hS, cl_s2 hS, cl_t3 hS, cl_r3 hS, cl_g3 hS, cl_s3 hS, cl_t4 hS, cl_r4 hS, cl_g4 hS, cl_s4 hS, cl_p hS, cl_R hS, cl_8n hS, true_and, and_true, forall_const, Option.some.injEq, exists_eq_left', forall_eq, true_implies, cl_0, cl_1, cl_2, cl_3, cl_4, cl_5, cl_6, cl_7, cl_8, cl_9, cl_10, cl_11, cl_12, cl_13, cl_14, cl_15, cl_16, vi_0_3, vi_1_3, vi_2_3]
  refine ⟨fun z hg => ?_, fun z hg => ?_⟩
  · exact c1_nearestOf hS hD hne hr hb hc e1 ha (Or.inr ⟨z, hg⟩) (fun _ => hQ)
  · exact c1_nearestOf hS hD hne hr hb hc e1 ha (Or.inl ⟨z, hg⟩) (fun _ => hQ)
end
