/-! PURE: the component: tow whole, at the car -/
set_option maxRecDepth 100000
section
variable {g : Nat → Nat} {M : Mem} {o : Nat → Nat × Nat × Nat} {r rr : Nat} {E : Nat → Nat → Nat} {n : Nat → Nat} {R : Nat} {σ σ' : Cn} {D W : Nat → Nat → Nat} {u : Nat}
theorem c1_tow60 {p c q a t h i w : Nat} {Q : Mem → Prop} (hS : c_St g M o r E n R) (hD : c_Rd g M o rr R D W u) (hne : rr ≠ r) (hr : u_R n σ) (hp : p < n 2) (hc : c < n 4) (hq : q < n 3) (e1 : σ 2 p 5 = nI c) (e2 : σ 2 p 0 = nI h) (hh : h < 12) (e3 : u_P D W a t) (hb : ∀ a b : Nat, a < 12 → b < 12 → D a b ≤ 100000 ∧ W a b ≤ 100000) (ha : a < 12) (ht : t < 12) (hw : c_wl g M o rr i w (u_len D W a t + 1) (u_it D W t a))
    (hQ : Q (c_cM M o r (u_towTo D W σ p c q (h / 4) a t))) : ∃ j : Nat, wp_X1_tow_b60 g Q j (c_cM M o r σ) (E 0 0) (E 2 p) (E 4 c) (nI q) (some w) 0 := by
  obtain ⟨L, hL, hL11, hLt, hs⟩ := id e3
  obtain ⟨tw, hsz, bx, hbx⟩ := c_wl_rd (r := r) hw hne
  rw [hL] at hsz hbx
  have hit12 : ∀ k : Nat, k ≤ L → u_it D W t a k < 12 := fun k hk => by
    cases k with
    | zero => exact ha
    | succ k => exact (hs k (by omega)).2.2.2.2.1
  have hreg : ∀ x : Nat, x < 12 → nI x / 4 = nI (x / 4) := fun x hx => pn_div (b := 4) (by omega) (by omega) (by omega)
  have hokd : ∀ e : Nat, u_ok D W (h / 4) a t e = decide (e < L ∧ (e = 0 ∨ (u_it D W t a e / 4 = h / 4 ∧ u_it D W t a (e + 1) / 4 = h / 4))) := fun e => by
    unfold u_ok
    rw [hL]
  have hstop : ∀ e : Nat, e ≤ L → (∀ j : Nat, j < e → u_ok D W (h / 4) a t j = true) → u_ok D W (h / 4) a t e = false → ∃ j : Nat, wp_X1_tow_b148 g Q j (c_cM M o r σ) (E 0 0) (E 2 p) (E 4 c) (nI q) (some w) (nI e) 0 0 := fun e he h1 h2 =>
    c1_tow148 hS hD hne hr hp hc hq e1 e3 hb hw (by rw [hL]; exact he) (u_first_eq (Nat.zero_le _) (by omega) (fun j _ hj => by rw [h1 j hj]; rfl) (by rw [h2]; rfl)) hQ
  have H : ∀ d e : Nat, e + d = L → (∀ j : Nat, j < e → u_ok D W (h / 4) a t j = true) → wp_X1_tow_b60 g Q (d + 1) (c_cM M o r σ) (E 0 0) (E 2 p) (E 4 c) (nI q) (some w) (nI e) := by
    intro d
    induction d with
    | zero =>
      intro e he hj
      have hle : (nI (L + 1) ≤ nI (e + 1)) = True := eq_true ((pn_le (by omega) (by omega)).mpr (by omega))
      have hst := hstop e (by omega) hj (by rw [hokd]; exact decide_eq_false (fun z => by omega))
      rw [wp_X1_tow_b60]
      simp (decide := true) only [tw, hsz, hle, cM_tg, cM_gr, cM_ln, cM_le, c_rn, c_rs, ct_0 hS, cg_0_6 hS, cp_0_6 hS, cg_0_7 hS, cp_0_7 hS, ct_8 hS, cg_8_0 hS, cp_8_0 hS, cg_8_1 hS, cp_8_1 hS, cg_8_2 hS, cp_8_2 hS, ct_1 hS, cg_1_0 hS, cp_1_0 hS, cg_1_1 hS, cp_1_1 hS, cg_1_2 hS, cp_1_2 hS, cg_1_3 hS, cp_1_3 hS, cg_1_4 hS, cp_1_4 hS, ct_2 hS, cg_2_0 hS, cp_2_0 hS, cg_2_1 hS, cp_2_1 hS, cg_2_2 hS, cp_2_2 hS, cg_2_3 hS, cp_2_3 hS, cg_2_4 hS, cp_2_4 hS, cg_2_5 hS, cp_2_5 hS, cg_2_6 hS, cp_2_6 hS, cg_2_7 hS, cp_2_7 hS, cg_2_8 hS, cp_2_8 hS, cg_2_9 hS, cp_2_9 hS, cg_2_10 hS, cp_2_10 hS, cg_2_11 hS, cp_2_11 hS, cg_2_12 hS, cp_2_12 hS, cg_2_13 hS, cp_2_13 hS, cg_2_14 hS, cp_2_14 hS, ct_3 hS, cg_3_0 hS, cp_3_0 hS, cg_3_1 hS, cp_3_1 hS, cg_3_2 hS, cp_3_2 hS, cg_3_3 hS, cp_3_3 hS, cg_3_4 hS, cp_3_4 hS, ct_4 hS, cg_4_0 hS, cp_4_0 hS, cg_4_1 hS, cp_4_1 hS, cg_4_2 hS, cp_4_2 hS, cg_4_3 hS, cp_4_3 hS, cg_4_4 hS, cp_4_4 hS, cg_4_5 hS, cp_4_5 hS, cg_4_6 hS, cp_4_6 hS, cg_4_7 hS, cp_4_7 hS, cg_4_8 hS, cp_4_8 hS, cg_4_9 hS, cp_4_9 hS, cg_4_10 hS, cp_4_10 hS, cg_4_11 hS, cp_4_11 hS, cg_4_12 hS, cp_4_12 hS, cl_t1 hS, cl_r1 hS, cl_g1 hS, cl_s1 hS, cl_t2 hS, cl_r2 hS, cl_g2 hS, cl_s2 hS, cl_t3 hS, cl_r3 hS, cl_g3 hS, cl_s3 hS, cl_t4 hS, cl_r4 hS, cl_g4 hS, cl_s4 hS, cl_p hS, cl_R hS, cl_8n hS, true_and, and_true, forall_const, Option.some.injEq, exists_eq_left', forall_eq, true_implies, cl_0, cl_1, cl_2, cl_3, cl_4, cl_5, cl_6, cl_7, cl_8, cl_9, cl_10, cl_11, cl_12, cl_13, cl_14, cl_15, cl_16, vi_0_3, vi_1_3, vi_2_3, pn_succ, true_implies, not_true_eq_false, false_implies]
      exact hst
    | succ d ih =>
      intro e he hj
      obtain ⟨x1, x2, x3⟩ := hbx e (by omega)
      obtain ⟨y1, y2, y3⟩ := hbx (e + 1) (by omega)
      have i1 := hit12 e (by omega)
      have i2 := hit12 (e + 1) (by omega)
      have hle : (nI (L + 1) ≤ nI (e + 1)) = False := pn_leF (by omega) (by omega) (by omega)
      have h0 : (nI e = 0) = (e = 0) := pn_eqe (b := 0) (by omega) (by omega)
      have q1 : (nI (u_it D W t a e / 4) = nI (h / 4)) = (u_it D W t a e / 4 = h / 4) := pn_eqe (by omega) (by omega)
      have q2 : (nI (u_it D W t a (e + 1) / 4) = nI (h / 4)) = (u_it D W t a (e + 1) / 4 = h / 4) := pn_eqe (by omega) (by omega)
      have hst : u_ok D W (h / 4) a t e = false → ∃ j : Nat, wp_X1_tow_b148 g Q j (c_cM M o r σ) (E 0 0) (E 2 p) (E 4 c) (nI q) (some w) (nI e) 0 0 := hstop e (by omega) hj
      have hgo : u_ok D W (h / 4) a t e = true → wp_X1_tow_b60 g Q (d + 1) (c_cM M o r σ) (E 0 0) (E 2 p) (E 4 c) (nI q) (some w) (nI (e + 1)) := fun hok =>
        ih (e + 1) (by omega) (fun j hj1 => by
          by_cases ej : j = e
          · rw [ej, hok]
          · exact hj j (by omega))
      rw [wp_X1_tow_b60]
      simp (decide := true) only [tw, hsz, hle, h0, x1, x2, x3, y1, y2, y3, q1, q2, hp, e2, wp_X1_tow_b104, wp_X6_region, wp_X0_regionOf, wp_J12_intValue, hreg _ i1, hreg _ i2, hreg h hh, cM_tg, cM_gr, cM_ln, cM_le, c_rn, c_rs, ct_0 hS, cg_0_6 hS, cp_0_6 hS, cg_0_7 hS, cp_0_7 hS, ct_8 hS, cg_8_0 hS, cp_8_0 hS, cg_8_1 hS, cp_8_1 hS, cg_8_2 hS, cp_8_2 hS, ct_1 hS, cg_1_0 hS, cp_1_0 hS, cg_1_1 hS, cp_1_1 hS, cg_1_2 hS, cp_1_2 hS, cg_1_3 hS, cp_1_3 hS, cg_1_4 hS, cp_1_4 hS, ct_2 hS, cg_2_0 hS, cp_2_0 hS, cg_2_1 hS, cp_2_1 hS, cg_2_2 hS, cp_2_2 hS, cg_2_3 hS, cp_2_3 hS, cg_2_4 hS, cp_2_4 hS, cg_2_5 hS, cp_2_5 hS, cg_2_6 hS, cp_2_6 hS, cg_2_7 hS, cp_2_7 hS, cg_2_8 hS, cp_2_8 hS, cg_2_9 hS, cp_2_9 hS, cg_2_10 hS, cp_2_10 hS, cg_2_11 hS, cp_2_11 hS, cg_2_12 hS, cp_2_12 hS, cg_2_13 hS, cp_2_13 hS, cg_2_14 hS, cp_2_14 hS, ct_3 hS, cg_3_0 hS, cp_3_0 hS, cg_3_1 hS, cp_3_1 hS, cg_3_2 hS, cp_3_2 hS, cg_3_3 hS, cp_3_3 hS, cg_3_4 hS, cp_3_4 hS, ct_4 hS, cg_4_0 hS, cp_4_0 hS, cg_4_1 hS, cp_4_1 hS, cg_4_2 hS, cp_4_2 hS, cg_4_3 hS, cp_4_3 hS, cg_4_4 hS, cp_4_4 hS, cg_4_5 hS, cp_4_5 hS, cg_4_6 hS, cp_4_6 hS, cg_4_7 hS, cp_4_7 hS, cg_4_8 hS, cp_4_8 hS, cg_4_9 hS, cp_4_9 hS, cg_4_10 hS, cp_4_10 hS, cg_4_11 hS, cp_4_11 hS, cg_4_12 hS, cp_4_12 hS, cl_t1 hS, cl_r1 hS, cl_g1 hS, cl_s1 hS, cl_t2 hS, cl_r2 hS, cl_g2 hS, cl_s2 hS, cl_t3 hS, cl_r3 hS, cl_g3 hS, cl_s3 hS, cl_t4 hS, cl_r4 hS, cl_g4 hS, cl_s4 hS, cl_p hS, cl_R hS, cl_8n hS, true_and, and_true, forall_const, Option.some.injEq, exists_eq_left', forall_eq, true_implies, cl_0, cl_1, cl_2, cl_3, cl_4, cl_5, cl_6, cl_7, cl_8, cl_9, cl_10, cl_11, cl_12, cl_13, cl_14, cl_15, cl_16, vi_0_3, vi_1_3, vi_2_3, pn_succ, true_implies, not_true_eq_false, not_false_eq_true, false_implies]
      refine ⟨fun z => ⟨fun _ => ?_, fun z2 => absurd z z2⟩, fun z => ⟨fun z2 => hst ?_, fun z2 => ⟨fun z3 => absurd z3 z, fun _ => ⟨fun z3 => hst ?_, fun z3 => ?_⟩⟩⟩⟩
      · exact hgo (by rw [hokd]; exact decide_eq_true ⟨by omega, Or.inl z⟩)
      · rw [hokd]
        exact decide_eq_false (fun y => y.2.elim z (fun w => z2 w.1))
      · rw [hokd]
        exact decide_eq_false (fun y => y.2.elim z (fun w => z3 w.2))
      · exact hgo (by rw [hokd]; exact decide_eq_true ⟨by omega, Or.inr ⟨z2, z3⟩⟩)
  exact ⟨L + 1, H L 0 (by omega) (fun j hj => absurd hj (Nat.not_lt_zero _))⟩
theorem c_Rd_cM (hD : c_Rd g M o rr R D W u) (hne : rr ≠ r) : c_Rd g (c_cM M o r σ) o rr R D W u := c_Rd_same hD m_le_rf (fun b hb => ⟨by
  unfold c_cM q_ints
  dsimp only
  have e9 : c_enc o r σ (m_gi M) b = m_gi M b := by
    funext j
    unfold c_enc
    rw [if_neg]
    rcases hb with hb | hb <;> rw [hb] <;> exact hne
  rw [e9]
  rfl, rfl⟩)
theorem c_same_cM2 {X : Mem} {o' : Nat → Nat × Nat × Nat} {q : Nat} (hq : q ≠ r) (h : c_same (c_cM M o r σ) o X o' q) : c_same M o X o' q := by
  intro b hb
  have h1 := h b hb
  refine ⟨h1.1.trans ?_, h1.2⟩
  unfold c_cM q_ints
  dsimp only
  have e9 : c_enc o r σ (m_gi M) b = m_gi M b := by
    funext j
    unfold c_enc
    rw [if_neg]
    rcases hb with hb | hb
    · rw [hb]
      exact hq
    · rw [← h1.2, hb]
      exact hq
  rw [e9]
  rfl
theorem c1_tow {p c a h : Nat} {Q : Mem → Prop} (hobj : ∀ (M : Mem) (y : Nat), q_obj (m_tg M y) → m_asg M y "java/lang/Object") (hnode : ∀ (M : Mem) (y : Nat), m_tg M y = 18 → m_asg M y "java/util/HashMap$Node") (hK : c_K g M o r E n R rr D W u) (hr : u_R n σ) (hok : u_OK D W) (hp : p < n 2) (hc : c < n 4) (e1 : σ 2 p 5 = nI c) (e2 : σ 4 c 1 = nI a) (ha : a < 12) (e3 : σ 2 p 0 = nI h) (hh : h < 12) (hroom : c_room M u 60 300)
    (hQ : ∀ (M' : Mem) (o' : Nat → Nat × Nat × Nat) (u' : Nat), c_K g M' o' r E n R rr D W u' → c_T M o u M' o' u' r rr → Q (c_cM M' o' r (u_tow D W n σ p c))) : wp_X1_tow g (c_cM M o r σ) (E 0 0) (E 2 p) (E 4 c) Q := by
  obtain ⟨hS, hD, hne, hr0, hrr0, hLb, hg1⟩ := id hK
  have l3 := hr.1.2.2.2.2.2.2.2.2.1
  unfold u_tow at hQ
  rw [u_w_of e2 (by omega)] at hQ
  simp (decide := true) only [wp_X1_tow, hp, hc, e2, cM_tg, cM_gr, cM_ln, cM_le, c_rn, c_rs, ct_0 hS, cg_0_6 hS, cp_0_6 hS, cg_0_7 hS, cp_0_7 hS, ct_8 hS, cg_8_0 hS, cp_8_0 hS, cg_8_1 hS, cp_8_1 hS, cg_8_2 hS, cp_8_2 hS, ct_1 hS, cg_1_0 hS, cp_1_0 hS, cg_1_1 hS, cp_1_1 hS, cg_1_2 hS, cp_1_2 hS, cg_1_3 hS, cp_1_3 hS, cg_1_4 hS, cp_1_4 hS, ct_2 hS, cg_2_0 hS, cp_2_0 hS, cg_2_1 hS, cp_2_1 hS, cg_2_2 hS, cp_2_2 hS, cg_2_3 hS, cp_2_3 hS, cg_2_4 hS, cp_2_4 hS, cg_2_5 hS, cp_2_5 hS, cg_2_6 hS, cp_2_6 hS, cg_2_7 hS, cp_2_7 hS, cg_2_8 hS, cp_2_8 hS, cg_2_9 hS, cp_2_9 hS, cg_2_10 hS, cp_2_10 hS, cg_2_11 hS, cp_2_11 hS, cg_2_12 hS, cp_2_12 hS, cg_2_13 hS, cp_2_13 hS, cg_2_14 hS, cp_2_14 hS, ct_3 hS, cg_3_0 hS, cp_3_0 hS, cg_3_1 hS, cp_3_1 hS, cg_3_2 hS, cp_3_2 hS, cg_3_3 hS, cp_3_3 hS, cg_3_4 hS, cp_3_4 hS, ct_4 hS, cg_4_0 hS, cp_4_0 hS, cg_4_1 hS, cp_4_1 hS, cg_4_2 hS, cp_4_2 hS, cg_4_3 hS, cp_4_3 hS, cg_4_4 hS, cp_4_4 hS, cg_4_5 hS, cp_4_5 hS, cg_4_6 hS, cp_4_6 hS, cg_4_7 hS, cp_4_7 hS, cg_4_8 hS, cp_4_8 hS, cg_4_9 hS, cp_4_9 hS, cg_4_10 hS, cp_4_10 hS, cg_4_11 hS, cp_4_11 hS, cg_4_12 hS, cp_4_12 hS, cl_t1 hS, cl_r1 hS, cl_g1 hS, cl_s1 hS, cl_t2 hS, cl_r2 hS, cl_g2 hS, cl_s2 hS, cl_t3 hS, cl_r3 hS, cl_g3 hS, cl_s3 hS, cl_t4 hS, cl_r4 hS, cl_g4 hS, cl_s4 hS, cl_p hS, cl_R hS, cl_8n hS, true_and, and_true, forall_const, Option.some.injEq, exists_eq_left', forall_eq, true_implies, cl_0, cl_1, cl_2, cl_3, cl_4, cl_5, cl_6, cl_7, cl_8, cl_9, cl_10, cl_11, cl_12, cl_13, cl_14, cl_15, cl_16, vi_0_3, vi_1_3, vi_2_3]
  refine c1_garageFor hS hD hne hr hok.1 ha ?_
  cases hg : u_gar W σ a (n 3) with
  | none =>
    rw [hg] at hQ
    have hQ := hQ M o u hK c_T_rf
    unfold u_wait u_free at hQ
    simp (decide := true) only [u_og, hp, hc, e2, wp_X8_waitForTow, wp_X6_becomeFree, cM_tg, cM_gr, cM_ln, cM_le, c_rn, c_rs, ct_0 hS, cg_0_6 hS, cp_0_6 hS, cg_0_7 hS, cp_0_7 hS, ct_8 hS, cg_8_0 hS, cp_8_0 hS, cg_8_1 hS, cp_8_1 hS, cg_8_2 hS, cp_8_2 hS, ct_1 hS, cg_1_0 hS, cp_1_0 hS, cg_1_1 hS, cp_1_1 hS, cg_1_2 hS, cp_1_2 hS, cg_1_3 hS, cp_1_3 hS, cg_1_4 hS, cp_1_4 hS, ct_2 hS, cg_2_0 hS, cp_2_0 hS, cg_2_1 hS, cp_2_1 hS, cg_2_2 hS, cp_2_2 hS, cg_2_3 hS, cp_2_3 hS, cg_2_4 hS, cp_2_4 hS, cg_2_5 hS, cp_2_5 hS, cg_2_6 hS, cp_2_6 hS, cg_2_7 hS, cp_2_7 hS, cg_2_8 hS, cp_2_8 hS, cg_2_9 hS, cp_2_9 hS, cg_2_10 hS, cp_2_10 hS, cg_2_11 hS, cp_2_11 hS, cg_2_12 hS, cp_2_12 hS, cg_2_13 hS, cp_2_13 hS, cg_2_14 hS, cp_2_14 hS, ct_3 hS, cg_3_0 hS, cp_3_0 hS, cg_3_1 hS, cp_3_1 hS, cg_3_2 hS, cp_3_2 hS, cg_3_3 hS, cp_3_3 hS, cg_3_4 hS, cp_3_4 hS, ct_4 hS, cg_4_0 hS, cp_4_0 hS, cg_4_1 hS, cp_4_1 hS, cg_4_2 hS, cp_4_2 hS, cg_4_3 hS, cp_4_3 hS, cg_4_4 hS, cp_4_4 hS, cg_4_5 hS, cp_4_5 hS, cg_4_6 hS, cp_4_6 hS, cg_4_7 hS, cp_4_7 hS, cg_4_8 hS, cp_4_8 hS, cg_4_9 hS, cp_4_9 hS, cg_4_10 hS, cp_4_10 hS, cg_4_11 hS, cp_4_11 hS, cg_4_12 hS, cp_4_12 hS, cl_t1 hS, cl_r1 hS, cl_g1 hS, cl_s1 hS, cl_t2 hS, cl_r2 hS, cl_g2 hS, cl_s2 hS, cl_t3 hS, cl_r3 hS, cl_g3 hS, cl_s3 hS, cl_t4 hS, cl_r4 hS, cl_g4 hS, cl_s4 hS, cl_p hS, cl_R hS, cl_8n hS, true_and, and_true, forall_const, Option.some.injEq, exists_eq_left', forall_eq, true_implies, cl_0, cl_1, cl_2, cl_3, cl_4, cl_5, cl_6, cl_7, cl_8, cl_9, cl_10, cl_11, cl_12, cl_13, cl_14, cl_15, cl_16, vi_0_3, vi_1_3, vi_2_3, true_implies, false_implies, not_true_eq_false]
    rw [e2] at hQ
    exact hQ
  | some q =>
    rw [hg] at hQ
    have hq := u_gar_lt hg
    obtain ⟨t, ht, et⟩ := hr.2.2.2.1 q hq
    have hW := u_gar_ok hg
    rw [u_w_of et (by omega)] at hW
    dsimp only at hQ
    rw [u_w_of et (by omega), u_w_of e3 (by omega)] at hQ
    have hP := hok.2.2 a t ha ht hW
    simp (decide := true) only [u_og, u_og_ne (show q < 2147483648 by omega), not_false_eq_true, true_implies, false_implies, hp, hc, hq, et, e2, hD.2.1, cM_tg, cM_gr, cM_ln, cM_le, c_rn, c_rs, ct_0 hS, cg_0_6 hS, cp_0_6 hS, cg_0_7 hS, cp_0_7 hS, ct_8 hS, cg_8_0 hS, cp_8_0 hS, cg_8_1 hS, cp_8_1 hS, cg_8_2 hS, cp_8_2 hS, ct_1 hS, cg_1_0 hS, cp_1_0 hS, cg_1_1 hS, cp_1_1 hS, cg_1_2 hS, cp_1_2 hS, cg_1_3 hS, cp_1_3 hS, cg_1_4 hS, cp_1_4 hS, ct_2 hS, cg_2_0 hS, cp_2_0 hS, cg_2_1 hS, cp_2_1 hS, cg_2_2 hS, cp_2_2 hS, cg_2_3 hS, cp_2_3 hS, cg_2_4 hS, cp_2_4 hS, cg_2_5 hS, cp_2_5 hS, cg_2_6 hS, cp_2_6 hS, cg_2_7 hS, cp_2_7 hS, cg_2_8 hS, cp_2_8 hS, cg_2_9 hS, cp_2_9 hS, cg_2_10 hS, cp_2_10 hS, cg_2_11 hS, cp_2_11 hS, cg_2_12 hS, cp_2_12 hS, cg_2_13 hS, cp_2_13 hS, cg_2_14 hS, cp_2_14 hS, ct_3 hS, cg_3_0 hS, cp_3_0 hS, cg_3_1 hS, cp_3_1 hS, cg_3_2 hS, cp_3_2 hS, cg_3_3 hS, cp_3_3 hS, cg_3_4 hS, cp_3_4 hS, ct_4 hS, cg_4_0 hS, cp_4_0 hS, cg_4_1 hS, cp_4_1 hS, cg_4_2 hS, cp_4_2 hS, cg_4_3 hS, cp_4_3 hS, cg_4_4 hS, cp_4_4 hS, cg_4_5 hS, cp_4_5 hS, cg_4_6 hS, cp_4_6 hS, cg_4_7 hS, cp_4_7 hS, cg_4_8 hS, cp_4_8 hS, cg_4_9 hS, cp_4_9 hS, cg_4_10 hS, cp_4_10 hS, cg_4_11 hS, cp_4_11 hS, cg_4_12 hS, cp_4_12 hS, cl_t1 hS, cl_r1 hS, cl_g1 hS, cl_s1 hS, cl_t2 hS, cl_r2 hS, cl_g2 hS, cl_s2 hS, cl_t3 hS, cl_r3 hS, cl_g3 hS, cl_s3 hS, cl_t4 hS, cl_r4 hS, cl_g4 hS, cl_s4 hS, cl_p hS, cl_R hS, cl_8n hS, true_and, and_true, forall_const, Option.some.injEq, exists_eq_left', forall_eq, true_implies, cl_0, cl_1, cl_2, cl_3, cl_4, cl_5, cl_6, cl_7, cl_8, cl_9, cl_10, cl_11, cl_12, cl_13, cl_14, cl_15, cl_16, vi_0_3, vi_1_3, vi_2_3]
    refine c2_way hobj hnode (c_Rd_cM hD hne) hrr0 hLb hok ha ht ⟨by have := hroom.1; have h9 : m_nc (c_cM M o r σ) = m_nc M := rfl; omega, by have := hroom.2; have h9 : m_ns (c_cM M o r σ) = m_ns M := rfl; omega⟩ hg1 (fun X' o' w u' k1 k2 k3 k4 k5 k6 k7 k8 _ => ?_)
    have ks := k2 r hne.symm hr0
    have eX : c_cM X' o' r σ = X' := c_cM_eq2 ks
    have hS' : c_St g X' o' r E n R := c_St_same (c_St_cM (σ := σ) hS) ks
    have hcnt : u_cnt D W a t = u_len D W a t + 1 := by
      unfold u_cnt
      rw [if_pos hW]
    rw [hcnt] at k4
    have hT : c_T M o u X' o' u' r rr := ⟨k1, fun z z1 z2 z3 => c_same_cM2 z1 (k2 z z2 z3), k7, k8⟩
    have hfin := c1_tow60 (σ := σ) hS' k3 hne hr hp hc hq e1 e3 hh hP hok.1 ha ht k4 (hQ X' o' u' ⟨hS', k3, hne, hr0, hrr0, k5, k6⟩ hT)
    rw [eX] at hfin
    exact hfin
end
