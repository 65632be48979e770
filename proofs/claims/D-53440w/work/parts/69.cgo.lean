/-! PURE: the component: a patrol goes on, a call is sent for -/
set_option maxRecDepth 100000
section
variable {g : Nat → Nat} {M : Mem} {o : Nat → Nat × Nat × Nat} {r rr : Nat} {E : Nat → Nat → Nat} {n : Nat → Nat} {R : Nat} {σ σ' : Cn} {D W : Nat → Nat → Nat} {u : Nat}
theorem c1_goOn {p : Nat} {Q : Int32 → Mem → Prop} (hobj : ∀ (M : Mem) (y : Nat), q_obj (m_tg M y) → m_asg M y "java/lang/Object") (hnode : ∀ (M : Mem) (y : Nat), m_tg M y = 18 → m_asg M y "java/util/HashMap$Node") (hK : c_K g M o r E n R rr D W u) (hr : u_R n σ) (hB : u_B n σ) (hok : u_OK D W) (hp : p < n 2) (hmin : ¬ σ 0 0 0 = -5) (hroom : c_room M u 60 300)
    (hQ : ∀ (M' : Mem) (o' : Nat → Nat × Nat × Nat) (u' : Nat), c_K g M' o' r E n R rr D W u' → c_T M o u M' o' u' r rr → Q (u_goOn D W n σ p).2 (c_cM M' o' r (u_goOn D W n σ p).1)) : wp_X1_goOn g (c_cM M o r σ) (E 0 0) (E 2 p) Q := by
  have hS := hK.1
  have l1 := hr.1.2.2.2.2.2.2.1
  have l3 := hr.1.2.2.2.2.2.2.2.2.1
  have l4 := hr.1.2.2.2.2.2.2.2.2.2
  obtain ⟨hb1, hb2⟩ := hB.1 p hp
  have hno : ¬ u_busy σ p → Q 0 (c_cM M o r σ) := fun hn => by
    have hQ := hQ M o u hK c_T_rf
    unfold u_goOn at hQ
    rw [if_neg (show ¬ (σ 2 p 3 = 1 ∨ σ 2 p 3 = 2 ∨ σ 2 p 3 = 3) from hn)] at hQ
    exact hQ
  simp (decide := true) only [wp_X1_goOn, wp_X6_isBusy, wp_X0_inRange, hp, cM_tg, cM_gr, cM_ln, cM_le, c_rn, c_rs, ct_0 hS, cg_0_6 hS, cp_0_6 hS, cg_0_7 hS, cp_0_7 hS, ct_8 hS, cg_8_0 hS, cp_8_0 hS, cg_8_1 hS, cp_8_1 hS, cg_8_2 hS, cp_8_2 hS, ct_1 hS, cg_1_0 hS, cp_1_0 hS, cg_1_1 hS, cp_1_1 hS, cg_1_2 hS, cp_1_2 hS, cg_1_3 hS, cp_1_3 hS, cg_1_4 hS, cp_1_4 hS, ct_2 hS, cg_2_0 hS, cp_2_0 hS, cg_2_1 hS, cp_2_1 hS, cg_2_2 hS, cp_2_2 hS, cg_2_3 hS, cp_2_3 hS, cg_2_4 hS, cp_2_4 hS, cg_2_5 hS, cp_2_5 hS, cg_2_6 hS, cp_2_6 hS, cg_2_7 hS, cp_2_7 hS, cg_2_8 hS, cp_2_8 hS, cg_2_9 hS, cp_2_9 hS, cg_2_10 hS, cp_2_10 hS, cg_2_11 hS, cp_2_11 hS, cg_2_12 hS, cp_2_12 hS, cg_2_13 hS, cp_2_13 hS, cg_2_14 hS, cp_2_14 hS, ct_3 hS, cg_3_0 hS, cp_3_0 hS, cg_3_1 hS, cp_3_1 hS, cg_3_2 hS, cp_3_2 hS, cg_3_3 hS, cp_3_3 hS, cg_3_4 hS, cp_3_4 hS, ct_4 hS, cg_4_0 hS, cp_4_0 hS, cg_4_1 hS, cp_4_1 hS, cg_4_2 hS, cp_4_2 hS, cg_4_3 hS, cp_4_3 hS, cg_4_4 hS, cp_4_4 hS, cg_4_5 hS, cp_4_5 hS, cg_4_6 hS, cp_4_6 hS, cg_4_7 hS, cp_4_7 hS, cg_4_8 hS, cp_4_8 hS, cg_4_9 hS, cp_4_9 hS, cg_4_10 hS, cp_4_10 hS, cg_4_11 hS, cp_4_11 hS, cg_4_12 hS, cp_4_12 hS, cl_t1 hS, cl_r1 hS, cl_g1 hS, cl_s1 hS, cl_t2 hS, cl_r2 hS, cl_g2 hS, cl_s2 hS, cl_t3 hS, cl_r3 hS, cl_g3 hS, cl_s3 hS, cl_t4 hS, cl_r4 hS, cl_g4 hS, cl_s4 hS, cl_p hS, cl_R hS, cl_8n hS, true_and, and_true, forall_const, Option.some.injEq, exists_eq_left', forall_eq, true_implies, cl_0, cl_1, cl_2, cl_3, cl_4, cl_5, cl_6, cl_7, cl_8, cl_9, cl_10, cl_11, cl_12, cl_13, cl_14, cl_15, cl_16, vi_0_3, vi_1_3, vi_2_3, not_true_eq_false, not_false_eq_true, false_implies, true_implies]
  refine ⟨fun z => hno ?_, fun z => ⟨fun z2 => hno ?_, fun z2 => ?_⟩⟩
  · rintro (y | y | y) <;> (rw [y] at z; revert z; decide)
  · rintro (y | y | y) <;> (rw [y] at z2; revert z2; decide)
  · have hbz : u_busy σ p := by
      rcases hb1 with y | y | y
      · rw [y] at z
        exact absurd (by decide) z
      · rw [y] at z2
        exact absurd (by decide) z2
      · exact y
    obtain ⟨c, hc, k1, k2, ⟨l, hl1, hl2, el⟩, k4, k5, k6⟩ := hb2 hbz
    obtain ⟨_, _, ⟨k, hk, ek⟩, a, ha, ea⟩ := hr.2.2.2.2 c hc
    obtain ⟨_, _, ⟨h, hh, eh⟩, _⟩ := hr.2.2.1 p hp
    unfold u_goOn at hQ
    rw [if_pos (show (σ 2 p 3 = 1 ∨ σ 2 p 3 = 2 ∨ σ 2 p 3 = 3) from hbz)] at hQ
    dsimp only at hQ
    rw [u_w_of k1 (by omega)] at hQ
    have hl' : σ 2 p 6 - 1 = nI (l - 1) := by rw [el]; exact pn_sub (b := 1) hl1
    have hle : (σ 2 p 6 - 1 ≤ 0) = (σ 2 p 6 - 1 = 0) := by
      rw [hl', show (nI (l - 1) ≤ 0) = (l - 1 ≤ 0) from pn_lee (b := 0) (by omega) (by omega), show (nI (l - 1) = 0) = (l - 1 = 0) from pn_eqe (b := 0) (by omega) (by omega)]
      exact propext ⟨fun h => by omega, fun h => by omega⟩
    have hτr : u_R n (c_up (c_up σ 2 p 6 (σ 2 p 6 - 1)) 2 p 11 (σ 2 p 11 + 1)) := u_R_up (u_R_up hr rfl) rfl
    have g5 : (c_up (c_up σ 2 p 6 (σ 2 p 6 - 1)) 2 p 11 (σ 2 p 11 + 1)) 2 p 5 = nI c := by simp (decide := true) only [c_rn]; exact k1
    simp (decide := true) only [hle, k1, hp, hc, cM_tg, cM_gr, cM_ln, cM_le, c_rn, c_rs, ct_0 hS, cg_0_6 hS, cp_0_6 hS, cg_0_7 hS, cp_0_7 hS, ct_8 hS, cg_8_0 hS, cp_8_0 hS, cg_8_1 hS, cp_8_1 hS, cg_8_2 hS, cp_8_2 hS, ct_1 hS, cg_1_0 hS, cp_1_0 hS, cg_1_1 hS, cp_1_1 hS, cg_1_2 hS, cp_1_2 hS, cg_1_3 hS, cp_1_3 hS, cg_1_4 hS, cp_1_4 hS, ct_2 hS, cg_2_0 hS, cp_2_0 hS, cg_2_1 hS, cp_2_1 hS, cg_2_2 hS, cp_2_2 hS, cg_2_3 hS, cp_2_3 hS, cg_2_4 hS, cp_2_4 hS, cg_2_5 hS, cp_2_5 hS, cg_2_6 hS, cp_2_6 hS, cg_2_7 hS, cp_2_7 hS, cg_2_8 hS, cp_2_8 hS, cg_2_9 hS, cp_2_9 hS, cg_2_10 hS, cp_2_10 hS, cg_2_11 hS, cp_2_11 hS, cg_2_12 hS, cp_2_12 hS, cg_2_13 hS, cp_2_13 hS, cg_2_14 hS, cp_2_14 hS, ct_3 hS, cg_3_0 hS, cp_3_0 hS, cg_3_1 hS, cp_3_1 hS, cg_3_2 hS, cp_3_2 hS, cg_3_3 hS, cp_3_3 hS, cg_3_4 hS, cp_3_4 hS, ct_4 hS, cg_4_0 hS, cp_4_0 hS, cg_4_1 hS, cp_4_1 hS, cg_4_2 hS, cp_4_2 hS, cg_4_3 hS, cp_4_3 hS, cg_4_4 hS, cp_4_4 hS, cg_4_5 hS, cp_4_5 hS, cg_4_6 hS, cp_4_6 hS, cg_4_7 hS, cp_4_7 hS, cg_4_8 hS, cp_4_8 hS, cg_4_9 hS, cp_4_9 hS, cg_4_10 hS, cp_4_10 hS, cg_4_11 hS, cp_4_11 hS, cg_4_12 hS, cp_4_12 hS, cl_t1 hS, cl_r1 hS, cl_g1 hS, cl_s1 hS, cl_t2 hS, cl_r2 hS, cl_g2 hS, cl_s2 hS, cl_t3 hS, cl_r3 hS, cl_g3 hS, cl_s3 hS, cl_t4 hS, cl_r4 hS, cl_g4 hS, cl_s4 hS, cl_p hS, cl_R hS, cl_8n hS, true_and, and_true, forall_const, Option.some.injEq, exists_eq_left', forall_eq, true_implies, cl_0, cl_1, cl_2, cl_3, cl_4, cl_5, cl_6, cl_7, cl_8, cl_9, cl_10, cl_11, cl_12, cl_13, cl_14, cl_15, cl_16, vi_0_3, vi_1_3, vi_2_3, not_true_eq_false, not_false_eq_true, false_implies, true_implies]
    refine ⟨fun y => ⟨fun y2 => ?_, fun y2 => ⟨fun y3 => ?_, fun y3 => ?_⟩⟩, fun y => ?_⟩
    · rw [if_pos y, if_pos y2] at hQ
      exact c1_getThere (a := a) (h := h) (k := k) hobj hnode hK hτr hok hp hc g5 (by simp (decide := true) only [c_rn]; exact ea) ha (by simp (decide := true) only [c_rn]; exact eh) hh (by simp (decide := true) only [c_rn]; exact ek) hk (by simp (decide := true) only [c_rn]; exact hmin) hroom (fun M' o' u' q1 q2 _ => hQ M' o' u' q1 q2)
    · rw [if_pos y, if_neg y2, if_pos y3, u_w_of ek (by omega)] at hQ
      exact c1_endRepair hS hτr hp hc hk (by simp (decide := true) only [c_rn]; exact ek) (fun _ => hQ M o u hK c_T_rf)
    · have y4 : σ 2 p 3 = 3 := by
        rcases hbz with x | x | x
        · exact absurd x y2
        · exact absurd x y3
        · exact x
      obtain ⟨w1, w2, ⟨at', hat, eat⟩, q, hq, eq1, eq2⟩ := k6 y4
      rw [if_pos y, if_neg y2, if_neg y3, u_w_of eq1 (by omega)] at hQ
      have hQ := hQ M o u hK c_T_rf
      exact c1_endTow hS hp hc hq (by simp (decide := true) only [c_rn]; exact eq1) (by
        simp (decide := true) only [c_rn]
        exact fun _ => hQ)
    · rw [if_neg y] at hQ
      exact hQ M o u hK c_T_rf
theorem c1_send {c : Nat} {Q : Mem → Prop} (hobj : ∀ (M : Mem) (y : Nat), q_obj (m_tg M y) → m_asg M y "java/lang/Object") (hnode : ∀ (M : Mem) (y : Nat), m_tg M y = 18 → m_asg M y "java/util/HashMap$Node") (hK : c_K g M o r E n R rr D W u) (hr : u_R n σ) (hok : u_OK D W) (hc : c < n 4) (hw : u_waits σ c = true) (hmin : ¬ σ 0 0 0 = -5) (hroom : c_room M u 60 300)
    (hQ : ∀ (M' : Mem) (o' : Nat → Nat × Nat × Nat) (u' : Nat), c_K g M' o' r E n R rr D W u' → c_T M o u M' o' u' r rr → Q (c_cM M' o' r (u_send D W n σ c))) : wp_X1_send g (c_cM M o r σ) (E 0 0) (E 4 c) Q := by
  obtain ⟨hS, hD, hne, hr0, hrr0, hLb, hg1⟩ := id hK
  have l2 := hr.1.2.2.2.2.2.2.2.1
  obtain ⟨d2, _, ⟨k, hk, ek⟩, a, ha, e1⟩ := hr.2.2.2.2 c hc
  refine ⟨show m_tg M (E 0 0) = 2 from ct_0 hS, c1_nearest hS hD hne hr hok.1 hc e1 ha (fun _ => ?_)⟩
  unfold u_send at hQ
  cases hn : u_near W σ c (n 2) with
  | none =>
    rw [hn] at hQ
    exact ⟨fun _ => hQ M o u hK c_T_rf, fun u6 (h6 : none = some u6) => by cases h6⟩
  | some p =>
    refine ⟨fun z => (by cases z), fun u6 h6 => ?_⟩
    cases h6
    obtain ⟨hp, hmay⟩ := u_near_lt hn
    obtain ⟨d1, _, ⟨h, hh, eh⟩, b, hb, eb⟩ := hr.2.2.1 p hp
    unfold u_may at hmay
    have hmay := of_decide_eq_true hmay
    have hfar := hmay.2.1
    rw [u_w_of e1 (by omega), u_w_of eb (by omega)] at hfar
    rw [hn] at hQ
    dsimp only at hQ
    rw [u_w_of e1 (by omega), u_w_of eb (by omega)] at hQ
    have h0 : (nI (W b a) = 0) = (W b a = 0) := pn_eqe (b := 0) (by omega) (by omega)
    have hst : σ 4 c 5 = 0 ∨ σ 4 c 5 = 3 := by
      unfold u_waits at hw
      exact (of_decide_eq_true hw).imp id (fun z => z.1)
    have hrb : u_R n (u_begin σ p c (nI (W b a))) := u_R_up (u_R_up (u_R_up (u_R_up (u_R_up hr rfl) rfl) rfl) rfl) rfl
    have hget : ∀ Q' : Mem → Prop, (W b a = 0 → ∀ (M' : Mem) (o' : Nat → Nat × Nat × Nat) (u' : Nat), c_K g M' o' r E n R rr D W u' → c_T M o u M' o' u' r rr → Q' (c_cM M' o' r (u_there D W n (u_begin σ p c (nI (W b a))) p c))) → W b a = 0 → wp_X1_getThere g (c_cM M o r (u_begin σ p c (nI (W b a)))) (E 0 0) (E 2 p) (E 4 c) Q' := fun Q' hQ' hz =>
      c1_getThere (a := a) (h := h) (k := k) hobj hnode hK hrb hok hp hc (by simp (decide := true) only [u_begin, c_rn, c_rs]) (by simp (decide := true) only [u_begin, c_rn]; exact e1) ha (by simp (decide := true) only [u_begin, c_rn]; exact eh) hh (by simp (decide := true) only [u_begin, c_rn]; exact ek) hk (by simp (decide := true) only [u_begin, c_rn]; exact hmin) hroom (hQ' hz)
    simp (decide := true) only [hp, hc, d1, d2, e1, eb, c1_far hS hD hne hb ha, c_far_yes hfar, h0, wp_X1_send_b37, wp_X1_send_b67, wp_X6_begin, cM_tg, cM_gr, cM_ln, cM_le, c_rn, c_rs, ct_0 hS, cg_0_6 hS, cp_0_6 hS, cg_0_7 hS, cp_0_7 hS, ct_8 hS, cg_8_0 hS, cp_8_0 hS, cg_8_1 hS, cp_8_1 hS, cg_8_2 hS, cp_8_2 hS, ct_1 hS, cg_1_0 hS, cp_1_0 hS, cg_1_1 hS, cp_1_1 hS, cg_1_2 hS, cp_1_2 hS, cg_1_3 hS, cp_1_3 hS, cg_1_4 hS, cp_1_4 hS, ct_2 hS, cg_2_0 hS, cp_2_0 hS, cg_2_1 hS, cp_2_1 hS, cg_2_2 hS, cp_2_2 hS, cg_2_3 hS, cp_2_3 hS, cg_2_4 hS, cp_2_4 hS, cg_2_5 hS, cp_2_5 hS, cg_2_6 hS, cp_2_6 hS, cg_2_7 hS, cp_2_7 hS, cg_2_8 hS, cp_2_8 hS, cg_2_9 hS, cp_2_9 hS, cg_2_10 hS, cp_2_10 hS, cg_2_11 hS, cp_2_11 hS, cg_2_12 hS, cp_2_12 hS, cg_2_13 hS, cp_2_13 hS, cg_2_14 hS, cp_2_14 hS, ct_3 hS, cg_3_0 hS, cp_3_0 hS, cg_3_1 hS, cp_3_1 hS, cg_3_2 hS, cp_3_2 hS, cg_3_3 hS, cp_3_3 hS, cg_3_4 hS, cp_3_4 hS, ct_4 hS, cg_4_0 hS, cp_4_0 hS, cg_4_1 hS, cp_4_1 hS, cg_4_2 hS, cp_4_2 hS, cg_4_3 hS, cp_4_3 hS, cg_4_4 hS, cp_4_4 hS, cg_4_5 hS, cp_4_5 hS, cg_4_6 hS, cp_4_6 hS, cg_4_7 hS, cp_4_7 hS, cg_4_8 hS, cp_4_8 hS, cg_4_9 hS, cp_4_9 hS, cg_4_10 hS, cp_4_10 hS, cg_4_11 hS, cp_4_11 hS, cg_4_12 hS, cp_4_12 hS, cl_t1 hS, cl_r1 hS, cl_g1 hS, cl_s1 hS, cl_t2 hS, cl_r2 hS, cl_g2 hS, cl_s2 hS, cl_t3 hS, cl_r3 hS, cl_g3 hS, cl_s3 hS, cl_t4 hS, cl_r4 hS, cl_g4 hS, cl_s4 hS, cl_p hS, cl_R hS, cl_8n hS, true_and, and_true, forall_const, Option.some.injEq, exists_eq_left', forall_eq, true_implies, cl_0, cl_1, cl_2, cl_3, cl_4, cl_5, cl_6, cl_7, cl_8, cl_9, cl_10, cl_11, cl_12, cl_13, cl_14, cl_15, cl_16, vi_0_3, vi_1_3, vi_2_3, not_true_eq_false, not_false_eq_true, false_implies, true_implies]
    have e9 : ∀ x : Int32, x = (if σ 4 c 5 = 3 then 3 else 1) → c_cM M o r (c_up (c_up (c_up (c_up (c_up σ 2 p 3 1) 2 p 5 (nI c)) 2 p 6 (nI (W b a))) 4 c 6 (nI p)) 4 c 5 x) = c_cM M o r (u_begin σ p c (nI (W b a))) := fun x hx => by
      rw [hx]
      rfl
    refine ⟨fun z => ?_, fun z => ?_⟩
    · rw [e9 1 (by rw [if_neg z])]
      refine ⟨fun z2 => ?_, fun z2 => ?_⟩
      · rw [if_neg z2] at hQ
        exact hQ M o u hK c_T_rf
      · rw [if_pos z2] at hQ
        exact hget _ (fun _ M' o' u' q1 q2 _ => hQ M' o' u' q1 q2) z2
    · have e8 : c_cM M o r (c_up (c_up (c_up (c_up σ 2 p 3 1) 2 p 5 (nI c)) 2 p 6 (nI (W b a))) 4 c 6 (nI p)) = c_cM M o r (u_begin σ p c (nI (W b a))) := by
        rw [← e9 3 (by rw [if_pos z])]
        congr 1
        exact (c_self (by simp (decide := true) only [c_rn]; exact z)).symm
      rw [e8]
      refine ⟨fun z2 => ?_, fun z2 => ?_⟩
      · rw [if_neg z2] at hQ
        exact hQ M o u hK c_T_rf
      · rw [if_pos z2] at hQ
        exact hget _ (fun _ M' o' u' q1 q2 _ => hQ M' o' u' q1 q2) z2
end
