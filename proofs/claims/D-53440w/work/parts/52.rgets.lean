/-! PURE: the reference: a patrol gets to its call, repairs, has towed -/
set_option maxRecDepth 100000
theorem u_gar_ok {W : Nat → Nat → Nat} {σ : Cn} {a : Nat} : ∀ {k b : Nat}, u_gar W σ a k = some b → W a (u_w σ 3 b 0) < 100000 := by
  intro k
  induction k with
  | zero => intro b h; cases h
  | succ k ih =>
    intro b h
    unfold u_gar at h
    split at h
    · cases h
      rename_i z
      exact z.2.1
    · exact ih h
section
variable {g : Nat → Nat} {M : Mem} {m : Nat} {A : Nat → Nat} {I : Nat → Nat → Int32} {σ σ' : Cn} {n : Nat → Nat} {D W : Nat → Nat → Nat}
theorem r4_tows {p c a h : Nat} {Q : Mem → Prop} (hA : q_MA M m A) (hR : u_RI I A D W) (hr : u_R n σ) (hu : ∀ k : Nat, k < n 3 → σ 3 k 20 = u_under σ (nI k) (n 2)) (hp : p < 6) (hc : c < 40) (e1 : σ 2 p 5 = nI c) (e2 : σ 4 c 1 = nI a) (ha : a < 12) (e3 : σ 2 p 0 = nI h) (hh : h < 12) (hP : ∀ t : Nat, t < 12 → W a t < 100000 → u_P D W a t) (hQ : Q (c_rM M A I (u_tow D W n σ p c))) : wp_X4_tows g (c_rM M A I σ) m (nI p) Q := by
  simp (decide := true) only [wp_X4_tows, hp, hc, e1, e2, rw_ofPatrol, rw_ofCall, rw_ofMember, rw_ofGarage, rw_laysPatrol, rw_laysCall, rw_addsMember, rM_tg, rM_gr, rM_ln, rM_m hA, rM_a hA, rM_at hA, rM_al hA, rM_gi0, rM_pi0, rM_le, hA, c_rn, c_rs, true_and, and_true, forall_const, Option.some.injEq, exists_eq_left', forall_eq, true_implies, vi_0_3, vi_1_3, vi_2_3, vi_0_4, vi_1_4, vi_2_4, vi_3_4, vi_0_13, vi_1_13, vi_2_13, vi_3_13, vi_4_13, vi_5_13, vi_6_13, vi_7_13, vi_8_13, vi_9_13, vi_10_13, vi_11_13, vi_12_13, vi_0_14, vi_1_14, vi_2_14, vi_3_14, vi_4_14, vi_5_14, vi_6_14, vi_7_14, vi_8_14, vi_9_14, vi_10_14, vi_11_14, vi_12_14, vi_13_14, vi_0_16, vi_1_16, vi_2_16, vi_3_16, vi_4_16, vi_5_16, vi_6_16, vi_7_16, vi_8_16, vi_9_16, vi_10_16, vi_11_16, vi_12_16, vi_13_16, vi_14_16, vi_15_16, vi_0_810, vi_1_810, vi_2_810, vi_3_810, vi_4_810, vi_5_810, vi_6_810, vi_7_810, vi_8_810, vi_9_810, vi_10_810, vi_11_810, vi_12_810, vi_13_810, vi_14_810, vi_15_810, vi_0_40, vi_1_40, vi_2_40, vi_3_40, vi_4_40, vi_5_40, vi_6_40, vi_7_40, vi_8_40, vi_9_40, vi_10_40, vi_11_40, vi_12_40, vi_13_40, vi_14_40, vi_15_40, vi_0_60, vi_1_60, vi_2_60, vi_3_60, vi_4_60, vi_5_60, vi_6_60, vi_7_60, vi_8_60, vi_9_60, vi_10_60, vi_11_60, vi_12_60, vi_13_60, vi_14_60, vi_15_60, vi_0_144, vi_1_144, vi_2_144, vi_3_144, vi_4_144, vi_5_144, vi_6_144, vi_7_144, vi_8_144, vi_9_144, vi_10_144, vi_11_144, vi_12_144, vi_13_144, vi_14_144, vi_15_144, vi_0_12, vi_1_12, vi_2_12, vi_3_12, vi_4_12, vi_5_12, vi_6_12, vi_7_12, vi_8_12, vi_9_12, vi_10_12, vi_11_12, cl_0, cl_1, cl_2, cl_3, cl_4, cl_5, cl_6, cl_7, cl_8, cl_9, cl_10, cl_11, cl_12, cl_13, cl_14, cl_15, cl_16]
  refine r4_garageFor hA hR hr hu ha ?_
  unfold u_tow at hQ
  rw [u_w_of e2 (by omega)] at hQ
  have l3 := hr.1.2.2.2.2.2.2.2.2.1
  cases hg : u_gar W σ a (n 3) with
  | none =>
    rw [hg] at hQ
    simp (decide := true) only [u_og, true_implies, true_and, rM_le, not_true_eq_false, false_implies, r4_leaves hA hp hc e1]
    exact hQ
  | some q =>
    rw [hg] at hQ
    have hq := u_gar_lt hg
    have hq5 : q < 5 := by omega
    obtain ⟨t, ht, et⟩ := hr.2.2.2.1 q hq
    have hw := u_gar_ok hg
    rw [u_w_of et (by omega)] at hw
    dsimp only at hQ
    rw [u_w_of et (by omega), u_w_of e3 (by omega)] at hQ
    have hrg : nI h / 4 = nI (h / 4) := pn_div (b := 4) (by omega) (by omega) (by omega)
    have hat : (nI a = nI t) = (a = t) := pn_eqe (by omega) (by omega)
    simp (decide := true) only [u_og, u_og_ne (show q < 2147483648 by omega), not_false_eq_true, true_implies, false_implies, and_true, wp_X4_region, hp, hq5, et, e3, hrg, hat, rw_ofPatrol, rw_ofCall, rw_ofMember, rw_ofGarage, rw_laysPatrol, rw_laysCall, rw_addsMember, rM_tg, rM_gr, rM_ln, rM_m hA, rM_a hA, rM_at hA, rM_al hA, rM_gi0, rM_pi0, rM_le, hA, c_rn, c_rs, true_and, and_true, forall_const, Option.some.injEq, exists_eq_left', forall_eq, true_implies, vi_0_3, vi_1_3, vi_2_3, vi_0_4, vi_1_4, vi_2_4, vi_3_4, vi_0_13, vi_1_13, vi_2_13, vi_3_13, vi_4_13, vi_5_13, vi_6_13, vi_7_13, vi_8_13, vi_9_13, vi_10_13, vi_11_13, vi_12_13, vi_0_14, vi_1_14, vi_2_14, vi_3_14, vi_4_14, vi_5_14, vi_6_14, vi_7_14, vi_8_14, vi_9_14, vi_10_14, vi_11_14, vi_12_14, vi_13_14, vi_0_16, vi_1_16, vi_2_16, vi_3_16, vi_4_16, vi_5_16, vi_6_16, vi_7_16, vi_8_16, vi_9_16, vi_10_16, vi_11_16, vi_12_16, vi_13_16, vi_14_16, vi_15_16, vi_0_810, vi_1_810, vi_2_810, vi_3_810, vi_4_810, vi_5_810, vi_6_810, vi_7_810, vi_8_810, vi_9_810, vi_10_810, vi_11_810, vi_12_810, vi_13_810, vi_14_810, vi_15_810, vi_0_40, vi_1_40, vi_2_40, vi_3_40, vi_4_40, vi_5_40, vi_6_40, vi_7_40, vi_8_40, vi_9_40, vi_10_40, vi_11_40, vi_12_40, vi_13_40, vi_14_40, vi_15_40, vi_0_60, vi_1_60, vi_2_60, vi_3_60, vi_4_60, vi_5_60, vi_6_60, vi_7_60, vi_8_60, vi_9_60, vi_10_60, vi_11_60, vi_12_60, vi_13_60, vi_14_60, vi_15_60, vi_0_144, vi_1_144, vi_2_144, vi_3_144, vi_4_144, vi_5_144, vi_6_144, vi_7_144, vi_8_144, vi_9_144, vi_10_144, vi_11_144, vi_12_144, vi_13_144, vi_14_144, vi_15_144, vi_0_12, vi_1_12, vi_2_12, vi_3_12, vi_4_12, vi_5_12, vi_6_12, vi_7_12, vi_8_12, vi_9_12, vi_10_12, vi_11_12, cl_0, cl_1, cl_2, cl_3, cl_4, cl_5, cl_6, cl_7, cl_8, cl_9, cl_10, cl_11, cl_12, cl_13, cl_14, cl_15, cl_16]
    have hm := r4_tows77 (g := g) (σ := σ) (q := q) (own := h / 4) (Q := Q) hA hR hp hc ha ht (by omega) (hP t ht hw) (by
      unfold u_towTo at hQ
      simp (decide := true) only [c_comm, id_eq] at hQ ⊢
      simp (decide := true) only [rM_gh] at hQ ⊢
      exact hQ)
    refine ⟨fun z => ?_, fun z => ?_⟩
    · rw [if_pos z] at hm
      exact hm
    · rw [if_neg z] at hm
      exact hm
theorem r4_repaired {p c k : Nat} {Q : Mem → Prop} (hA : q_MA M m A) (hp : p < 6) (hc : c < 40) (hk : k < 20) (e1 : σ 2 p 5 = nI c) (e2 : σ 4 c 0 = nI k) (hQ : Q (c_rM M A I (u_repair σ p c k))) : wp_X4_repaired g (c_rM M A I σ) m (nI p) Q := by
  simp (decide := true) only [wp_X4_repaired, wp_X4_repaired_b49, hp, hc, hk, e1, e2, rw_ofPatrol, rw_ofCall, rw_ofMember, rw_ofGarage, rw_laysPatrol, rw_laysCall, rw_addsMember, rM_tg, rM_gr, rM_ln, rM_m hA, rM_a hA, rM_at hA, rM_al hA, rM_gi0, rM_pi0, rM_le, hA, c_rn, c_rs, true_and, and_true, forall_const, Option.some.injEq, exists_eq_left', forall_eq, true_implies, vi_0_3, vi_1_3, vi_2_3, vi_0_4, vi_1_4, vi_2_4, vi_3_4, vi_0_13, vi_1_13, vi_2_13, vi_3_13, vi_4_13, vi_5_13, vi_6_13, vi_7_13, vi_8_13, vi_9_13, vi_10_13, vi_11_13, vi_12_13, vi_0_14, vi_1_14, vi_2_14, vi_3_14, vi_4_14, vi_5_14, vi_6_14, vi_7_14, vi_8_14, vi_9_14, vi_10_14, vi_11_14, vi_12_14, vi_13_14, vi_0_16, vi_1_16, vi_2_16, vi_3_16, vi_4_16, vi_5_16, vi_6_16, vi_7_16, vi_8_16, vi_9_16, vi_10_16, vi_11_16, vi_12_16, vi_13_16, vi_14_16, vi_15_16, vi_0_810, vi_1_810, vi_2_810, vi_3_810, vi_4_810, vi_5_810, vi_6_810, vi_7_810, vi_8_810, vi_9_810, vi_10_810, vi_11_810, vi_12_810, vi_13_810, vi_14_810, vi_15_810, vi_0_40, vi_1_40, vi_2_40, vi_3_40, vi_4_40, vi_5_40, vi_6_40, vi_7_40, vi_8_40, vi_9_40, vi_10_40, vi_11_40, vi_12_40, vi_13_40, vi_14_40, vi_15_40, vi_0_60, vi_1_60, vi_2_60, vi_3_60, vi_4_60, vi_5_60, vi_6_60, vi_7_60, vi_8_60, vi_9_60, vi_10_60, vi_11_60, vi_12_60, vi_13_60, vi_14_60, vi_15_60, vi_0_144, vi_1_144, vi_2_144, vi_3_144, vi_4_144, vi_5_144, vi_6_144, vi_7_144, vi_8_144, vi_9_144, vi_10_144, vi_11_144, vi_12_144, vi_13_144, vi_14_144, vi_15_144, vi_0_12, vi_1_12, vi_2_12, vi_3_12, vi_4_12, vi_5_12, vi_6_12, vi_7_12, vi_8_12, vi_9_12, vi_10_12, vi_11_12, cl_0, cl_1, cl_2, cl_3, cl_4, cl_5, cl_6, cl_7, cl_8, cl_9, cl_10, cl_11, cl_12, cl_13, cl_14, cl_15, cl_16, r4_frees]
  refine ⟨fun h => ?_, fun h => ?_⟩
  · simp (decide := true) only [u_repair, u_fee, h, u_free, if_true, if_false, c_rn, c_rs, c_uu, Int32.add_zero] at hQ ⊢
    simp (decide := true) only [c_comm, id_eq] at hQ ⊢
    simp (decide := true) only [rM_gh] at hQ ⊢
    exact hQ
  · simp (decide := true) only [u_repair, u_fee, h, u_free, if_true, if_false, c_rn, c_rs, c_uu, Int32.add_zero] at hQ ⊢
    simp (decide := true) only [c_comm, id_eq] at hQ ⊢
    simp (decide := true) only [rM_gh] at hQ ⊢
    exact hQ
theorem r4_towed {p c q : Nat} {Q : Mem → Prop} (hA : q_MA M m A) (hp : p < 6) (hc : c < 40) (hq : q < 5) (e1 : σ 2 p 5 = nI c) (e2 : σ 2 p 13 = nI q) (e3 : σ 2 p 12 = σ 2 p 20) (hQ : Q (c_rM M A I (u_endTow σ p c q))) : wp_X4_towed g (c_rM M A I σ) m (nI p) Q := by
  have i2 := rM_ix3 (k := q) (f := 2) hq (by omega)
  have i3 := rM_ix3 (k := q) (f := 3) hq (by omega)
  rw [show nI 2 = 2 from rfl] at i2
  rw [show nI 3 = 3 from rfl] at i3
  simp (decide := true) only [wp_X4_towed, hp, hc, hq, e1, e2, e3, rw_ofPatrol, rw_ofCall, rw_ofMember, rw_ofGarage, rw_laysPatrol, rw_laysCall, rw_addsMember, rM_tg, rM_gr, rM_ln, rM_m hA, rM_a hA, rM_at hA, rM_al hA, rM_gi0, rM_pi0, rM_le, hA, c_rn, c_rs, true_and, and_true, forall_const, Option.some.injEq, exists_eq_left', forall_eq, true_implies, vi_0_3, vi_1_3, vi_2_3, vi_0_4, vi_1_4, vi_2_4, vi_3_4, vi_0_13, vi_1_13, vi_2_13, vi_3_13, vi_4_13, vi_5_13, vi_6_13, vi_7_13, vi_8_13, vi_9_13, vi_10_13, vi_11_13, vi_12_13, vi_0_14, vi_1_14, vi_2_14, vi_3_14, vi_4_14, vi_5_14, vi_6_14, vi_7_14, vi_8_14, vi_9_14, vi_10_14, vi_11_14, vi_12_14, vi_13_14, vi_0_16, vi_1_16, vi_2_16, vi_3_16, vi_4_16, vi_5_16, vi_6_16, vi_7_16, vi_8_16, vi_9_16, vi_10_16, vi_11_16, vi_12_16, vi_13_16, vi_14_16, vi_15_16, vi_0_810, vi_1_810, vi_2_810, vi_3_810, vi_4_810, vi_5_810, vi_6_810, vi_7_810, vi_8_810, vi_9_810, vi_10_810, vi_11_810, vi_12_810, vi_13_810, vi_14_810, vi_15_810, vi_0_40, vi_1_40, vi_2_40, vi_3_40, vi_4_40, vi_5_40, vi_6_40, vi_7_40, vi_8_40, vi_9_40, vi_10_40, vi_11_40, vi_12_40, vi_13_40, vi_14_40, vi_15_40, vi_0_60, vi_1_60, vi_2_60, vi_3_60, vi_4_60, vi_5_60, vi_6_60, vi_7_60, vi_8_60, vi_9_60, vi_10_60, vi_11_60, vi_12_60, vi_13_60, vi_14_60, vi_15_60, vi_0_144, vi_1_144, vi_2_144, vi_3_144, vi_4_144, vi_5_144, vi_6_144, vi_7_144, vi_8_144, vi_9_144, vi_10_144, vi_11_144, vi_12_144, vi_13_144, vi_14_144, vi_15_144, vi_0_12, vi_1_12, vi_2_12, vi_3_12, vi_4_12, vi_5_12, vi_6_12, vi_7_12, vi_8_12, vi_9_12, vi_10_12, vi_11_12, cl_0, cl_1, cl_2, cl_3, cl_4, cl_5, cl_6, cl_7, cl_8, cl_9, cl_10, cl_11, cl_12, cl_13, cl_14, cl_15, cl_16, i2.1, i2.2, i3.1, i3.2, rM_gi3 (I := I) hq (show 2 < 4 by omega), rM_gi3 (I := I) hq (show 3 < 4 by omega), rM_pi3 (I := I) hq (show 2 < 4 by omega), rM_pi3 (I := I) hq (show 3 < 4 by omega), r4_frees, r4_leaves hA hp hc]
  refine ⟨fun h => ?_, fun h => ?_⟩
  · simp (decide := true) only [u_endTow, h, u_free, if_true, if_false, c_rn, c_rs, c_uu] at hQ ⊢
    simp (decide := true) only [c_comm, id_eq] at hQ ⊢
    simp (decide := true) only [rM_gh] at hQ ⊢
    exact hQ
  · simp (decide := true) only [u_endTow, h, u_free, u_wait, if_true, if_false, c_rn, c_rs, c_uu] at hQ ⊢
    simp (decide := true) only [c_comm, id_eq] at hQ ⊢
    simp (decide := true) only [rM_gh, c_uu] at hQ ⊢
    exact hQ
end
