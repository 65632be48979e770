/-! PURE: the reference: gets -/
set_option maxRecDepth 100000
theorem u_under_up {σ : Cn} {s k f : Nat} {v q : Int32} (h : (s == 2 && (f == 3 || f == 13)) = false) : ∀ p : Nat, u_under (c_up σ s k f v) q p = u_under σ q p := by
  intro p
  have e : ∀ s' k' f' : Nat, (s' == 2 && (f' == 3 || f' == 13)) = true → c_up σ s k f v s' k' f' = σ s' k' f' := fun s' k' f' z => if_neg (fun y => by rw [y.1, y.2.2, h] at z; cases z)
  induction p with
  | zero => rfl
  | succ p ih =>
    unfold u_under
    rw [e 2 p 3 rfl, e 2 p 13 rfl, ih]
def u_U (n : Nat → Nat) (σ : Cn) : Prop := ∀ k : Nat, k < n 3 → σ 3 k 20 = u_under σ (nI k) (n 2)
theorem u_U_up {n : Nat → Nat} {σ : Cn} {s k f : Nat} {v : Int32} (h : u_U n σ) (hf : ((s == 2 && (f == 3 || f == 13)) || (s == 3 && f == 20)) = false) : u_U n (c_up σ s k f v) := by
  rw [Bool.or_eq_false_iff] at hf
  intro q hq
  rw [u_under_up hf.1]
  rw [show c_up σ s k f v 3 q 20 = σ 3 q 20 from if_neg (fun y => by rw [← y.1, ← y.2.2] at hf; cases hf.2)]
  exact h q hq
section
variable {g : Nat → Nat} {M : Mem} {m : Nat} {A : Nat → Nat} {I : Nat → Nat → Int32} {σ σ' : Cn} {n : Nat → Nat} {D W : Nat → Nat → Nat}
theorem r4_gets134 {p c a h : Nat} {Q : Mem → Prop} (hA : q_MA M m A) (hR : u_RI I A D W) (hr : u_R n σ) (hu : u_U n σ) (hp : p < 6) (hc : c < 40) (e1 : σ 2 p 5 = nI c) (e2 : σ 4 c 1 = nI a) (ha : a < 12) (e3 : σ 2 p 0 = nI h) (hh : h < 12) (hP : ∀ t : Nat, t < 12 → W a t < 100000 → u_P D W a t) (hQ : Q (c_rM M A I (u_come3 D W n σ p c))) : wp_X4_gets_b134 g (c_rM M A I σ) m (nI p) (nI c) (nI a) Q := by
  have r1 : nI h / 4 = nI (h / 4) := pn_div (b := 4) (by omega) (by omega) (by omega)
  have r2 : nI a / 4 = nI (a / 4) := pn_div (b := 4) (by omega) (by omega) (by omega)
  have r3 : (nI (h / 4) = nI (a / 4)) = (h / 4 = a / 4) := pn_eqe (by omega) (by omega)
  unfold u_come3 at hQ
  rw [u_w_of e2 (by omega), u_w_of e3 (by omega)] at hQ
  simp (decide := true) only [wp_X4_gets_b134, wp_X4_gets_b217, wp_X4_region, hp, hc, e1, e2, e3, r1, r2, r3, rw_ofPatrol, rw_ofCall, rw_ofMember, rw_ofGarage, rw_laysPatrol, rw_laysCall, rw_addsMember, rM_tg, rM_gr, rM_ln, rM_m hA, rM_a hA, rM_at hA, rM_al hA, rM_gi0, rM_pi0, rM_le, hA, c_rn, c_rs, true_and, and_true, forall_const, Option.some.injEq, exists_eq_left', forall_eq, true_implies, vi_0_3, vi_1_3, vi_2_3, vi_0_4, vi_1_4, vi_2_4, vi_3_4, vi_0_13, vi_1_13, vi_2_13, vi_3_13, vi_4_13, vi_5_13, vi_6_13, vi_7_13, vi_8_13, vi_9_13, vi_10_13, vi_11_13, vi_12_13, vi_0_14, vi_1_14, vi_2_14, vi_3_14, vi_4_14, vi_5_14, vi_6_14, vi_7_14, vi_8_14, vi_9_14, vi_10_14, vi_11_14, vi_12_14, vi_13_14, vi_0_16, vi_1_16, vi_2_16, vi_3_16, vi_4_16, vi_5_16, vi_6_16, vi_7_16, vi_8_16, vi_9_16, vi_10_16, vi_11_16, vi_12_16, vi_13_16, vi_14_16, vi_15_16, vi_0_810, vi_1_810, vi_2_810, vi_3_810, vi_4_810, vi_5_810, vi_6_810, vi_7_810, vi_8_810, vi_9_810, vi_10_810, vi_11_810, vi_12_810, vi_13_810, vi_14_810, vi_15_810, vi_0_40, vi_1_40, vi_2_40, vi_3_40, vi_4_40, vi_5_40, vi_6_40, vi_7_40, vi_8_40, vi_9_40, vi_10_40, vi_11_40, vi_12_40, vi_13_40, vi_14_40, vi_15_40, vi_0_60, vi_1_60, vi_2_60, vi_3_60, vi_4_60, vi_5_60, vi_6_60, vi_7_60, vi_8_60, vi_9_60, vi_10_60, vi_11_60, vi_12_60, vi_13_60, vi_14_60, vi_15_60, vi_0_144, vi_1_144, vi_2_144, vi_3_144, vi_4_144, vi_5_144, vi_6_144, vi_7_144, vi_8_144, vi_9_144, vi_10_144, vi_11_144, vi_12_144, vi_13_144, vi_14_144, vi_15_144, vi_0_12, vi_1_12, vi_2_12, vi_3_12, vi_4_12, vi_5_12, vi_6_12, vi_7_12, vi_8_12, vi_9_12, vi_10_12, vi_11_12, cl_0, cl_1, cl_2, cl_3, cl_4, cl_5, cl_6, cl_7, cl_8, cl_9, cl_10, cl_11, cl_12, cl_13, cl_14, cl_15, cl_16, r4_leaves hA hp hc e1]
  refine ⟨fun z => ?_, fun z => ?_⟩
  · rw [if_neg (Int32.not_le.mpr z)] at hQ
    refine ⟨fun z2 => ?_, fun z2 => ⟨fun z3 => ?_, fun z3 => ?_⟩⟩
    · rw [if_neg (fun y => z2 y.1), e2] at hQ
      exact hQ
    · rw [if_neg (fun y => z3 y.2), e2] at hQ
      exact hQ
    · rw [if_pos ⟨z2, z3⟩] at hQ
      exact r4_tows (h := h) hA hR hr hu hp hc e1 e2 ha e3 hh hP (by simp only [rM_le, true_implies]; exact hQ)
  · rw [if_pos (Int32.not_lt.mp z)] at hQ
    simp (decide := true) only [c_comm, id_eq] at hQ ⊢
    exact hQ
theorem r4_gets {p c a h k : Nat} {Q : Mem → Prop} (hA : q_MA M m A) (hR : u_RI I A D W) (hr : u_R n σ) (hu : u_U n σ) (hp : p < 6) (hc : c < 40) (hk : k < 20) (e1 : σ 2 p 5 = nI c) (e2 : σ 4 c 1 = nI a) (ha : a < 12) (e3 : σ 2 p 0 = nI h) (hh : h < 12) (e4 : σ 4 c 0 = nI k) (hP : ∀ t : Nat, t < 12 → W a t < 100000 → u_P D W a t) (hQ : Q (c_rM M A I (u_there D W n σ p c))) : wp_X4_gets g (c_rM M A I σ) m (nI p) Q := by
  unfold u_there at hQ
  rw [u_w_of e4 (by omega)] at hQ
  simp (decide := true) only [wp_X4_gets, hp, hc, hk, e1, e2, e3, e4, rw_ofPatrol, rw_ofCall, rw_ofMember, rw_ofGarage, rw_laysPatrol, rw_laysCall, rw_addsMember, rM_tg, rM_gr, rM_ln, rM_m hA, rM_a hA, rM_at hA, rM_al hA, rM_gi0, rM_pi0, rM_le, hA, c_rn, c_rs, true_and, and_true, forall_const, Option.some.injEq, exists_eq_left', forall_eq, true_implies, vi_0_3, vi_1_3, vi_2_3, vi_0_4, vi_1_4, vi_2_4, vi_3_4, vi_0_13, vi_1_13, vi_2_13, vi_3_13, vi_4_13, vi_5_13, vi_6_13, vi_7_13, vi_8_13, vi_9_13, vi_10_13, vi_11_13, vi_12_13, vi_0_14, vi_1_14, vi_2_14, vi_3_14, vi_4_14, vi_5_14, vi_6_14, vi_7_14, vi_8_14, vi_9_14, vi_10_14, vi_11_14, vi_12_14, vi_13_14, vi_0_16, vi_1_16, vi_2_16, vi_3_16, vi_4_16, vi_5_16, vi_6_16, vi_7_16, vi_8_16, vi_9_16, vi_10_16, vi_11_16, vi_12_16, vi_13_16, vi_14_16, vi_15_16, vi_0_810, vi_1_810, vi_2_810, vi_3_810, vi_4_810, vi_5_810, vi_6_810, vi_7_810, vi_8_810, vi_9_810, vi_10_810, vi_11_810, vi_12_810, vi_13_810, vi_14_810, vi_15_810, vi_0_40, vi_1_40, vi_2_40, vi_3_40, vi_4_40, vi_5_40, vi_6_40, vi_7_40, vi_8_40, vi_9_40, vi_10_40, vi_11_40, vi_12_40, vi_13_40, vi_14_40, vi_15_40, vi_0_60, vi_1_60, vi_2_60, vi_3_60, vi_4_60, vi_5_60, vi_6_60, vi_7_60, vi_8_60, vi_9_60, vi_10_60, vi_11_60, vi_12_60, vi_13_60, vi_14_60, vi_15_60, vi_0_144, vi_1_144, vi_2_144, vi_3_144, vi_4_144, vi_5_144, vi_6_144, vi_7_144, vi_8_144, vi_9_144, vi_10_144, vi_11_144, vi_12_144, vi_13_144, vi_14_144, vi_15_144, vi_0_12, vi_1_12, vi_2_12, vi_3_12, vi_4_12, vi_5_12, vi_6_12, vi_7_12, vi_8_12, vi_9_12, vi_10_12, vi_11_12, cl_0, cl_1, cl_2, cl_3, cl_4, cl_5, cl_6, cl_7, cl_8, cl_9, cl_10, cl_11, cl_12, cl_13, cl_14, cl_15, cl_16]
  have hr1 : u_R n (c_up σ 2 p 4 (σ 4 c 1)) := u_R_24 hr e2 ha
  have hu1 : u_U n (c_up σ 2 p 4 (σ 4 c 1)) := u_U_up hu rfl
  have hr2 : u_R n (u_come1 σ p c) := u_R_up (u_R_up (u_R_up (u_R_up hr1 rfl) rfl) rfl) rfl
  have hu2 : u_U n (u_come1 σ p c) := u_U_up (u_U_up (u_U_up (u_U_up hu1 rfl) rfl) rfl) rfl
  have hr3 : u_R n (u_come2 (u_come1 σ p c) k) := u_R_up (u_R_up (u_R_up (u_R_up hr2 rfl) rfl) rfl) rfl
  have hu3 : u_U n (u_come2 (u_come1 σ p c) k) := u_U_up (u_U_up (u_U_up (u_U_up hu2 rfl) rfl) rfl) rfl
  refine ⟨fun z => ?_, fun z => ?_⟩
  · rw [if_neg z] at hQ
    refine ⟨fun z2 => ?_, fun z2 => ?_⟩
    · rw [if_neg (Int32.not_lt.mpr z2)] at hQ
      have h9 := r4_gets134 (g := g) (a := a) (h := h) hA hR hr2 hu2 hp hc (by simp (decide := true) only [u_come1, c_rn]; exact e1) (by simp (decide := true) only [u_come1, c_rn]; exact e2) ha (by simp (decide := true) only [u_come1, c_rn]; exact e3) hh hP hQ
      unfold u_come1 at h9
      rw [e2] at h9
      simp (decide := true) only [c_comm, id_eq] at h9 ⊢
      simp (decide := true) only [rM_gh] at h9 ⊢
      exact h9
    · rw [if_pos (Int32.not_le.mp z2)] at hQ
      have h9 := r4_gets134 (g := g) (a := a) (h := h) hA hR hr3 hu3 hp hc (by simp (decide := true) only [u_come1, u_come2, c_rn]; exact e1) (by simp (decide := true) only [u_come1, u_come2, c_rn]; exact e2) ha (by simp (decide := true) only [u_come1, u_come2, c_rn]; exact e3) hh hP hQ
      unfold u_come2 u_come1 at h9
      rw [e2] at h9
      simp (decide := true) only [c_rn] at h9 ⊢
      simp (decide := true) only [c_comm, id_eq] at h9 ⊢
      simp (decide := true) only [rM_gh] at h9 ⊢
      exact h9
  · rw [if_pos z] at hQ
    rw [e2] at hr1 hu1 hQ
    exact r4_tows (h := h) hA hR hr1 hu1 hp hc (by simp (decide := true) only [c_rn]; exact e1) (by simp (decide := true) only [c_rn]; exact e2) ha (by simp (decide := true) only [c_rn]; exact e3) hh hP (by simp only [rM_le, true_implies]; exact hQ)
end
