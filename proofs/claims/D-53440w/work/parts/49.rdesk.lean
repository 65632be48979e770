/-! PURE: the reference's walks, on contents: garages, ways, tows -/
set_option maxRecDepth 100000
theorem vi_0_n {n : Nat} (h : 0 < n) : vp_in 0 n := (pn_in (a := 0) (by omega)).mpr h
theorem pn_leF {a b : Nat} (ha : a < 2147483648) (hb : b < 2147483648) (h : b < a) : (nI a ≤ nI b) = False := eq_false (fun z => by have := (pn_le ha hb).mp z; omega)
theorem pn_leT {a b : Nat} (ha : a < 2147483648) (hb : b < 2147483648) (h : a ≤ b) : (nI a ≤ nI b) = True := eq_true ((pn_le ha hb).mpr h)
theorem pn_succ {a : Nat} : nI a + 1 = nI (a + 1) := pn_add a 1
/-- the roads in the reference's arrays -/
def u_RI (I : Nat → Nat → Int32) (A : Nat → Nat) (D W : Nat → Nat → Nat) : Prop := ∀ a b : Nat, a < 12 → b < 12 → I (A 8) (12 * a + b) = nI (D a b) ∧ D a b ≤ 100000 ∧ I (A 9) (12 * a + b) = nI (W a b) ∧ W a b ≤ 100000
/-- ranges -/
def u_R (n : Nat → Nat) (σ : Cn) : Prop :=
  (σ 0 0 5 = nI (n 5) ∧ σ 0 0 6 = nI (n 1) ∧ σ 0 0 7 = nI (n 2) ∧ σ 0 0 8 = nI (n 3) ∧ σ 0 0 9 = nI (n 4) ∧ n 5 ≤ 30 ∧ n 1 ≤ 20 ∧ n 2 ≤ 6 ∧ n 3 ≤ 5 ∧ n 4 ≤ 40) ∧
  (∀ k : Nat, k < n 1 → ∃ t : Nat, t < 3 ∧ σ 1 k 0 = nI t) ∧
  (∀ p : Nat, p < n 2 → σ 2 p 22 = nI p ∧ (σ 2 p 2 = 0 ∨ σ 2 p 2 = 1) ∧ (∃ h : Nat, h < 12 ∧ σ 2 p 0 = nI h) ∧ ∃ a : Nat, a < 12 ∧ σ 2 p 4 = nI a) ∧
  (∀ k : Nat, k < n 3 → ∃ a : Nat, a < 12 ∧ σ 3 k 0 = nI a) ∧
  (∀ c : Nat, c < n 4 → σ 4 c 22 = nI c ∧ (σ 4 c 10 = 0 ∨ σ 4 c 10 = 1) ∧ (∃ k : Nat, k < n 1 ∧ σ 4 c 0 = nI k) ∧ ∃ a : Nat, a < 12 ∧ σ 4 c 1 = nI a)
def u_rok (s f : Nat) : Bool := !((s == 0 && Nat.ble 5 f && Nat.ble f 9) || (s == 1 && f == 0) || (s == 2 && (f == 0 || f == 2 || f == 4 || f == 22)) || (s == 3 && f == 0) || (s == 4 && (f == 0 || f == 1 || f == 10 || f == 22)))
theorem u_R_up {n : Nat → Nat} {σ : Cn} {s k f : Nat} {v : Int32} (h : u_R n σ) (hf : u_rok s f = true) : u_R n (c_up σ s k f v) := by
  have e : ∀ s' k' f' : Nat, u_rok s' f' = false → c_up σ s k f v s' k' f' = σ s' k' f' := fun s' k' f' z => if_neg (fun y => by rw [y.1, y.2.2, hf] at z; cases z)
  obtain ⟨⟨c1, c2, c3, c4, c5, c6⟩, h1, h2, h3, h4⟩ := h
  refine ⟨⟨?_, ?_, ?_, ?_, ?_, c6⟩, fun k' hk => ?_, fun p hp => ?_, fun q hq => ?_, fun c hc => ?_⟩
  · rw [e 0 0 5 rfl, c1]
  · rw [e 0 0 6 rfl, c2]
  · rw [e 0 0 7 rfl, c3]
  · rw [e 0 0 8 rfl, c4]
  · rw [e 0 0 9 rfl, c5]
  · rw [e 1 k' 0 rfl]
    exact h1 k' hk
  · rw [e 2 p 22 rfl, e 2 p 2 rfl, e 2 p 0 rfl, e 2 p 4 rfl]
    exact h2 p hp
  · rw [e 3 q 0 rfl]
    exact h3 q hq
  · rw [e 4 c 22 rfl, e 4 c 10 rfl, e 4 c 0 rfl, e 4 c 1 rfl]
    exact h4 c hc
theorem u_R_24 {n : Nat → Nat} {σ : Cn} {k a : Nat} {v : Int32} (h : u_R n σ) (hv : v = nI a) (ha : a < 12) : u_R n (c_up σ 2 k 4 v) := by
  obtain ⟨hc, h1, h2, h3, h4⟩ := h
  refine ⟨hc, h1, fun p hp => ?_, h3, h4⟩
  obtain ⟨e1, e2, e3, e4⟩ := h2 p hp
  rw [c_rn (f' := 22) rfl, c_rn (f' := 2) rfl]
  refine ⟨e1, e2, by first | exact e3 | (simp (decide := true) only [c_rn]; exact e3), ?_⟩
  by_cases hk : p = k
  · subst hk
    exact ⟨a, ha, by rw [c_rs, hv]⟩
  · rw [c_rk hk]
    exact e4
theorem u_R_41 {n : Nat → Nat} {σ : Cn} {k a : Nat} {v : Int32} (h : u_R n σ) (hv : v = nI a) (ha : a < 12) : u_R n (c_up σ 4 k 1 v) := by
  obtain ⟨hc, h1, h2, h3, h4⟩ := h
  refine ⟨hc, h1, h2, h3, fun p hp => ?_⟩
  obtain ⟨e1, e2, e3, e4⟩ := h4 p hp
  rw [c_rn (f' := 22) rfl, c_rn (f' := 10) rfl]
  refine ⟨e1, e2, by first | exact e3 | (simp (decide := true) only [c_rn]; exact e3), ?_⟩
  by_cases hk : p = k
  · subst hk
    exact ⟨a, ha, by rw [c_rs, hv]⟩
  · rw [c_rk hk]
    exact e4
/-- how many patrols tow to garage q, of the first so many -/
def u_under (σ : Cn) (q : Int32) : Nat → Int32
  | 0 => 0
  | p + 1 => if σ 2 p 3 = 3 ∧ σ 2 p 13 = q then u_under σ q p + 1 else u_under σ q p
section
variable {g : Nat → Nat} {M : Mem} {m : Nat} {A : Nat → Nat} {I : Nat → Nat → Int32} {σ σ' : Cn} {n : Nat → Nat} {D W : Nat → Nat → Nat}
theorem r4_way {a b : Nat} {Q : Int32 → Mem → Prop} (hA : q_MA M m A) (hR : u_RI I A D W) (ha : a < 12) (hb : b < 12) : wp_X4_way g (c_rM M A I σ) m (nI a) (nI b) Q = Q (nI (W a b)) (c_rM M A I σ) := by
  obtain ⟨b1, b2, b3⟩ := hA.2.1 9 (by unfold q_isar; omega)
  have b3 : m_ln M (A 9) = 144 := b3
  have n9 : A 9 ≠ A 0 := fun e => by have := hA.2.2 9 0 (by unfold q_isar; omega) (by unfold q_isar; omega) e; omega
  have e : 12 * nI a + nI b = nI (12 * a + b) := by rw [show 12 * nI a = nI (12 * a) from pn_mul 12 a]; exact pn_add _ _
  have hg : m_gi (c_rM M A I σ) (A 9) (12 * a + b) = nI (W a b) := by rw [rM_gi_ne n9]; exact (hR a b ha hb).2.2.1
  unfold wp_X4_way
  rw [e, pn_cl (by omega)]
  refine propext ⟨fun ⟨_, u, h, _, _, q⟩ => ?_, fun q => ⟨hA.1, A 9, b1, b2, ?_, by rw [hg]; exact q⟩⟩
  · have h' : some (A 9) = some u := b1.symm.trans h
    cases h'
    rw [hg] at q
    exact q
  · show vp_in _ (m_ln M (A 9))
    rw [b3, pn_in (by omega)]
    omega
theorem r4_frees {p : Nat} {Q : Mem → Prop} (hA : q_MA M m A) (hp : p < 6) : wp_X4_frees g (c_rM M A I σ) m (nI p) Q = Q (c_rM M A I (u_free σ p)) := by
  simp (decide := true) only [wp_X4_frees, hp, rw_ofPatrol, rw_ofCall, rw_ofMember, rw_ofGarage, rw_laysPatrol, rw_laysCall, rw_addsMember, rM_tg, rM_gr, rM_ln, rM_m hA, rM_a hA, rM_at hA, rM_al hA, rM_gi0, rM_pi0, rM_le, hA, c_rn, c_rs, true_and, and_true, forall_const, Option.some.injEq, exists_eq_left', forall_eq, true_implies, vi_0_3, vi_1_3, vi_2_3, vi_0_4, vi_1_4, vi_2_4, vi_3_4, vi_0_13, vi_1_13, vi_2_13, vi_3_13, vi_4_13, vi_5_13, vi_6_13, vi_7_13, vi_8_13, vi_9_13, vi_10_13, vi_11_13, vi_12_13, vi_0_14, vi_1_14, vi_2_14, vi_3_14, vi_4_14, vi_5_14, vi_6_14, vi_7_14, vi_8_14, vi_9_14, vi_10_14, vi_11_14, vi_12_14, vi_13_14, vi_0_16, vi_1_16, vi_2_16, vi_3_16, vi_4_16, vi_5_16, vi_6_16, vi_7_16, vi_8_16, vi_9_16, vi_10_16, vi_11_16, vi_12_16, vi_13_16, vi_14_16, vi_15_16, vi_0_810, vi_1_810, vi_2_810, vi_3_810, vi_4_810, vi_5_810, vi_6_810, vi_7_810, vi_8_810, vi_9_810, vi_10_810, vi_11_810, vi_12_810, vi_13_810, vi_14_810, vi_15_810, vi_0_40, vi_1_40, vi_2_40, vi_3_40, vi_4_40, vi_5_40, vi_6_40, vi_7_40, vi_8_40, vi_9_40, vi_10_40, vi_11_40, vi_12_40, vi_13_40, vi_14_40, vi_15_40, vi_0_60, vi_1_60, vi_2_60, vi_3_60, vi_4_60, vi_5_60, vi_6_60, vi_7_60, vi_8_60, vi_9_60, vi_10_60, vi_11_60, vi_12_60, vi_13_60, vi_14_60, vi_15_60, vi_0_144, vi_1_144, vi_2_144, vi_3_144, vi_4_144, vi_5_144, vi_6_144, vi_7_144, vi_8_144, vi_9_144, vi_10_144, vi_11_144, vi_12_144, vi_13_144, vi_14_144, vi_15_144, vi_0_12, vi_1_12, vi_2_12, vi_3_12, vi_4_12, vi_5_12, vi_6_12, vi_7_12, vi_8_12, vi_9_12, vi_10_12, vi_11_12, cl_0, cl_1, cl_2, cl_3, cl_4, cl_5, cl_6, cl_7, cl_8, cl_9, cl_10, cl_11, cl_12, cl_13, cl_14, cl_15, cl_16, u_free, rM_gh]
theorem r4_leaves {p c : Nat} {Q : Mem → Prop} (hA : q_MA M m A) (hp : p < 6) (hc : c < 40) (e1 : σ 2 p 5 = nI c) : wp_X4_leaves g (c_rM M A I σ) m (nI p) Q = Q (c_rM M A I (u_free (u_wait σ c (σ 4 c 1)) p)) := by
  rw [u_wait, c_self rfl]
  simp (decide := true) only [wp_X4_leaves, hp, hc, e1, rw_ofPatrol, rw_ofCall, rw_ofMember, rw_ofGarage, rw_laysPatrol, rw_laysCall, rw_addsMember, rM_tg, rM_gr, rM_ln, rM_m hA, rM_a hA, rM_at hA, rM_al hA, rM_gi0, rM_pi0, rM_le, hA, c_rn, c_rs, true_and, and_true, forall_const, Option.some.injEq, exists_eq_left', forall_eq, true_implies, vi_0_3, vi_1_3, vi_2_3, vi_0_4, vi_1_4, vi_2_4, vi_3_4, vi_0_13, vi_1_13, vi_2_13, vi_3_13, vi_4_13, vi_5_13, vi_6_13, vi_7_13, vi_8_13, vi_9_13, vi_10_13, vi_11_13, vi_12_13, vi_0_14, vi_1_14, vi_2_14, vi_3_14, vi_4_14, vi_5_14, vi_6_14, vi_7_14, vi_8_14, vi_9_14, vi_10_14, vi_11_14, vi_12_14, vi_13_14, vi_0_16, vi_1_16, vi_2_16, vi_3_16, vi_4_16, vi_5_16, vi_6_16, vi_7_16, vi_8_16, vi_9_16, vi_10_16, vi_11_16, vi_12_16, vi_13_16, vi_14_16, vi_15_16, vi_0_810, vi_1_810, vi_2_810, vi_3_810, vi_4_810, vi_5_810, vi_6_810, vi_7_810, vi_8_810, vi_9_810, vi_10_810, vi_11_810, vi_12_810, vi_13_810, vi_14_810, vi_15_810, vi_0_40, vi_1_40, vi_2_40, vi_3_40, vi_4_40, vi_5_40, vi_6_40, vi_7_40, vi_8_40, vi_9_40, vi_10_40, vi_11_40, vi_12_40, vi_13_40, vi_14_40, vi_15_40, vi_0_60, vi_1_60, vi_2_60, vi_3_60, vi_4_60, vi_5_60, vi_6_60, vi_7_60, vi_8_60, vi_9_60, vi_10_60, vi_11_60, vi_12_60, vi_13_60, vi_14_60, vi_15_60, vi_0_144, vi_1_144, vi_2_144, vi_3_144, vi_4_144, vi_5_144, vi_6_144, vi_7_144, vi_8_144, vi_9_144, vi_10_144, vi_11_144, vi_12_144, vi_13_144, vi_14_144, vi_15_144, vi_0_12, vi_1_12, vi_2_12, vi_3_12, vi_4_12, vi_5_12, vi_6_12, vi_7_12, vi_8_12, vi_9_12, vi_10_12, vi_11_12, cl_0, cl_1, cl_2, cl_3, cl_4, cl_5, cl_6, cl_7, cl_8, cl_9, cl_10, cl_11, cl_12, cl_13, cl_14, cl_15, cl_16, r4_frees]
theorem r4_underWay {k : Nat} {Q : Int32 → Mem → Prop} (hA : q_MA M m A) (h7 : σ 0 0 7 = nI (n 2)) (h6 : n 2 ≤ 6) (hQ : Q (u_under σ (nI k) (n 2)) (c_rM M A I σ)) : wp_X4_underWay g (c_rM M A I σ) m (nI k) Q := by
  have H : ∀ d p : Nat, p + d = n 2 → wp_X4_underWay_b4 g Q (d + 1) (c_rM M A I σ) m (nI k) (u_under σ (nI k) p) (nI p) := by
    intro d
    induction d with
    | zero =>
      intro p hp
      have e : p = n 2 := by omega
      subst e
      simp (decide := true) only [wp_X4_underWay_b4, rw_ofPatrol, rw_ofCall, rw_ofMember, rw_ofGarage, rw_laysPatrol, rw_laysCall, rw_addsMember, rM_tg, rM_gr, rM_ln, rM_m hA, rM_a hA, rM_at hA, rM_al hA, rM_gi0, rM_pi0, rM_le, hA, c_rn, c_rs, true_and, and_true, forall_const, Option.some.injEq, exists_eq_left', forall_eq, true_implies, vi_0_3, vi_1_3, vi_2_3, vi_0_4, vi_1_4, vi_2_4, vi_3_4, vi_0_13, vi_1_13, vi_2_13, vi_3_13, vi_4_13, vi_5_13, vi_6_13, vi_7_13, vi_8_13, vi_9_13, vi_10_13, vi_11_13, vi_12_13, vi_0_14, vi_1_14, vi_2_14, vi_3_14, vi_4_14, vi_5_14, vi_6_14, vi_7_14, vi_8_14, vi_9_14, vi_10_14, vi_11_14, vi_12_14, vi_13_14, vi_0_16, vi_1_16, vi_2_16, vi_3_16, vi_4_16, vi_5_16, vi_6_16, vi_7_16, vi_8_16, vi_9_16, vi_10_16, vi_11_16, vi_12_16, vi_13_16, vi_14_16, vi_15_16, vi_0_810, vi_1_810, vi_2_810, vi_3_810, vi_4_810, vi_5_810, vi_6_810, vi_7_810, vi_8_810, vi_9_810, vi_10_810, vi_11_810, vi_12_810, vi_13_810, vi_14_810, vi_15_810, vi_0_40, vi_1_40, vi_2_40, vi_3_40, vi_4_40, vi_5_40, vi_6_40, vi_7_40, vi_8_40, vi_9_40, vi_10_40, vi_11_40, vi_12_40, vi_13_40, vi_14_40, vi_15_40, vi_0_60, vi_1_60, vi_2_60, vi_3_60, vi_4_60, vi_5_60, vi_6_60, vi_7_60, vi_8_60, vi_9_60, vi_10_60, vi_11_60, vi_12_60, vi_13_60, vi_14_60, vi_15_60, vi_0_144, vi_1_144, vi_2_144, vi_3_144, vi_4_144, vi_5_144, vi_6_144, vi_7_144, vi_8_144, vi_9_144, vi_10_144, vi_11_144, vi_12_144, vi_13_144, vi_14_144, vi_15_144, vi_0_12, vi_1_12, vi_2_12, vi_3_12, vi_4_12, vi_5_12, vi_6_12, vi_7_12, vi_8_12, vi_9_12, vi_10_12, vi_11_12, cl_0, cl_1, cl_2, cl_3, cl_4, cl_5, cl_6, cl_7, cl_8, cl_9, cl_10, cl_11, cl_12, cl_13, cl_14, cl_15, cl_16, h7, pn_leT (show n 2 < 2147483648 by omega) (show n 2 < 2147483648 by omega) (Nat.le_refl _), not_true_eq_false, false_implies, hQ]
    | succ d ih =>
      intro p hp
      have hp6 : p < 6 := by omega
      have ih := ih (p + 1) (by omega)
      rw [wp_X4_underWay_b4]
      simp (decide := true) only [rw_ofPatrol, rw_ofCall, rw_ofMember, rw_ofGarage, rw_laysPatrol, rw_laysCall, rw_addsMember, rM_tg, rM_gr, rM_ln, rM_m hA, rM_a hA, rM_at hA, rM_al hA, rM_gi0, rM_pi0, rM_le, hA, c_rn, c_rs, true_and, and_true, forall_const, Option.some.injEq, exists_eq_left', forall_eq, true_implies, vi_0_3, vi_1_3, vi_2_3, vi_0_4, vi_1_4, vi_2_4, vi_3_4, vi_0_13, vi_1_13, vi_2_13, vi_3_13, vi_4_13, vi_5_13, vi_6_13, vi_7_13, vi_8_13, vi_9_13, vi_10_13, vi_11_13, vi_12_13, vi_0_14, vi_1_14, vi_2_14, vi_3_14, vi_4_14, vi_5_14, vi_6_14, vi_7_14, vi_8_14, vi_9_14, vi_10_14, vi_11_14, vi_12_14, vi_13_14, vi_0_16, vi_1_16, vi_2_16, vi_3_16, vi_4_16, vi_5_16, vi_6_16, vi_7_16, vi_8_16, vi_9_16, vi_10_16, vi_11_16, vi_12_16, vi_13_16, vi_14_16, vi_15_16, vi_0_810, vi_1_810, vi_2_810, vi_3_810, vi_4_810, vi_5_810, vi_6_810, vi_7_810, vi_8_810, vi_9_810, vi_10_810, vi_11_810, vi_12_810, vi_13_810, vi_14_810, vi_15_810, vi_0_40, vi_1_40, vi_2_40, vi_3_40, vi_4_40, vi_5_40, vi_6_40, vi_7_40, vi_8_40, vi_9_40, vi_10_40, vi_11_40, vi_12_40, vi_13_40, vi_14_40, vi_15_40, vi_0_60, vi_1_60, vi_2_60, vi_3_60, vi_4_60, vi_5_60, vi_6_60, vi_7_60, vi_8_60, vi_9_60, vi_10_60, vi_11_60, vi_12_60, vi_13_60, vi_14_60, vi_15_60, vi_0_144, vi_1_144, vi_2_144, vi_3_144, vi_4_144, vi_5_144, vi_6_144, vi_7_144, vi_8_144, vi_9_144, vi_10_144, vi_11_144, vi_12_144, vi_13_144, vi_14_144, vi_15_144, vi_0_12, vi_1_12, vi_2_12, vi_3_12, vi_4_12, vi_5_12, vi_6_12, vi_7_12, vi_8_12, vi_9_12, vi_10_12, vi_11_12, cl_0, cl_1, cl_2, cl_3, cl_4, cl_5, cl_6, cl_7, cl_8, cl_9, cl_10, cl_11, cl_12, cl_13, cl_14, cl_15, cl_16, h7, hp6, pn_leF (show n 2 < 2147483648 by omega) (show p < 2147483648 by omega) (show p < n 2 by omega), not_false_eq_true, true_implies, false_implies, pn_succ, Int32.add_zero]
      refine ⟨fun h => ?_, fun h => ⟨fun h2 => ?_, fun h2 => ?_⟩⟩
      · rw [u_under, if_neg (fun z => h z.1)] at ih
        exact ih
      · rw [u_under, if_neg (fun z => h2 z.2)] at ih
        exact ih
      · rw [u_under, if_pos ⟨h, h2⟩] at ih
        exact ih
  exact ⟨n 2 + 1, H (n 2) 0 (by omega)⟩
end
