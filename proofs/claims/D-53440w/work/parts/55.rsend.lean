/-! PURE: the reference sends, and a minute passes -/
set_option maxRecDepth 100000
theorem u_in3 {x y : Nat} (hx : x < 3) (hy : y < 3) : (nI x - nI y < -1 ∨ 1 < nI x - nI y) ↔ ¬ (x ≤ y + 1 ∧ y ≤ x + 1) := by
  have h1 : x = 0 ∨ x = 1 ∨ x = 2 := by omega
  have h2 : y = 0 ∨ y = 1 ∨ y = 2 := by omega
  rcases h1 with rfl | rfl | rfl <;> rcases h2 with rfl | rfl | rfl <;> decide
theorem u_near_lt {W : Nat → Nat → Nat} {σ : Cn} {c : Nat} : ∀ {k b : Nat}, u_near W σ c k = some b → b < k ∧ u_may W σ b c = true := by
  intro k
  induction k with
  | zero => intro b h; cases h
  | succ k ih =>
    intro b h
    unfold u_near at h
    split at h
    · rename_i hm
      split at h
      · cases h
        exact ⟨Nat.lt_succ_self _, hm⟩
      · rename_i b' hb
        split at h
        · cases h
          exact ⟨Nat.lt_succ_self _, hm⟩
        · cases h
          have := ih hb
          exact ⟨by omega, this.2⟩
    · have := ih h
      exact ⟨by omega, this.2⟩
theorem u_under_23 {σ : Cn} {k : Nat} {v q : Int32} (h1 : σ 2 k 3 ≠ 3) (h2 : v ≠ 3) : ∀ p : Nat, u_under (c_up σ 2 k 3 v) q p = u_under σ q p := by
  intro p
  induction p with
  | zero => rfl
  | succ p ih =>
    unfold u_under
    rw [ih]
    by_cases hp : p = k
    · subst hp
      rw [c_rs, if_neg (fun z => h2 z.1), if_neg (fun z => h1 z.1)]
    · rw [c_rk hp, show c_up σ 2 k 3 v 2 p 13 = σ 2 p 13 from c_rn rfl]
theorem u_U_23 {n : Nat → Nat} {σ : Cn} {k : Nat} {v : Int32} (h : u_U n σ) (h1 : σ 2 k 3 ≠ 3) (h2 : v ≠ 3) : u_U n (c_up σ 2 k 3 v) := by
  intro q hq
  rw [u_under_23 h1 h2, show c_up σ 2 k 3 v 3 q 20 = σ 3 q 20 from c_rn rfl]
  exact h q hq
def u_busy (σ : Cn) (p : Nat) : Prop := σ 2 p 3 = 1 ∨ σ 2 p 3 = 2 ∨ σ 2 p 3 = 3
/-- patrol p is busy with call c -/
def u_link (n : Nat → Nat) (σ : Cn) (p c : Nat) : Prop :=
  c < n 4 ∧ σ 2 p 5 = nI c ∧ σ 4 c 6 = nI p ∧ (∃ l : Nat, 1 ≤ l ∧ l ≤ 1000000 ∧ σ 2 p 6 = nI l) ∧ (σ 2 p 3 = 1 → σ 4 c 5 = 1 ∨ σ 4 c 5 = 3) ∧ (σ 2 p 3 = 2 → σ 4 c 5 = 2 ∧ σ 4 c 8 = nI p) ∧
  (σ 2 p 3 = 3 → σ 4 c 5 = 4 ∧ σ 2 p 12 = σ 2 p 20 ∧ (∃ a : Nat, a < 12 ∧ σ 2 p 20 = nI a) ∧ ∃ q : Nat, q < n 3 ∧ σ 2 p 21 = nI q ∧ σ 2 p 13 = nI q)
def u_B (n : Nat → Nat) (σ : Cn) : Prop :=
  (∀ p : Nat, p < n 2 → (σ 2 p 3 = 0 ∨ σ 2 p 3 = 4 ∨ u_busy σ p) ∧ (u_busy σ p → ∃ c : Nat, u_link n σ p c)) ∧
  ∀ c : Nat, c < n 4 → σ 4 c 6 = -5 ∨ ∃ p : Nat, p < n 2 ∧ σ 4 c 6 = nI p ∧ u_busy σ p ∧ σ 2 p 5 = nI c
section
variable {g : Nat → Nat} {M : Mem} {m : Nat} {A : Nat → Nat} {I : Nat → Nat → Int32} {σ σ' : Cn} {n : Nat → Nat} {D W : Nat → Nat → Nat}
theorem r4_mayTake {p c a b h : Nat} {Q : Int32 → Mem → Prop} (hA : q_MA M m A) (hR : u_RI I A D W) (hp : p < 6) (hc : c < 40) (e1 : σ 4 c 1 = nI a) (ha : a < 12) (e2 : σ 2 p 4 = nI b) (hb : b < 12) (e3 : σ 2 p 0 = nI h) (hh : h < 12) (hQ : Q (u_b (u_may W σ p c)) (c_rM M A I σ)) : wp_X4_mayTake g (c_rM M A I σ) m (nI p) (nI c) Q := by
  have r1 : nI h / 4 = nI (h / 4) := pn_div (b := 4) (by omega) (by omega) (by omega)
  have r2 : nI a / 4 = nI (a / 4) := pn_div (b := 4) (by omega) (by omega) (by omega)
  have r3 : (nI (h / 4) = nI (a / 4)) = (h / 4 = a / 4) := pn_eqe (by omega) (by omega)
  have hw : W b a ≤ 100000 := (hR b a hb ha).2.2.2
  have hi := u_in3 (x := h / 4) (y := a / 4) (by omega) (by omega)
  unfold u_may u_fit at hQ
  rw [u_w_of e1 (by omega), u_w_of e2 (by omega), u_w_of e3 (by omega)] at hQ
  simp (decide := true) only [wp_X4_mayTake, wp_X4_region, wp_X4_in, hp, hc, e1, e2, e3, r1, r2, r3, r4_way hA hR hb ha, pn_F2 hw, rw_ofPatrol, rw_ofCall, rw_ofMember, rw_ofGarage, rw_laysPatrol, rw_laysCall, rw_addsMember, rM_tg, rM_gr, rM_ln, rM_m hA, rM_a hA, rM_at hA, rM_al hA, rM_gi0, rM_pi0, rM_le, hA, c_rn, c_rs, true_and, and_true, forall_const, Option.some.injEq, exists_eq_left', forall_eq, true_implies, vi_0_3, vi_1_3, vi_2_3, vi_0_4, vi_1_4, vi_2_4, vi_3_4, vi_0_13, vi_1_13, vi_2_13, vi_3_13, vi_4_13, vi_5_13, vi_6_13, vi_7_13, vi_8_13, vi_9_13, vi_10_13, vi_11_13, vi_12_13, vi_0_14, vi_1_14, vi_2_14, vi_3_14, vi_4_14, vi_5_14, vi_6_14, vi_7_14, vi_8_14, vi_9_14, vi_10_14, vi_11_14, vi_12_14, vi_13_14, vi_0_16, vi_1_16, vi_2_16, vi_3_16, vi_4_16, vi_5_16, vi_6_16, vi_7_16, vi_8_16, vi_9_16, vi_10_16, vi_11_16, vi_12_16, vi_13_16, vi_14_16, vi_15_16, vi_0_810, vi_1_810, vi_2_810, vi_3_810, vi_4_810, vi_5_810, vi_6_810, vi_7_810, vi_8_810, vi_9_810, vi_10_810, vi_11_810, vi_12_810, vi_13_810, vi_14_810, vi_15_810, vi_0_40, vi_1_40, vi_2_40, vi_3_40, vi_4_40, vi_5_40, vi_6_40, vi_7_40, vi_8_40, vi_9_40, vi_10_40, vi_11_40, vi_12_40, vi_13_40, vi_14_40, vi_15_40, vi_0_60, vi_1_60, vi_2_60, vi_3_60, vi_4_60, vi_5_60, vi_6_60, vi_7_60, vi_8_60, vi_9_60, vi_10_60, vi_11_60, vi_12_60, vi_13_60, vi_14_60, vi_15_60, vi_0_144, vi_1_144, vi_2_144, vi_3_144, vi_4_144, vi_5_144, vi_6_144, vi_7_144, vi_8_144, vi_9_144, vi_10_144, vi_11_144, vi_12_144, vi_13_144, vi_14_144, vi_15_144, vi_0_12, vi_1_12, vi_2_12, vi_3_12, vi_4_12, vi_5_12, vi_6_12, vi_7_12, vi_8_12, vi_9_12, vi_10_12, vi_11_12, cl_0, cl_1, cl_2, cl_3, cl_4, cl_5, cl_6, cl_7, cl_8, cl_9, cl_10, cl_11, cl_12, cl_13, cl_14, cl_15, cl_16]
  refine ⟨fun z => ?_, fun z => ⟨fun z2 => ⟨fun z3 => ⟨fun z4 => ?_, fun z4 => ⟨fun z5 => ?_, fun z5 => ?_⟩⟩, fun z3 => ⟨fun z4 => ?_, fun z4 => ⟨fun z5 => ?_, fun z5 => ?_⟩⟩⟩, fun z2 => ?_⟩⟩
  · rw [decide_eq_false (fun y => z y.1)] at hQ
    exact hQ
  · rw [if_neg z3, decide_eq_false (fun y => z4 (of_decide_eq_true y.2.2).2)] at hQ
    exact hQ
  · rw [if_neg z3, decide_eq_false (fun y => z5 (of_decide_eq_true y.2.2).1)] at hQ
    exact hQ
  · rw [if_neg z3, decide_eq_true ⟨z, z2, decide_eq_true ⟨z5, z4⟩⟩] at hQ
    exact hQ
  · rw [if_pos z3, decide_eq_false (fun y => hi.mp (Or.inl z4) (of_decide_eq_true y.2.2))] at hQ
    exact hQ
  · rw [if_pos z3, decide_eq_false (fun y => hi.mp (Or.inr z5) (of_decide_eq_true y.2.2))] at hQ
    exact hQ
  · rw [if_pos z3, decide_eq_true ⟨z, z2, decide_eq_true (Classical.not_not.mp (fun y => (hi.mpr y).elim z4 z5))⟩] at hQ
    exact hQ
  · rw [decide_eq_false (fun y => z2 y.2.1)] at hQ
    exact hQ
theorem r4_nearestOf {c a : Nat} {Q : Int32 → Mem → Prop} (hA : q_MA M m A) (hR : u_RI I A D W) (hr : u_R n σ) (hc : c < 40) (e1 : σ 4 c 1 = nI a) (ha : a < 12) (hQ : Q (u_og (u_near W σ c (n 2))) (c_rM M A I σ)) : wp_X4_nearestOf g (c_rM M A I σ) m (nI c) Q := by
  obtain ⟨⟨_, _, h7, _, _, _, _, l2, _, _⟩, _, r2, _, _⟩ := hr
  have H : ∀ d p : Nat, p + d = n 2 → wp_X4_nearestOf_b5 g Q (d + 1) (c_rM M A I σ) m (nI c) (u_og (u_near W σ c p)) (nI p) := by
    intro d
    induction d with
    | zero =>
      intro p hp
      have e : p = n 2 := by omega
      subst e
      simp (decide := true) only [wp_X4_nearestOf_b5, rw_ofPatrol, rw_ofCall, rw_ofMember, rw_ofGarage, rw_laysPatrol, rw_laysCall, rw_addsMember, rM_tg, rM_gr, rM_ln, rM_m hA, rM_a hA, rM_at hA, rM_al hA, rM_gi0, rM_pi0, rM_le, hA, c_rn, c_rs, true_and, and_true, forall_const, Option.some.injEq, exists_eq_left', forall_eq, true_implies, vi_0_3, vi_1_3, vi_2_3, vi_0_4, vi_1_4, vi_2_4, vi_3_4, vi_0_13, vi_1_13, vi_2_13, vi_3_13, vi_4_13, vi_5_13, vi_6_13, vi_7_13, vi_8_13, vi_9_13, vi_10_13, vi_11_13, vi_12_13, vi_0_14, vi_1_14, vi_2_14, vi_3_14, vi_4_14, vi_5_14, vi_6_14, vi_7_14, vi_8_14, vi_9_14, vi_10_14, vi_11_14, vi_12_14, vi_13_14, vi_0_16, vi_1_16, vi_2_16, vi_3_16, vi_4_16, vi_5_16, vi_6_16, vi_7_16, vi_8_16, vi_9_16, vi_10_16, vi_11_16, vi_12_16, vi_13_16, vi_14_16, vi_15_16, vi_0_810, vi_1_810, vi_2_810, vi_3_810, vi_4_810, vi_5_810, vi_6_810, vi_7_810, vi_8_810, vi_9_810, vi_10_810, vi_11_810, vi_12_810, vi_13_810, vi_14_810, vi_15_810, vi_0_40, vi_1_40, vi_2_40, vi_3_40, vi_4_40, vi_5_40, vi_6_40, vi_7_40, vi_8_40, vi_9_40, vi_10_40, vi_11_40, vi_12_40, vi_13_40, vi_14_40, vi_15_40, vi_0_60, vi_1_60, vi_2_60, vi_3_60, vi_4_60, vi_5_60, vi_6_60, vi_7_60, vi_8_60, vi_9_60, vi_10_60, vi_11_60, vi_12_60, vi_13_60, vi_14_60, vi_15_60, vi_0_144, vi_1_144, vi_2_144, vi_3_144, vi_4_144, vi_5_144, vi_6_144, vi_7_144, vi_8_144, vi_9_144, vi_10_144, vi_11_144, vi_12_144, vi_13_144, vi_14_144, vi_15_144, vi_0_12, vi_1_12, vi_2_12, vi_3_12, vi_4_12, vi_5_12, vi_6_12, vi_7_12, vi_8_12, vi_9_12, vi_10_12, vi_11_12, cl_0, cl_1, cl_2, cl_3, cl_4, cl_5, cl_6, cl_7, cl_8, cl_9, cl_10, cl_11, cl_12, cl_13, cl_14, cl_15, cl_16, h7, pn_leT (show n 2 < 2147483648 by omega) (show n 2 < 2147483648 by omega) (Nat.le_refl _), not_true_eq_false, false_implies, hQ]
    | succ d ih =>
      intro p hp
      have hp6 : p < 6 := by omega
      have ih := ih (p + 1) (by omega)
      obtain ⟨_, _, ⟨h, hh, eh⟩, b, hb, eb⟩ := r2 p (by omega)
      have hw : W b a ≤ 100000 := (hR b a hb ha).2.2.2
      rw [wp_X4_nearestOf_b5]
      simp (decide := true) only [rw_ofPatrol, rw_ofCall, rw_ofMember, rw_ofGarage, rw_laysPatrol, rw_laysCall, rw_addsMember, rM_tg, rM_gr, rM_ln, rM_m hA, rM_a hA, rM_at hA, rM_al hA, rM_gi0, rM_pi0, rM_le, hA, c_rn, c_rs, true_and, and_true, forall_const, Option.some.injEq, exists_eq_left', forall_eq, true_implies, vi_0_3, vi_1_3, vi_2_3, vi_0_4, vi_1_4, vi_2_4, vi_3_4, vi_0_13, vi_1_13, vi_2_13, vi_3_13, vi_4_13, vi_5_13, vi_6_13, vi_7_13, vi_8_13, vi_9_13, vi_10_13, vi_11_13, vi_12_13, vi_0_14, vi_1_14, vi_2_14, vi_3_14, vi_4_14, vi_5_14, vi_6_14, vi_7_14, vi_8_14, vi_9_14, vi_10_14, vi_11_14, vi_12_14, vi_13_14, vi_0_16, vi_1_16, vi_2_16, vi_3_16, vi_4_16, vi_5_16, vi_6_16, vi_7_16, vi_8_16, vi_9_16, vi_10_16, vi_11_16, vi_12_16, vi_13_16, vi_14_16, vi_15_16, vi_0_810, vi_1_810, vi_2_810, vi_3_810, vi_4_810, vi_5_810, vi_6_810, vi_7_810, vi_8_810, vi_9_810, vi_10_810, vi_11_810, vi_12_810, vi_13_810, vi_14_810, vi_15_810, vi_0_40, vi_1_40, vi_2_40, vi_3_40, vi_4_40, vi_5_40, vi_6_40, vi_7_40, vi_8_40, vi_9_40, vi_10_40, vi_11_40, vi_12_40, vi_13_40, vi_14_40, vi_15_40, vi_0_60, vi_1_60, vi_2_60, vi_3_60, vi_4_60, vi_5_60, vi_6_60, vi_7_60, vi_8_60, vi_9_60, vi_10_60, vi_11_60, vi_12_60, vi_13_60, vi_14_60, vi_15_60, vi_0_144, vi_1_144, vi_2_144, vi_3_144, vi_4_144, vi_5_144, vi_6_144, vi_7_144, vi_8_144, vi_9_144, vi_10_144, vi_11_144, vi_12_144, vi_13_144, vi_14_144, vi_15_144, vi_0_12, vi_1_12, vi_2_12, vi_3_12, vi_4_12, vi_5_12, vi_6_12, vi_7_12, vi_8_12, vi_9_12, vi_10_12, vi_11_12, cl_0, cl_1, cl_2, cl_3, cl_4, cl_5, cl_6, cl_7, cl_8, cl_9, cl_10, cl_11, cl_12, cl_13, cl_14, cl_15, cl_16, h7, hp6, pn_leF (show n 2 < 2147483648 by omega) (show p < 2147483648 by omega) (show p < n 2 by omega), not_false_eq_true, false_implies, pn_succ]
      refine r4_mayTake hA hR hp6 hc e1 ha eb hb eh hh ?_
      have hn : u_near W σ c (p + 1) = if u_may W σ p c = true then (match u_near W σ c p with
        | none => some p
        | some b => if W (u_w σ 2 p 4) (u_w σ 4 c 1) < W (u_w σ 2 b 4) (u_w σ 4 c 1) ∨ (W (u_w σ 2 p 4) (u_w σ 4 c 1) = W (u_w σ 2 b 4) (u_w σ 4 c 1) ∧ σ 2 b 1 < σ 2 p 1) then some p else some b) else u_near W σ c p := rfl
      cases hm : u_may W σ p c with
      | false =>
        rw [hn, hm, if_neg (by decide)] at ih
        simp (decide := true) only [u_b0, rw_ofPatrol, rw_ofCall, rw_ofMember, rw_ofGarage, rw_laysPatrol, rw_laysCall, rw_addsMember, rM_tg, rM_gr, rM_ln, rM_m hA, rM_a hA, rM_at hA, rM_al hA, rM_gi0, rM_pi0, rM_le, hA, c_rn, c_rs, true_and, and_true, forall_const, Option.some.injEq, exists_eq_left', forall_eq, true_implies, vi_0_3, vi_1_3, vi_2_3, vi_0_4, vi_1_4, vi_2_4, vi_3_4, vi_0_13, vi_1_13, vi_2_13, vi_3_13, vi_4_13, vi_5_13, vi_6_13, vi_7_13, vi_8_13, vi_9_13, vi_10_13, vi_11_13, vi_12_13, vi_0_14, vi_1_14, vi_2_14, vi_3_14, vi_4_14, vi_5_14, vi_6_14, vi_7_14, vi_8_14, vi_9_14, vi_10_14, vi_11_14, vi_12_14, vi_13_14, vi_0_16, vi_1_16, vi_2_16, vi_3_16, vi_4_16, vi_5_16, vi_6_16, vi_7_16, vi_8_16, vi_9_16, vi_10_16, vi_11_16, vi_12_16, vi_13_16, vi_14_16, vi_15_16, vi_0_810, vi_1_810, vi_2_810, vi_3_810, vi_4_810, vi_5_810, vi_6_810, vi_7_810, vi_8_810, vi_9_810, vi_10_810, vi_11_810, vi_12_810, vi_13_810, vi_14_810, vi_15_810, vi_0_40, vi_1_40, vi_2_40, vi_3_40, vi_4_40, vi_5_40, vi_6_40, vi_7_40, vi_8_40, vi_9_40, vi_10_40, vi_11_40, vi_12_40, vi_13_40, vi_14_40, vi_15_40, vi_0_60, vi_1_60, vi_2_60, vi_3_60, vi_4_60, vi_5_60, vi_6_60, vi_7_60, vi_8_60, vi_9_60, vi_10_60, vi_11_60, vi_12_60, vi_13_60, vi_14_60, vi_15_60, vi_0_144, vi_1_144, vi_2_144, vi_3_144, vi_4_144, vi_5_144, vi_6_144, vi_7_144, vi_8_144, vi_9_144, vi_10_144, vi_11_144, vi_12_144, vi_13_144, vi_14_144, vi_15_144, vi_0_12, vi_1_12, vi_2_12, vi_3_12, vi_4_12, vi_5_12, vi_6_12, vi_7_12, vi_8_12, vi_9_12, vi_10_12, vi_11_12, cl_0, cl_1, cl_2, cl_3, cl_4, cl_5, cl_6, cl_7, cl_8, cl_9, cl_10, cl_11, cl_12, cl_13, cl_14, cl_15, cl_16, false_implies, not_true_eq_false]
        exact ih
      | true =>
        rw [hn, hm, if_pos rfl, u_w_of e1 (by omega), u_w_of eb (by omega)] at ih
        have hwF : W b a < 100000 := by
          unfold u_may at hm
          have := (of_decide_eq_true hm).2.1
          rw [u_w_of e1 (by omega), u_w_of eb (by omega)] at this
          exact this
        cases hg : u_near W σ c p with
        | none =>
          rw [hg] at ih
          have hlt : (nI (W b a) < 100000) = True := by rw [pn_F2 hw]; exact eq_true hwF
          simp (decide := true) only [u_og, u_b1, hp6, hc, e1, eb, r4_way hA hR hb ha, wp_X4_nearestOf_b70, wp_X4_nearestOf_b101, wp_X4_nearestOf_b105, wp_X4_nearestOf_b106, hlt, rw_ofPatrol, rw_ofCall, rw_ofMember, rw_ofGarage, rw_laysPatrol, rw_laysCall, rw_addsMember, rM_tg, rM_gr, rM_ln, rM_m hA, rM_a hA, rM_at hA, rM_al hA, rM_gi0, rM_pi0, rM_le, hA, c_rn, c_rs, true_and, and_true, forall_const, Option.some.injEq, exists_eq_left', forall_eq, true_implies, vi_0_3, vi_1_3, vi_2_3, vi_0_4, vi_1_4, vi_2_4, vi_3_4, vi_0_13, vi_1_13, vi_2_13, vi_3_13, vi_4_13, vi_5_13, vi_6_13, vi_7_13, vi_8_13, vi_9_13, vi_10_13, vi_11_13, vi_12_13, vi_0_14, vi_1_14, vi_2_14, vi_3_14, vi_4_14, vi_5_14, vi_6_14, vi_7_14, vi_8_14, vi_9_14, vi_10_14, vi_11_14, vi_12_14, vi_13_14, vi_0_16, vi_1_16, vi_2_16, vi_3_16, vi_4_16, vi_5_16, vi_6_16, vi_7_16, vi_8_16, vi_9_16, vi_10_16, vi_11_16, vi_12_16, vi_13_16, vi_14_16, vi_15_16, vi_0_810, vi_1_810, vi_2_810, vi_3_810, vi_4_810, vi_5_810, vi_6_810, vi_7_810, vi_8_810, vi_9_810, vi_10_810, vi_11_810, vi_12_810, vi_13_810, vi_14_810, vi_15_810, vi_0_40, vi_1_40, vi_2_40, vi_3_40, vi_4_40, vi_5_40, vi_6_40, vi_7_40, vi_8_40, vi_9_40, vi_10_40, vi_11_40, vi_12_40, vi_13_40, vi_14_40, vi_15_40, vi_0_60, vi_1_60, vi_2_60, vi_3_60, vi_4_60, vi_5_60, vi_6_60, vi_7_60, vi_8_60, vi_9_60, vi_10_60, vi_11_60, vi_12_60, vi_13_60, vi_14_60, vi_15_60, vi_0_144, vi_1_144, vi_2_144, vi_3_144, vi_4_144, vi_5_144, vi_6_144, vi_7_144, vi_8_144, vi_9_144, vi_10_144, vi_11_144, vi_12_144, vi_13_144, vi_14_144, vi_15_144, vi_0_12, vi_1_12, vi_2_12, vi_3_12, vi_4_12, vi_5_12, vi_6_12, vi_7_12, vi_8_12, vi_9_12, vi_10_12, vi_11_12, cl_0, cl_1, cl_2, cl_3, cl_4, cl_5, cl_6, cl_7, cl_8, cl_9, cl_10, cl_11, cl_12, cl_13, cl_14, cl_15, cl_16, false_implies, not_true_eq_false, not_false_eq_true, pn_succ]
          exact ih
        | some k =>
          have hk := u_near_lt hg
          have hk6 : k < 6 := by omega
          obtain ⟨_, _, _, bk, hbk, ebk⟩ := r2 k (by omega)
          have hwk : W bk a ≤ 100000 := (hR bk a hbk ha).2.2.2
          rw [hg] at ih
          dsimp only at ih
          rw [u_w_of ebk (by omega)] at ih
          simp (decide := true) only [u_og, u_og_ne (show k < 2147483648 by omega), u_b1, hp6, hk6, hc, e1, eb, ebk, r4_way hA hR hb ha, r4_way hA hR hbk ha, wp_X4_nearestOf_b70, wp_X4_nearestOf_b101, wp_X4_nearestOf_b105, wp_X4_nearestOf_b106, pn_lte (show W b a ≤ 1000000 by omega) (show W bk a ≤ 1000000 by omega), pn_eqe (show W b a ≤ 1000000 by omega) (show W bk a ≤ 1000000 by omega), rw_ofPatrol, rw_ofCall, rw_ofMember, rw_ofGarage, rw_laysPatrol, rw_laysCall, rw_addsMember, rM_tg, rM_gr, rM_ln, rM_m hA, rM_a hA, rM_at hA, rM_al hA, rM_gi0, rM_pi0, rM_le, hA, c_rn, c_rs, true_and, and_true, forall_const, Option.some.injEq, exists_eq_left', forall_eq, true_implies, vi_0_3, vi_1_3, vi_2_3, vi_0_4, vi_1_4, vi_2_4, vi_3_4, vi_0_13, vi_1_13, vi_2_13, vi_3_13, vi_4_13, vi_5_13, vi_6_13, vi_7_13, vi_8_13, vi_9_13, vi_10_13, vi_11_13, vi_12_13, vi_0_14, vi_1_14, vi_2_14, vi_3_14, vi_4_14, vi_5_14, vi_6_14, vi_7_14, vi_8_14, vi_9_14, vi_10_14, vi_11_14, vi_12_14, vi_13_14, vi_0_16, vi_1_16, vi_2_16, vi_3_16, vi_4_16, vi_5_16, vi_6_16, vi_7_16, vi_8_16, vi_9_16, vi_10_16, vi_11_16, vi_12_16, vi_13_16, vi_14_16, vi_15_16, vi_0_810, vi_1_810, vi_2_810, vi_3_810, vi_4_810, vi_5_810, vi_6_810, vi_7_810, vi_8_810, vi_9_810, vi_10_810, vi_11_810, vi_12_810, vi_13_810, vi_14_810, vi_15_810, vi_0_40, vi_1_40, vi_2_40, vi_3_40, vi_4_40, vi_5_40, vi_6_40, vi_7_40, vi_8_40, vi_9_40, vi_10_40, vi_11_40, vi_12_40, vi_13_40, vi_14_40, vi_15_40, vi_0_60, vi_1_60, vi_2_60, vi_3_60, vi_4_60, vi_5_60, vi_6_60, vi_7_60, vi_8_60, vi_9_60, vi_10_60, vi_11_60, vi_12_60, vi_13_60, vi_14_60, vi_15_60, vi_0_144, vi_1_144, vi_2_144, vi_3_144, vi_4_144, vi_5_144, vi_6_144, vi_7_144, vi_8_144, vi_9_144, vi_10_144, vi_11_144, vi_12_144, vi_13_144, vi_14_144, vi_15_144, vi_0_12, vi_1_12, vi_2_12, vi_3_12, vi_4_12, vi_5_12, vi_6_12, vi_7_12, vi_8_12, vi_9_12, vi_10_12, vi_11_12, cl_0, cl_1, cl_2, cl_3, cl_4, cl_5, cl_6, cl_7, cl_8, cl_9, cl_10, cl_11, cl_12, cl_13, cl_14, cl_15, cl_16, false_implies, not_true_eq_false, not_false_eq_true, pn_succ]
          refine ⟨fun z => ?_, fun z => ⟨fun z2 => ?_, fun z2 => ⟨fun z3 => ?_, fun z3 => ?_⟩⟩⟩
          · rw [if_pos (Or.inl z)] at ih
            exact ih
          · rw [if_neg (fun y => y.elim z (fun w => z2 w.1))] at ih
            exact ih
          · rw [if_neg (fun y => y.elim z (fun w => Int32.not_lt.mpr z3 w.2))] at ih
            exact ih
          · rw [if_pos (Or.inr ⟨z2, Int32.not_le.mp z3⟩)] at ih
            exact ih
  exact ⟨n 2 + 1, H (n 2) 0 (by omega)⟩
/-- one call of the row: what the reference does there -/
theorem r4_send1 {c i : Nat} {Q : Mem → Prop} {f : Nat} (hA : q_MA M m A) (hR : u_RI I A D W) (hr : u_R n σ) (hu : u_U n σ) (hc : c < n 4) (hw : u_waits σ c = true) (hP : ∀ a t : Nat, a < 12 → t < 12 → W a t < 100000 → u_P D W a t)
    {r : Nat} (hrow : I m 11 = nI r) (hi : i < r) (hr40 : r ≤ 40) (hci : I (A 10) i = nI c) (hQ : wp_X4_sends_b6 g Q f (c_rM M A I (u_send D W n σ c)) m (nI (i + 1))) : wp_X4_sends_b6 g Q (f + 1) (c_rM M A I σ) m (nI i) := by
  obtain ⟨b1, b2, b3, n10, nm, nm10⟩ := rM_10 hA
  have l1 := hr.1.2.2.2.2.2.2.1
  have l2 := hr.1.2.2.2.2.2.2.2.1
  have l4 := hr.1.2.2.2.2.2.2.2.2.2
  have hc40 : c < 40 := by omega
  obtain ⟨_, _, ⟨k, hk, ek⟩, a, ha, e1⟩ := hr.2.2.2.2 c hc
  have hv : vp_in (nI i) 40 := (pn_in (by omega)).mpr (by omega)
  have hcl : (nI i).toNatClampNeg = i := pn_cl (by omega)
  have hg10 : m_gi (c_rM M A I σ) (A 10) i = nI c := by rw [rM_gi_ne n10]; exact hci
  rw [wp_X4_sends_b6]
  simp (decide := true) only [rw_ofPatrol, rw_ofCall, rw_ofMember, rw_ofGarage, rw_laysPatrol, rw_laysCall, rw_addsMember, rM_tg, rM_gr, rM_ln, rM_m hA, rM_a hA, rM_at hA, rM_al hA, rM_gi0, rM_pi0, rM_le, hA, c_rn, c_rs, true_and, and_true, forall_const, Option.some.injEq, exists_eq_left', forall_eq, true_implies, vi_0_3, vi_1_3, vi_2_3, vi_0_4, vi_1_4, vi_2_4, vi_3_4, vi_0_13, vi_1_13, vi_2_13, vi_3_13, vi_4_13, vi_5_13, vi_6_13, vi_7_13, vi_8_13, vi_9_13, vi_10_13, vi_11_13, vi_12_13, vi_0_14, vi_1_14, vi_2_14, vi_3_14, vi_4_14, vi_5_14, vi_6_14, vi_7_14, vi_8_14, vi_9_14, vi_10_14, vi_11_14, vi_12_14, vi_13_14, vi_0_16, vi_1_16, vi_2_16, vi_3_16, vi_4_16, vi_5_16, vi_6_16, vi_7_16, vi_8_16, vi_9_16, vi_10_16, vi_11_16, vi_12_16, vi_13_16, vi_14_16, vi_15_16, vi_0_810, vi_1_810, vi_2_810, vi_3_810, vi_4_810, vi_5_810, vi_6_810, vi_7_810, vi_8_810, vi_9_810, vi_10_810, vi_11_810, vi_12_810, vi_13_810, vi_14_810, vi_15_810, vi_0_40, vi_1_40, vi_2_40, vi_3_40, vi_4_40, vi_5_40, vi_6_40, vi_7_40, vi_8_40, vi_9_40, vi_10_40, vi_11_40, vi_12_40, vi_13_40, vi_14_40, vi_15_40, vi_0_60, vi_1_60, vi_2_60, vi_3_60, vi_4_60, vi_5_60, vi_6_60, vi_7_60, vi_8_60, vi_9_60, vi_10_60, vi_11_60, vi_12_60, vi_13_60, vi_14_60, vi_15_60, vi_0_144, vi_1_144, vi_2_144, vi_3_144, vi_4_144, vi_5_144, vi_6_144, vi_7_144, vi_8_144, vi_9_144, vi_10_144, vi_11_144, vi_12_144, vi_13_144, vi_14_144, vi_15_144, vi_0_12, vi_1_12, vi_2_12, vi_3_12, vi_4_12, vi_5_12, vi_6_12, vi_7_12, vi_8_12, vi_9_12, vi_10_12, vi_11_12, cl_0, cl_1, cl_2, cl_3, cl_4, cl_5, cl_6, cl_7, cl_8, cl_9, cl_10, cl_11, cl_12, cl_13, cl_14, cl_15, cl_16, rM_gi_ne nm, hrow, b1, b2, b3, hv, hcl, hg10, pn_leF (show r < 2147483648 by omega) (show i < 2147483648 by omega) hi, false_implies, not_false_eq_true, pn_succ]
  refine r4_nearestOf hA hR hr hc40 e1 ha ?_
  unfold u_send at hQ
  cases hn : u_near W σ c (n 2) with
  | none =>
    rw [hn] at hQ
    simp (decide := true) only [u_og, rw_ofPatrol, rw_ofCall, rw_ofMember, rw_ofGarage, rw_laysPatrol, rw_laysCall, rw_addsMember, rM_tg, rM_gr, rM_ln, rM_m hA, rM_a hA, rM_at hA, rM_al hA, rM_gi0, rM_pi0, rM_le, hA, c_rn, c_rs, true_and, and_true, forall_const, Option.some.injEq, exists_eq_left', forall_eq, true_implies, vi_0_3, vi_1_3, vi_2_3, vi_0_4, vi_1_4, vi_2_4, vi_3_4, vi_0_13, vi_1_13, vi_2_13, vi_3_13, vi_4_13, vi_5_13, vi_6_13, vi_7_13, vi_8_13, vi_9_13, vi_10_13, vi_11_13, vi_12_13, vi_0_14, vi_1_14, vi_2_14, vi_3_14, vi_4_14, vi_5_14, vi_6_14, vi_7_14, vi_8_14, vi_9_14, vi_10_14, vi_11_14, vi_12_14, vi_13_14, vi_0_16, vi_1_16, vi_2_16, vi_3_16, vi_4_16, vi_5_16, vi_6_16, vi_7_16, vi_8_16, vi_9_16, vi_10_16, vi_11_16, vi_12_16, vi_13_16, vi_14_16, vi_15_16, vi_0_810, vi_1_810, vi_2_810, vi_3_810, vi_4_810, vi_5_810, vi_6_810, vi_7_810, vi_8_810, vi_9_810, vi_10_810, vi_11_810, vi_12_810, vi_13_810, vi_14_810, vi_15_810, vi_0_40, vi_1_40, vi_2_40, vi_3_40, vi_4_40, vi_5_40, vi_6_40, vi_7_40, vi_8_40, vi_9_40, vi_10_40, vi_11_40, vi_12_40, vi_13_40, vi_14_40, vi_15_40, vi_0_60, vi_1_60, vi_2_60, vi_3_60, vi_4_60, vi_5_60, vi_6_60, vi_7_60, vi_8_60, vi_9_60, vi_10_60, vi_11_60, vi_12_60, vi_13_60, vi_14_60, vi_15_60, vi_0_144, vi_1_144, vi_2_144, vi_3_144, vi_4_144, vi_5_144, vi_6_144, vi_7_144, vi_8_144, vi_9_144, vi_10_144, vi_11_144, vi_12_144, vi_13_144, vi_14_144, vi_15_144, vi_0_12, vi_1_12, vi_2_12, vi_3_12, vi_4_12, vi_5_12, vi_6_12, vi_7_12, vi_8_12, vi_9_12, vi_10_12, vi_11_12, cl_0, cl_1, cl_2, cl_3, cl_4, cl_5, cl_6, cl_7, cl_8, cl_9, cl_10, cl_11, cl_12, cl_13, cl_14, cl_15, cl_16, false_implies, not_true_eq_false]
    exact hQ
  | some p =>
    obtain ⟨hp, hmay⟩ := u_near_lt hn
    have hp6 : p < 6 := by omega
    obtain ⟨_, _, ⟨h, hh, eh⟩, b, hb, eb⟩ := hr.2.2.1 p hp
    unfold u_may at hmay
    have hmay := of_decide_eq_true hmay
    have hfar := hmay.2.1
    rw [u_w_of e1 (by omega), u_w_of eb (by omega)] at hfar
    rw [hn] at hQ
    dsimp only at hQ
    rw [u_w_of e1 (by omega), u_w_of eb (by omega)] at hQ
    have h0 : (nI (W b a) = 0) = (W b a = 0) := pn_eqe (b := 0) (by omega) (by omega)
    have hd3 : σ 2 p 3 ≠ 3 := by rw [hmay.1]; decide
    have hst : σ 4 c 5 = 0 ∨ σ 4 c 5 = 3 := by
      unfold u_waits at hw
      exact (of_decide_eq_true hw).imp id (fun z => z.1)
    have hrb : u_R n (u_begin σ p c (nI (W b a))) := u_R_up (u_R_up (u_R_up (u_R_up (u_R_up hr rfl) rfl) rfl) rfl) rfl
    have hub : u_U n (u_begin σ p c (nI (W b a))) := u_U_up (u_U_up (u_U_up (u_U_up (u_U_23 hu hd3 (by decide)) rfl) rfl) rfl) rfl
    have hget : ∀ Q' : Mem → Prop, Q' (c_rM M A I (u_there D W n (u_begin σ p c (nI (W b a))) p c)) → wp_X4_gets g (c_rM M A I (u_begin σ p c (nI (W b a)))) m (nI p) Q' := fun Q' hQ' =>
      r4_gets (g := g) (a := a) (h := h) (k := k) hA hR hrb hub hp6 hc40 (by omega) (by simp (decide := true) only [u_begin, c_rn, c_rs]) (by simp (decide := true) only [u_begin, c_rn]; exact e1) ha (by simp (decide := true) only [u_begin, c_rn]; exact eh) hh (by simp (decide := true) only [u_begin, c_rn]; exact ek) (fun t ht hwt => hP a t ha ht hwt) hQ'
    simp (decide := true) only [u_og, u_og_ne (show p < 2147483648 by omega), hp6, hc40, e1, eb, r4_way hA hR hb ha, wp_X4_sends_b91, h0, rw_ofPatrol, rw_ofCall, rw_ofMember, rw_ofGarage, rw_laysPatrol, rw_laysCall, rw_addsMember, rM_tg, rM_gr, rM_ln, rM_m hA, rM_a hA, rM_at hA, rM_al hA, rM_gi0, rM_pi0, rM_le, hA, c_rn, c_rs, true_and, and_true, forall_const, Option.some.injEq, exists_eq_left', forall_eq, true_implies, vi_0_3, vi_1_3, vi_2_3, vi_0_4, vi_1_4, vi_2_4, vi_3_4, vi_0_13, vi_1_13, vi_2_13, vi_3_13, vi_4_13, vi_5_13, vi_6_13, vi_7_13, vi_8_13, vi_9_13, vi_10_13, vi_11_13, vi_12_13, vi_0_14, vi_1_14, vi_2_14, vi_3_14, vi_4_14, vi_5_14, vi_6_14, vi_7_14, vi_8_14, vi_9_14, vi_10_14, vi_11_14, vi_12_14, vi_13_14, vi_0_16, vi_1_16, vi_2_16, vi_3_16, vi_4_16, vi_5_16, vi_6_16, vi_7_16, vi_8_16, vi_9_16, vi_10_16, vi_11_16, vi_12_16, vi_13_16, vi_14_16, vi_15_16, vi_0_810, vi_1_810, vi_2_810, vi_3_810, vi_4_810, vi_5_810, vi_6_810, vi_7_810, vi_8_810, vi_9_810, vi_10_810, vi_11_810, vi_12_810, vi_13_810, vi_14_810, vi_15_810, vi_0_40, vi_1_40, vi_2_40, vi_3_40, vi_4_40, vi_5_40, vi_6_40, vi_7_40, vi_8_40, vi_9_40, vi_10_40, vi_11_40, vi_12_40, vi_13_40, vi_14_40, vi_15_40, vi_0_60, vi_1_60, vi_2_60, vi_3_60, vi_4_60, vi_5_60, vi_6_60, vi_7_60, vi_8_60, vi_9_60, vi_10_60, vi_11_60, vi_12_60, vi_13_60, vi_14_60, vi_15_60, vi_0_144, vi_1_144, vi_2_144, vi_3_144, vi_4_144, vi_5_144, vi_6_144, vi_7_144, vi_8_144, vi_9_144, vi_10_144, vi_11_144, vi_12_144, vi_13_144, vi_14_144, vi_15_144, vi_0_12, vi_1_12, vi_2_12, vi_3_12, vi_4_12, vi_5_12, vi_6_12, vi_7_12, vi_8_12, vi_9_12, vi_10_12, vi_11_12, cl_0, cl_1, cl_2, cl_3, cl_4, cl_5, cl_6, cl_7, cl_8, cl_9, cl_10, cl_11, cl_12, cl_13, cl_14, cl_15, cl_16, false_implies, not_false_eq_true, rM_gi_ne n10, hci, pn_succ]
    refine ⟨fun z => ⟨fun z2 => ?_, fun z2 => ?_⟩, fun z => ⟨fun z2 => ?_, fun z2 => ?_⟩⟩
    · rw [if_neg z2] at hQ
      have z3 := hst.resolve_left z
      simp (decide := true) only [u_begin, z3, if_true, c_comm, id_eq] at hQ ⊢
      exact hQ
    · rw [if_pos z2] at hQ
      have z3 := hst.resolve_left z
      have h9 := hget (fun M11 => m_le (c_rM M A I (u_begin σ p c (nI (W b a)))) M11 → wp_X4_sends_b6 g Q f M11 m (nI (i + 1))) (fun _ => hQ)
      have e9 : c_rM M A I (c_up (c_up (c_up (c_up (c_up σ 2 p 3 1) 2 p 5 (nI c)) 2 p 6 (nI (W b a))) 4 c 5 3) 4 c 6 (nI p)) = c_rM M A I (u_begin σ p c (nI (W b a))) := by
        simp (decide := true) only [u_begin, z3, if_true, c_comm, id_eq]
      rw [e9]
      exact h9
    · rw [if_neg z2] at hQ
      simp (decide := true) only [u_begin, z, if_false, c_comm, id_eq] at hQ ⊢
      exact hQ
    · rw [if_pos z2] at hQ
      have h9 := hget (fun M11 => m_le (c_rM M A I (u_begin σ p c (nI (W b a)))) M11 → wp_X4_sends_b6 g Q f M11 m (nI (i + 1))) (fun _ => hQ)
      have e9 : c_rM M A I (c_up (c_up (c_up (c_up (c_up σ 2 p 3 1) 2 p 5 (nI c)) 2 p 6 (nI (W b a))) 4 c 5 1) 4 c 6 (nI p)) = c_rM M A I (u_begin σ p c (nI (W b a))) := by
        simp (decide := true) only [u_begin, z, if_false, c_comm, id_eq]
      rw [e9]
      exact h9
end
