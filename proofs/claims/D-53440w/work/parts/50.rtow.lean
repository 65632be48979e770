/-! PURE: the reference's walks: garages, the next area, tows -/
set_option maxRecDepth 100000
def u_og : Option Nat → Int32
  | none => -5
  | some b => nI b
theorem u_og_ne {k : Nat} (h : k < 2147483648) : (nI k = -5) = False := eq_false (fun z => pn_nn h (by rw [z]; decide))
theorem pn_F1 {w : Nat} (h : w ≤ 100000) : ((100000 : Int32) ≤ nI w) = (100000 ≤ w) := propext (pn_le (a := 100000) (by omega) (by omega))
theorem pn_F2 {w : Nat} (h : w ≤ 100000) : (nI w < (100000 : Int32)) = (w < 100000) := propext (pn_lt (b := 100000) (by omega) (by omega))
theorem pn_lee {a b : Nat} (ha : a ≤ 1000000) (hb : b ≤ 1000000) : (nI a ≤ nI b) = (a ≤ b) := propext (pn_le (by omega) (by omega))
theorem pn_lte {a b : Nat} (ha : a ≤ 1000000) (hb : b ≤ 1000000) : (nI a < nI b) = (a < b) := propext (pn_lt (by omega) (by omega))
theorem pn_eqe {a b : Nat} (ha : a ≤ 1000000) (hb : b ≤ 1000000) : (nI a = nI b) = (a = b) := propext (pn_inj (by omega) (by omega))
theorem u_gar_lt {W : Nat → Nat → Nat} {σ : Cn} {a : Nat} : ∀ {k b : Nat}, u_gar W σ a k = some b → b < k := by
  intro k
  induction k with
  | zero => intro b h; cases h
  | succ k ih =>
    intro b h
    unfold u_gar at h
    split at h
    · cases h
      omega
    · exact Nat.lt_succ_of_lt (ih h)
section
variable {g : Nat → Nat} {M : Mem} {m : Nat} {A : Nat → Nat} {I : Nat → Nat → Int32} {σ σ' : Cn} {n : Nat → Nat} {D W : Nat → Nat → Nat}
theorem r4_garageFor {a : Nat} {Q : Int32 → Mem → Prop} (hA : q_MA M m A) (hR : u_RI I A D W) (hr : u_R n σ) (hu : ∀ k : Nat, k < n 3 → σ 3 k 20 = u_under σ (nI k) (n 2)) (ha : a < 12) (hQ : Q (u_og (u_gar W σ a (n 3))) (c_rM M A I σ)) : wp_X4_garageFor g (c_rM M A I σ) m (nI a) Q := by
  obtain ⟨⟨_, _, h7, h8, _, _, _, l2, l3, _⟩, _, _, r3, _⟩ := hr
  have H : ∀ d k : Nat, k + d = n 3 → wp_X4_garageFor_b5 g Q (d + 1) (c_rM M A I σ) m (nI a) (u_og (u_gar W σ a k)) (nI k) := by
    intro d
    induction d with
    | zero =>
      intro k hk
      have e : k = n 3 := by omega
      subst e
      simp (decide := true) only [wp_X4_garageFor_b5, rw_ofPatrol, rw_ofCall, rw_ofMember, rw_ofGarage, rw_laysPatrol, rw_laysCall, rw_addsMember, rM_tg, rM_gr, rM_ln, rM_m hA, rM_a hA, rM_at hA, rM_al hA, rM_gi0, rM_pi0, rM_le, hA, c_rn, c_rs, true_and, and_true, forall_const, Option.some.injEq, exists_eq_left', forall_eq, true_implies, vi_0_3, vi_1_3, vi_2_3, vi_0_4, vi_1_4, vi_2_4, vi_3_4, vi_0_13, vi_1_13, vi_2_13, vi_3_13, vi_4_13, vi_5_13, vi_6_13, vi_7_13, vi_8_13, vi_9_13, vi_10_13, vi_11_13, vi_12_13, vi_0_14, vi_1_14, vi_2_14, vi_3_14, vi_4_14, vi_5_14, vi_6_14, vi_7_14, vi_8_14, vi_9_14, vi_10_14, vi_11_14, vi_12_14, vi_13_14, vi_0_16, vi_1_16, vi_2_16, vi_3_16, vi_4_16, vi_5_16, vi_6_16, vi_7_16, vi_8_16, vi_9_16, vi_10_16, vi_11_16, vi_12_16, vi_13_16, vi_14_16, vi_15_16, vi_0_810, vi_1_810, vi_2_810, vi_3_810, vi_4_810, vi_5_810, vi_6_810, vi_7_810, vi_8_810, vi_9_810, vi_10_810, vi_11_810, vi_12_810, vi_13_810, vi_14_810, vi_15_810, vi_0_40, vi_1_40, vi_2_40, vi_3_40, vi_4_40, vi_5_40, vi_6_40, vi_7_40, vi_8_40, vi_9_40, vi_10_40, vi_11_40, vi_12_40, vi_13_40, vi_14_40, vi_15_40, vi_0_60, vi_1_60, vi_2_60, vi_3_60, vi_4_60, vi_5_60, vi_6_60, vi_7_60, vi_8_60, vi_9_60, vi_10_60, vi_11_60, vi_12_60, vi_13_60, vi_14_60, vi_15_60, vi_0_144, vi_1_144, vi_2_144, vi_3_144, vi_4_144, vi_5_144, vi_6_144, vi_7_144, vi_8_144, vi_9_144, vi_10_144, vi_11_144, vi_12_144, vi_13_144, vi_14_144, vi_15_144, vi_0_12, vi_1_12, vi_2_12, vi_3_12, vi_4_12, vi_5_12, vi_6_12, vi_7_12, vi_8_12, vi_9_12, vi_10_12, vi_11_12, cl_0, cl_1, cl_2, cl_3, cl_4, cl_5, cl_6, cl_7, cl_8, cl_9, cl_10, cl_11, cl_12, cl_13, cl_14, cl_15, cl_16, h8, pn_leT (show n 3 < 2147483648 by omega) (show n 3 < 2147483648 by omega) (Nat.le_refl _), not_true_eq_false, false_implies, hQ]
    | succ d ih =>
      intro k hk
      have hk5 : k < 5 := by omega
      have hk3 : k < n 3 := by omega
      have ih := ih (k + 1) (by omega)
      obtain ⟨b, hb, eb⟩ := r3 k hk3
      have hw : W a b ≤ 100000 := (hR a b ha hb).2.2.2
      have ew : u_w σ 3 k 0 = b := u_w_of eb (by omega)
      rw [wp_X4_garageFor_b5]
      simp (decide := true) only [rw_ofPatrol, rw_ofCall, rw_ofMember, rw_ofGarage, rw_laysPatrol, rw_laysCall, rw_addsMember, rM_tg, rM_gr, rM_ln, rM_m hA, rM_a hA, rM_at hA, rM_al hA, rM_gi0, rM_pi0, rM_le, hA, c_rn, c_rs, true_and, and_true, forall_const, Option.some.injEq, exists_eq_left', forall_eq, true_implies, vi_0_3, vi_1_3, vi_2_3, vi_0_4, vi_1_4, vi_2_4, vi_3_4, vi_0_13, vi_1_13, vi_2_13, vi_3_13, vi_4_13, vi_5_13, vi_6_13, vi_7_13, vi_8_13, vi_9_13, vi_10_13, vi_11_13, vi_12_13, vi_0_14, vi_1_14, vi_2_14, vi_3_14, vi_4_14, vi_5_14, vi_6_14, vi_7_14, vi_8_14, vi_9_14, vi_10_14, vi_11_14, vi_12_14, vi_13_14, vi_0_16, vi_1_16, vi_2_16, vi_3_16, vi_4_16, vi_5_16, vi_6_16, vi_7_16, vi_8_16, vi_9_16, vi_10_16, vi_11_16, vi_12_16, vi_13_16, vi_14_16, vi_15_16, vi_0_810, vi_1_810, vi_2_810, vi_3_810, vi_4_810, vi_5_810, vi_6_810, vi_7_810, vi_8_810, vi_9_810, vi_10_810, vi_11_810, vi_12_810, vi_13_810, vi_14_810, vi_15_810, vi_0_40, vi_1_40, vi_2_40, vi_3_40, vi_4_40, vi_5_40, vi_6_40, vi_7_40, vi_8_40, vi_9_40, vi_10_40, vi_11_40, vi_12_40, vi_13_40, vi_14_40, vi_15_40, vi_0_60, vi_1_60, vi_2_60, vi_3_60, vi_4_60, vi_5_60, vi_6_60, vi_7_60, vi_8_60, vi_9_60, vi_10_60, vi_11_60, vi_12_60, vi_13_60, vi_14_60, vi_15_60, vi_0_144, vi_1_144, vi_2_144, vi_3_144, vi_4_144, vi_5_144, vi_6_144, vi_7_144, vi_8_144, vi_9_144, vi_10_144, vi_11_144, vi_12_144, vi_13_144, vi_14_144, vi_15_144, vi_0_12, vi_1_12, vi_2_12, vi_3_12, vi_4_12, vi_5_12, vi_6_12, vi_7_12, vi_8_12, vi_9_12, vi_10_12, vi_11_12, cl_0, cl_1, cl_2, cl_3, cl_4, cl_5, cl_6, cl_7, cl_8, cl_9, cl_10, cl_11, cl_12, cl_13, cl_14, cl_15, cl_16, h8, hk5, pn_leF (show n 3 < 2147483648 by omega) (show k < 2147483648 by omega) hk3, not_false_eq_true, true_implies, false_implies, eb, r4_way hA hR ha hb, pn_F1 hw, wp_X4_garageFor_b61, wp_X4_garageFor_b62, not_true_eq_false, pn_succ]
      refine ⟨fun h => ?_, fun h => ?_⟩
      · rw [u_gar, ew, if_neg (fun z => by have := z.2.1; omega)] at ih
        exact ih
      · refine r4_underWay hA h7 l2 ?_
        simp (decide := true) only [rw_ofPatrol, rw_ofCall, rw_ofMember, rw_ofGarage, rw_laysPatrol, rw_laysCall, rw_addsMember, rM_tg, rM_gr, rM_ln, rM_m hA, rM_a hA, rM_at hA, rM_al hA, rM_gi0, rM_pi0, rM_le, hA, c_rn, c_rs, true_and, and_true, forall_const, Option.some.injEq, exists_eq_left', forall_eq, true_implies, vi_0_3, vi_1_3, vi_2_3, vi_0_4, vi_1_4, vi_2_4, vi_3_4, vi_0_13, vi_1_13, vi_2_13, vi_3_13, vi_4_13, vi_5_13, vi_6_13, vi_7_13, vi_8_13, vi_9_13, vi_10_13, vi_11_13, vi_12_13, vi_0_14, vi_1_14, vi_2_14, vi_3_14, vi_4_14, vi_5_14, vi_6_14, vi_7_14, vi_8_14, vi_9_14, vi_10_14, vi_11_14, vi_12_14, vi_13_14, vi_0_16, vi_1_16, vi_2_16, vi_3_16, vi_4_16, vi_5_16, vi_6_16, vi_7_16, vi_8_16, vi_9_16, vi_10_16, vi_11_16, vi_12_16, vi_13_16, vi_14_16, vi_15_16, vi_0_810, vi_1_810, vi_2_810, vi_3_810, vi_4_810, vi_5_810, vi_6_810, vi_7_810, vi_8_810, vi_9_810, vi_10_810, vi_11_810, vi_12_810, vi_13_810, vi_14_810, vi_15_810, vi_0_40, vi_1_40, vi_2_40, vi_3_40, vi_4_40, vi_5_40, vi_6_40, vi_7_40, vi_8_40, vi_9_40, vi_10_40, vi_11_40, vi_12_40, vi_13_40, vi_14_40, vi_15_40, vi_0_60, vi_1_60, vi_2_60, vi_3_60, vi_4_60, vi_5_60, vi_6_60, vi_7_60, vi_8_60, vi_9_60, vi_10_60, vi_11_60, vi_12_60, vi_13_60, vi_14_60, vi_15_60, vi_0_144, vi_1_144, vi_2_144, vi_3_144, vi_4_144, vi_5_144, vi_6_144, vi_7_144, vi_8_144, vi_9_144, vi_10_144, vi_11_144, vi_12_144, vi_13_144, vi_14_144, vi_15_144, vi_0_12, vi_1_12, vi_2_12, vi_3_12, vi_4_12, vi_5_12, vi_6_12, vi_7_12, vi_8_12, vi_9_12, vi_10_12, vi_11_12, cl_0, cl_1, cl_2, cl_3, cl_4, cl_5, cl_6, cl_7, cl_8, cl_9, cl_10, cl_11, cl_12, cl_13, cl_14, cl_15, cl_16, hk5, ← hu k hk3]
        refine ⟨fun h2 => ?_, fun h2 => ?_⟩
        · rw [u_gar, if_neg (fun z => Int32.not_le.mpr z.1 h2)] at ih
          exact ih
        · have h2' := Int32.not_le.mp h2
          have hF : W a b < 100000 := Nat.not_le.mp h
          cases hg : u_gar W σ a k with
          | none =>
            rw [u_gar, ew, hg, if_pos ⟨h2', hF, rfl⟩] at ih
            simp (decide := true) only [u_og, not_true_eq_false, true_implies, false_implies, true_and, and_true]
            exact ih
          | some c =>
            have hck := u_gar_lt hg
            obtain ⟨bc, hbc, ebc⟩ := r3 c (by omega)
            have hc5 : c < 5 := by omega
            have hwc : W a bc ≤ 100000 := (hR a bc ha hbc).2.2.2
            simp (decide := true) only [rw_ofPatrol, rw_ofCall, rw_ofMember, rw_ofGarage, rw_laysPatrol, rw_laysCall, rw_addsMember, rM_tg, rM_gr, rM_ln, rM_m hA, rM_a hA, rM_at hA, rM_al hA, rM_gi0, rM_pi0, rM_le, hA, c_rn, c_rs, true_and, and_true, forall_const, Option.some.injEq, exists_eq_left', forall_eq, true_implies, vi_0_3, vi_1_3, vi_2_3, vi_0_4, vi_1_4, vi_2_4, vi_3_4, vi_0_13, vi_1_13, vi_2_13, vi_3_13, vi_4_13, vi_5_13, vi_6_13, vi_7_13, vi_8_13, vi_9_13, vi_10_13, vi_11_13, vi_12_13, vi_0_14, vi_1_14, vi_2_14, vi_3_14, vi_4_14, vi_5_14, vi_6_14, vi_7_14, vi_8_14, vi_9_14, vi_10_14, vi_11_14, vi_12_14, vi_13_14, vi_0_16, vi_1_16, vi_2_16, vi_3_16, vi_4_16, vi_5_16, vi_6_16, vi_7_16, vi_8_16, vi_9_16, vi_10_16, vi_11_16, vi_12_16, vi_13_16, vi_14_16, vi_15_16, vi_0_810, vi_1_810, vi_2_810, vi_3_810, vi_4_810, vi_5_810, vi_6_810, vi_7_810, vi_8_810, vi_9_810, vi_10_810, vi_11_810, vi_12_810, vi_13_810, vi_14_810, vi_15_810, vi_0_40, vi_1_40, vi_2_40, vi_3_40, vi_4_40, vi_5_40, vi_6_40, vi_7_40, vi_8_40, vi_9_40, vi_10_40, vi_11_40, vi_12_40, vi_13_40, vi_14_40, vi_15_40, vi_0_60, vi_1_60, vi_2_60, vi_3_60, vi_4_60, vi_5_60, vi_6_60, vi_7_60, vi_8_60, vi_9_60, vi_10_60, vi_11_60, vi_12_60, vi_13_60, vi_14_60, vi_15_60, vi_0_144, vi_1_144, vi_2_144, vi_3_144, vi_4_144, vi_5_144, vi_6_144, vi_7_144, vi_8_144, vi_9_144, vi_10_144, vi_11_144, vi_12_144, vi_13_144, vi_14_144, vi_15_144, vi_0_12, vi_1_12, vi_2_12, vi_3_12, vi_4_12, vi_5_12, vi_6_12, vi_7_12, vi_8_12, vi_9_12, vi_10_12, vi_11_12, cl_0, cl_1, cl_2, cl_3, cl_4, cl_5, cl_6, cl_7, cl_8, cl_9, cl_10, cl_11, cl_12, cl_13, cl_14, cl_15, cl_16, u_og, u_og_ne (show c < 2147483648 by omega), not_false_eq_true, true_implies, false_implies, hc5, ebc, r4_way hA hR ha hbc, pn_lee (show W a bc ≤ 1000000 by omega) (show W a b ≤ 1000000 by omega)]
            rw [u_gar, ew, hg] at ih
            refine ⟨fun h3 => ?_, fun h3 => ?_⟩
            · rw [if_neg] at ih
              · exact ih
              · intro z
                have z3 := z.2.2
                simp only [u_less, decide_eq_true_eq, ew, u_w_of ebc (show bc < 2147483648 by omega)] at z3
                omega
            · rw [if_pos] at ih
              · exact ih
              · refine ⟨h2', hF, ?_⟩
                simp only [u_less, decide_eq_true_eq, ew, u_w_of ebc (show bc < 2147483648 by omega)]
                omega
  exact ⟨n 3 + 1, H (n 3) 0 (by omega)⟩
end
