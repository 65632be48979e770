/-! PURE: the reference's row of calls that wait, and who is sent -/
set_option maxRecDepth 100000
def u_b (b : Bool) : Int32 := if b = true then 1 else 0
theorem u_b1 : u_b true = 1 := rfl
theorem u_b0 : u_b false = 0 := rfl
/-- other places hold what they held -/
def u_Ieq (A : Nat → Nat) (m : Nat) (I J : Nat → Nat → Int32) : Prop := ∀ b j : Nat, b ≠ A 10 → ¬ (b = m ∧ j = 11) → J b j = I b j
theorem u_Ieq_rf {A : Nat → Nat} {m : Nat} {I : Nat → Nat → Int32} : u_Ieq A m I I := fun _ _ _ _ => rfl
theorem u_Ieq_tr {A : Nat → Nat} {m : Nat} {I J K : Nat → Nat → Int32} (h1 : u_Ieq A m I J) (h2 : u_Ieq A m J K) : u_Ieq A m I K := fun b j a c => (h2 b j a c).trans (h1 b j a c)
def u_rowI (I : Nat → Nat → Int32) (A : Nat → Nat) (m r : Nat) (f : Nat → Nat) : Prop := I m 11 = nI r ∧ ∀ k : Nat, k < r → I (A 10) k = nI (f k)
theorem u_row_lt {σ : Cn} : ∀ c : Nat, (u_row σ c).1 ≤ c ∧ ∀ k : Nat, k < (u_row σ c).1 → (u_row σ c).2 k < c := by
  intro c
  induction c with
  | zero => exact ⟨Nat.le_refl _, fun k h => absurd h (Nat.not_lt_zero _)⟩
  | succ c ih =>
    unfold u_row
    split
    · refine ⟨by have := ih.1; dsimp only; omega, fun k hk => ?_⟩
      dsimp only at hk ⊢
      have hpl : ∀ r : Nat, u_pl σ c (u_row σ c).2 r ≤ r := by
        intro r
        induction r with
        | zero => exact Nat.le_refl _
        | succ r ihr =>
          unfold u_pl
          split
          · omega
          · exact Nat.le_refl _
      have := hpl (u_row σ c).1
      unfold u_ins
      split
      · have := ih.2 k (by omega)
        omega
      · split
        · omega
        · have := ih.2 (k - 1) (by omega)
          omega
    · exact ⟨by have := ih.1; omega, fun k hk => by have := ih.2 k hk; omega⟩
section
variable {g : Nat → Nat} {M : Mem} {m : Nat} {A : Nat → Nat} {I : Nat → Nat → Int32} {σ σ' : Cn} {n : Nat → Nat} {D W : Nat → Nat → Nat}
theorem u_RI_eq {J : Nat → Nat → Int32} (hA : q_MA M m A) (h : u_Ieq A m I J) (hR : u_RI I A D W) : u_RI J A D W := by
  intro a b ha hb
  have n8 : A 8 ≠ A 10 := fun e => by have := hA.2.2 8 10 (by unfold q_isar; omega) (by unfold q_isar; omega) e; omega
  have n9 : A 9 ≠ A 10 := fun e => by have := hA.2.2 9 10 (by unfold q_isar; omega) (by unfold q_isar; omega) e; omega
  have m8 : A 8 ≠ m := fun e => q_mA hA (k := 8) (by unfold q_isar; omega) e.symm
  have m9 : A 9 ≠ m := fun e => q_mA hA (k := 9) (by unfold q_isar; omega) e.symm
  rw [h (A 8) _ n8 (fun z => m8 z.1), h (A 9) _ n9 (fun z => m9 z.1)]
  exact hR a b ha hb
theorem rM_pin {a k : Nat} {v : Int32} (h : a ≠ A 0) : m_pi (c_rM M A I σ) a k v = c_rM M A (q_up I a k v) σ := by
  unfold c_rM
  rw [q_piI]
  congr 1
  funext b j
  unfold q_up c_rE
  dsimp only
  by_cases hb : b = a ∧ j = k
  · rw [if_pos hb, if_neg (fun z => h (hb.1.symm.trans z)), if_pos hb]
  · rw [if_neg hb]
    split
    · rfl
    · rfl
theorem r4_rest {c : Nat} {Q : Int32 → Mem → Prop} (hA : q_MA M m A) (hc : c < 40) : wp_X4_rest g (c_rM M A I σ) m (nI c) Q = Q (u_rest σ c) (c_rM M A I σ) := by
  simp (decide := true) only [wp_X4_rest, hc, rw_ofPatrol, rw_ofCall, rw_ofMember, rw_ofGarage, rw_laysPatrol, rw_laysCall, rw_addsMember, rM_tg, rM_gr, rM_ln, rM_m hA, rM_a hA, rM_at hA, rM_al hA, rM_gi0, rM_pi0, rM_le, hA, c_rn, c_rs, true_and, and_true, forall_const, Option.some.injEq, exists_eq_left', forall_eq, true_implies, vi_0_3, vi_1_3, vi_2_3, vi_0_4, vi_1_4, vi_2_4, vi_3_4, vi_0_13, vi_1_13, vi_2_13, vi_3_13, vi_4_13, vi_5_13, vi_6_13, vi_7_13, vi_8_13, vi_9_13, vi_10_13, vi_11_13, vi_12_13, vi_0_14, vi_1_14, vi_2_14, vi_3_14, vi_4_14, vi_5_14, vi_6_14, vi_7_14, vi_8_14, vi_9_14, vi_10_14, vi_11_14, vi_12_14, vi_13_14, vi_0_16, vi_1_16, vi_2_16, vi_3_16, vi_4_16, vi_5_16, vi_6_16, vi_7_16, vi_8_16, vi_9_16, vi_10_16, vi_11_16, vi_12_16, vi_13_16, vi_14_16, vi_15_16, vi_0_810, vi_1_810, vi_2_810, vi_3_810, vi_4_810, vi_5_810, vi_6_810, vi_7_810, vi_8_810, vi_9_810, vi_10_810, vi_11_810, vi_12_810, vi_13_810, vi_14_810, vi_15_810, vi_0_40, vi_1_40, vi_2_40, vi_3_40, vi_4_40, vi_5_40, vi_6_40, vi_7_40, vi_8_40, vi_9_40, vi_10_40, vi_11_40, vi_12_40, vi_13_40, vi_14_40, vi_15_40, vi_0_60, vi_1_60, vi_2_60, vi_3_60, vi_4_60, vi_5_60, vi_6_60, vi_7_60, vi_8_60, vi_9_60, vi_10_60, vi_11_60, vi_12_60, vi_13_60, vi_14_60, vi_15_60, vi_0_144, vi_1_144, vi_2_144, vi_3_144, vi_4_144, vi_5_144, vi_6_144, vi_7_144, vi_8_144, vi_9_144, vi_10_144, vi_11_144, vi_12_144, vi_13_144, vi_14_144, vi_15_144, vi_0_12, vi_1_12, vi_2_12, vi_3_12, vi_4_12, vi_5_12, vi_6_12, vi_7_12, vi_8_12, vi_9_12, vi_10_12, vi_11_12, cl_0, cl_1, cl_2, cl_3, cl_4, cl_5, cl_6, cl_7, cl_8, cl_9, cl_10, cl_11, cl_12, cl_13, cl_14, cl_15, cl_16, u_rest]
theorem r4_waits {c : Nat} {Q : Int32 → Mem → Prop} (hA : q_MA M m A) (hc : c < 40) (hQ : Q (u_b (u_waits σ c)) (c_rM M A I σ)) : wp_X4_waits g (c_rM M A I σ) m (nI c) Q := by
  simp (decide := true) only [wp_X4_waits, hc, rw_ofPatrol, rw_ofCall, rw_ofMember, rw_ofGarage, rw_laysPatrol, rw_laysCall, rw_addsMember, rM_tg, rM_gr, rM_ln, rM_m hA, rM_a hA, rM_at hA, rM_al hA, rM_gi0, rM_pi0, rM_le, hA, c_rn, c_rs, true_and, and_true, forall_const, Option.some.injEq, exists_eq_left', forall_eq, true_implies, vi_0_3, vi_1_3, vi_2_3, vi_0_4, vi_1_4, vi_2_4, vi_3_4, vi_0_13, vi_1_13, vi_2_13, vi_3_13, vi_4_13, vi_5_13, vi_6_13, vi_7_13, vi_8_13, vi_9_13, vi_10_13, vi_11_13, vi_12_13, vi_0_14, vi_1_14, vi_2_14, vi_3_14, vi_4_14, vi_5_14, vi_6_14, vi_7_14, vi_8_14, vi_9_14, vi_10_14, vi_11_14, vi_12_14, vi_13_14, vi_0_16, vi_1_16, vi_2_16, vi_3_16, vi_4_16, vi_5_16, vi_6_16, vi_7_16, vi_8_16, vi_9_16, vi_10_16, vi_11_16, vi_12_16, vi_13_16, vi_14_16, vi_15_16, vi_0_810, vi_1_810, vi_2_810, vi_3_810, vi_4_810, vi_5_810, vi_6_810, vi_7_810, vi_8_810, vi_9_810, vi_10_810, vi_11_810, vi_12_810, vi_13_810, vi_14_810, vi_15_810, vi_0_40, vi_1_40, vi_2_40, vi_3_40, vi_4_40, vi_5_40, vi_6_40, vi_7_40, vi_8_40, vi_9_40, vi_10_40, vi_11_40, vi_12_40, vi_13_40, vi_14_40, vi_15_40, vi_0_60, vi_1_60, vi_2_60, vi_3_60, vi_4_60, vi_5_60, vi_6_60, vi_7_60, vi_8_60, vi_9_60, vi_10_60, vi_11_60, vi_12_60, vi_13_60, vi_14_60, vi_15_60, vi_0_144, vi_1_144, vi_2_144, vi_3_144, vi_4_144, vi_5_144, vi_6_144, vi_7_144, vi_8_144, vi_9_144, vi_10_144, vi_11_144, vi_12_144, vi_13_144, vi_14_144, vi_15_144, vi_0_12, vi_1_12, vi_2_12, vi_3_12, vi_4_12, vi_5_12, vi_6_12, vi_7_12, vi_8_12, vi_9_12, vi_10_12, vi_11_12, cl_0, cl_1, cl_2, cl_3, cl_4, cl_5, cl_6, cl_7, cl_8, cl_9, cl_10, cl_11, cl_12, cl_13, cl_14, cl_15, cl_16]
  unfold u_waits at hQ
  refine ⟨fun h => ?_, fun h => ⟨fun h2 => ?_, fun h2 => ⟨fun h3 => ?_, fun h3 => ?_⟩⟩⟩
  · rw [decide_eq_true (Or.inl h)] at hQ
    exact hQ
  · rw [decide_eq_false (fun z => z.elim h (fun y => h2 y.1))] at hQ
    exact hQ
  · rw [decide_eq_false (fun z => z.elim h (fun y => h3 y.2))] at hQ
    exact hQ
  · rw [decide_eq_true (Or.inr ⟨h2, h3⟩)] at hQ
    exact hQ
theorem r4_isAhead {c d k l : Nat} {Q : Int32 → Mem → Prop} (hA : q_MA M m A) (hc : c < 40) (hd : d < 40) (e1 : σ 4 c 0 = nI k) (e2 : σ 4 d 0 = nI l) (hk : k < 20) (hl : l < 20) (hQ : Q (u_b (u_ahead σ c d)) (c_rM M A I σ)) : wp_X4_isAhead g (c_rM M A I σ) m (nI c) (nI d) Q := by
  simp (decide := true) only [wp_X4_isAhead, hc, hd, hk, hl, e1, e2, r4_rest hA hc, r4_rest hA hd, rw_ofPatrol, rw_ofCall, rw_ofMember, rw_ofGarage, rw_laysPatrol, rw_laysCall, rw_addsMember, rM_tg, rM_gr, rM_ln, rM_m hA, rM_a hA, rM_at hA, rM_al hA, rM_gi0, rM_pi0, rM_le, hA, c_rn, c_rs, true_and, and_true, forall_const, Option.some.injEq, exists_eq_left', forall_eq, true_implies, vi_0_3, vi_1_3, vi_2_3, vi_0_4, vi_1_4, vi_2_4, vi_3_4, vi_0_13, vi_1_13, vi_2_13, vi_3_13, vi_4_13, vi_5_13, vi_6_13, vi_7_13, vi_8_13, vi_9_13, vi_10_13, vi_11_13, vi_12_13, vi_0_14, vi_1_14, vi_2_14, vi_3_14, vi_4_14, vi_5_14, vi_6_14, vi_7_14, vi_8_14, vi_9_14, vi_10_14, vi_11_14, vi_12_14, vi_13_14, vi_0_16, vi_1_16, vi_2_16, vi_3_16, vi_4_16, vi_5_16, vi_6_16, vi_7_16, vi_8_16, vi_9_16, vi_10_16, vi_11_16, vi_12_16, vi_13_16, vi_14_16, vi_15_16, vi_0_810, vi_1_810, vi_2_810, vi_3_810, vi_4_810, vi_5_810, vi_6_810, vi_7_810, vi_8_810, vi_9_810, vi_10_810, vi_11_810, vi_12_810, vi_13_810, vi_14_810, vi_15_810, vi_0_40, vi_1_40, vi_2_40, vi_3_40, vi_4_40, vi_5_40, vi_6_40, vi_7_40, vi_8_40, vi_9_40, vi_10_40, vi_11_40, vi_12_40, vi_13_40, vi_14_40, vi_15_40, vi_0_60, vi_1_60, vi_2_60, vi_3_60, vi_4_60, vi_5_60, vi_6_60, vi_7_60, vi_8_60, vi_9_60, vi_10_60, vi_11_60, vi_12_60, vi_13_60, vi_14_60, vi_15_60, vi_0_144, vi_1_144, vi_2_144, vi_3_144, vi_4_144, vi_5_144, vi_6_144, vi_7_144, vi_8_144, vi_9_144, vi_10_144, vi_11_144, vi_12_144, vi_13_144, vi_14_144, vi_15_144, vi_0_12, vi_1_12, vi_2_12, vi_3_12, vi_4_12, vi_5_12, vi_6_12, vi_7_12, vi_8_12, vi_9_12, vi_10_12, vi_11_12, cl_0, cl_1, cl_2, cl_3, cl_4, cl_5, cl_6, cl_7, cl_8, cl_9, cl_10, cl_11, cl_12, cl_13, cl_14, cl_15, cl_16, pn_lee (show d ≤ 1000000 by omega) (show c ≤ 1000000 by omega)]
  unfold u_ahead at hQ
  rw [u_w_of e1 (by omega), u_w_of e2 (by omega)] at hQ
  refine ⟨fun h => ⟨fun h2 => ⟨fun h3 => ?_, fun h3 => ?_⟩, fun h2 => ⟨fun h3 => ?_, fun h3 => ?_⟩⟩, fun h => ⟨fun h2 => ?_, fun h2 => ?_⟩⟩
  · rw [if_pos h, if_pos h2, decide_eq_false (by omega)] at hQ
    exact hQ
  · rw [if_pos h, if_pos h2, decide_eq_true (by omega)] at hQ
    exact hQ
  · rw [if_pos h, if_neg h2, decide_eq_false (Int32.not_lt.mpr h3)] at hQ
    exact hQ
  · rw [if_pos h, if_neg h2, decide_eq_true (Int32.not_le.mp h3)] at hQ
    exact hQ
  · rw [if_neg h, decide_eq_false (Int32.not_lt.mpr h2)] at hQ
    exact hQ
  · rw [if_neg h, decide_eq_true (Int32.not_le.mp h2)] at hQ
    exact hQ
theorem rM_10 (hA : q_MA M m A) : m_gr M m 10 = some (A 10) ∧ m_tg M (A 10) = 101 ∧ m_ln M (A 10) = 40 ∧ A 10 ≠ A 0 ∧ m ≠ A 0 ∧ m ≠ A 10 := by
  obtain ⟨b1, b2, b3⟩ := hA.2.1 10 (by unfold q_isar; omega)
  exact ⟨b1, b2, b3, fun e => by have := hA.2.2 10 0 (by unfold q_isar; omega) (by unfold q_isar; omega) e; omega, q_mA hA (k := 0) (by unfold q_isar; omega), q_mA hA (k := 10) (by unfold q_isar; omega)⟩
theorem r4_row71 {c k r : Nat} {f : Nat → Nat} {Q : Mem → Prop} {k7 : Mem → Nat → Int32 → Prop} (hA : q_MA M m A) (hr : r < 40) (hk : k ≤ r) (h1 : ∀ j : Nat, j < k → I (A 10) j = nI (f j)) (h2 : ∀ j : Nat, k < j → j ≤ r → I (A 10) j = nI (f (j - 1))) (h3 : I m 11 = nI r)
    (hQ : ∀ J, u_Ieq A m I J → u_rowI J A m (r + 1) (u_ins f k c) → k7 (c_rM M A J σ) m (nI (c + 1))) : wp_X4_laysRow_b71 g k7 (c_rM M A I σ) m (nI c) (nI k) Q := by
  obtain ⟨b1, b2, b3, n10, nm, nm10⟩ := rM_10 hA
  have hv : vp_in (nI k) 40 := (pn_in (by omega)).mpr (by omega)
  have hcl : (nI k).toNatClampNeg = k := pn_cl (by omega)
  simp (decide := true) only [wp_X4_laysRow_b71, b1, b2, b3, hv, hcl, rM_pin n10, rM_pin nm, rM_gi_ne nm, pn_succ, rw_ofPatrol, rw_ofCall, rw_ofMember, rw_ofGarage, rw_laysPatrol, rw_laysCall, rw_addsMember, rM_tg, rM_gr, rM_ln, rM_m hA, rM_a hA, rM_at hA, rM_al hA, rM_gi0, rM_pi0, rM_le, hA, c_rn, c_rs, true_and, and_true, forall_const, Option.some.injEq, exists_eq_left', forall_eq, true_implies, vi_0_3, vi_1_3, vi_2_3, vi_0_4, vi_1_4, vi_2_4, vi_3_4, vi_0_13, vi_1_13, vi_2_13, vi_3_13, vi_4_13, vi_5_13, vi_6_13, vi_7_13, vi_8_13, vi_9_13, vi_10_13, vi_11_13, vi_12_13, vi_0_14, vi_1_14, vi_2_14, vi_3_14, vi_4_14, vi_5_14, vi_6_14, vi_7_14, vi_8_14, vi_9_14, vi_10_14, vi_11_14, vi_12_14, vi_13_14, vi_0_16, vi_1_16, vi_2_16, vi_3_16, vi_4_16, vi_5_16, vi_6_16, vi_7_16, vi_8_16, vi_9_16, vi_10_16, vi_11_16, vi_12_16, vi_13_16, vi_14_16, vi_15_16, vi_0_810, vi_1_810, vi_2_810, vi_3_810, vi_4_810, vi_5_810, vi_6_810, vi_7_810, vi_8_810, vi_9_810, vi_10_810, vi_11_810, vi_12_810, vi_13_810, vi_14_810, vi_15_810, vi_0_40, vi_1_40, vi_2_40, vi_3_40, vi_4_40, vi_5_40, vi_6_40, vi_7_40, vi_8_40, vi_9_40, vi_10_40, vi_11_40, vi_12_40, vi_13_40, vi_14_40, vi_15_40, vi_0_60, vi_1_60, vi_2_60, vi_3_60, vi_4_60, vi_5_60, vi_6_60, vi_7_60, vi_8_60, vi_9_60, vi_10_60, vi_11_60, vi_12_60, vi_13_60, vi_14_60, vi_15_60, vi_0_144, vi_1_144, vi_2_144, vi_3_144, vi_4_144, vi_5_144, vi_6_144, vi_7_144, vi_8_144, vi_9_144, vi_10_144, vi_11_144, vi_12_144, vi_13_144, vi_14_144, vi_15_144, vi_0_12, vi_1_12, vi_2_12, vi_3_12, vi_4_12, vi_5_12, vi_6_12, vi_7_12, vi_8_12, vi_9_12, vi_10_12, vi_11_12, cl_0, cl_1, cl_2, cl_3, cl_4, cl_5, cl_6, cl_7, cl_8, cl_9, cl_10, cl_11, cl_12, cl_13, cl_14, cl_15, cl_16]
  refine hQ _ (fun b j hb hj => ?_) ⟨?_, fun j hj => ?_⟩
  · unfold q_up
    rw [if_neg hj, if_neg (fun z => hb z.1)]
  · unfold q_up
    rw [if_pos ⟨rfl, rfl⟩, if_neg (fun z => nm10 z.1), h3]
    exact pn_add r 1
  · unfold q_up
    rw [if_neg (fun z => nm10 z.1.symm)]
    unfold u_ins
    by_cases hjk : j = k
    · rw [if_pos ⟨rfl, hjk⟩, if_neg (by omega), if_pos hjk]
    · rw [if_neg (fun z => hjk z.2)]
      by_cases hlt : j < k
      · rw [if_pos hlt, h1 j hlt]
      · rw [if_neg hlt, if_neg hjk, h2 j (by omega) (by omega)]
theorem r4_row31 {c r : Nat} {f : Nat → Nat} {Q : Mem → Prop} {k7 : Mem → Nat → Int32 → Prop} (hA : q_MA M m A) (hr : r < 40) (hc : c < 40) (hf : ∀ j : Nat, j < r → f j < 40 ∧ ∃ l : Nat, l < 20 ∧ σ 4 (f j) 0 = nI l) (hm : ∃ l : Nat, l < 20 ∧ σ 4 c 0 = nI l) :
    ∀ (k : Nat) (I : Nat → Nat → Int32), k ≤ r → (∀ j : Nat, j < k → I (A 10) j = nI (f j)) → (∀ j : Nat, k < j → j ≤ r → I (A 10) j = nI (f (j - 1))) → I m 11 = nI r → (∀ J, u_Ieq A m I J → u_rowI J A m (r + 1) (u_ins f (u_pl σ c f k) c) → k7 (c_rM M A J σ) m (nI (c + 1))) → wp_X4_laysRow_b31 g k7 Q (k + 1) (c_rM M A I σ) m (nI c) (nI k) := by
  obtain ⟨b1, b2, b3, n10, nm, nm10⟩ := rM_10 hA
  obtain ⟨l, hl, el⟩ := hm
  intro k
  induction k with
  | zero =>
    intro I hk h1 h2 h3 hQ
    exact ⟨fun _ => r4_row71 hA hr hk h1 h2 h3 hQ, fun h => absurd (by decide) h⟩
  | succ k ih =>
    intro I hk h1 h2 h3 hQ
    have hk0 : (nI (k + 1) ≤ 0) = False := pn_leF (b := 0) (by omega) (by omega) (by omega)
    have hk1 : nI (k + 1) - 1 = nI k := pn_sub (b := 1) (by omega)
    have hk2 : nI (k + 1) + (-1) = nI k := by
      rw [← pn_succ, Int32.add_assoc, show (1 : Int32) + (-1) = 0 from rfl, Int32.add_zero]
    have hv : vp_in (nI k) 40 := (pn_in (by omega)).mpr (by omega)
    have hv1 : vp_in (nI (k + 1)) 40 := (pn_in (by omega)).mpr (by omega)
    have hcl : (nI k).toNatClampNeg = k := pn_cl (by omega)
    have hcl1 : (nI (k + 1)).toNatClampNeg = k + 1 := pn_cl (by omega)
    obtain ⟨hfk, lf, hlf, elf⟩ := hf k (by omega)
    have hg : m_gi (c_rM M A I σ) (A 10) k = nI (f k) := by rw [rM_gi_ne n10]; exact h1 k (by omega)
    rw [wp_X4_laysRow_b31]
    simp (decide := true) only [hk0, hk1, hk2, false_implies, not_false_eq_true, b1, b2, b3, hv, hv1, hcl, hcl1, hg, rw_ofPatrol, rw_ofCall, rw_ofMember, rw_ofGarage, rw_laysPatrol, rw_laysCall, rw_addsMember, rM_tg, rM_gr, rM_ln, rM_m hA, rM_a hA, rM_at hA, rM_al hA, rM_gi0, rM_pi0, rM_le, hA, c_rn, c_rs, true_and, and_true, forall_const, Option.some.injEq, exists_eq_left', forall_eq, true_implies, vi_0_3, vi_1_3, vi_2_3, vi_0_4, vi_1_4, vi_2_4, vi_3_4, vi_0_13, vi_1_13, vi_2_13, vi_3_13, vi_4_13, vi_5_13, vi_6_13, vi_7_13, vi_8_13, vi_9_13, vi_10_13, vi_11_13, vi_12_13, vi_0_14, vi_1_14, vi_2_14, vi_3_14, vi_4_14, vi_5_14, vi_6_14, vi_7_14, vi_8_14, vi_9_14, vi_10_14, vi_11_14, vi_12_14, vi_13_14, vi_0_16, vi_1_16, vi_2_16, vi_3_16, vi_4_16, vi_5_16, vi_6_16, vi_7_16, vi_8_16, vi_9_16, vi_10_16, vi_11_16, vi_12_16, vi_13_16, vi_14_16, vi_15_16, vi_0_810, vi_1_810, vi_2_810, vi_3_810, vi_4_810, vi_5_810, vi_6_810, vi_7_810, vi_8_810, vi_9_810, vi_10_810, vi_11_810, vi_12_810, vi_13_810, vi_14_810, vi_15_810, vi_0_40, vi_1_40, vi_2_40, vi_3_40, vi_4_40, vi_5_40, vi_6_40, vi_7_40, vi_8_40, vi_9_40, vi_10_40, vi_11_40, vi_12_40, vi_13_40, vi_14_40, vi_15_40, vi_0_60, vi_1_60, vi_2_60, vi_3_60, vi_4_60, vi_5_60, vi_6_60, vi_7_60, vi_8_60, vi_9_60, vi_10_60, vi_11_60, vi_12_60, vi_13_60, vi_14_60, vi_15_60, vi_0_144, vi_1_144, vi_2_144, vi_3_144, vi_4_144, vi_5_144, vi_6_144, vi_7_144, vi_8_144, vi_9_144, vi_10_144, vi_11_144, vi_12_144, vi_13_144, vi_14_144, vi_15_144, vi_0_12, vi_1_12, vi_2_12, vi_3_12, vi_4_12, vi_5_12, vi_6_12, vi_7_12, vi_8_12, vi_9_12, vi_10_12, vi_11_12, cl_0, cl_1, cl_2, cl_3, cl_4, cl_5, cl_6, cl_7, cl_8, cl_9, cl_10, cl_11, cl_12, cl_13, cl_14, cl_15, cl_16, rM_pin n10]
    refine r4_isAhead hA hc hfk el elf hl hlf ?_
    have hpl : u_pl σ c f (k + 1) = if u_ahead σ c (f k) = true then u_pl σ c f k else k + 1 := rfl
    cases ha : u_ahead σ c (f k) with
    | false =>
      rw [ha, if_neg (by decide)] at hpl
      rw [hpl] at hQ
      simp (decide := true) only [u_b0, rw_ofPatrol, rw_ofCall, rw_ofMember, rw_ofGarage, rw_laysPatrol, rw_laysCall, rw_addsMember, rM_tg, rM_gr, rM_ln, rM_m hA, rM_a hA, rM_at hA, rM_al hA, rM_gi0, rM_pi0, rM_le, hA, c_rn, c_rs, true_and, and_true, forall_const, Option.some.injEq, exists_eq_left', forall_eq, true_implies, vi_0_3, vi_1_3, vi_2_3, vi_0_4, vi_1_4, vi_2_4, vi_3_4, vi_0_13, vi_1_13, vi_2_13, vi_3_13, vi_4_13, vi_5_13, vi_6_13, vi_7_13, vi_8_13, vi_9_13, vi_10_13, vi_11_13, vi_12_13, vi_0_14, vi_1_14, vi_2_14, vi_3_14, vi_4_14, vi_5_14, vi_6_14, vi_7_14, vi_8_14, vi_9_14, vi_10_14, vi_11_14, vi_12_14, vi_13_14, vi_0_16, vi_1_16, vi_2_16, vi_3_16, vi_4_16, vi_5_16, vi_6_16, vi_7_16, vi_8_16, vi_9_16, vi_10_16, vi_11_16, vi_12_16, vi_13_16, vi_14_16, vi_15_16, vi_0_810, vi_1_810, vi_2_810, vi_3_810, vi_4_810, vi_5_810, vi_6_810, vi_7_810, vi_8_810, vi_9_810, vi_10_810, vi_11_810, vi_12_810, vi_13_810, vi_14_810, vi_15_810, vi_0_40, vi_1_40, vi_2_40, vi_3_40, vi_4_40, vi_5_40, vi_6_40, vi_7_40, vi_8_40, vi_9_40, vi_10_40, vi_11_40, vi_12_40, vi_13_40, vi_14_40, vi_15_40, vi_0_60, vi_1_60, vi_2_60, vi_3_60, vi_4_60, vi_5_60, vi_6_60, vi_7_60, vi_8_60, vi_9_60, vi_10_60, vi_11_60, vi_12_60, vi_13_60, vi_14_60, vi_15_60, vi_0_144, vi_1_144, vi_2_144, vi_3_144, vi_4_144, vi_5_144, vi_6_144, vi_7_144, vi_8_144, vi_9_144, vi_10_144, vi_11_144, vi_12_144, vi_13_144, vi_14_144, vi_15_144, vi_0_12, vi_1_12, vi_2_12, vi_3_12, vi_4_12, vi_5_12, vi_6_12, vi_7_12, vi_8_12, vi_9_12, vi_10_12, vi_11_12, cl_0, cl_1, cl_2, cl_3, cl_4, cl_5, cl_6, cl_7, cl_8, cl_9, cl_10, cl_11, cl_12, cl_13, cl_14, cl_15, cl_16, false_implies, true_implies, not_true_eq_false, not_false_eq_true]
      exact r4_row71 hA hr hk h1 h2 h3 hQ
    | true =>
      rw [ha, if_pos rfl] at hpl
      rw [hpl] at hQ
      simp (decide := true) only [u_b1, b1, b2, b3, hv, hv1, hg, rM_pin n10, rw_ofPatrol, rw_ofCall, rw_ofMember, rw_ofGarage, rw_laysPatrol, rw_laysCall, rw_addsMember, rM_tg, rM_gr, rM_ln, rM_m hA, rM_a hA, rM_at hA, rM_al hA, rM_gi0, rM_pi0, rM_le, hA, c_rn, c_rs, true_and, and_true, forall_const, Option.some.injEq, exists_eq_left', forall_eq, true_implies, vi_0_3, vi_1_3, vi_2_3, vi_0_4, vi_1_4, vi_2_4, vi_3_4, vi_0_13, vi_1_13, vi_2_13, vi_3_13, vi_4_13, vi_5_13, vi_6_13, vi_7_13, vi_8_13, vi_9_13, vi_10_13, vi_11_13, vi_12_13, vi_0_14, vi_1_14, vi_2_14, vi_3_14, vi_4_14, vi_5_14, vi_6_14, vi_7_14, vi_8_14, vi_9_14, vi_10_14, vi_11_14, vi_12_14, vi_13_14, vi_0_16, vi_1_16, vi_2_16, vi_3_16, vi_4_16, vi_5_16, vi_6_16, vi_7_16, vi_8_16, vi_9_16, vi_10_16, vi_11_16, vi_12_16, vi_13_16, vi_14_16, vi_15_16, vi_0_810, vi_1_810, vi_2_810, vi_3_810, vi_4_810, vi_5_810, vi_6_810, vi_7_810, vi_8_810, vi_9_810, vi_10_810, vi_11_810, vi_12_810, vi_13_810, vi_14_810, vi_15_810, vi_0_40, vi_1_40, vi_2_40, vi_3_40, vi_4_40, vi_5_40, vi_6_40, vi_7_40, vi_8_40, vi_9_40, vi_10_40, vi_11_40, vi_12_40, vi_13_40, vi_14_40, vi_15_40, vi_0_60, vi_1_60, vi_2_60, vi_3_60, vi_4_60, vi_5_60, vi_6_60, vi_7_60, vi_8_60, vi_9_60, vi_10_60, vi_11_60, vi_12_60, vi_13_60, vi_14_60, vi_15_60, vi_0_144, vi_1_144, vi_2_144, vi_3_144, vi_4_144, vi_5_144, vi_6_144, vi_7_144, vi_8_144, vi_9_144, vi_10_144, vi_11_144, vi_12_144, vi_13_144, vi_14_144, vi_15_144, vi_0_12, vi_1_12, vi_2_12, vi_3_12, vi_4_12, vi_5_12, vi_6_12, vi_7_12, vi_8_12, vi_9_12, vi_10_12, vi_11_12, cl_0, cl_1, cl_2, cl_3, cl_4, cl_5, cl_6, cl_7, cl_8, cl_9, cl_10, cl_11, cl_12, cl_13, cl_14, cl_15, cl_16, false_implies, true_implies, not_true_eq_false, not_false_eq_true]
      refine ih _ (by omega) (fun j hj => ?_) (fun j hj1 hj2 => ?_) ?_ (fun J hJ hJ2 => hQ J (fun b j hb hj => ?_) hJ2)
      · unfold q_up
        rw [if_neg (by omega)]
        exact h1 j (by omega)
      · unfold q_up
        by_cases hjk : j = k + 1
        · rw [if_pos ⟨rfl, hjk⟩, hjk]
          rfl
        · rw [if_neg (fun z => hjk z.2)]
          exact h2 j (by omega) hj2
      · unfold q_up
        rw [if_neg (fun z => nm10 z.1)]
        exact h3
      · rw [hJ b j hb hj]
        unfold q_up
        rw [if_neg (fun z => hb z.1)]
theorem r4_laysRow {Q : Mem → Prop} (hA : q_MA M m A) (hr : u_R n σ) (hQ : ∀ J, u_Ieq A m I J → u_rowI J A m (u_row σ (n 4)).1 (u_row σ (n 4)).2 → Q (c_rM M A J σ)) : wp_X4_laysRow g (c_rM M A I σ) m Q := by
  obtain ⟨b1, b2, b3, n10, nm, nm10⟩ := rM_10 hA
  obtain ⟨⟨_, _, _, _, h9, _, l1, _, _, l4⟩, _, _, _, r4⟩ := hr
  have hmem : ∀ c : Nat, c < n 4 → ∃ l : Nat, l < 20 ∧ σ 4 c 0 = nI l := fun c hc => by
    obtain ⟨_, _, ⟨k, hk, ek⟩, _⟩ := r4 c hc
    exact ⟨k, by omega, ek⟩
  have H : ∀ (d c : Nat), c + d = n 4 → ∀ J, u_Ieq A m I J → u_rowI J A m (u_row σ c).1 (u_row σ c).2 → wp_X4_laysRow_b7 g Q (d + 1) (c_rM M A J σ) m (nI c) := by
    intro d
    induction d with
    | zero =>
      intro c hc J hJ hJ2
      have e : c = n 4 := by omega
      subst e
      simp (decide := true) only [wp_X4_laysRow_b7, rw_ofPatrol, rw_ofCall, rw_ofMember, rw_ofGarage, rw_laysPatrol, rw_laysCall, rw_addsMember, rM_tg, rM_gr, rM_ln, rM_m hA, rM_a hA, rM_at hA, rM_al hA, rM_gi0, rM_pi0, rM_le, hA, c_rn, c_rs, true_and, and_true, forall_const, Option.some.injEq, exists_eq_left', forall_eq, true_implies, vi_0_3, vi_1_3, vi_2_3, vi_0_4, vi_1_4, vi_2_4, vi_3_4, vi_0_13, vi_1_13, vi_2_13, vi_3_13, vi_4_13, vi_5_13, vi_6_13, vi_7_13, vi_8_13, vi_9_13, vi_10_13, vi_11_13, vi_12_13, vi_0_14, vi_1_14, vi_2_14, vi_3_14, vi_4_14, vi_5_14, vi_6_14, vi_7_14, vi_8_14, vi_9_14, vi_10_14, vi_11_14, vi_12_14, vi_13_14, vi_0_16, vi_1_16, vi_2_16, vi_3_16, vi_4_16, vi_5_16, vi_6_16, vi_7_16, vi_8_16, vi_9_16, vi_10_16, vi_11_16, vi_12_16, vi_13_16, vi_14_16, vi_15_16, vi_0_810, vi_1_810, vi_2_810, vi_3_810, vi_4_810, vi_5_810, vi_6_810, vi_7_810, vi_8_810, vi_9_810, vi_10_810, vi_11_810, vi_12_810, vi_13_810, vi_14_810, vi_15_810, vi_0_40, vi_1_40, vi_2_40, vi_3_40, vi_4_40, vi_5_40, vi_6_40, vi_7_40, vi_8_40, vi_9_40, vi_10_40, vi_11_40, vi_12_40, vi_13_40, vi_14_40, vi_15_40, vi_0_60, vi_1_60, vi_2_60, vi_3_60, vi_4_60, vi_5_60, vi_6_60, vi_7_60, vi_8_60, vi_9_60, vi_10_60, vi_11_60, vi_12_60, vi_13_60, vi_14_60, vi_15_60, vi_0_144, vi_1_144, vi_2_144, vi_3_144, vi_4_144, vi_5_144, vi_6_144, vi_7_144, vi_8_144, vi_9_144, vi_10_144, vi_11_144, vi_12_144, vi_13_144, vi_14_144, vi_15_144, vi_0_12, vi_1_12, vi_2_12, vi_3_12, vi_4_12, vi_5_12, vi_6_12, vi_7_12, vi_8_12, vi_9_12, vi_10_12, vi_11_12, cl_0, cl_1, cl_2, cl_3, cl_4, cl_5, cl_6, cl_7, cl_8, cl_9, cl_10, cl_11, cl_12, cl_13, cl_14, cl_15, cl_16, h9, pn_leT (show n 4 < 2147483648 by omega) (show n 4 < 2147483648 by omega) (Nat.le_refl _), not_true_eq_false, false_implies, hQ J hJ hJ2]
    | succ d ih =>
      intro c hc J hJ hJ2
      have hc40 : c < 40 := by omega
      rw [wp_X4_laysRow_b7]
      simp (decide := true) only [rw_ofPatrol, rw_ofCall, rw_ofMember, rw_ofGarage, rw_laysPatrol, rw_laysCall, rw_addsMember, rM_tg, rM_gr, rM_ln, rM_m hA, rM_a hA, rM_at hA, rM_al hA, rM_gi0, rM_pi0, rM_le, hA, c_rn, c_rs, true_and, and_true, forall_const, Option.some.injEq, exists_eq_left', forall_eq, true_implies, vi_0_3, vi_1_3, vi_2_3, vi_0_4, vi_1_4, vi_2_4, vi_3_4, vi_0_13, vi_1_13, vi_2_13, vi_3_13, vi_4_13, vi_5_13, vi_6_13, vi_7_13, vi_8_13, vi_9_13, vi_10_13, vi_11_13, vi_12_13, vi_0_14, vi_1_14, vi_2_14, vi_3_14, vi_4_14, vi_5_14, vi_6_14, vi_7_14, vi_8_14, vi_9_14, vi_10_14, vi_11_14, vi_12_14, vi_13_14, vi_0_16, vi_1_16, vi_2_16, vi_3_16, vi_4_16, vi_5_16, vi_6_16, vi_7_16, vi_8_16, vi_9_16, vi_10_16, vi_11_16, vi_12_16, vi_13_16, vi_14_16, vi_15_16, vi_0_810, vi_1_810, vi_2_810, vi_3_810, vi_4_810, vi_5_810, vi_6_810, vi_7_810, vi_8_810, vi_9_810, vi_10_810, vi_11_810, vi_12_810, vi_13_810, vi_14_810, vi_15_810, vi_0_40, vi_1_40, vi_2_40, vi_3_40, vi_4_40, vi_5_40, vi_6_40, vi_7_40, vi_8_40, vi_9_40, vi_10_40, vi_11_40, vi_12_40, vi_13_40, vi_14_40, vi_15_40, vi_0_60, vi_1_60, vi_2_60, vi_3_60, vi_4_60, vi_5_60, vi_6_60, vi_7_60, vi_8_60, vi_9_60, vi_10_60, vi_11_60, vi_12_60, vi_13_60, vi_14_60, vi_15_60, vi_0_144, vi_1_144, vi_2_144, vi_3_144, vi_4_144, vi_5_144, vi_6_144, vi_7_144, vi_8_144, vi_9_144, vi_10_144, vi_11_144, vi_12_144, vi_13_144, vi_14_144, vi_15_144, vi_0_12, vi_1_12, vi_2_12, vi_3_12, vi_4_12, vi_5_12, vi_6_12, vi_7_12, vi_8_12, vi_9_12, vi_10_12, vi_11_12, cl_0, cl_1, cl_2, cl_3, cl_4, cl_5, cl_6, cl_7, cl_8, cl_9, cl_10, cl_11, cl_12, cl_13, cl_14, cl_15, cl_16, h9, pn_leF (show n 4 < 2147483648 by omega) (show c < 2147483648 by omega) (show c < n 4 by omega), false_implies, not_false_eq_true]
      refine r4_waits hA hc40 ?_
      cases hw : u_waits σ c with
      | false =>
        simp (decide := true) only [u_b0, rw_ofPatrol, rw_ofCall, rw_ofMember, rw_ofGarage, rw_laysPatrol, rw_laysCall, rw_addsMember, rM_tg, rM_gr, rM_ln, rM_m hA, rM_a hA, rM_at hA, rM_al hA, rM_gi0, rM_pi0, rM_le, hA, c_rn, c_rs, true_and, and_true, forall_const, Option.some.injEq, exists_eq_left', forall_eq, true_implies, vi_0_3, vi_1_3, vi_2_3, vi_0_4, vi_1_4, vi_2_4, vi_3_4, vi_0_13, vi_1_13, vi_2_13, vi_3_13, vi_4_13, vi_5_13, vi_6_13, vi_7_13, vi_8_13, vi_9_13, vi_10_13, vi_11_13, vi_12_13, vi_0_14, vi_1_14, vi_2_14, vi_3_14, vi_4_14, vi_5_14, vi_6_14, vi_7_14, vi_8_14, vi_9_14, vi_10_14, vi_11_14, vi_12_14, vi_13_14, vi_0_16, vi_1_16, vi_2_16, vi_3_16, vi_4_16, vi_5_16, vi_6_16, vi_7_16, vi_8_16, vi_9_16, vi_10_16, vi_11_16, vi_12_16, vi_13_16, vi_14_16, vi_15_16, vi_0_810, vi_1_810, vi_2_810, vi_3_810, vi_4_810, vi_5_810, vi_6_810, vi_7_810, vi_8_810, vi_9_810, vi_10_810, vi_11_810, vi_12_810, vi_13_810, vi_14_810, vi_15_810, vi_0_40, vi_1_40, vi_2_40, vi_3_40, vi_4_40, vi_5_40, vi_6_40, vi_7_40, vi_8_40, vi_9_40, vi_10_40, vi_11_40, vi_12_40, vi_13_40, vi_14_40, vi_15_40, vi_0_60, vi_1_60, vi_2_60, vi_3_60, vi_4_60, vi_5_60, vi_6_60, vi_7_60, vi_8_60, vi_9_60, vi_10_60, vi_11_60, vi_12_60, vi_13_60, vi_14_60, vi_15_60, vi_0_144, vi_1_144, vi_2_144, vi_3_144, vi_4_144, vi_5_144, vi_6_144, vi_7_144, vi_8_144, vi_9_144, vi_10_144, vi_11_144, vi_12_144, vi_13_144, vi_14_144, vi_15_144, vi_0_12, vi_1_12, vi_2_12, vi_3_12, vi_4_12, vi_5_12, vi_6_12, vi_7_12, vi_8_12, vi_9_12, vi_10_12, vi_11_12, cl_0, cl_1, cl_2, cl_3, cl_4, cl_5, cl_6, cl_7, cl_8, cl_9, cl_10, cl_11, cl_12, cl_13, cl_14, cl_15, cl_16, false_implies, true_implies, not_true_eq_false, not_false_eq_true, pn_succ]
        refine ih (c + 1) (by omega) J hJ ?_
        unfold u_row
        rw [hw, if_neg (by decide)]
        exact hJ2
      | true =>
        simp (decide := true) only [u_b1, rw_ofPatrol, rw_ofCall, rw_ofMember, rw_ofGarage, rw_laysPatrol, rw_laysCall, rw_addsMember, rM_tg, rM_gr, rM_ln, rM_m hA, rM_a hA, rM_at hA, rM_al hA, rM_gi0, rM_pi0, rM_le, hA, c_rn, c_rs, true_and, and_true, forall_const, Option.some.injEq, exists_eq_left', forall_eq, true_implies, vi_0_3, vi_1_3, vi_2_3, vi_0_4, vi_1_4, vi_2_4, vi_3_4, vi_0_13, vi_1_13, vi_2_13, vi_3_13, vi_4_13, vi_5_13, vi_6_13, vi_7_13, vi_8_13, vi_9_13, vi_10_13, vi_11_13, vi_12_13, vi_0_14, vi_1_14, vi_2_14, vi_3_14, vi_4_14, vi_5_14, vi_6_14, vi_7_14, vi_8_14, vi_9_14, vi_10_14, vi_11_14, vi_12_14, vi_13_14, vi_0_16, vi_1_16, vi_2_16, vi_3_16, vi_4_16, vi_5_16, vi_6_16, vi_7_16, vi_8_16, vi_9_16, vi_10_16, vi_11_16, vi_12_16, vi_13_16, vi_14_16, vi_15_16, vi_0_810, vi_1_810, vi_2_810, vi_3_810, vi_4_810, vi_5_810, vi_6_810, vi_7_810, vi_8_810, vi_9_810, vi_10_810, vi_11_810, vi_12_810, vi_13_810, vi_14_810, vi_15_810, vi_0_40, vi_1_40, vi_2_40, vi_3_40, vi_4_40, vi_5_40, vi_6_40, vi_7_40, vi_8_40, vi_9_40, vi_10_40, vi_11_40, vi_12_40, vi_13_40, vi_14_40, vi_15_40, vi_0_60, vi_1_60, vi_2_60, vi_3_60, vi_4_60, vi_5_60, vi_6_60, vi_7_60, vi_8_60, vi_9_60, vi_10_60, vi_11_60, vi_12_60, vi_13_60, vi_14_60, vi_15_60, vi_0_144, vi_1_144, vi_2_144, vi_3_144, vi_4_144, vi_5_144, vi_6_144, vi_7_144, vi_8_144, vi_9_144, vi_10_144, vi_11_144, vi_12_144, vi_13_144, vi_14_144, vi_15_144, vi_0_12, vi_1_12, vi_2_12, vi_3_12, vi_4_12, vi_5_12, vi_6_12, vi_7_12, vi_8_12, vi_9_12, vi_10_12, vi_11_12, cl_0, cl_1, cl_2, cl_3, cl_4, cl_5, cl_6, cl_7, cl_8, cl_9, cl_10, cl_11, cl_12, cl_13, cl_14, cl_15, cl_16, false_implies, true_implies, not_true_eq_false, not_false_eq_true, rM_gi_ne nm, hJ2.1]
        have hrl := u_row_lt (σ := σ) c
        refine ⟨_, r4_row31 (f := (u_row σ c).2) hA (by omega) hc40 (fun j hj => ⟨by have := hrl.2 j hj; omega, hmem _ (by have := hrl.2 j hj; omega)⟩) (hmem c (by omega)) (u_row σ c).1 J (Nat.le_refl _) hJ2.2 (fun j h1 h2 => by omega) hJ2.1 (fun K hK hK2 => ?_)⟩
        refine ih (c + 1) (by omega) K (u_Ieq_tr hJ hK) ?_
        unfold u_row
        rw [hw, if_pos rfl]
        exact hK2
  unfold wp_X4_laysRow
  simp (decide := true) only [rw_ofPatrol, rw_ofCall, rw_ofMember, rw_ofGarage, rw_laysPatrol, rw_laysCall, rw_addsMember, rM_tg, rM_gr, rM_ln, rM_m hA, rM_a hA, rM_at hA, rM_al hA, rM_gi0, rM_pi0, rM_le, hA, c_rn, c_rs, true_and, and_true, forall_const, Option.some.injEq, exists_eq_left', forall_eq, true_implies, vi_0_3, vi_1_3, vi_2_3, vi_0_4, vi_1_4, vi_2_4, vi_3_4, vi_0_13, vi_1_13, vi_2_13, vi_3_13, vi_4_13, vi_5_13, vi_6_13, vi_7_13, vi_8_13, vi_9_13, vi_10_13, vi_11_13, vi_12_13, vi_0_14, vi_1_14, vi_2_14, vi_3_14, vi_4_14, vi_5_14, vi_6_14, vi_7_14, vi_8_14, vi_9_14, vi_10_14, vi_11_14, vi_12_14, vi_13_14, vi_0_16, vi_1_16, vi_2_16, vi_3_16, vi_4_16, vi_5_16, vi_6_16, vi_7_16, vi_8_16, vi_9_16, vi_10_16, vi_11_16, vi_12_16, vi_13_16, vi_14_16, vi_15_16, vi_0_810, vi_1_810, vi_2_810, vi_3_810, vi_4_810, vi_5_810, vi_6_810, vi_7_810, vi_8_810, vi_9_810, vi_10_810, vi_11_810, vi_12_810, vi_13_810, vi_14_810, vi_15_810, vi_0_40, vi_1_40, vi_2_40, vi_3_40, vi_4_40, vi_5_40, vi_6_40, vi_7_40, vi_8_40, vi_9_40, vi_10_40, vi_11_40, vi_12_40, vi_13_40, vi_14_40, vi_15_40, vi_0_60, vi_1_60, vi_2_60, vi_3_60, vi_4_60, vi_5_60, vi_6_60, vi_7_60, vi_8_60, vi_9_60, vi_10_60, vi_11_60, vi_12_60, vi_13_60, vi_14_60, vi_15_60, vi_0_144, vi_1_144, vi_2_144, vi_3_144, vi_4_144, vi_5_144, vi_6_144, vi_7_144, vi_8_144, vi_9_144, vi_10_144, vi_11_144, vi_12_144, vi_13_144, vi_14_144, vi_15_144, vi_0_12, vi_1_12, vi_2_12, vi_3_12, vi_4_12, vi_5_12, vi_6_12, vi_7_12, vi_8_12, vi_9_12, vi_10_12, vi_11_12, cl_0, cl_1, cl_2, cl_3, cl_4, cl_5, cl_6, cl_7, cl_8, cl_9, cl_10, cl_11, cl_12, cl_13, cl_14, cl_15, cl_16, rM_pin nm]
  refine ⟨n 4 + 1, H (n 4) 0 (by omega) _ (fun b j hb hj => ?_) ⟨?_, fun k hk => absurd hk (Nat.not_lt_zero _)⟩⟩
  · unfold q_up
    rw [if_neg hj]
  · unfold q_up
    rw [if_pos ⟨rfl, rfl⟩]
    rfl
end
