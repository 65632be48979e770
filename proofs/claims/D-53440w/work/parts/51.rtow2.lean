/-! PURE: the reference tows -/
set_option maxRecDepth 100000
theorem u_first_eq {P : Nat → Bool} {t e : Nat} : ∀ {d a : Nat}, a ≤ e → e < a + d → (∀ j : Nat, a ≤ j → j < e → P j = false) → P e = true → u_first P t a d = e := by
  intro d
  induction d with
  | zero => intro a h1 h2; omega
  | succ d ih =>
    intro a h1 h2 h3 h4
    unfold u_first
    by_cases ha : a = e
    · rw [ha, if_pos h4]
    · rw [if_neg (by rw [h3 a (Nat.le_refl _) (by omega)]; decide)]
      exact ih (by omega) (by omega) (fun j hj1 hj2 => h3 j (by omega) hj2) h4
theorem u_first_no {P : Nat → Bool} {t : Nat} : ∀ {d a : Nat}, (∀ j : Nat, a ≤ j → j < a + d → P j = false) → u_first P t a d = t := by
  intro d
  induction d with
  | zero => intro a h; rfl
  | succ d ih =>
    intro a h
    unfold u_first
    rw [if_neg (by rw [h a (Nat.le_refl _) (by omega)]; decide)]
    exact ih (fun j hj1 hj2 => h j (by omega) (by omega))
theorem u_first_lt {P : Nat → Bool} {t : Nat} : ∀ {d a : Nat}, u_first P t a d < a + d ∨ u_first P t a d = t := by
  intro d
  induction d with
  | zero => intro a; exact Or.inr rfl
  | succ d ih =>
    intro a
    unfold u_first
    split
    · exact Or.inl (by omega)
    · rcases ih (a := a + 1) with h | h
      · exact Or.inl (by omega)
      · exact Or.inr h
/-- what is known of the way from a to t -/
def u_P (D W : Nat → Nat → Nat) (a t : Nat) : Prop := ∃ L : Nat, u_len D W a t = L ∧ L ≤ 11 ∧ u_it D W t a L = t ∧ ∀ i : Nat, i < L → u_it D W t a i ≠ t ∧ u_it D W t a i < 12 ∧ D (u_it D W t a i) (u_it D W t a (i + 1)) ≤ 60 ∧ u_it D W t a (i + 1) ≠ a ∧ u_it D W t a (i + 1) < 12 ∧ D (u_it D W t a i) (u_it D W t a (i + 1)) + W (u_it D W t a (i + 1)) t = W (u_it D W t a i) t ∧ 1 ≤ D (u_it D W t a i) (u_it D W t a (i + 1))
theorem u_mins_le {D W : Nat → Nat → Nat} {a t L : Nat} (h : ∀ i : Nat, i < L → D (u_it D W t a i) (u_it D W t a (i + 1)) ≤ 60) : ∀ e : Nat, e ≤ L → u_mins D W a t e ≤ 60 * e := by
  intro e
  induction e with
  | zero => intro _; exact Nat.le_refl _
  | succ e ih =>
    intro he
    have := ih (by omega)
    have := h e (by omega)
    unfold u_mins
    omega
section
variable {g : Nat → Nat} {M : Mem} {m : Nat} {A : Nat → Nat} {I : Nat → Nat → Int32} {σ σ' : Cn} {n : Nat → Nat} {D W : Nat → Nat → Nat}
theorem q12 {a b : Nat} : 12 * nI a + nI b = nI (12 * a + b) := by rw [show 12 * nI a = nI (12 * a) from pn_mul 12 a]; exact pn_add _ _
theorem rM_8 (hA : q_MA M m A) : m_gr M m 8 = some (A 8) ∧ m_tg M (A 8) = 101 ∧ m_ln M (A 8) = 144 ∧ A 8 ≠ A 0 := by
  obtain ⟨b1, b2, b3⟩ := hA.2.1 8 (by unfold q_isar; omega)
  exact ⟨b1, b2, b3, fun e => by have := hA.2.2 8 0 (by unfold q_isar; omega) (by unfold q_isar; omega) e; omega⟩
theorem rM_gi8 (hA : q_MA M m A) (hR : u_RI I A D W) {a b : Nat} (ha : a < 12) (hb : b < 12) : m_gi (c_rM M A I σ) (A 8) (12 * a + b) = nI (D a b) := by
  rw [rM_gi_ne (rM_8 hA).2.2.2]
  exact (hR a b ha hb).1
theorem r4_nextOn {f t : Nat} {Q : Int32 → Mem → Prop} (hA : q_MA M m A) (hR : u_RI I A D W) (hf : f < 12) (ht : t < 12) (hQ : Q (nI (u_nx D W f t)) (c_rM M A I σ)) : wp_X4_nextOn g (c_rM M A I σ) m (nI f) (nI t) Q := by
  obtain ⟨b1, b2, b3, n8⟩ := rM_8 hA
  have H : ∀ d k : Nat, k + d = 12 → Q (nI (u_first (fun a => decide (D f a < 100000 ∧ D f a + W a t = W f t)) t k d)) (c_rM M A I σ) → wp_X4_nextOn_b2 g Q (d + 1) (c_rM M A I σ) m (nI f) (nI t) (nI k) := by
    intro d
    induction d with
    | zero =>
      intro k hk hQ
      have e : k = 12 := by omega
      subst e
      have h12 : ((12 : Int32) ≤ nI 12) = True := by decide
      unfold u_first at hQ
      simp (decide := true) only [wp_X4_nextOn_b2, h12, hQ, not_true_eq_false, false_implies, true_implies, and_true]
    | succ d ih =>
      intro k hk hQ
      have hk12 : k < 12 := by omega
      have h12 : ((12 : Int32) ≤ nI k) = False := pn_leF (a := 12) (by omega) (by omega) hk12
      have hd : D f k ≤ 100000 := (hR f k hf hk12).2.1
      have hv : vp_in (nI (12 * f + k)) 144 := (pn_in (by omega)).mpr (by omega)
      have hcl : (nI (12 * f + k)).toNatClampNeg = 12 * f + k := pn_cl (by omega)
      have hw1 : W k t ≤ 100000 := (hR k t hk12 ht).2.2.2
      have hw2 : W f t ≤ 100000 := (hR f t hf ht).2.2.2
      rw [wp_X4_nextOn_b2]
      simp (decide := true) only [h12, q12, hcl, hv, b1, b2, b3, rw_ofPatrol, rw_ofCall, rw_ofMember, rw_ofGarage, rw_laysPatrol, rw_laysCall, rw_addsMember, rM_tg, rM_gr, rM_ln, rM_m hA, rM_a hA, rM_at hA, rM_al hA, rM_gi0, rM_pi0, rM_le, hA, c_rn, c_rs, true_and, and_true, forall_const, Option.some.injEq, exists_eq_left', forall_eq, true_implies, vi_0_3, vi_1_3, vi_2_3, vi_0_4, vi_1_4, vi_2_4, vi_3_4, vi_0_13, vi_1_13, vi_2_13, vi_3_13, vi_4_13, vi_5_13, vi_6_13, vi_7_13, vi_8_13, vi_9_13, vi_10_13, vi_11_13, vi_12_13, vi_0_14, vi_1_14, vi_2_14, vi_3_14, vi_4_14, vi_5_14, vi_6_14, vi_7_14, vi_8_14, vi_9_14, vi_10_14, vi_11_14, vi_12_14, vi_13_14, vi_0_16, vi_1_16, vi_2_16, vi_3_16, vi_4_16, vi_5_16, vi_6_16, vi_7_16, vi_8_16, vi_9_16, vi_10_16, vi_11_16, vi_12_16, vi_13_16, vi_14_16, vi_15_16, vi_0_810, vi_1_810, vi_2_810, vi_3_810, vi_4_810, vi_5_810, vi_6_810, vi_7_810, vi_8_810, vi_9_810, vi_10_810, vi_11_810, vi_12_810, vi_13_810, vi_14_810, vi_15_810, vi_0_40, vi_1_40, vi_2_40, vi_3_40, vi_4_40, vi_5_40, vi_6_40, vi_7_40, vi_8_40, vi_9_40, vi_10_40, vi_11_40, vi_12_40, vi_13_40, vi_14_40, vi_15_40, vi_0_60, vi_1_60, vi_2_60, vi_3_60, vi_4_60, vi_5_60, vi_6_60, vi_7_60, vi_8_60, vi_9_60, vi_10_60, vi_11_60, vi_12_60, vi_13_60, vi_14_60, vi_15_60, vi_0_144, vi_1_144, vi_2_144, vi_3_144, vi_4_144, vi_5_144, vi_6_144, vi_7_144, vi_8_144, vi_9_144, vi_10_144, vi_11_144, vi_12_144, vi_13_144, vi_14_144, vi_15_144, vi_0_12, vi_1_12, vi_2_12, vi_3_12, vi_4_12, vi_5_12, vi_6_12, vi_7_12, vi_8_12, vi_9_12, vi_10_12, vi_11_12, cl_0, cl_1, cl_2, cl_3, cl_4, cl_5, cl_6, cl_7, cl_8, cl_9, cl_10, cl_11, cl_12, cl_13, cl_14, cl_15, cl_16, rM_gi8 hA hR hf hk12, pn_F1 hd, r4_way hA hR hk12 ht, r4_way hA hR hf ht, pn_add, pn_eqe (show D f k + W k t ≤ 1000000 by omega) (show W f t ≤ 1000000 by omega), false_implies, true_implies, not_false_eq_true, pn_succ]
      unfold u_first at hQ
      refine ⟨fun h => ih (k + 1) (by omega) ?_, fun h => ⟨fun h2 => ih (k + 1) (by omega) ?_, fun h2 => ?_⟩⟩
      · rw [if_neg (by rw [decide_eq_true_eq]; omega)] at hQ
        exact hQ
      · rw [if_neg (by rw [decide_eq_true_eq]; omega)] at hQ
        exact hQ
      · rw [if_pos (by rw [decide_eq_true_eq]; omega)] at hQ
        exact hQ
  exact ⟨13, H 12 0 (by omega) hQ⟩
theorem r4_tows210 {p c q a e : Nat} {Q : Mem → Prop} (hA : q_MA M m A) (hp : p < 6) (hc : c < 40) (he : e ≤ 100000) (hQ : Q (c_rM M A I (c_up (c_up (c_up (c_up (c_up (c_up σ 2 p 3 3) 2 p 6 (nI (if e = 0 then 1 else 2 * e))) 2 p 12 (nI a)) 2 p 13 (nI q)) 4 c 5 4) 4 c 6 (nI p)))) : wp_X4_tows_b210 g (c_rM M A I σ) m (nI p) (nI c) (nI q) (nI a) (nI e) Q := by
  have h0 : (nI e = 0) = (e = 0) := pn_eqe (b := 0) (by omega) (by omega)
  have h2 : 2 * nI e = nI (2 * e) := pn_mul 2 e
  simp (decide := true) only [wp_X4_tows_b210, wp_X4_tows_b234, h0, h2, hp, hc, rw_ofPatrol, rw_ofCall, rw_ofMember, rw_ofGarage, rw_laysPatrol, rw_laysCall, rw_addsMember, rM_tg, rM_gr, rM_ln, rM_m hA, rM_a hA, rM_at hA, rM_al hA, rM_gi0, rM_pi0, rM_le, hA, c_rn, c_rs, true_and, and_true, forall_const, Option.some.injEq, exists_eq_left', forall_eq, true_implies, vi_0_3, vi_1_3, vi_2_3, vi_0_4, vi_1_4, vi_2_4, vi_3_4, vi_0_13, vi_1_13, vi_2_13, vi_3_13, vi_4_13, vi_5_13, vi_6_13, vi_7_13, vi_8_13, vi_9_13, vi_10_13, vi_11_13, vi_12_13, vi_0_14, vi_1_14, vi_2_14, vi_3_14, vi_4_14, vi_5_14, vi_6_14, vi_7_14, vi_8_14, vi_9_14, vi_10_14, vi_11_14, vi_12_14, vi_13_14, vi_0_16, vi_1_16, vi_2_16, vi_3_16, vi_4_16, vi_5_16, vi_6_16, vi_7_16, vi_8_16, vi_9_16, vi_10_16, vi_11_16, vi_12_16, vi_13_16, vi_14_16, vi_15_16, vi_0_810, vi_1_810, vi_2_810, vi_3_810, vi_4_810, vi_5_810, vi_6_810, vi_7_810, vi_8_810, vi_9_810, vi_10_810, vi_11_810, vi_12_810, vi_13_810, vi_14_810, vi_15_810, vi_0_40, vi_1_40, vi_2_40, vi_3_40, vi_4_40, vi_5_40, vi_6_40, vi_7_40, vi_8_40, vi_9_40, vi_10_40, vi_11_40, vi_12_40, vi_13_40, vi_14_40, vi_15_40, vi_0_60, vi_1_60, vi_2_60, vi_3_60, vi_4_60, vi_5_60, vi_6_60, vi_7_60, vi_8_60, vi_9_60, vi_10_60, vi_11_60, vi_12_60, vi_13_60, vi_14_60, vi_15_60, vi_0_144, vi_1_144, vi_2_144, vi_3_144, vi_4_144, vi_5_144, vi_6_144, vi_7_144, vi_8_144, vi_9_144, vi_10_144, vi_11_144, vi_12_144, vi_13_144, vi_14_144, vi_15_144, vi_0_12, vi_1_12, vi_2_12, vi_3_12, vi_4_12, vi_5_12, vi_6_12, vi_7_12, vi_8_12, vi_9_12, vi_10_12, vi_11_12, cl_0, cl_1, cl_2, cl_3, cl_4, cl_5, cl_6, cl_7, cl_8, cl_9, cl_10, cl_11, cl_12, cl_13, cl_14, cl_15, cl_16]
  refine ⟨fun h => ?_, fun h => ?_⟩
  · rw [if_neg h] at hQ
    exact hQ
  · rw [if_pos h] at hQ
    exact hQ
theorem r4_tows77 {p c q a t own : Nat} {Q : Mem → Prop} (hA : q_MA M m A) (hR : u_RI I A D W) (hp : p < 6) (hc : c < 40) (ha : a < 12) (ht : t < 12) (ho : own < 3) (hP : u_P D W a t)
    (hQ : Q (c_rM M A I (c_up (c_up (c_up (c_up (c_up (c_up σ 2 p 3 3) 2 p 6 (nI (if u_mins D W a t (u_end D W own a t) = 0 then 1 else 2 * u_mins D W a t (u_end D W own a t)))) 2 p 12 (nI (u_it D W t a (u_end D W own a t)))) 2 p 13 (nI q)) 4 c 5 4) 4 c 6 (nI p)))) :
    ∃ j : Nat, wp_X4_tows_b77 g Q j (c_rM M A I σ) m (nI p) (nI c) (nI a) (nI q) (nI t) (nI own) (nI a) 0 (if a = t then 0 else 1) 0 := by
  obtain ⟨L, hL, hL11, hLt, hs⟩ := hP
  have hml := u_mins_le (fun i hi => (hs i hi).2.2.1)
  obtain ⟨b1, b2, b3, n8⟩ := rM_8 hA
  -- when it goes no further
  have hend : ∀ e : Nat, e ≤ L → (∀ j : Nat, j < e → u_ok D W own a t j = true) → u_ok D W own a t e = false → u_end D W own a t = e := fun e he h1 h2 =>
    u_first_eq (Nat.zero_le _) (by omega) (fun j _ hj => by rw [h1 j hj]; rfl) (by rw [h2]; rfl)
  have hstop : ∀ (e x f : Nat), e ≤ L → (∀ j : Nat, j < e → u_ok D W own a t j = true) → u_ok D W own a t e = false → wp_X4_tows_b77 g Q (f + 1) (c_rM M A I σ) m (nI p) (nI c) (nI a) (nI q) (nI t) (nI own) (nI (u_it D W t a e)) (nI (u_mins D W a t e)) 0 (nI x) := by
    intro e x f he h1 h2
    have := hml e he
    rw [hend e he h1 h2] at hQ
    have hb := r4_tows210 (σ := σ) (q := q) (g := g) (I := I) (a := u_it D W t a e) (e := u_mins D W a t e) hA hp hc (by omega) hQ
    rw [wp_X4_tows_b77]
    exact ⟨fun _ => hb, fun _ => ⟨fun _ => hb, fun h => absurd rfl h⟩⟩
  have hreg : ∀ x : Nat, x < 12 → nI x / 4 = nI (x / 4) := fun x hx => pn_div (b := 4) (by omega) (by omega) (by omega)
  have H : ∀ d i : Nat, i + d = L → 0 < d → (∀ j : Nat, j < i → u_ok D W own a t j = true) → (i = 0 ∨ u_it D W t a i / 4 = own) → wp_X4_tows_b77 g Q (d + 1) (c_rM M A I σ) m (nI p) (nI c) (nI a) (nI q) (nI t) (nI own) (nI (u_it D W t a i)) (nI (u_mins D W a t i)) 1 (nI i) := by
    intro d
    induction d with
    | zero => intro i _ h; omega
    | succ d ih =>
      intro i hi _ hj hown
      have hiL : i < L := by omega
      obtain ⟨s1, s2, s3, s4, s5, _⟩ := hs i hiL
      have hml1 := hml i (by omega)
      have hml2 := hml (i + 1) (by omega)
      have h12 : ((12 : Int32) ≤ nI i) = False := pn_leF (a := 12) (by omega) (by omega) (by omega)
      have hit : u_nx D W (u_it D W t a i) t = u_it D W t a (i + 1) := rfl
      have hro : (nI (u_it D W t a (i + 1) / 4) = nI own) = (u_it D W t a (i + 1) / 4 = own) := pn_eqe (by omega) (by omega)
      have hfr : (nI (u_it D W t a i) = nI a) = (u_it D W t a i = a) := pn_eqe (by omega) (by omega)
      have hto : (nI (u_it D W t a (i + 1)) = nI t) = (u_it D W t a (i + 1) = t) := pn_eqe (by omega) (by omega)
      have hv : vp_in (nI (12 * u_it D W t a i + u_it D W t a (i + 1))) 144 := (pn_in (by omega)).mpr (by omega)
      have hcl : (nI (12 * u_it D W t a i + u_it D W t a (i + 1))).toNatClampNeg = 12 * u_it D W t a i + u_it D W t a (i + 1) := pn_cl (by omega)
      have hokd : u_ok D W own a t i = decide (i = 0 ∨ (u_it D W t a i / 4 = own ∧ u_it D W t a (i + 1) / 4 = own)) := by
        unfold u_ok
        rw [hL]
        simp only [hiL, true_and]
      -- one step further
      have hstep : u_ok D W own a t i = true → ∀ z : Int32, (z = if u_it D W t a (i + 1) / 4 ≠ own ∨ u_it D W t a (i + 1) = t then 0 else 1) → wp_X4_tows_b77 g Q (d + 1) (c_rM M A I σ) m (nI p) (nI c) (nI a) (nI q) (nI t) (nI own) (nI (u_it D W t a (i + 1))) (nI (u_mins D W a t (i + 1))) z (nI (i + 1)) := by
        intro hok z hz
        have hj' : ∀ j : Nat, j < i + 1 → u_ok D W own a t j = true := fun j h => by
          by_cases e : j = i
          · rw [e, hok]
          · exact hj j (by omega)
        by_cases hc1 : u_it D W t a (i + 1) / 4 ≠ own ∨ u_it D W t a (i + 1) = t
        · rw [if_pos hc1] at hz
          subst hz
          refine hstop (i + 1) (i + 1) d (by omega) hj' ?_
          unfold u_ok
          rw [hL, decide_eq_false_iff_not]
          rintro ⟨z1, z2⟩
          have := (hs (i + 1) z1).1
          omega
        · rw [if_neg hc1] at hz
          subst hz
          have hd : 0 < d := by
            apply Nat.pos_of_ne_zero
            intro h0
            apply hc1
            right
            have : i + 1 = L := by omega
            rw [this, hLt]
          exact ih (i + 1) (by omega) hd hj' (Or.inr (by omega))
      have hmin : nI (u_mins D W a t i) + nI (D (u_it D W t a i) (u_it D W t a (i + 1))) = nI (u_mins D W a t (i + 1)) := pn_add _ _
      rw [wp_X4_tows_b77]
      simp (decide := true) only [h12, false_implies, true_implies, true_and, not_false_eq_true, rM_tg, rM_m hA]
      refine r4_nextOn hA hR s2 ht ?_
      rw [hit]
      simp (decide := true) only [wp_X4_region, wp_X4_tows_b115, wp_X4_tows_b120, wp_X4_tows_b146, wp_X4_tows_b166, wp_X4_tows_b171, wp_X4_tows_b185, hreg _ s5, hro, hfr, hto, hv, hcl, q12, b1, b2, b3, rw_ofPatrol, rw_ofCall, rw_ofMember, rw_ofGarage, rw_laysPatrol, rw_laysCall, rw_addsMember, rM_tg, rM_gr, rM_ln, rM_m hA, rM_a hA, rM_at hA, rM_al hA, rM_gi0, rM_pi0, rM_le, hA, c_rn, c_rs, true_and, and_true, forall_const, Option.some.injEq, exists_eq_left', forall_eq, true_implies, vi_0_3, vi_1_3, vi_2_3, vi_0_4, vi_1_4, vi_2_4, vi_3_4, vi_0_13, vi_1_13, vi_2_13, vi_3_13, vi_4_13, vi_5_13, vi_6_13, vi_7_13, vi_8_13, vi_9_13, vi_10_13, vi_11_13, vi_12_13, vi_0_14, vi_1_14, vi_2_14, vi_3_14, vi_4_14, vi_5_14, vi_6_14, vi_7_14, vi_8_14, vi_9_14, vi_10_14, vi_11_14, vi_12_14, vi_13_14, vi_0_16, vi_1_16, vi_2_16, vi_3_16, vi_4_16, vi_5_16, vi_6_16, vi_7_16, vi_8_16, vi_9_16, vi_10_16, vi_11_16, vi_12_16, vi_13_16, vi_14_16, vi_15_16, vi_0_810, vi_1_810, vi_2_810, vi_3_810, vi_4_810, vi_5_810, vi_6_810, vi_7_810, vi_8_810, vi_9_810, vi_10_810, vi_11_810, vi_12_810, vi_13_810, vi_14_810, vi_15_810, vi_0_40, vi_1_40, vi_2_40, vi_3_40, vi_4_40, vi_5_40, vi_6_40, vi_7_40, vi_8_40, vi_9_40, vi_10_40, vi_11_40, vi_12_40, vi_13_40, vi_14_40, vi_15_40, vi_0_60, vi_1_60, vi_2_60, vi_3_60, vi_4_60, vi_5_60, vi_6_60, vi_7_60, vi_8_60, vi_9_60, vi_10_60, vi_11_60, vi_12_60, vi_13_60, vi_14_60, vi_15_60, vi_0_144, vi_1_144, vi_2_144, vi_3_144, vi_4_144, vi_5_144, vi_6_144, vi_7_144, vi_8_144, vi_9_144, vi_10_144, vi_11_144, vi_12_144, vi_13_144, vi_14_144, vi_15_144, vi_0_12, vi_1_12, vi_2_12, vi_3_12, vi_4_12, vi_5_12, vi_6_12, vi_7_12, vi_8_12, vi_9_12, vi_10_12, vi_11_12, cl_0, cl_1, cl_2, cl_3, cl_4, cl_5, cl_6, cl_7, cl_8, cl_9, cl_10, cl_11, cl_12, cl_13, cl_14, cl_15, cl_16, rM_gi8 hA hR s2 s5, hmin, pn_succ, false_implies, true_implies, not_false_eq_true, not_true_eq_false]
      by_cases c1 : u_it D W t a (i + 1) / 4 = own
      · have hok : u_ok D W own a t i = true := by
          rw [hokd, decide_eq_true_eq]
          omega
        have hstep := hstep hok
        simp only [c1, not_true_eq_false, ne_eq, false_or, false_implies, true_implies, and_true, true_and] at hstep ⊢
        refine ⟨fun h => hstep _ (by rw [if_neg h]), fun h => hstep _ (by rw [if_pos h])⟩
      · simp only [c1, not_false_eq_true, ne_eq, true_or, if_true, false_implies, true_implies, and_true, true_and] at hstep ⊢
        refine ⟨fun h => ?_, fun h => ?_⟩
        · have hi0 : i ≠ 0 := fun e => h (by rw [e]; rfl)
          rw [Int32.add_zero]
          refine hstop i (i + 1) d (by omega) hj ?_
          rw [hokd, decide_eq_false_iff_not]
          omega
        · have hi0 : i = 0 := by
            cases i with
            | zero => rfl
            | succ i => exact absurd h (hs i (by omega)).2.2.2.1
          exact hstep (by rw [hokd, hi0]; rfl) 0 rfl
  by_cases hat : a = t
  · rw [if_pos hat]
    have hL0 : L = 0 := by
      apply Nat.eq_zero_of_not_pos
      intro h
      exact (hs 0 h).1 hat
    refine ⟨1, hstop 0 0 0 (Nat.zero_le _) (fun j h => absurd h (Nat.not_lt_zero _)) ?_⟩
    unfold u_ok
    rw [hL, decide_eq_false_iff_not]
    omega
  · rw [if_neg hat]
    have hL0 : 0 < L := by
      apply Nat.pos_of_ne_zero
      intro h
      rw [h] at hLt
      exact hat hLt
    exact ⟨L + 1, H L 0 (by omega) hL0 (fun j h => absurd h (Nat.not_lt_zero _)) (Or.inl rfl)⟩
end
