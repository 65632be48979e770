/-! PURE: the component tows -/
set_option maxRecDepth 100000
/-- a state and its roads -/
def c_K (g : Nat → Nat) (M : Mem) (o : Nat → Nat × Nat × Nat) (r : Nat) (E : Nat → Nat → Nat) (n : Nat → Nat) (R rr : Nat) (D W : Nat → Nat → Nat) (u : Nat) : Prop := c_St g M o r E n R ∧ c_Rd g M o rr R D W u ∧ rr ≠ r ∧ r ≠ 0 ∧ rr ≠ 0 ∧ c_Lb M o ∧ c_g1 g M
/-- from one memory to a later one: other regions stay -/
def c_T (M : Mem) (o : Nat → Nat × Nat × Nat) (u : Nat) (M' : Mem) (o' : Nat → Nat × Nat × Nat) (u' r rr : Nat) : Prop := m_le M M' ∧ (∀ q : Nat, q ≠ r → q ≠ rr → q ≠ 0 → c_same M o M' o' q) ∧ m_nc M' + 60 * u' ≤ m_nc M + 60 * u ∧ m_ns M' + 300 * u' ≤ m_ns M + 300 * u
def c_room (M : Mem) (u k s : Nat) : Prop := m_nc M + 60 * u + k ≤ m_CM ∧ m_ns M + 300 * u + s ≤ m_SM
theorem c_T_rf {M : Mem} {o : Nat → Nat × Nat × Nat} {u r rr : Nat} : c_T M o u M o u r rr := ⟨m_le_rf, fun _ _ _ _ => c_same_rf, Nat.le_refl _, Nat.le_refl _⟩
theorem c_T_tr {M1 M2 M3 : Mem} {o1 o2 o3 : Nat → Nat × Nat × Nat} {u1 u2 u3 r rr : Nat} (h1 : c_T M1 o1 u1 M2 o2 u2 r rr) (h2 : c_T M2 o2 u2 M3 o3 u3 r rr) : c_T M1 o1 u1 M3 o3 u3 r rr :=
  ⟨m_le_tr h1.1 h2.1, fun q a b c => c_same_tr (h1.2.1 q a b c) (h2.2.1 q a b c), Nat.le_trans h2.2.2.1 h1.2.2.1, Nat.le_trans h2.2.2.2 h1.2.2.2⟩
theorem c_room_T {M M' : Mem} {o o' : Nat → Nat × Nat × Nat} {u u' r rr k s : Nat} (h : c_room M u k s) (ht : c_T M o u M' o' u' r rr) : c_room M' u' k s := ⟨by have := h.1; have := ht.2.2.1; omega, by have := h.2; have := ht.2.2.2; omega⟩
section
variable {g : Nat → Nat} {M : Mem} {o : Nat → Nat × Nat × Nat} {r rr : Nat} {E : Nat → Nat → Nat} {n : Nat → Nat} {R : Nat} {σ σ' : Cn} {D W : Nat → Nat → Nat} {u : Nat}
theorem cM_le' {M' : Mem} {o' : Nat → Nat × Nat × Nat} (h : m_le M M') : m_le (c_cM M o r σ) (c_cM M' o' r σ') := h
theorem c_cM_eq2 {X : Mem} {o' : Nat → Nat × Nat × Nat} (hs : c_same (c_cM M o r σ) o X o' r) : c_cM X o' r σ = X := by
  have e : c_cM X o' r σ = c_cM X o r σ := by
    unfold c_cM
    congr 1
    funext b j
    unfold c_enc
    by_cases h : (o b).1 = r ∨ (o' b).1 = r
    · rw [(hs b h).2]
    · rw [if_neg (fun z => h (Or.inr z)), if_neg (fun z => h (Or.inl z))]
  rw [e]
  exact c_cM_eq (fun b hb => (hs b (Or.inl hb)).1)
theorem c1_garageFor {a : Nat} {Q : Int32 → Mem → Prop} (hS : c_St g M o r E n R) (hD : c_Rd g M o rr R D W u) (hne : rr ≠ r) (hr : u_R n σ) (hb : ∀ a b : Nat, a < 12 → b < 12 → D a b ≤ 100000 ∧ W a b ≤ 100000) (ha : a < 12) (hQ : Q (u_og (u_gar W σ a (n 3))) (c_cM M o r σ)) : wp_X1_garageFor g (c_cM M o r σ) (E 0 0) (nI a) Q := by
  obtain ⟨⟨_, _, _, _, _, _, _, _, l3, _⟩, _, _, r3, _⟩ := hr
  have H : ∀ d k : Nat, k + d = n 3 → wp_X1_garageFor_b5 g Q (d + 1) (c_cM M o r σ) (E 0 0) (nI a) (u_og (u_gar W σ a k)) (nI k) := by
    intro d
    induction d with
    | zero =>
      intro k hk
      have e : k = n 3 := by omega
      subst e
      rw [wp_X1_garageFor_b5]
      simp (decide := true) only [cM_tg, cM_gr, cM_ln, cM_le, c_rn, c_rs, ct_0 hS, cg_0_6 hS, cp_0_6 hS, cg_0_7 hS, cp_0_7 hS, ct_8 hS, cg_8_0 hS, cp_8_0 hS, cg_8_1 hS, cp_8_1 hS, cg_8_2 hS, cp_8_2 hS, ct_1 hS, cg_1_0 hS, cp_1_0 hS, cg_1_1 hS, cp_1_1 hS, cg_1_2 hS, cp_1_2 hS, cg_1_3 hS, cp_1_3 hS, cg_1_4 hS, cp_1_4 hS, ct_2 hS, cg_2_0 hS, cp_2_0 hS, cg_2_1 hS, cp_2_1 hS, cg_2_2 hS, cp_2_2 hS, cg_2_3 hS, cp_2_3 hS, cg_2_4 hS, cp_2_4 hS, cg_2_5 hS, cp_2_5 hS, cg_2_6 hS, cp_2_6 hS, cg_2_7 hS, cp_2_7 hS, cg_2_8 hS, cp_2_8 hS, cg_2_9 hS, cp_2_9 hS, cg_2_10 hS, cp_2_10 hS, cg_2_11 hS, cp_2_11 hS, cg_2_12 hS, cp_2_12 hS, cg_2_13 hS, cp_2_13 hS, cg_2_14 hS, cp_2_14 hS, ct_3 hS, cg_3_0 hS, cp_3_0 hS, cg_3_1 hS, cp_3_1 hS, cg_3_2 hS, cp_3_2 hS, cg_3_3 hS, cp_3_3 hS, cg_3_4 hS, cp_3_4 hS, ct_4 hS, cg_4_0 hS, cp_4_0 hS, cg_4_1 hS, cp_4_1 hS, cg_4_2 hS, cp_4_2 hS, cg_4_3 hS, cp_4_3 hS, cg_4_4 hS, cp_4_4 hS, cg_4_5 hS, cp_4_5 hS, cg_4_6 hS, cp_4_6 hS, cg_4_7 hS, cp_4_7 hS, cg_4_8 hS, cp_4_8 hS, cg_4_9 hS, cp_4_9 hS, cg_4_10 hS, cp_4_10 hS, cg_4_11 hS, cp_4_11 hS, cg_4_12 hS, cp_4_12 hS, cl_t1 hS, cl_r1 hS, cl_g1 hS, cl_s1 hS, cl_t2 hS, cl_r2 hS, cl_g2 hS, cl_s2 hS, cl_t3 hS, cl_r3 hS, cl_g3 hS, cl_s3 hS, cl_t4 hS, cl_r4 hS, cl_g4 hS, cl_s4 hS, cl_p hS, cl_R hS, cl_8n hS, true_and, and_true, forall_const, Option.some.injEq, exists_eq_left', forall_eq, true_implies, cl_0, cl_1, cl_2, cl_3, cl_4, cl_5, cl_6, cl_7, cl_8, cl_9, cl_10, cl_11, cl_12, cl_13, cl_14, cl_15, cl_16, vi_0_3, vi_1_3, vi_2_3]
      exact ⟨fun _ => hQ, fun z => absurd ((pn_le (by omega) (by omega)).mpr (Nat.le_refl _)) z⟩
    | succ d ih =>
      intro k hk
      have hk3 : k < n 3 := by omega
      have ih := ih (k + 1) (by omega)
      obtain ⟨b, hbb, eb⟩ := r3 k hk3
      have hw : W a b ≤ 100000 := (hb a b ha hbb).2
      have ew : u_w σ 3 k 0 = b := u_w_of eb (by omega)
      rw [wp_X1_garageFor_b5]
      simp (decide := true) only [wp_X7_hasPlace, hk3, eb, c1_far hS hD hne ha hbb, c_far_no hw, cM_tg, cM_gr, cM_ln, cM_le, c_rn, c_rs, ct_0 hS, cg_0_6 hS, cp_0_6 hS, cg_0_7 hS, cp_0_7 hS, ct_8 hS, cg_8_0 hS, cp_8_0 hS, cg_8_1 hS, cp_8_1 hS, cg_8_2 hS, cp_8_2 hS, ct_1 hS, cg_1_0 hS, cp_1_0 hS, cg_1_1 hS, cp_1_1 hS, cg_1_2 hS, cp_1_2 hS, cg_1_3 hS, cp_1_3 hS, cg_1_4 hS, cp_1_4 hS, ct_2 hS, cg_2_0 hS, cp_2_0 hS, cg_2_1 hS, cp_2_1 hS, cg_2_2 hS, cp_2_2 hS, cg_2_3 hS, cp_2_3 hS, cg_2_4 hS, cp_2_4 hS, cg_2_5 hS, cp_2_5 hS, cg_2_6 hS, cp_2_6 hS, cg_2_7 hS, cp_2_7 hS, cg_2_8 hS, cp_2_8 hS, cg_2_9 hS, cp_2_9 hS, cg_2_10 hS, cp_2_10 hS, cg_2_11 hS, cp_2_11 hS, cg_2_12 hS, cp_2_12 hS, cg_2_13 hS, cp_2_13 hS, cg_2_14 hS, cp_2_14 hS, ct_3 hS, cg_3_0 hS, cp_3_0 hS, cg_3_1 hS, cp_3_1 hS, cg_3_2 hS, cp_3_2 hS, cg_3_3 hS, cp_3_3 hS, cg_3_4 hS, cp_3_4 hS, ct_4 hS, cg_4_0 hS, cp_4_0 hS, cg_4_1 hS, cp_4_1 hS, cg_4_2 hS, cp_4_2 hS, cg_4_3 hS, cp_4_3 hS, cg_4_4 hS, cp_4_4 hS, cg_4_5 hS, cp_4_5 hS, cg_4_6 hS, cp_4_6 hS, cg_4_7 hS, cp_4_7 hS, cg_4_8 hS, cp_4_8 hS, cg_4_9 hS, cp_4_9 hS, cg_4_10 hS, cp_4_10 hS, cg_4_11 hS, cp_4_11 hS, cg_4_12 hS, cp_4_12 hS, cl_t1 hS, cl_r1 hS, cl_g1 hS, cl_s1 hS, cl_t2 hS, cl_r2 hS, cl_g2 hS, cl_s2 hS, cl_t3 hS, cl_r3 hS, cl_g3 hS, cl_s3 hS, cl_t4 hS, cl_r4 hS, cl_g4 hS, cl_s4 hS, cl_p hS, cl_R hS, cl_8n hS, true_and, and_true, forall_const, Option.some.injEq, exists_eq_left', forall_eq, true_implies, cl_0, cl_1, cl_2, cl_3, cl_4, cl_5, cl_6, cl_7, cl_8, cl_9, cl_10, cl_11, cl_12, cl_13, cl_14, cl_15, cl_16, vi_0_3, vi_1_3, vi_2_3, pn_succ, true_implies, false_implies, not_true_eq_false, not_false_eq_true]
      refine ⟨fun z => ?_, fun _ => ⟨fun z => ?_, fun z => ⟨fun z2 => ?_, fun z2 => ?_⟩⟩⟩
      · have := (pn_le (by omega) (by omega)).mp z
        omega
      · rw [u_gar, if_neg (fun y => Int32.not_le.mpr y.1 z)] at ih
        exact ih
      · rw [u_gar, ew, if_neg (fun y => z2 y.2.1)] at ih
        exact ih
      · have h2' := Int32.not_le.mp z
        have hF : W a b < 100000 := Classical.not_not.mp z2
        cases hg : u_gar W σ a k with
        | none =>
          rw [u_gar, ew, hg, if_pos ⟨h2', hF, rfl⟩] at ih
          refine ⟨fun _ => ih, fun y => absurd rfl y⟩
        | some c =>
          have hck := u_gar_lt hg
          have hc3 : c < n 3 := by omega
          obtain ⟨bc, hbc, ebc⟩ := r3 c hc3
          have hwc : W a bc < 100000 := by
            have := u_gar_ok hg
            rw [u_w_of ebc (by omega)] at this
            exact this
          simp (decide := true) only [u_og, u_og_ne (show c < 2147483648 by omega), not_false_eq_true, true_implies, false_implies, hc3, ebc, c1_far hS hD hne ha hbc, c_far_yes hwc, c_far_yes hF, cM_tg, cM_gr, cM_ln, cM_le, c_rn, c_rs, ct_0 hS, cg_0_6 hS, cp_0_6 hS, cg_0_7 hS, cp_0_7 hS, ct_8 hS, cg_8_0 hS, cp_8_0 hS, cg_8_1 hS, cp_8_1 hS, cg_8_2 hS, cp_8_2 hS, ct_1 hS, cg_1_0 hS, cp_1_0 hS, cg_1_1 hS, cp_1_1 hS, cg_1_2 hS, cp_1_2 hS, cg_1_3 hS, cp_1_3 hS, cg_1_4 hS, cp_1_4 hS, ct_2 hS, cg_2_0 hS, cp_2_0 hS, cg_2_1 hS, cp_2_1 hS, cg_2_2 hS, cp_2_2 hS, cg_2_3 hS, cp_2_3 hS, cg_2_4 hS, cp_2_4 hS, cg_2_5 hS, cp_2_5 hS, cg_2_6 hS, cp_2_6 hS, cg_2_7 hS, cp_2_7 hS, cg_2_8 hS, cp_2_8 hS, cg_2_9 hS, cp_2_9 hS, cg_2_10 hS, cp_2_10 hS, cg_2_11 hS, cp_2_11 hS, cg_2_12 hS, cp_2_12 hS, cg_2_13 hS, cp_2_13 hS, cg_2_14 hS, cp_2_14 hS, ct_3 hS, cg_3_0 hS, cp_3_0 hS, cg_3_1 hS, cp_3_1 hS, cg_3_2 hS, cp_3_2 hS, cg_3_3 hS, cp_3_3 hS, cg_3_4 hS, cp_3_4 hS, ct_4 hS, cg_4_0 hS, cp_4_0 hS, cg_4_1 hS, cp_4_1 hS, cg_4_2 hS, cp_4_2 hS, cg_4_3 hS, cp_4_3 hS, cg_4_4 hS, cp_4_4 hS, cg_4_5 hS, cp_4_5 hS, cg_4_6 hS, cp_4_6 hS, cg_4_7 hS, cp_4_7 hS, cg_4_8 hS, cp_4_8 hS, cg_4_9 hS, cp_4_9 hS, cg_4_10 hS, cp_4_10 hS, cg_4_11 hS, cp_4_11 hS, cg_4_12 hS, cp_4_12 hS, cl_t1 hS, cl_r1 hS, cl_g1 hS, cl_s1 hS, cl_t2 hS, cl_r2 hS, cl_g2 hS, cl_s2 hS, cl_t3 hS, cl_r3 hS, cl_g3 hS, cl_s3 hS, cl_t4 hS, cl_r4 hS, cl_g4 hS, cl_s4 hS, cl_p hS, cl_R hS, cl_8n hS, true_and, and_true, forall_const, Option.some.injEq, exists_eq_left', forall_eq, true_implies, cl_0, cl_1, cl_2, cl_3, cl_4, cl_5, cl_6, cl_7, cl_8, cl_9, cl_10, cl_11, cl_12, cl_13, cl_14, cl_15, cl_16, vi_0_3, vi_1_3, vi_2_3, pn_lee (show W a bc ≤ 1000000 by omega) (show W a b ≤ 1000000 by omega)]
          rw [u_gar, ew, hg] at ih
          refine ⟨fun h3 => ?_, fun h3 => ?_⟩
          · rw [if_neg] at ih
            · exact ih
            · intro y
              have z3 := y.2.2
              simp only [u_less, decide_eq_true_eq, ew, u_w_of ebc (show bc < 2147483648 by omega)] at z3
              omega
          · rw [if_pos] at ih
            · exact ih
            · refine ⟨h2', hF, ?_⟩
              simp only [u_less, decide_eq_true_eq, ew, u_w_of ebc (show bc < 2147483648 by omega)]
              omega
  exact ⟨n 3 + 1, H (n 3) 0 (by omega)⟩
/-- a way is read -/
theorem c_wl_rd {i w cnt : Nat} {f : Nat → Nat} (hw : c_wl g M o rr i w cnt f) (hne : rr ≠ r) : m_tg M w = 14 ∧ (∀ (σ : Cn) (Q : Int32 → Mem → Prop), wp_J2_size g (c_cM M o r σ) w Q = Q (nI cnt) (c_cM M o r σ)) ∧ ∃ bx : Nat → Nat, ∀ k : Nat, k < cnt → (∀ (σ : Cn) (Q : Option Nat → Mem → Prop), wp_J2_get g (c_cM M o r σ) w (nI k) Q = Q (some (bx k)) (c_cM M o r σ)) ∧ m_tg M (bx k) = 150 ∧ m_ub g (bx k) = nI (f k) := by
  obtain ⟨h1, h2, h3, h4, d, h5, h6⟩ := hw
  have hz : ∀ σ : Cn, m_gi (c_cM M o r σ) w 2 = nI cnt := fun σ => by rw [cM_gi_ne (c_rne h1 hne)]; exact h3
  refine ⟨h2, fun σ Q => ?_, fun k => (m_gr M d k).getD 0, fun k hk => ?_⟩
  · unfold wp_J2_size
    rw [hz, show m_tg (c_cM M o r σ) w = 14 from h2]
    exact propext ⟨fun q => q.2, fun q => ⟨rfl, q⟩⟩
  · rcases h6 with h6 | ⟨k1, k2, k3, k4⟩
    · omega
    · obtain ⟨x, e1, e2, e3⟩ := k4 k hk
      have ex : (m_gr M d k).getD 0 = x := by rw [e1]; rfl
      dsimp only
      rw [ex]
      refine ⟨fun σ Q => ?_, e2, e3⟩
      have c1 : ¬ nI k < 0 := pn_nn (by omega)
      have c2 : nI k < m_gi (c_cM M o r σ) w 2 := by rw [hz]; exact (pn_lt (by omega) (by omega)).mpr hk
      have c3 : vp_in (nI k) (m_ln M d) := (pn_in (by omega)).mpr (by omega)
      have cg : m_gr (c_cM M o r σ) d (nI k).toNatClampNeg = some x := by rw [pn_cl (by omega)]; exact e1
      refine propext ⟨fun q => ?_, fun q => q_get (d := d) h2 h5 k2 (Int32.not_lt.mp c1) c2 c3 (by rw [cg]; exact q)⟩
      obtain ⟨_, q⟩ := q
      have q := (q.2 c1).1 c2 m_le_rf m_le_rf
      obtain ⟨_, u, e, _, _, q⟩ := q
      have e' : some d = some u := h5.symm.trans e
      cases e'
      have q := q _ rfl m_le_rf
      rw [cg] at q
      exact q
theorem c1_tow148 {p c q a t own i w : Nat} {Q : Mem → Prop} (hS : c_St g M o r E n R) (hD : c_Rd g M o rr R D W u) (hne : rr ≠ r) (hr : u_R n σ) (hp : p < n 2) (hc : c < n 4) (hq : q < n 3) (e1 : σ 2 p 5 = nI c) (e3 : u_P D W a t) (hb : ∀ a b : Nat, a < 12 → b < 12 → D a b ≤ 100000 ∧ W a b ≤ 100000) (hw : c_wl g M o rr i w (u_len D W a t + 1) (u_it D W t a)) {e : Nat} (he : e ≤ u_len D W a t) (hee : u_end D W own a t = e)
    (hQ : Q (c_cM M o r (u_towTo D W σ p c q own a t))) : ∃ j : Nat, wp_X1_tow_b148 g Q j (c_cM M o r σ) (E 0 0) (E 2 p) (E 4 c) (nI q) (some w) (nI e) 0 0 := by
  obtain ⟨L, hL, hL11, hLt, hs⟩ := e3
  rw [hL] at hw he
  obtain ⟨tw, hsz, bx, hbx⟩ := c_wl_rd (r := r) hw hne
  have hml := u_mins_le (fun i hi => (hs i hi).2.2.1)
  have l3 := hr.1.2.2.2.2.2.2.2.2.1
  have d1 := (hr.2.2.1 p hp).1
  have d2 := (hr.2.2.2.2 c hc).1
  have H : ∀ d k : Nat, k + d = e → wp_X1_tow_b148 g Q (d + 1) (c_cM M o r σ) (E 0 0) (E 2 p) (E 4 c) (nI q) (some w) (nI e) (nI (u_mins D W a t k)) (nI k) := by
    intro d
    induction d with
    | zero =>
      intro k hk
      have ek : k = e := by omega
      subst ek
      have hm := hml k he
      obtain ⟨x1, x2, x3⟩ := hbx k (by omega)
      have hle : ((nI k : Int32) ≤ nI k) = True := eq_true ((pn_le (by omega) (by omega)).mpr (Nat.le_refl _))
      have h2m : 2 * nI (u_mins D W a t k) = nI (2 * u_mins D W a t k) := pn_mul 2 _
      have hmx : (if (1 : Int32) < nI (2 * u_mins D W a t k) then nI (2 * u_mins D W a t k) else 1) = nI (if u_mins D W a t k = 0 then 1 else 2 * u_mins D W a t k) := by
        by_cases h0 : u_mins D W a t k = 0
        · rw [h0, if_pos rfl, if_neg (by decide)]
          rfl
        · rw [if_neg h0, if_pos (show (1 : Int32) < nI (2 * u_mins D W a t k) from (pn_lt (a := 1) (by omega) (by omega)).mpr (by omega))]
      rw [wp_X1_tow_b148]
      simp (decide := true) only [hle, h2m, hmx, hp, hc, hq, d1, d2, tw, x1, x2, x3, wp_X6_begin, wp_J12_intValue, cM_tg, cM_gr, cM_ln, cM_le, c_rn, c_rs, ct_0 hS, cg_0_6 hS, cp_0_6 hS, cg_0_7 hS, cp_0_7 hS, ct_8 hS, cg_8_0 hS, cp_8_0 hS, cg_8_1 hS, cp_8_1 hS, cg_8_2 hS, cp_8_2 hS, ct_1 hS, cg_1_0 hS, cp_1_0 hS, cg_1_1 hS, cp_1_1 hS, cg_1_2 hS, cp_1_2 hS, cg_1_3 hS, cp_1_3 hS, cg_1_4 hS, cp_1_4 hS, ct_2 hS, cg_2_0 hS, cp_2_0 hS, cg_2_1 hS, cp_2_1 hS, cg_2_2 hS, cp_2_2 hS, cg_2_3 hS, cp_2_3 hS, cg_2_4 hS, cp_2_4 hS, cg_2_5 hS, cp_2_5 hS, cg_2_6 hS, cp_2_6 hS, cg_2_7 hS, cp_2_7 hS, cg_2_8 hS, cp_2_8 hS, cg_2_9 hS, cp_2_9 hS, cg_2_10 hS, cp_2_10 hS, cg_2_11 hS, cp_2_11 hS, cg_2_12 hS, cp_2_12 hS, cg_2_13 hS, cp_2_13 hS, cg_2_14 hS, cp_2_14 hS, ct_3 hS, cg_3_0 hS, cp_3_0 hS, cg_3_1 hS, cp_3_1 hS, cg_3_2 hS, cp_3_2 hS, cg_3_3 hS, cp_3_3 hS, cg_3_4 hS, cp_3_4 hS, ct_4 hS, cg_4_0 hS, cp_4_0 hS, cg_4_1 hS, cp_4_1 hS, cg_4_2 hS, cp_4_2 hS, cg_4_3 hS, cp_4_3 hS, cg_4_4 hS, cp_4_4 hS, cg_4_5 hS, cp_4_5 hS, cg_4_6 hS, cp_4_6 hS, cg_4_7 hS, cp_4_7 hS, cg_4_8 hS, cp_4_8 hS, cg_4_9 hS, cp_4_9 hS, cg_4_10 hS, cp_4_10 hS, cg_4_11 hS, cp_4_11 hS, cg_4_12 hS, cp_4_12 hS, cl_t1 hS, cl_r1 hS, cl_g1 hS, cl_s1 hS, cl_t2 hS, cl_r2 hS, cl_g2 hS, cl_s2 hS, cl_t3 hS, cl_r3 hS, cl_g3 hS, cl_s3 hS, cl_t4 hS, cl_r4 hS, cl_g4 hS, cl_s4 hS, cl_p hS, cl_R hS, cl_8n hS, true_and, and_true, forall_const, Option.some.injEq, exists_eq_left', forall_eq, true_implies, cl_0, cl_1, cl_2, cl_3, cl_4, cl_5, cl_6, cl_7, cl_8, cl_9, cl_10, cl_11, cl_12, cl_13, cl_14, cl_15, cl_16, vi_0_3, vi_1_3, vi_2_3, true_implies, not_true_eq_false, false_implies]
      unfold u_towTo at hQ
      rw [hee] at hQ
      simp (decide := true) only [c_self, c_rn, e1]
      simp (decide := true) only [c_commC, id_eq, c_rn] at hQ ⊢
      simp (decide := true) only [cM_gh] at hQ ⊢
      exact hQ
    | succ d ih =>
      intro k hk
      have ih := ih (k + 1) (by omega)
      obtain ⟨x1, x2, x3⟩ := hbx k (by omega)
      obtain ⟨y1, y2, y3⟩ := hbx (k + 1) (by omega)
      obtain ⟨s1, s2, s3, s4, s5, _⟩ := hs k (by omega)
      have hle : ((nI e : Int32) ≤ nI k) = False := pn_leF (by omega) (by omega) (by omega)
      have hfar : c_far D (u_it D W t a k) (u_it D W t a (k + 1)) = nI (D (u_it D W t a k) (u_it D W t a (k + 1))) := c_far_yes (by omega)
      have tR : m_tg M R = 3 := hD.2.1
      rw [wp_X1_tow_b148]
      have hDc : c_Rd g (c_cM M o r σ) o rr R D W u := c_Rd_same hD m_le_rf (fun b hb => ⟨by
        unfold c_cM q_ints
        dsimp only
        have e9 : c_enc o r σ (m_gi M) b = m_gi M b := by
          funext j
          unfold c_enc
          rw [if_neg]
          rcases hb with hb | hb <;> rw [hb] <;> exact hne
        rw [e9]
        rfl, rfl⟩)
      simp (decide := true) only [hle, tw, x1, x2, x3, y1, y2, y3, pn_succ, wp_J12_intValue, tR, c2_lengthOf hDc s2 s5, hfar, cM_tg, cM_gr, cM_ln, cM_le, c_rn, c_rs, ct_0 hS, cg_0_6 hS, cp_0_6 hS, cg_0_7 hS, cp_0_7 hS, ct_8 hS, cg_8_0 hS, cp_8_0 hS, cg_8_1 hS, cp_8_1 hS, cg_8_2 hS, cp_8_2 hS, ct_1 hS, cg_1_0 hS, cp_1_0 hS, cg_1_1 hS, cp_1_1 hS, cg_1_2 hS, cp_1_2 hS, cg_1_3 hS, cp_1_3 hS, cg_1_4 hS, cp_1_4 hS, ct_2 hS, cg_2_0 hS, cp_2_0 hS, cg_2_1 hS, cp_2_1 hS, cg_2_2 hS, cp_2_2 hS, cg_2_3 hS, cp_2_3 hS, cg_2_4 hS, cp_2_4 hS, cg_2_5 hS, cp_2_5 hS, cg_2_6 hS, cp_2_6 hS, cg_2_7 hS, cp_2_7 hS, cg_2_8 hS, cp_2_8 hS, cg_2_9 hS, cp_2_9 hS, cg_2_10 hS, cp_2_10 hS, cg_2_11 hS, cp_2_11 hS, cg_2_12 hS, cp_2_12 hS, cg_2_13 hS, cp_2_13 hS, cg_2_14 hS, cp_2_14 hS, ct_3 hS, cg_3_0 hS, cp_3_0 hS, cg_3_1 hS, cp_3_1 hS, cg_3_2 hS, cp_3_2 hS, cg_3_3 hS, cp_3_3 hS, cg_3_4 hS, cp_3_4 hS, ct_4 hS, cg_4_0 hS, cp_4_0 hS, cg_4_1 hS, cp_4_1 hS, cg_4_2 hS, cp_4_2 hS, cg_4_3 hS, cp_4_3 hS, cg_4_4 hS, cp_4_4 hS, cg_4_5 hS, cp_4_5 hS, cg_4_6 hS, cp_4_6 hS, cg_4_7 hS, cp_4_7 hS, cg_4_8 hS, cp_4_8 hS, cg_4_9 hS, cp_4_9 hS, cg_4_10 hS, cp_4_10 hS, cg_4_11 hS, cp_4_11 hS, cg_4_12 hS, cp_4_12 hS, cl_t1 hS, cl_r1 hS, cl_g1 hS, cl_s1 hS, cl_t2 hS, cl_r2 hS, cl_g2 hS, cl_s2 hS, cl_t3 hS, cl_r3 hS, cl_g3 hS, cl_s3 hS, cl_t4 hS, cl_r4 hS, cl_g4 hS, cl_s4 hS, cl_p hS, cl_R hS, cl_8n hS, true_and, and_true, forall_const, Option.some.injEq, exists_eq_left', forall_eq, true_implies, cl_0, cl_1, cl_2, cl_3, cl_4, cl_5, cl_6, cl_7, cl_8, cl_9, cl_10, cl_11, cl_12, cl_13, cl_14, cl_15, cl_16, vi_0_3, vi_1_3, vi_2_3, true_implies, not_false_eq_true, false_implies, pn_add]
      exact ih
  exact ⟨e + 1, H e 0 (by omega)⟩
end
