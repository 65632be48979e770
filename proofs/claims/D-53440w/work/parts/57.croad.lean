/-! PURE: the component's roads -/
set_option maxRecDepth 100000
def c_far (W : Nat → Nat → Nat) (a b : Nat) : Int32 := if W a b < 100000 then nI (W a b) else -5
/-- a square of ints (section s: its rows) -/
def c_sq (M : Mem) (o : Nat → Nat × Nat × Nat) (rr s : Nat) (d : Nat) (W : Nat → Nat → Nat) : Prop := o d = (rr, s + 2, 0) ∧ m_tg M d = 105 ∧ m_ln M d = 12 ∧ ∀ a : Nat, a < 12 → ∃ w : Nat, m_gr M d a = some w ∧ o w = (rr, s, a) ∧ m_tg M w = 101 ∧ m_ln M w = 12 ∧ ∀ b : Nat, b < 12 → m_gi M w b = c_far W a b
/-- a way that was laid -/
def c_wl (g : Nat → Nat) (M : Mem) (o : Nat → Nat × Nat × Nat) (rr i : Nat) (w : Nat) (cnt : Nat) (f : Nat → Nat) : Prop := o w = (rr, 7, i) ∧ m_tg M w = 14 ∧ m_gi M w 2 = nI cnt ∧ cnt ≤ 12 ∧ ∃ d : Nat, m_gr M w 1 = some d ∧ (cnt = 0 ∨ (o d = (rr, 8, i) ∧ m_tg M d = 103 ∧ cnt ≤ m_ln M d ∧ ∀ k : Nat, k < cnt → ∃ x : Nat, m_gr M d k = some x ∧ m_tg M x = 150 ∧ m_ub g x = nI (f k)))
def u_cnt (D W : Nat → Nat → Nat) (a t : Nat) : Nat := if W a t < 100000 then u_len D W a t + 1 else 0
/-- how many ways are not laid yet, of the first so many -/
def u_un (f : Nat → Option Nat) : Nat → Nat
  | 0 => 0
  | k + 1 => u_un f k + (match f k with | none => 1 | some _ => 0)
def c_ways (g : Nat → Nat) (M : Mem) (o : Nat → Nat × Nat × Nat) (rr : Nat) (D W : Nat → Nat → Nat) (l d : Nat) : Prop := o l = (rr, 5, 0) ∧ m_tg M l = 14 ∧ m_gi M l 2 = nI 144 ∧ m_gr M l 1 = some d ∧ o d = (rr, 6, 0) ∧ m_tg M d = 103 ∧ 144 ≤ m_ln M d ∧ m_ln M d < 1000 ∧ ∀ a t : Nat, a < 12 → t < 12 → ∀ w : Nat, m_gr M d (12 * a + t) = some w → c_wl g M o rr (12 * a + t) w (u_cnt D W a t) (u_it D W t a)
/-- Roads in region rr, u ways not laid -/
def c_Rd (g : Nat → Nat) (M : Mem) (o : Nat → Nat × Nat × Nat) (rr R : Nat) (D W : Nat → Nat → Nat) (u : Nat) : Prop :=
  o R = (rr, 0, 0) ∧ m_tg M R = 3 ∧ (∃ d : Nat, m_gr M R 1 = some d ∧ c_sq M o rr 1 d D) ∧ (∃ d : Nat, m_gr M R 2 = some d ∧ c_sq M o rr 2 d W) ∧ ∃ l d : Nat, m_gr M R 3 = some l ∧ c_ways g M o rr D W l d ∧ u_un (m_gr M d) 144 = u
theorem c_far_no {W : Nat → Nat → Nat} {a b : Nat} (h : W a b ≤ 100000) : (c_far W a b = -5) = ¬ (W a b < 100000) := by
  unfold c_far
  by_cases z : W a b < 100000
  · rw [if_pos z, u_og_ne (by omega)]
    exact (eq_false (fun y => y z)).symm
  · rw [if_neg z]
    simp [z]
theorem c_far_yes {W : Nat → Nat → Nat} {a b : Nat} (h : W a b < 100000) : c_far W a b = nI (W a b) := if_pos h
section
variable {g : Nat → Nat} {M : Mem} {o : Nat → Nat × Nat × Nat} {r rr : Nat} {E : Nat → Nat → Nat} {n : Nat → Nat} {R : Nat} {σ σ' : Cn} {D W : Nat → Nat → Nat} {u : Nat}
theorem m_lerf {M : Mem} : m_le M M = True := eq_true m_le_rf
theorem c_rne {a : Nat} {x : Nat × Nat × Nat} (h : o a = x) (hr : x.1 ≠ r) : (o a).1 ≠ r := by rw [h]; exact hr
theorem c1_far {a b : Nat} {Q : Int32 → Mem → Prop} (hS : c_St g M o r E n R) (hD : c_Rd g M o rr R D W u) (hne : rr ≠ r) (ha : a < 12) (hb : b < 12) : wp_X1_far g (c_cM M o r σ) (E 0 0) (nI a) (nI b) Q = Q (c_far W a b) (c_cM M o r σ) := by
  obtain ⟨oR, tR, _, ⟨d, hd, od, td, ld, hrow⟩, _⟩ := hD
  obtain ⟨w, hw, ow, tw, lw, hi⟩ := hrow a ha
  have va : vp_in (nI a) 12 := (pn_in (by omega)).mpr ha
  have vb : vp_in (nI b) 12 := (pn_in (by omega)).mpr hb
  have ca : (nI a).toNatClampNeg = a := pn_cl (by omega)
  have cb : (nI b).toNatClampNeg = b := pn_cl (by omega)
  have hg : m_gi (c_cM M o r σ) w b = c_far W a b := by rw [cM_gi_ne (c_rne ow hne)]; exact hi b hb
  simp (decide := true) only [wp_X1_far, cM_tg, cM_gr, cM_ln, cM_le, c_rn, c_rs, ct_0 hS, cg_0_6 hS, cp_0_6 hS, cg_0_7 hS, cp_0_7 hS, ct_8 hS, cg_8_0 hS, cp_8_0 hS, cg_8_1 hS, cp_8_1 hS, cg_8_2 hS, cp_8_2 hS, ct_1 hS, cg_1_0 hS, cp_1_0 hS, cg_1_1 hS, cp_1_1 hS, cg_1_2 hS, cp_1_2 hS, cg_1_3 hS, cp_1_3 hS, cg_1_4 hS, cp_1_4 hS, ct_2 hS, cg_2_0 hS, cp_2_0 hS, cg_2_1 hS, cp_2_1 hS, cg_2_2 hS, cp_2_2 hS, cg_2_3 hS, cp_2_3 hS, cg_2_4 hS, cp_2_4 hS, cg_2_5 hS, cp_2_5 hS, cg_2_6 hS, cp_2_6 hS, cg_2_7 hS, cp_2_7 hS, cg_2_8 hS, cp_2_8 hS, cg_2_9 hS, cp_2_9 hS, cg_2_10 hS, cp_2_10 hS, cg_2_11 hS, cp_2_11 hS, cg_2_12 hS, cp_2_12 hS, cg_2_13 hS, cp_2_13 hS, cg_2_14 hS, cp_2_14 hS, ct_3 hS, cg_3_0 hS, cp_3_0 hS, cg_3_1 hS, cp_3_1 hS, cg_3_2 hS, cp_3_2 hS, cg_3_3 hS, cp_3_3 hS, cg_3_4 hS, cp_3_4 hS, ct_4 hS, cg_4_0 hS, cp_4_0 hS, cg_4_1 hS, cp_4_1 hS, cg_4_2 hS, cp_4_2 hS, cg_4_3 hS, cp_4_3 hS, cg_4_4 hS, cp_4_4 hS, cg_4_5 hS, cp_4_5 hS, cg_4_6 hS, cp_4_6 hS, cg_4_7 hS, cp_4_7 hS, cg_4_8 hS, cp_4_8 hS, cg_4_9 hS, cp_4_9 hS, cg_4_10 hS, cp_4_10 hS, cg_4_11 hS, cp_4_11 hS, cg_4_12 hS, cp_4_12 hS, cl_t1 hS, cl_r1 hS, cl_g1 hS, cl_s1 hS, cl_t2 hS, cl_r2 hS, cl_g2 hS, cl_s2 hS, cl_t3 hS, cl_r3 hS, cl_g3 hS, cl_s3 hS, cl_t4 hS, cl_r4 hS, cl_g4 hS, cl_s4 hS, cl_p hS, cl_R hS, cl_8n hS, true_and, and_true, forall_const, Option.some.injEq, exists_eq_left', forall_eq, true_implies, cl_0, cl_1, cl_2, cl_3, cl_4, cl_5, cl_6, cl_7, cl_8, cl_9, cl_10, cl_11, cl_12, cl_13, cl_14, cl_15, cl_16, vi_0_3, vi_1_3, vi_2_3, tR, hd, td, ld, va, ca, hw, tw, lw, vb, cb, hg]
theorem c2_lengthOf {a b : Nat} {Q : Int32 → Mem → Prop} (hD : c_Rd g M o rr R D W u) (ha : a < 12) (hb : b < 12) : wp_X2_lengthOf g (M) R (nI a) (nI b) Q = Q (c_far D a b) (M) := by
  obtain ⟨oR, tR, ⟨d, hd, od, td, ld, hrow⟩, _, _⟩ := hD
  obtain ⟨w, hw, ow, tw, lw, hi⟩ := hrow a ha
  have va : vp_in (nI a) 12 := (pn_in (by omega)).mpr ha
  have vb : vp_in (nI b) 12 := (pn_in (by omega)).mpr hb
  have ca : (nI a).toNatClampNeg = a := pn_cl (by omega)
  have cb : (nI b).toNatClampNeg = b := pn_cl (by omega)
  have hg : m_gi (M) w b = c_far D a b := by exact hi b hb
  simp (decide := true) only [wp_X2_lengthOf, m_lerf, true_and, and_true, forall_const, Option.some.injEq, exists_eq_left', forall_eq, true_implies, tR, hd, td, ld, va, ca, hw, tw, lw, vb, cb, hg]
/-- the next area (there is one) -/
theorem c2_next {f t x : Nat} {Q : Int32 → Mem → Prop} (hD : c_Rd g M o rr R D W u) (hf : f < 12) (ht : t < 12) (hDf : D f f = 100000) (hb : ∀ a b : Nat, a < 12 → b < 12 → D a b ≤ 100000 ∧ W a b ≤ 100000) (hx : x = u_nx D W f t) (hx12 : x < 12) (h60 : D f x ≤ 60) (hsum : D f x + W x t = W f t) (hW : W f t < 100000) (hQ : Q (nI x) (M)) : wp_X2_next g (M) R (nI f) (nI t) Q := by
  obtain ⟨oR, tR, _, ⟨d, hd, od, td, ld, hrow⟩, _⟩ := id hD
  have hPx : (fun a => decide (D f a < 100000 ∧ D f a + W a t = W f t)) x = true := decide_eq_true ⟨by omega, hsum⟩
  have hbef : ∀ k : Nat, k < x → ¬ (D f k < 100000 ∧ D f k + W k t = W f t) := by
    intro k hk hP
    have : u_nx D W f t ≤ k := by
      have gen : ∀ (dd a : Nat), a ≤ k → k < a + dd → u_first (fun a => decide (D f a < 100000 ∧ D f a + W a t = W f t)) t a dd ≤ k := by
        intro dd
        induction dd with
        | zero => intro a h1 h2; omega
        | succ dd ih =>
          intro a h1 h2
          unfold u_first
          split
          · exact h1
          · rename_i hz
            by_cases e : a = k
            · subst e
              exact absurd (decide_eq_true hP) hz
            · exact ih (a + 1) (by omega) (by omega)
      exact gen 12 0 (Nat.zero_le _) (by omega)
    omega
  have vt : vp_in (nI t) 12 := (pn_in (by omega)).mpr ht
  have ct : (nI t).toNatClampNeg = t := pn_cl (by omega)
  have vf : vp_in (nI f) 12 := (pn_in (by omega)).mpr hf
  have cf : (nI f).toNatClampNeg = f := pn_cl (by omega)
  obtain ⟨wf, hwf, owf, twf, lwf, hif⟩ := hrow f hf
  have hgf : m_gi (M) wf t = nI (W f t) := by rw [hif t ht, c_far_yes hW]
  have H : ∀ dd k : Nat, k + dd = x → wp_X2_next_b2 g Q (dd + 1) (M) R (nI f) (nI t) (nI k) := by
    intro dd
    have step : ∀ k : Nat, k ≤ x → ∀ (dd : Nat) , (k < x → wp_X2_next_b2 g Q dd (M) R (nI f) (nI t) (nI (k + 1))) → wp_X2_next_b2 g Q (dd + 1) (M) R (nI f) (nI t) (nI k) := by
      intro k hk dd hnext
      have hk12 : k < 12 := by omega
      have h12 : ((12 : Int32) ≤ nI k) = False := pn_leF (a := 12) (by omega) (by omega) hk12
      have hkf : (nI k = nI f) = (k = f) := pn_eqe (by omega) (by omega)
      have vk : vp_in (nI k) 12 := (pn_in (by omega)).mpr hk12
      have ck : (nI k).toNatClampNeg = k := pn_cl (by omega)
      obtain ⟨w, hw, ow, tw, lw, hi⟩ := hrow k hk12
      have hg : m_gi (M) w t = c_far W k t := by exact hi t ht
      have b1 := hb f k hf hk12
      have b2 := hb k t hk12 ht
      rw [wp_X2_next_b2]
      simp (decide := true) only [h12, hkf, m_lerf, tR, c2_lengthOf hD hf hk12, wp_X2_next_b24, hd, td, ld, vk, ck, hw, tw, lw, vt, ct, hg, vf, cf, hwf, twf, lwf, hgf, c_far_no b1.1, c_far_no b2.2, pn_succ, true_and, and_true, forall_const, Option.some.injEq, exists_eq_left', forall_eq, true_implies, false_implies, not_false_eq_true, not_true_eq_false, and_true]
      have hstop : k < x ∨ k = x := by omega
      refine ⟨fun z => ⟨fun z2 => ?_, fun z2 => ⟨fun z3 => ?_, fun z3 => ⟨fun z4 => ?_, fun z4 => ?_⟩⟩⟩, fun z => ?_⟩
      · rcases hstop with h | h
        · exact hnext h
        · subst h
          omega
      · rcases hstop with h | h
        · exact hnext h
        · subst h
          omega
      · rcases hstop with h | h
        · exact hnext h
        · subst h
          rw [c_far_yes (by omega), c_far_yes (by omega), pn_add, hsum] at z4
          exact absurd rfl z4
      · rcases hstop with h | h
        · have z2' := Classical.not_not.mp z2
          have z3' := Classical.not_not.mp z3
          rw [c_far_yes z2', c_far_yes z3', pn_add] at z4
          exact absurd ⟨z2', (pn_inj (by omega) (by omega)).mp z4⟩ (hbef k h)
        · subst h
          exact hQ
      · rcases hstop with h | h
        · exact hnext h
        · subst h
          subst z
          omega
    induction dd with
    | zero =>
      intro k hk
      exact step k (by omega) 0 (fun h => by omega)
    | succ dd ih =>
      intro k hk
      exact step k (by omega) (dd + 1) (fun _ => ih (k + 1) (by omega))
  exact ⟨x + 1, H x 0 (by omega)⟩
end
