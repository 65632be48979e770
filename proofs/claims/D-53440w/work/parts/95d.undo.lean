/-! PURE: undo; the reference's keep, restore, undo -/
set_option maxRecDepth 100000
def s_undo (d : Dt) : Int32 × Dt := if d.2.1.1 = 0 then (-5, d) else (nI (d.2.1.1 - 1), (d.2.1.2 (d.2.1.1 - 1), (d.2.1.1 - 1, d.2.1.2), d.2.2))
/-- every state of the desk is one -/
def d_ok (d : Dt) : Prop := u_Sv d.1 ∧ (∀ i : Nat, i < d.2.1.1 → u_Sv (d.2.1.2 i)) ∧ ∀ a : Cs, d.2.2.1 = some a → u_Sv a
section
variable {g : Nat → Nat} {M M' : Mem} {o : Nat → Nat × Nat × Nat} {x : Nat} {RR : Nat → Nat} {DD : Nat → Nat → Nat → Nat} {U : Nat → Prop} {y0 : Yt} {yh : Nat → Yt} {yk : Yt} {d : Dt} {m : Nat} {A : Nat → Nat} {I : Nat → Nat → Int32}
theorem d_ok_of (hC : d_C g M o x RR DD U y0 yh yk d) : d_ok d := ⟨hC.2.2.1.2.2.2.2.1, fun i hi => (hC.2.2.2.1 i hi).2.2.2.2.1, fun a ha => (hC.2.2.2.2.1 a ha).2.2.2.2.1⟩
theorem d_list_same {l dl : Nat} (hC : d_C g M o x RR DD U y0 yh yk d) (hl : m_gr M x 2 = some l) (hd : m_gr M l 1 = some dl) (hf : c_fr M M' l dl 0 0) (hdl : m_tg M dl = 103) : ∀ p : Nat, p ≠ 2 → c_same M o M' o p := by
  obtain ⟨⟨b1, b2, b3, N, b4⟩, hroads, hcur, hhist, hkept, hdis, hx⟩ := id hC
  obtain ⟨x1, x2, x3, x4, ⟨l', dl', x5, x6, x7, x8⟩, x9, bb, x10, x11⟩ := id hx
  have el : l' = l := Option.some.inj (x5.symm.trans hl)
  subst el
  have ed : dl' = dl := Option.some.inj (x7.2.2.1.symm.trans hd)
  subst ed
  have odl : o dl' = (2, 2, 0) ∧ m_ln M dl' = 10 := x8.resolve_left (fun z => by rw [z, b3.1] at hdl; cases hdl)
  intro p hp b hb
  have hb' : (o b).1 = p := by rcases hb with w | w <;> exact w
  exact ⟨hf.2.1 b (fun z => hp (by rw [← hb', z, x6])) (fun z => hp (by rw [← hb', z, odl.1])), rfl⟩
theorem x0_undo {Q : Int32 → Mem → Prop} (hobj : ∀ (M : Mem) (y : Nat), q_obj (m_tg M y) → m_asg M y "java/lang/Object") (hX : d_CX g M o x d) (hQ : ∀ M' o', d_aft g M o x M' o' (s_undo d).2 → Q (s_undo d).1 M') : wp_X0_undo g M x Q := by
  obtain ⟨RR, DD, U, y0, yh, yk, hC⟩ := id hX
  obtain ⟨x1, x2, x3, x4, ⟨l, dl, x5, x6, x7, x8⟩, x9, bb, x10, x11⟩ := id hC.2.2.2.2.2.2
  have b3 := hC.1.2.2.1
  unfold s_undo at hQ
  refine ⟨x2, l, x5, x7.1, x7.1, fun hn _ => ⟨fun _ => ?_, fun z => absurd rfl z⟩, fun he _ => ⟨fun z => absurd z (by decide), fun _ => ?_⟩⟩
  · rw [x7.2.1] at hn
    have h0 : d.2.1.1 ≠ 0 := fun z => hn (by rw [z]; rfl)
    rw [if_neg h0] at hQ
    refine ⟨l, x5, l, x5, x7.1, c_L_size x7 (fun _ => ⟨x7.1, ?_⟩)⟩
    obtain ⟨w1, w2, w3, w4⟩ := id x7
    rcases w4 with ⟨z, _⟩ | ⟨v1, v2, v3, v4⟩
    · exact absurd z h0
    have l10 : m_ln M dl = 10 := by
      rcases x8 with w | w
      · rw [w, b3.1] at v1
        cases v1
      · exact w.2
    rw [show nI d.2.1.1 - 1 = nI (d.2.1.1 - 1) from pn_sub (b := 1) (by omega)]
    have hh : d.2.1.1 = (d.2.1.1 - 1) + 1 := by omega
    refine q_remove (n := d.2.1.1 - 1) (i := d.2.1.1 - 1) hobj w1 (by rw [← hh]; exact w2) w3 v1 (by omega) (by omega) (Nat.le_refl _) (fun k hk => v4 k (by omega)) (fun k hk y hy => ?_) (fun M1 r1 r2 r3 r4 r5 r6 r7 _ => ?_)
    · cases hy
      exact Or.inl (ct_0 (hC.2.2.2.1 k (by omega)).1)
    · have same := d_list_same hC x5 w3 r7 v1
      have hC1 : d_C g M1 o x RR DD U y0 yh yk (d.1, (d.2.1.1 - 1, d.2.1.2), d.2.2) := d_list hC x5 w3 r7 ⟨r1, r2, r3, Or.inr ⟨r4, by rw [r5]; omega, by rw [r5]; omega, fun k hk => by rw [r6 k hk, if_pos hk]⟩⟩ v1 (fun i hi => ⟨i, by omega, rfl, rfl⟩) (fun i j hi hj hij => hC.2.2.2.2.2.1.2.1 i j (by omega) (by omega) hij) (by omega)
      have hpop := hC.2.2.2.1 (d.2.1.1 - 1) (by omega)
      have hpop1 := d_hold_same hpop (same _ (d_hold_ne hpop).2.1)
      have hdis := hC.2.2.2.2.2.1
      refine ⟨(yh (d.2.1.1 - 1)).2.1 0 0, rfl, ct_0 hpop1.1, fun M33 e33 => ?_⟩
      obtain ⟨j1, j2⟩ := d_xpr (k := 0) (v := some ((yh (d.2.1.1 - 1)).2.1 0 0)) (y0' := yh (d.2.1.1 - 1)) (yk' := yk) (a' := d.2.1.2 (d.2.1.1 - 1)) (ke := d.2.2.1) hC1 (Or.inl rfl) hpop1 (fun b hb => hC1.2.2.2.2.1 b hb) ⟨fun i hi => hdis.2.1 i _ (by have hi' : i < d.2.1.1 - 1 := hi; omega) (by omega) (by have hi' : i < d.2.1.1 - 1 := hi; omega), fun i j hi hj hij => hC1.2.2.2.2.2.1.2.1 i j hi hj hij, fun hk => ⟨fun z => (hdis.2.2 hk).2 (d.2.1.1 - 1) (by omega) z.symm, fun i hi => (hdis.2.2 hk).2 i (by have hi' : i < d.2.1.1 - 1 := hi; omega)⟩⟩ rfl rfl
      rw [← e33] at j1 j2
      obtain ⟨_, q2, q3, q4, ⟨l', dl', q5, q6, q7, q8⟩, _⟩ := j1.2.2.2.2.2.2
      refine ⟨l', q5, q7.1, c_L_size q7 (fun _ => ?_)⟩
      have hnc := r7.2.2.1
      have hns := r7.2.2.2
      exact hQ M33 o ⟨⟨RR, DD, U, _, yh, yk, j1⟩, c_same_tr (same 3 (by omega)) j2, by rw [e33, m_nc_pr]; omega, by rw [e33, m_ns_pr]; omega⟩
  · rw [x7.2.1] at he
    have h0 : d.2.1.1 = 0 := (pn_inj (b := 0) (by omega) (by omega)).mp he
    rw [if_pos h0] at hQ
    exact hQ M o (d_no hX)
theorem u_cc_hi {σ : Cn} {j : Nat} (hV : u_V4 σ) (h : 810 ≤ j) : u_cc σ j = 0 := by
  unfold u_cc c_dec
  rw [if_neg (by omega), if_neg (by omega), if_neg (by omega), if_neg (by omega), if_neg (by omega)]
  exact hV _ _ (by show 40 ≤ (j - 290) / 13; omega)
/-- ways are laid anew -/
theorem r4_lays {σ : Cn} {N : Nat} {Q : Mem → Prop} (hA : q_MA M m A) (h5 : σ 0 0 5 = nI N) (hN : N ≤ 30) (hr : u_Rds σ N) (hQ : ∀ J, (∀ b j : Nat, b ≠ A 0 → b ≠ A 8 → b ≠ A 9 → J b j = I b j) → u_RI J A (u_Dk σ N) (u_Wk (u_Dk σ N) 12) → Q (c_rM M A J σ)) : wp_X4_laysWays g (c_rM M A I σ) m Q := by
  have row : ∀ r f : Nat, r < N → f < 3 → c_rE (A 0) σ I (A 0) (16 + 3 * r + f) = σ 5 r f := fun r f hrN hf => c_rE_at (c_dec5 (by omega) hf)
  refine q4_laysWays (I := c_rE (A 0) σ I) hA hN ((c_rE_at (c_dec0 (by decide))).trans h5) (fun r hrN => ?_) ?_
  · obtain ⟨a, b, l, ha, hb, _, _, _, e1, e2, _⟩ := (hr r hrN).1
    exact ⟨a, b, ha, hb, (row r 0 hrN (by omega)).trans e1, (row r 1 hrN (by omega)).trans e2⟩
  · have h08 := q_ne hA i_0 i_8 (by decide)
    have h09 := q_ne hA i_0 i_9 (by decide)
    rw [c_rM_of (A := A) (σ := σ) (fun j => (h_lays_ne h08 h09).trans c_rE_cc)]
    exact hQ _ (fun b j q1 q2 q3 => (h_lays_ne q2 q3).trans (if_neg q1)) (h_lays_is hA hN row (fun r hrN => (hr r hrN).1))
theorem r4_keep {Q : Int32 → Mem → Prop} (hA : q_MA M m A) (hR : d_Rf m A I d) (hQ : ∀ J, d_Rf m A J (s_keep d).2 → d_fr m A I J → Q (s_keep d).1 (c_rM M A J (s_keep d).2.1.1)) : wp_X4_keep g (c_rM M A I d.1.1) m Q := by
  obtain ⟨r1, r2, r3, r4, r5, r6, r7, r8⟩ := id hR
  have h03 := q_ne hA i_0 i_3 (by decide)
  have hm0 := q_mA hA i_0
  have hm3 := q_mA hA i_3
  refine ⟨hA.1, A 0, (hA.2.1 0 i_0).1, A 3, (hA.2.1 3 i_3).1, ?_⟩
  refine q4_copies (I := c_rE (A 0) d.1.1 I) (f := 0) (t := 0) (hA.2.1 0 i_0).2.1 (hA.2.1 3 i_3).2.1 (by rw [(hA.2.1 0 i_0).2.2]; decide) (by rw [(hA.2.1 3 i_3).2.2]; decide) ⟨by decide, by decide⟩ h03 (fun _ M9 e9 => ?_)
  rw [q_piI] at e9
  generalize hJ : q_up (q_cp (c_rE (A 0) d.1.1 I) (A 0) 0 (A 3) 0 810) m 4 1 = J at e9
  have j0 : ∀ j : Nat, J (A 0) j = u_cc d.1.1 j := fun j => by rw [← hJ, q_up_ne hm0.symm, q_cp_ne h03]; exact c_rE_cc
  have jm : ∀ j : Nat, j ≠ 4 → J m j = I m j := fun j hj => by rw [← hJ, q_up_nk hj, q_cp_ne hm3]; exact if_neg hm0
  have j4 : J m 4 = 1 := by rw [← hJ]; exact if_pos ⟨rfl, rfl⟩
  have jb : ∀ b j : Nat, b ≠ m → b ≠ A 0 → b ≠ A 3 → J b j = I b j := fun b j q1 q2 q3 => by rw [← hJ, q_up_ne q1, q_cp_ne q3]; exact if_neg q2
  have j3 : ∀ j : Nat, j < 810 → J (A 3) j = u_cc d.1.1 j := fun j hj => by
    rw [← hJ, q_up_ne hm3.symm]
    have e : q_cp (c_rE (A 0) d.1.1 I) (A 0) 0 (A 3) 0 810 (A 3) j = c_rE (A 0) d.1.1 I (A 0) (0 + (j - 0)) := if_pos ⟨rfl, Nat.zero_le _, by omega⟩
    rw [e, show 0 + (j - 0) = j by omega]
    exact c_rE_cc
  rw [c_rM_of (A := A) (σ := d.1.1) j0] at e9
  subst e9
  simp (decide := true) only [rw_ofPatrol, rw_ofCall, rw_ofMember, rw_ofGarage, rw_laysPatrol, rw_laysCall, rw_addsMember, rM_tg, rM_gr, rM_ln, rM_m hA, rM_a hA, rM_at hA, rM_al hA, rM_gi0, rM_pi0, rM_le, hA, c_rn, c_rs, true_and, and_true, forall_const, Option.some.injEq, exists_eq_left', forall_eq, true_implies, vi_0_3, vi_1_3, vi_2_3, vi_0_4, vi_1_4, vi_2_4, vi_3_4, vi_0_13, vi_1_13, vi_2_13, vi_3_13, vi_4_13, vi_5_13, vi_6_13, vi_7_13, vi_8_13, vi_9_13, vi_10_13, vi_11_13, vi_12_13, vi_0_14, vi_1_14, vi_2_14, vi_3_14, vi_4_14, vi_5_14, vi_6_14, vi_7_14, vi_8_14, vi_9_14, vi_10_14, vi_11_14, vi_12_14, vi_13_14, vi_0_16, vi_1_16, vi_2_16, vi_3_16, vi_4_16, vi_5_16, vi_6_16, vi_7_16, vi_8_16, vi_9_16, vi_10_16, vi_11_16, vi_12_16, vi_13_16, vi_14_16, vi_15_16, vi_0_810, vi_1_810, vi_2_810, vi_3_810, vi_4_810, vi_5_810, vi_6_810, vi_7_810, vi_8_810, vi_9_810, vi_10_810, vi_11_810, vi_12_810, vi_13_810, vi_14_810, vi_15_810, vi_0_40, vi_1_40, vi_2_40, vi_3_40, vi_4_40, vi_5_40, vi_6_40, vi_7_40, vi_8_40, vi_9_40, vi_10_40, vi_11_40, vi_12_40, vi_13_40, vi_14_40, vi_15_40, vi_0_60, vi_1_60, vi_2_60, vi_3_60, vi_4_60, vi_5_60, vi_6_60, vi_7_60, vi_8_60, vi_9_60, vi_10_60, vi_11_60, vi_12_60, vi_13_60, vi_14_60, vi_15_60, vi_0_144, vi_1_144, vi_2_144, vi_3_144, vi_4_144, vi_5_144, vi_6_144, vi_7_144, vi_8_144, vi_9_144, vi_10_144, vi_11_144, vi_12_144, vi_13_144, vi_14_144, vi_15_144, vi_0_12, vi_1_12, vi_2_12, vi_3_12, vi_4_12, vi_5_12, vi_6_12, vi_7_12, vi_8_12, vi_9_12, vi_10_12, vi_11_12, cl_0, cl_1, cl_2, cl_3, cl_4, cl_5, cl_6, cl_7, cl_8, cl_9, cl_10, cl_11, cl_12, cl_13, cl_14, cl_15, cl_16]
  have hne : ∀ k : Nat, (k = 1 ∨ k = 6 ∨ k = 8 ∨ k = 9) → ∀ j : Nat, J (A k) j = I (A k) j := fun k hk j => by
    rcases hk with z | z | z | z <;> subst z
    · exact jb _ _ (q_mA hA i_1).symm (q_ne hA i_1 i_0 (by decide)) (q_ne hA i_1 i_3 (by decide))
    · exact jb _ _ (q_mA hA i_6).symm (q_ne hA i_6 i_0 (by decide)) (q_ne hA i_6 i_3 (by decide))
    · exact jb _ _ (q_mA hA i_8).symm (q_ne hA i_8 i_0 (by decide)) (q_ne hA i_8 i_3 (by decide))
    · exact jb _ _ (q_mA hA i_9).symm (q_ne hA i_9 i_0 (by decide)) (q_ne hA i_9 i_3 (by decide))
  refine hQ J ⟨(jm 2 (by decide)).trans r1, r2, fun i j hi hj => (hne 1 (Or.inl rfl) _).trans (r3 i j hi hj), Or.inr ⟨d.1, rfl, j4, j3⟩, (jm 7 (by decide)).trans r5, r6, fun k hk => (hne 6 (Or.inr (Or.inl rfl)) k).trans (r7 k hk), fun a b ha hb => ?_⟩ (fun b j q1 q2 => jb b j q1 (q2 0 i_0) (q2 3 i_3))
  rw [hne 8 (Or.inr (Or.inr (Or.inl rfl))), hne 9 (Or.inr (Or.inr (Or.inr rfl)))]
  exact r8 a b ha hb
/-- a row is copied into the state's own row, ways are laid -/
theorem r4_back {Q : Mem → Prop} {a : Cs} {f k : Nat} (hA : q_MA M m A) (hk : k = 1 ∨ k = 3) (hf : f + 810 ≤ q_ln k) (hV : u_V4 d.1.1) (ha : u_Sv a) (hrow : ∀ j : Nat, j < 810 → I (A k) (f + j) = u_cc a.1 j)
    (hQ : ∀ J, (∀ b j : Nat, b ≠ A 0 → b ≠ A 8 → b ≠ A 9 → J b j = I b j) → u_RI J A (u_Dk a.1 (a.2 5)) (u_Wk (u_Dk a.1 (a.2 5)) 12) → Q (c_rM M A J a.1)) : wp_X4_copies g (c_rM M A I d.1.1) (A k) (nI f) (A 0) 0 (fun (M11 : Mem) => m_le (c_rM M A I d.1.1) M11 → wp_X4_laysWays g M11 m (fun (M14 : Mem) => m_le M11 M14 → Q M14)) := by
  have hik : q_isar k := by rcases hk with z | z <;> subst z <;> first | exact i_1 | exact i_3
  have hk0 : A k ≠ A 0 := q_ne hA hik i_0 (by omega)
  have hq : q_ln k ≤ 3240 := by rcases hk with z | z <;> subst z <;> decide
  refine q4_copies (I := c_rE (A 0) d.1.1 I) (f := f) (t := 0) (hA.2.1 k hik).2.1 (hA.2.1 0 i_0).2.1 (by rw [(hA.2.1 k hik).2.2]; exact hf) (by rw [(hA.2.1 0 i_0).2.2]; decide) ⟨by omega, by decide⟩ hk0 (fun _ => ?_)
  generalize hJ : q_cp (c_rE (A 0) d.1.1 I) (A k) f (A 0) 0 810 = J
  have j0 : ∀ j : Nat, J (A 0) j = u_cc a.1 j := fun j => by
    rw [← hJ]
    by_cases h : j < 810
    · have e : q_cp (c_rE (A 0) d.1.1 I) (A k) f (A 0) 0 810 (A 0) j = c_rE (A 0) d.1.1 I (A k) (f + (j - 0)) := if_pos ⟨rfl, Nat.zero_le _, by omega⟩
      rw [e, show j - 0 = j from rfl]
      exact (if_neg hk0).trans (hrow j h)
    · have e : q_cp (c_rE (A 0) d.1.1 I) (A k) f (A 0) 0 810 (A 0) j = c_rE (A 0) d.1.1 I (A 0) j := if_neg (by omega)
      rw [e, c_rE_cc, u_cc_hi hV (by omega), u_cc_hi ha.2.2 (by omega)]
  rw [c_rM_of (A := A) (σ := a.1) j0]
  refine r4_lays hA ha.1.1.1.1 ha.1.1.1.2.2.2.2.2.1 ha.2.1 (fun J' p1 p2 _ => hQ J' (fun b j q1 q2 q3 => ?_) p2)
  rw [p1 b j q1 q2 q3, ← hJ, q_cp_ne q1]
  exact if_neg q1
theorem r4_undo {Q : Int32 → Mem → Prop} (hA : q_MA M m A) (hR : d_Rf m A I d) (hK : d_ok d) (hQ : ∀ J, d_Rf m A J (s_undo d).2 → d_fr m A I J → Q (s_undo d).1 (c_rM M A J (s_undo d).2.1.1)) : wp_X4_undo g (c_rM M A I d.1.1) m Q := by
  obtain ⟨r1, r2, r3, r4, r5, r6, r7, r8⟩ := id hR
  have hm0 := q_mA hA i_0
  unfold s_undo at hQ
  have g2 : m_gi (c_rM M A I d.1.1) m 2 = nI d.2.1.1 := (rM_gi_ne hm0).trans r1
  refine ⟨hA.1, fun hn M3 e3 => ?_, fun he => ?_⟩
  · rw [g2] at hn e3
    have h0 : d.2.1.1 ≠ 0 := fun z => hn (by rw [z]; rfl)
    rw [if_neg h0] at hQ
    rw [show nI d.2.1.1 - 1 = nI (d.2.1.1 - 1) from pn_sub (b := 1) (by omega)] at e3
    have e3' : M3 = c_rM M A (q_up I m 2 (nI (d.2.1.1 - 1))) d.1.1 := by
      rw [e3]
      unfold c_rM
      rw [q_piI]
      congr 1
      funext b j
      unfold q_up c_rE
      by_cases e : b = A 0
      · rw [if_neg (fun z => hm0 (by rw [← z.1, e])), if_pos e, if_pos e]
      · rw [if_neg e, if_neg e]
    subst e3'
    refine ⟨A 1, (hA.2.1 1 i_1).1, A 0, (hA.2.1 0 i_0).1, ?_⟩
    have g3 : ∀ (J : Nat → Nat → Int32) (σ : Cn), m_gi (c_rM M A J σ) m 2 = J m 2 := fun J σ => rM_gi_ne hm0
    rw [g3, show q_up I m 2 (nI (d.2.1.1 - 1)) m 2 = nI (d.2.1.1 - 1) from if_pos ⟨rfl, rfl⟩, show (810 : Int32) = nI 810 from rfl, pn_mul]
    refine r4_back (a := d.2.1.2 (d.2.1.1 - 1)) hA (Or.inl rfl) (by show (d.2.1.1 - 1) * 810 + 810 ≤ 3240; omega) hK.1.2.2 (hK.2.1 _ (by omega)) (fun j hj => ?_) (fun J p1 p2 => ?_)
    · rw [q_up_ne (q_mA hA i_1).symm, show (d.2.1.1 - 1) * 810 + j = 810 * (d.2.1.1 - 1) + j by omega]
      exact r3 _ j (by omega) hj
    · have jm : ∀ j : Nat, J m j = q_up I m 2 (nI (d.2.1.1 - 1)) m j := fun j => p1 m j hm0 (q_mA hA i_8) (q_mA hA i_9)
      have jA : ∀ k : Nat, q_isar k → k ≠ 0 → k ≠ 8 → k ≠ 9 → ∀ j : Nat, J (A k) j = I (A k) j := fun k hk q1 q2 q3 j => (p1 _ j (q_ne hA hk i_0 q1) (q_ne hA hk i_8 q2) (q_ne hA hk i_9 q3)).trans (q_up_ne (q_mA hA hk).symm)
      rw [g3, jm 2, show q_up I m 2 (nI (d.2.1.1 - 1)) m 2 = nI (d.2.1.1 - 1) from if_pos ⟨rfl, rfl⟩]
      refine hQ J ⟨(jm 2).trans (if_pos ⟨rfl, rfl⟩), by show d.2.1.1 - 1 ≤ 4; omega, fun i j hi hj => (jA 1 i_1 (by decide) (by decide) (by decide) _).trans (r3 i j (by have hi' : i < d.2.1.1 - 1 := hi; omega) hj), ?_, ((jm 7).trans (q_up_nk (by decide))).trans r5, r6, fun k hk => (jA 6 i_6 (by decide) (by decide) (by decide) k).trans (r7 k hk), p2⟩ (fun b j q1 q2 => (p1 b j (q2 0 i_0) (q2 8 i_8) (q2 9 i_9)).trans (q_up_ne q1))
      rcases r4 with ⟨z1, z2⟩ | ⟨a, z1, z2, z3⟩
      · exact Or.inl ⟨z1, ((jm 4).trans (q_up_nk (by decide))).trans z2⟩
      · exact Or.inr ⟨a, z1, ((jm 4).trans (q_up_nk (by decide))).trans z2, fun j hj => (jA 3 i_3 (by decide) (by decide) (by decide) j).trans (z3 j hj)⟩
  · rw [g2] at he
    have h0 : d.2.1.1 = 0 := (pn_inj (b := 0) (by omega) (by omega)).mp he
    rw [if_pos h0] at hQ
    exact hQ I hR d_fr_rf
theorem r4_restore {Q : Int32 → Mem → Prop} (hA : q_MA M m A) (hR : d_Rf m A I d) (hK : d_ok d) (hQ : ∀ J, d_Rf m A J (s_restore d).2 → d_fr m A I J → Q (s_restore d).1 (c_rM M A J (s_restore d).2.1.1)) : wp_X4_restore g (c_rM M A I d.1.1) m Q := by
  obtain ⟨r1, r2, r3, r4, r5, r6, r7, r8⟩ := id hR
  have hm0 := q_mA hA i_0
  unfold s_restore at hQ
  have g4 : m_gi (c_rM M A I d.1.1) m 4 = I m 4 := rM_gi_ne hm0
  refine ⟨hA.1, fun hn => ?_, fun he => ?_⟩
  · rw [g4] at hn
    rcases r4 with ⟨z1, z2⟩ | ⟨a, z1, z2, z3⟩
    · exact absurd z2 hn
    · rw [z1] at hQ
      refine d_r4_records hA hR (fun J j1 j2 _ => ?_)
      obtain ⟨s1, s2, s3, s4, s5, s6, s7, s8⟩ := id j1
      refine ⟨A 3, (hA.2.1 3 i_3).1, A 0, (hA.2.1 0 i_0).1, ?_⟩
      have h3 : ∀ j : Nat, j < 810 → J (A 3) j = u_cc a.1 j := by
        rcases s4 with ⟨w1, _⟩ | ⟨a', w1, _, w3⟩
        · have w1' : d.2.2.1 = none := w1
          rw [z1] at w1'
          cases w1'
        · have w1' : d.2.2.1 = some a' := w1
          rw [z1] at w1'
          cases w1'
          exact w3
      refine r4_back (f := 0) (a := a) (d := d) hA (Or.inr rfl) (by decide) hK.1.2.2 (hK.2.2 a z1) (fun j hj => by rw [Nat.zero_add]; exact h3 j hj) (fun K p1 p2 => ?_)
      have jm : ∀ j : Nat, K m j = J m j := fun j => p1 m j hm0 (q_mA hA i_8) (q_mA hA i_9)
      have jA : ∀ k : Nat, q_isar k → k ≠ 0 → k ≠ 8 → k ≠ 9 → ∀ j : Nat, K (A k) j = J (A k) j := fun k hk q1 q2 q3 j => p1 _ j (q_ne hA hk i_0 q1) (q_ne hA hk i_8 q2) (q_ne hA hk i_9 q3)
      simp (decide := true) only [rw_ofPatrol, rw_ofCall, rw_ofMember, rw_ofGarage, rw_laysPatrol, rw_laysCall, rw_addsMember, rM_tg, rM_gr, rM_ln, rM_m hA, rM_a hA, rM_at hA, rM_al hA, rM_gi0, rM_pi0, rM_le, hA, c_rn, c_rs, true_and, and_true, forall_const, Option.some.injEq, exists_eq_left', forall_eq, true_implies, vi_0_3, vi_1_3, vi_2_3, vi_0_4, vi_1_4, vi_2_4, vi_3_4, vi_0_13, vi_1_13, vi_2_13, vi_3_13, vi_4_13, vi_5_13, vi_6_13, vi_7_13, vi_8_13, vi_9_13, vi_10_13, vi_11_13, vi_12_13, vi_0_14, vi_1_14, vi_2_14, vi_3_14, vi_4_14, vi_5_14, vi_6_14, vi_7_14, vi_8_14, vi_9_14, vi_10_14, vi_11_14, vi_12_14, vi_13_14, vi_0_16, vi_1_16, vi_2_16, vi_3_16, vi_4_16, vi_5_16, vi_6_16, vi_7_16, vi_8_16, vi_9_16, vi_10_16, vi_11_16, vi_12_16, vi_13_16, vi_14_16, vi_15_16, vi_0_810, vi_1_810, vi_2_810, vi_3_810, vi_4_810, vi_5_810, vi_6_810, vi_7_810, vi_8_810, vi_9_810, vi_10_810, vi_11_810, vi_12_810, vi_13_810, vi_14_810, vi_15_810, vi_0_40, vi_1_40, vi_2_40, vi_3_40, vi_4_40, vi_5_40, vi_6_40, vi_7_40, vi_8_40, vi_9_40, vi_10_40, vi_11_40, vi_12_40, vi_13_40, vi_14_40, vi_15_40, vi_0_60, vi_1_60, vi_2_60, vi_3_60, vi_4_60, vi_5_60, vi_6_60, vi_7_60, vi_8_60, vi_9_60, vi_10_60, vi_11_60, vi_12_60, vi_13_60, vi_14_60, vi_15_60, vi_0_144, vi_1_144, vi_2_144, vi_3_144, vi_4_144, vi_5_144, vi_6_144, vi_7_144, vi_8_144, vi_9_144, vi_10_144, vi_11_144, vi_12_144, vi_13_144, vi_14_144, vi_15_144, vi_0_12, vi_1_12, vi_2_12, vi_3_12, vi_4_12, vi_5_12, vi_6_12, vi_7_12, vi_8_12, vi_9_12, vi_10_12, vi_11_12, cl_0, cl_1, cl_2, cl_3, cl_4, cl_5, cl_6, cl_7, cl_8, cl_9, cl_10, cl_11, cl_12, cl_13, cl_14, cl_15, cl_16]
      refine hQ K ⟨(jm 2).trans s1, s2, fun i j hi hj => (jA 1 i_1 (by decide) (by decide) (by decide) _).trans (s3 i j hi hj), ?_, (jm 7).trans s5, s6, fun k hk => (jA 6 i_6 (by decide) (by decide) (by decide) k).trans (s7 k hk), p2⟩ (fun b j q1 q2 => (p1 b j (q2 0 i_0) (q2 8 i_8) (q2 9 i_9)).trans (j2 b j q1 q2))
      rcases s4 with ⟨w1, w2⟩ | ⟨a', w1, w2, w3⟩
      · exact Or.inl ⟨w1, (jm 4).trans w2⟩
      · exact Or.inr ⟨a', w1, (jm 4).trans w2, fun j hj => (jA 3 i_3 (by decide) (by decide) (by decide) j).trans (w3 j hj)⟩
  · rw [g4] at he
    rcases r4 with ⟨z1, z2⟩ | ⟨a, z1, z2, z3⟩
    · rw [z1] at hQ
      exact hQ I hR d_fr_rf
    · rw [z2] at he
      exact absurd he (by decide)
end
