/-! PURE: copies within the desk; its state, its snapshot put -/
set_option maxRecDepth 100000
section
variable {g : Nat → Nat} {M M' : Mem} {o o' : Nat → Nat × Nat × Nat} {x : Nat} {RR : Nat → Nat} {DD : Nat → Nat → Nat → Nat} {U : Nat → Prop} {y0 y' : Yt} {yh : Nat → Yt} {yk : Yt} {d : Dt} {a : Cs}
/-- a held state is copied -/
theorem d_copy {y : Yt} {Q : Option Nat → Mem → Prop} (hobj : ∀ (M : Mem) (y : Nat), q_obj (m_tg M y) → m_asg M y "java/lang/Object") (hC : d_C g M o x RR DD U y0 yh yk d) (hy : d_hold g M o RR DD U y a) (hroom : m_nc M + 200 ≤ m_CM ∧ m_ns M + 8200 ≤ m_SM)
    (hQ : ∀ (X : Mem) (o1 : Nat → Nat × Nat × Nat) (y' : Yt), d_C g X o1 x RR DD U y0 yh yk d → d_hold g X o1 RR DD U y' a → (∀ (z : Yt) (b : Cs), d_hold g M o RR DD U z b → z.1 ≠ y'.1 ∧ d_hold g X o1 RR DD U z b) → c_same M o X o1 3 → m_nc X ≤ m_nc M + 150 → m_ns X ≤ m_ns M + 7900 → c_nw M X → Q (some (y'.2.1 0 0)) X) : wp_X1_copy g M (y.2.1 0 0) Q := by
  obtain ⟨⟨b1, b2, b3, N, b4⟩, hroads, hcur, hhist, hkept, hdis, hx⟩ := id hC
  obtain ⟨c1, c2, c3, c4, c5, c6, c7⟩ := id hy
  have hR := c5.1.1
  have hqf : ∀ b : Nat, (o b).1 ≠ 3 * N + 6 := fun b z => by have := b4 b; omega
  refine c1_copy (q := 3 * N + 6) hobj c2 c1 (by omega) b1 ⟨hR.1.2.2.2.2.2.2.1, hR.1.2.2.2.2.2.2.2.1, hR.1.2.2.2.2.2.2.2.2.1, hR.1.2.2.2.2.2.2.2.2.2⟩ (fun k hk => (hR.2.2.1 k hk).2.1) (fun k hk => (hR.2.2.2.2 k hk).2.1) hqf ⟨by omega, by omega⟩ (fun X o1 E' hCO => ?_)
  obtain ⟨s1, s2, s3, s4, s5, s6, s7, s8, s9⟩ := hCO
  have same : ∀ p : Nat, p ≠ 0 → p ≠ 3 * N + 6 → c_same M o X o1 p := fun p p0 pq b hb => by
    have hb0 : m_tg M b ≠ 0 := fun z => by
      rcases hb with hb | hb
      · exact b1 b (by rw [hb]; exact p0) z
      · rcases s5 b z with w | w
        · exact p0 (hb.symm.trans w)
        · exact pq (hb.symm.trans w)
    exact ⟨s3.2 b hb0, s4 b hb0⟩
  have hN : ∀ y : Yt, ∀ a : Cs, d_hold g M o RR DD U y a → y.1 < N := fun y a hy => by
    have := b4 (y.2.1 0 0)
    rw [St_o hy.1 d_0] at this
    exact this
  have keepH : ∀ y : Yt, ∀ a : Cs, d_hold g M o RR DD U y a → d_hold g X o1 RR DD U y a := fun y a hy => by
    have h1 := d_hold_ne hy
    have h2 := hN y a hy
    exact d_hold_same hy (same y.1 h1.1 (by omega))
  refine hQ X o1 (3 * N + 6, E', y.2.2) ⟨⟨s6, fun b => ?_, s7, 3 * N + 7, fun b => ?_⟩, fun rr hrr => ?_, keepH _ _ hcur, fun i hi => keepH _ _ (hhist i hi), fun b hb => keepH _ _ (hkept b hb), hdis, d_x_same hx b3 (same 2 (by omega) (by omega))⟩ ⟨s1, s2, c3, c4, c5, by show (3 * N + 6) % 3 = 0; omega, by show 6 ≤ 3 * N + 6; omega⟩ (fun z b hz => ⟨?_, keepH _ _ hz⟩) (same 3 (by omega) (by omega)) s8 s9 s3
  · by_cases z : m_tg M b = 0
    · rcases s5 b z with w | w <;> rw [w] <;> omega
    · rw [s4 b z]
      exact b2 b
  · by_cases z : m_tg M b = 0
    · rcases s5 b z with w | w <;> rw [w] <;> omega
    · rw [s4 b z]
      have := b4 b
      omega
  · have hr := hroads rr hrr
    obtain ⟨r1, r2, ⟨u, r3, r4⟩, r5, r6⟩ := id hr
    have hrN : rr < N := by
      have := b4 (RR rr)
      rw [r4.1] at this
      exact this
    exact d_road_same hr s3.1 (same rr (by omega) (by omega)) (same (rr + 1) (by omega) (by omega))
  · have := hN z b hz
    show z.1 ≠ 3 * N + 6
    omega
/-- a reference of the desk itself is put -/
theorem d_xpr {k : Nat} {v : Option Nat} (hC : d_C g M o x RR DD U y0 yh yk d) (hk : k = 0 ∨ k = 1) {y0' yk' : Yt} {a' : Cs} {ke : Option Cs}
    (h0 : d_hold g M o RR DD U y0' a') (h1 : ∀ b : Cs, ke = some b → d_hold g M o RR DD U yk' b) (hd : d_dis y0' yh yk' (a', d.2.1, ke, d.2.2.2)) (hr0 : (if k = 0 then v else some (y0.2.1 0 0)) = some (y0'.2.1 0 0)) (hr1 : (if k = 1 then v else d.2.2.1.map (fun _ => yk.2.1 0 0)) = ke.map (fun _ => yk'.2.1 0 0)) :
    d_C g (m_pr M x k v) o x RR DD U y0' yh yk' (a', d.2.1, ke, d.2.2.2) ∧ c_same M o (m_pr M x k v) o 3 := by
  obtain ⟨⟨b1, b2, b3, N, b4⟩, hroads, hcur, hhist, hkept, hdis, hx⟩ := id hC
  obtain ⟨x1, x2, x3, x4, ⟨l, dl, x5, x6, x7, x8⟩, x9, bb, x10, x11⟩ := id hx
  have cell : ∀ b : Nat, b ≠ x → (m_pr M x k v).1 b = M.1 b := fun b hb => u_pr_ne hb
  have hle : m_le M (m_pr M x k v) := m_le_pr
  have same : ∀ p : Nat, p ≠ 2 → c_same M o (m_pr M x k v) o p := fun p hp b hb => by
    have hb' : (o b).1 = p := by rcases hb with w | w <;> exact w
    exact ⟨cell b (fun z => hp (by rw [← hb', z, x1])), rfl⟩
  have keepH : ∀ y : Yt, ∀ a : Cs, d_hold g M o RR DD U y a → d_hold g (m_pr M x k v) o RR DD U y a := fun y a hy => d_hold_same hy (same y.1 (d_hold_ne hy).2.1)
  have cl : (m_pr M x k v).1 l = M.1 l := cell l (fun z => by rw [z, x1] at x6; cases x6)
  have cb : (m_pr M x k v).1 bb = M.1 bb := cell bb (fun z => by have := x11.2.1; rw [z, x2] at this; cases this)
  refine ⟨⟨⟨fun b hb => by rw [(hle b (b1 b hb)).1]; exact b1 b hb, b2, c_g1_le b3 hle, N, b4⟩, fun rr hrr => ?_, keepH _ _ h0, fun i hi => keepH _ _ (hhist i hi), fun b hb => keepH _ _ (h1 b hb), hd, ?_⟩, same 3 (by omega)⟩
  · have hr := hroads rr hrr
    have := hr.2.1
    exact d_road_same hr hle (same rr (by omega)) (same (rr + 1) (by omega))
  · refine ⟨x1, m_tg_pr.trans x2, ?_, ?_, ⟨l, dl, ?_, x6, c_L_same x7 cl (cell dl (fun z => ?_)), x8.imp id (fun w => ⟨w.1, m_ln_pr.trans w.2⟩)⟩, x9, bb, ?_, d_tb_same x11 ⟨cb, rfl⟩ (fun c _ _ hc => ⟨cell c (fun z => by rw [z, x2] at hc; cases hc), rfl⟩)⟩
    · rw [m_gr_pr]
      rw [← hr0]
      by_cases e : k = 0
      · rw [if_pos ⟨rfl, e.symm⟩, if_pos e]
      · rw [if_neg (fun z => e z.2.symm), if_neg e, x3]
    · rw [m_gr_pr]
      show _ = ke.map (fun _ => yk'.2.1 0 0)
      rw [← hr1]
      by_cases e : k = 1
      · rw [if_pos ⟨rfl, e.symm⟩, if_pos e]
      · rw [if_neg (fun z => e z.2.symm), if_neg e, x4]
    · rw [m_gr_pr, if_neg (by omega)]
      exact x5
    · rcases c_L_tag x7 b3 with w | w <;> rw [z, x2] at w <;> cases w
    · rw [m_gr_pr, if_neg (by omega)]
      exact x10
end
def s_keep (d : Dt) : Int32 × Dt := (d.1.1 0 0 0, (d.1, d.2.1, some d.1, d.2.2.2))
def s_restore (d : Dt) : Int32 × Dt := match d.2.2.1 with
  | none => (-5, d)
  | some a => (a.1 0 0 0, (a, (d_rec d).2))
section
variable {g : Nat → Nat} {M : Mem} {o : Nat → Nat × Nat × Nat} {x : Nat} {d : Dt} {m : Nat} {A : Nat → Nat} {I : Nat → Nat → Int32}
theorem x0_keep {Q : Int32 → Mem → Prop} (hobj : ∀ (M : Mem) (y : Nat), q_obj (m_tg M y) → m_asg M y "java/lang/Object") (hX : d_CX g M o x d) (hrm : d_rm M) (hQ : ∀ M' o', d_aft g M o x M' o' (s_keep d).2 → Q (s_keep d).1 M') : wp_X0_keep g M x Q := by
  obtain ⟨RR, DD, U, y0, yh, yk, hC⟩ := id hX
  obtain ⟨_, x2, x3, _⟩ := hC.2.2.2.2.2.2
  refine ⟨x2, y0.2.1 0 0, x3, ct_0 hC.2.2.1.1, ?_⟩
  refine d_copy hobj hC hC.2.2.1 (d_rm8 hrm) (fun X o1 y' k1 k2 k3 k4 k5 k6 _ _ M10 e10 => ?_)
  have hdis := k1.2.2.2.2.2.1
  obtain ⟨j1, j2⟩ := d_xpr (k := 1) (v := some (y'.2.1 0 0)) (y0' := y0) (yk' := y') (a' := d.1) (ke := some d.1) k1 (Or.inr rfl) k1.2.2.1 (fun b hb => by cases hb; exact k2) ⟨hdis.1, hdis.2.1, fun _ => ⟨fun z => (k3 y0 d.1 hC.2.2.1).1 z.symm, fun i hi => (k3 _ _ (hC.2.2.2.1 i hi)).1⟩⟩ rfl rfl
  rw [← e10] at j1 j2
  obtain ⟨_, z2, z3, _⟩ := j1.2.2.2.2.2.2
  refine ⟨y0.2.1 0 0, z3, ct_0 j1.2.2.1.1, ?_⟩
  rw [u_gi j1.2.2.1.2.1 (St_o j1.2.2.1.1 d_0) (x := (0, 0)) rfl]
  exact hQ M10 o1 ⟨⟨RR, DD, U, y0, yh, y', j1⟩, c_same_tr k4 j2, by rw [e10, m_nc_pr]; omega, by rw [e10, m_ns_pr]; omega⟩
theorem x0_restore {Q : Int32 → Mem → Prop} (hobj : ∀ (M : Mem) (y : Nat), q_obj (m_tg M y) → m_asg M y "java/lang/Object") (hX : d_CX g M o x d) (hrm : d_rm M) (hQ : ∀ M' o', d_aft g M o x M' o' (s_restore d).2 → Q (s_restore d).1 M') : wp_X0_restore g M x Q := by
  obtain ⟨RR, DD, U, y0, yh, yk, hC⟩ := id hX
  obtain ⟨_, x2, x3, x4, _⟩ := hC.2.2.2.2.2.2
  refine ⟨x2, fun r2 hr2 => ?_⟩
  rw [x4] at hr2
  subst hr2
  unfold s_restore at hQ
  cases hk : d.2.2.1 with
  | none =>
    rw [hk] at hQ
    exact ⟨fun _ => hQ M o (d_no hX), fun u hu => by cases hu⟩
  | some a =>
    rw [hk] at hQ
    refine ⟨fun z => (by cases z), fun u hu => ?_⟩
    refine d_record hobj hC (d_rm8 hrm) (fun M1 o1 y1 p1 p2 p3 p4 _ r9 hr9 => ?_)
    obtain ⟨_, z2, z3, z4, _⟩ := p1.2.2.2.2.2.2
    have z4' : m_gr M1 x 1 = some (yk.2.1 0 0) := by
      rw [z4]
      show Option.map _ d.2.2.1 = _
      rw [hk]
      rfl
    rw [z4'] at hr9
    have hyk : d_hold g M1 o1 RR DD U yk a := p1.2.2.2.2.1 a hk
    refine ⟨yk.2.1 0 0, hr9, ct_0 hyk.1, ?_⟩
    have r1 := hrm.1
    have r2 := hrm.2
    refine d_copy hobj p1 hyk ⟨by omega, by omega⟩ (fun X o2 y' k1 k2 k3 k4 k5 k6 _ _ M19 e19 => ?_)
    have hdis := k1.2.2.2.2.2.1
    obtain ⟨j1, j2⟩ := d_xpr (k := 0) (v := some (y'.2.1 0 0)) (y0' := y') (yk' := yk) (a' := a) (ke := some a) k1 (Or.inl rfl) k2 (fun b hb => by cases hb; exact (k3 _ _ hyk).2) ⟨fun i hi => (k3 _ _ (p1.2.2.2.1 i hi)).1, hdis.2.1, fun _ => ⟨(k3 _ _ hyk).1, fun i hi => (hdis.2.2 (by show d.2.2.1 ≠ none; rw [hk]; exact fun z => by cases z)).2 i hi⟩⟩ rfl (by
      show Option.map _ d.2.2.1 = _
      rw [hk])
    rw [← e19] at j1 j2
    obtain ⟨_, v2, v3, _⟩ := j1.2.2.2.2.2.2
    refine ⟨y'.2.1 0 0, v3, ct_0 j1.2.2.1.1, ?_⟩
    rw [u_gi j1.2.2.1.2.1 (St_o j1.2.2.1.1 d_0) (x := (0, 0)) rfl]
    have ed : (a, (d_rec d).2) = ((a, (d_rec d).2.1, some a, (d_rec d).2.2.2) : Dt) := by
      show (a, (d_rec d).2.1, d.2.2.1, d.2.2.2) = _
      rw [hk]
      rfl
    have j3 : d_C g M19 o2 x RR DD U y' (u_ps y1 d.2.1.1 yh) yk (a, (d_rec d).2) := by
      rw [ed]
      exact j1
    exact hQ M19 o2 ⟨⟨RR, DD, U, y', _, yk, j3⟩, c_same_tr p2 (c_same_tr k4 j2), by rw [e19, m_nc_pr]; omega, by rw [e19, m_ns_pr]; omega⟩
end
