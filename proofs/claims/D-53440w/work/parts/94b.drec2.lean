/-! PURE: the desk's record of a state, whole -/
set_option maxRecDepth 100000
section
variable {g : Nat → Nat} {M M' : Mem} {o o' : Nat → Nat × Nat × Nat} {x : Nat} {RR : Nat → Nat} {DD : Nat → Nat → Nat → Nat} {U : Nat → Prop} {y0 : Yt} {yh : Nat → Yt} {yk : Yt} {d : Dt}
/-- cells of the history's list alone are others -/
theorem d_list {l dl h' : Nat} {yh' : Nat → Yt} {f' : Nat → Cs} (hC : d_C g M o x RR DD U y0 yh yk d) (hl : m_gr M x 2 = some l) (hd : m_gr M l 1 = some dl) (hf : c_fr M M' l dl 0 0) (hL : c_L g M' l dl h' (fun i => some ((yh' i).2.1 0 0))) (hdl : m_tg M dl = 103)
    (hsub : ∀ i : Nat, i < h' → ∃ j : Nat, j < d.2.1.1 ∧ yh' i = yh j ∧ f' i = d.2.1.2 j) (hinj : ∀ i j : Nat, i < h' → j < h' → i ≠ j → (yh' i).1 ≠ (yh' j).1) (hh : h' ≤ 4) : d_C g M' o x RR DD U y0 yh' yk (d.1, (h', f'), d.2.2) := by
  obtain ⟨⟨b1, b2, b3, N, b4⟩, hroads, hcur, hhist, hkept, hdis, hx⟩ := id hC
  obtain ⟨x1, x2, x3, x4, ⟨l', dl', x5, x6, x7, x8⟩, x9, bb, x10, x11⟩ := id hx
  have el : l' = l := Option.some.inj (x5.symm.trans hl)
  subst el
  have ed : dl' = dl := Option.some.inj (x7.2.2.1.symm.trans hd)
  subst ed
  have odl : o dl' = (2, 2, 0) ∧ m_ln M dl' = 10 := x8.resolve_left (fun z => by rw [z, b3.1] at hdl; cases hdl)
  have same : ∀ p : Nat, p ≠ 2 → c_same M o M' o p := fun p hp b hb => by
    have hb' : (o b).1 = p := by rcases hb with w | w <;> exact w
    exact ⟨hf.2.1 b (fun z => hp (by rw [← hb', z, x6])) (fun z => hp (by rw [← hb', z, odl.1])), rfl⟩
  have keepH : ∀ y : Yt, ∀ a : Cs, d_hold g M o RR DD U y a → d_hold g M' o RR DD U y a := fun y a hy => d_hold_same hy (same y.1 (d_hold_ne hy).2.1)
  have cell : ∀ b : Nat, m_tg M b ≠ 14 → m_tg M b ≠ 103 → M'.1 b = M.1 b := fun b q1 q2 => hf.2.1 b (fun z => q1 (by rw [z]; exact x7.1)) (fun z => q2 (by rw [z]; exact hdl))
  have ex := cell x (by rw [x2]; decide) (by rw [x2]; decide)
  refine ⟨⟨fun b hb => by rw [(hf.1 b (b1 b hb)).1]; exact b1 b hb, b2, c_g1_le b3 hf.1, N, b4⟩, fun rr hrr => ?_, keepH _ _ hcur, fun i hi => ?_, fun a ha => keepH _ _ (hkept a ha), ⟨fun i hi => ?_, hinj, fun hk => ⟨(hdis.2.2 hk).1, fun i hi => ?_⟩⟩, ?_⟩
  · have hr := hroads rr hrr
    have := hr.2.1
    exact d_road_same hr hf.1 (same rr (by omega)) (same (rr + 1) (by omega))
  · obtain ⟨j, q1, q2, q3⟩ := hsub i hi
    show d_hold g M' o RR DD U (yh' i) (f' i)
    rw [q2, q3]
    exact keepH _ _ (hhist j q1)
  · obtain ⟨j, q1, q2, q3⟩ := hsub i hi
    rw [q2]
    exact hdis.1 j q1
  · obtain ⟨j, q1, q2, q3⟩ := hsub i hi
    rw [q2]
    exact (hdis.2.2 hk).2 j q1
  · refine ⟨x1, (c_cell_tg ex).trans x2, (c_cell_gr ex).trans x3, (c_cell_gr ex).trans x4, ⟨l', dl', (c_cell_gr ex).trans x5, x6, hL, Or.inr ⟨odl.1, by rw [(hf.1 dl' (by rw [hdl]; decide)).2]; exact odl.2⟩⟩, hh, bb, (c_cell_gr ex).trans x10, d_tb_same x11 ⟨cell bb (by rw [x11.2.1]; decide) (by rw [x11.2.1]; decide), rfl⟩ (fun c _ _ hc => ⟨cell c (by rw [hc]; decide) (by rw [hc]; decide), rfl⟩)⟩
theorem d_record {Q : Mem → Prop} (hobj : ∀ (M : Mem) (y : Nat), q_obj (m_tg M y) → m_asg M y "java/lang/Object") (hC : d_C g M o x RR DD U y0 yh yk d) (hroom : m_nc M + 200 ≤ m_CM ∧ m_ns M + 8200 ≤ m_SM)
    (hQ : ∀ (M' : Mem) (o' : Nat → Nat × Nat × Nat) (y' : Yt), d_C g M' o' x RR DD U y0 (u_ps y' d.2.1.1 yh) yk (d_rec d) → c_same M o M' o' 3 → m_nc M' ≤ m_nc M + 160 → m_ns M' ≤ m_ns M + 8000 → Q M') : wp_X0_record g M x Q := by
  obtain ⟨⟨b1, b2, b3, N, b4⟩, hroads, hcur, hhist, hkept, hdis, hx⟩ := id hC
  obtain ⟨x1, x2, x3, x4, ⟨l, dl, x5, x6, x7, x8⟩, x9, bb, x10, x11⟩ := id hx
  refine ⟨x2, l, x5, x7.1, c_L_size x7 (fun _ => ⟨fun hn => ?_, fun he => ?_⟩)⟩
  · have h4 : d.2.1.1 ≠ 4 := fun z => hn (by rw [z]; rfl)
    refine d_rec24 hobj hC (by omega) hroom (fun M' o' y' p1 p2 p3 p4 => hQ M' o' y' ?_ p2 p3 p4)
    unfold d_rec u_pn u_ps
    rw [if_neg h4, if_neg h4, if_neg h4]
    exact p1
  · have h4 : d.2.1.1 = 4 := (pn_inj (by omega) (by omega)).mp he
    rw [h4] at x7
    obtain ⟨w1, w2, w3, w4⟩ := x7
    rcases w4 with ⟨z, _⟩ | ⟨v1, v2, v3, v4⟩
    · omega
    have l10 : m_ln M dl = 10 := by
      rcases x8 with w | w
      · rw [w, b3.1] at v1
        cases v1
      · exact w.2
    refine ⟨l, x5, w1, ?_⟩
    refine q_remove (n := 3) (i := 0) hobj w1 w2 w3 v1 v2.2 (by omega) (by omega) v4 (fun k hk y hy => ?_) (fun M1 r1 r2 r3 r4 r5 r6 r7 _ => ?_)
    · cases hy
      exact Or.inl (ct_0 (hhist k (by omega)).1)
    · have hC1 : d_C g M1 o x RR DD U y0 (fun i => yh (i + 1)) yk (d.1, (3, fun i => d.2.1.2 (i + 1)), d.2.2) := by
        refine d_list hC x5 w3 r7 ⟨r1, r2, r3, Or.inr ⟨r4, by rw [r5, l10]; omega, by rw [r5, l10]; omega, fun k hk => ?_⟩⟩ v1 (fun i hi => ⟨i + 1, by omega, rfl, rfl⟩) (fun i j hi hj hij => hdis.2.1 (i + 1) (j + 1) (by omega) (by omega) (by omega)) (by omega)
        rw [r6 k hk, if_neg (Nat.not_lt_zero _)]
      have hnc := r7.2.2.1
      have hns := r7.2.2.2
      have s3 : c_same M o M1 o 3 := fun b hb => by
        have hb' : (o b).1 = 3 := by rcases hb with w | w <;> exact w
        refine ⟨r7.2.1 b (fun z => ?_) (fun z => ?_), rfl⟩
        · rw [z, x6] at hb'
          cases hb'
        · rcases x8 with w | w
          · rw [w, b3.1] at v1
            cases v1
          · rw [z, w.1] at hb'
            cases hb'
      refine d_rec24 hobj hC1 (by show 3 ≤ 3; omega) ⟨by omega, by omega⟩ (fun M' o' y' p1 p2 p3 p4 => hQ M' o' y' ?_ (c_same_tr s3 p2) (by omega) (by omega))
      unfold d_rec u_pn u_ps
      rw [if_pos h4, if_pos h4, if_pos h4]
      have e1 : (fun i => if i < 3 then yh (i + 1) else y') = (fun i => if i < (3, fun i => d.2.1.2 (i + 1)).1 then (fun i => yh (i + 1)) i else y') := rfl
      exact p1
end
