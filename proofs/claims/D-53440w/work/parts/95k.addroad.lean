/-! PURE: acts: a road is added -/
set_option maxRecDepth 100000
def s_road (d : Dt) (a b v : Int32) : Int32 × Dt := if a < 0 ∨ 11 < a then (-1, d) else if b < 0 ∨ 11 < b then (-1, d) else if v < 1 ∨ 60 < v then (-2, d) else if a = b then (-2, d) else if u_Dk d.1.1 (d.1.2 5) a.toNatClampNeg b.toNatClampNeg < 100000 then (-4, d) else if d.1.2 5 = 30 then (-3, d) else (nI (d.1.2 5), ((u_road d.1.2 d.1.1 a b v, u_at d.1.2 5 (d.1.2 5 + 1)), (d_rec d).2))
section
variable {g : Nat → Nat} {M X : Mem} {o o1 : Nat → Nat × Nat × Nat} {x : Nat} {RR : Nat → Nat} {DD : Nat → Nat → Nat → Nat} {U : Nat → Prop} {y0 : Yt} {yh : Nat → Yt} {yk : Yt} {d : Dt} {a' : Cs} {m : Nat} {A : Nat → Nat} {I : Nat → Nat → Int32}
theorem d_road_of (hC : d_C g M o x RR DD U y0 yh yk d) {y : Yt} {a : Cs} (hy : d_hold g M o RR DD U y a) : (∃ u : Nat, u ≤ 144 ∧ c_Rd g M o y.2.2 (RR y.2.2) (u_Dk a.1 (a.2 5)) (u_Wk (u_Dk a.1 (a.2 5)) 12) u) ∧ y.2.2 ≠ y.1 ∧ 4 ≤ y.2.2 ∧ u_Dok (u_Dk a.1 (a.2 5)) ∧ u_OK (u_Dk a.1 (a.2 5)) (u_Wk (u_Dk a.1 (a.2 5)) 12) := by
  obtain ⟨c1, c2, c3, c4, c5, c6, c7⟩ := hy
  obtain ⟨r1, r2, r3, r4, r5⟩ := hC.2.1 _ c3
  rw [c4] at r3 r5
  exact ⟨r3, by omega, r2, r5, u_OK_of r5 (u_Sk r5 12 (Nat.le_refl _))⟩
/-- the state's roads are others -/
theorem d_newroads {N R : Nat} {D : Nat → Nat → Nat} (hC : d_C g M o x RR DD U y0 yh yk d) (hN : ∀ b : Nat, (o b).1 < N) (hNR : c_NR g M X o (3 * N + 4) (3 * N + 4 + 1) R D o1) (hok : u_Dok D) (hD : D = u_Dk a'.1 (a'.2 5)) (hS : u_Sv a') (hn : ∀ s : Nat, 1 ≤ s → s ≤ 4 → a'.2 s = d.1.2 s) (hσ : c_cM M o y0.1 a'.1 = M) :
    ∃ (RR' : Nat → Nat) (DD' : Nat → Nat → Nat → Nat) (U' : Nat → Prop), d_C g (m_pr X (y0.2.1 0 0) 5 (some R)) o1 x RR' DD' U' (y0.1, y0.2.1, 3 * N + 4) yh yk (a', d.2) ∧ c_same M o (m_pr X (y0.2.1 0 0) 5 (some R)) o1 3 := by
  obtain ⟨⟨b1, b2, b3, N', b4⟩, hroads, hcur, hhist, hkept, hdis, hx⟩ := id hC
  obtain ⟨c1, c2, c3, c4, c5, c6, c7⟩ := id hcur
  obtain ⟨n1, n2, n3, n4, n5, n6, n7⟩ := hNR
  have oS := St_o c1 d_0
  have tS := ct_0 c1
  have hRo : o1 R = (3 * N + 4, 0, 0) := n1.1
  have tRX : m_tg X R = 3 := n1.2.1
  have rN : y0.1 < N := by
    have := hN (y0.2.1 0 0)
    rw [oS] at this
    exact this
  have leX : m_le X (m_pr X (y0.2.1 0 0) 5 (some R)) := m_le_pr
  have le : m_le M (m_pr X (y0.2.1 0 0) 5 (some R)) := m_le_tr n6.1 leX
  -- what was there stays, but the state's reference
  have same : ∀ p : Nat, p ≠ 0 → p ≠ y0.1 → p < N → c_same M o (m_pr X (y0.2.1 0 0) 5 (some R)) o1 p := fun p p0 pr pN b hb => by
    have hz : m_tg M b ≠ 0 := fun z => by
      rcases hb with hb | hb
      · exact b1 b (by rw [hb]; exact p0) z
      · rcases n4 b z with w | w | w
        · exact p0 (hb.symm.trans w)
        · have := hb.symm.trans w; omega
        · have := hb.symm.trans w; omega
    have e1 := n3 b hz
    have hb' : (o b).1 = p := by
      rcases hb with hb | hb
      · exact hb
      · rw [e1] at hb; exact hb
    refine ⟨?_, e1⟩
    rw [u_pr_ne (fun z => pr (by rw [← hb', z, oS])), n6.2 b hz]
  have keepR : ∀ y : Yt, ∀ a : Cs, d_hold g M o RR DD U y a → y.2.2 < N := fun y a hy => by
    obtain ⟨_, _, ⟨u, _, r4⟩, _⟩ := hroads _ hy.2.2.1
    have := hN (RR y.2.2)
    rw [r4.1] at this
    exact this
  have keepH : ∀ y : Yt, ∀ a : Cs, y.1 ≠ y0.1 → d_hold g M o RR DD U y a → d_hold g (m_pr X (y0.2.1 0 0) 5 (some R)) o1 (fun q => if q = 3 * N + 4 then R else RR q) (fun q => if q = 3 * N + 4 then D else DD q) (fun q => U q ∨ q = 3 * N + 4) y a := fun y a hyr hy => by
    have h1 := keepR y a hy
    have hyN : y.1 < N := by
      have := hN (y.2.1 0 0)
      rw [St_o hy.1 d_0] at this
      exact this
    obtain ⟨k1, k2, k3, k4, k5⟩ := d_hold_same hy (same y.1 (d_hold_ne hy).1 hyr hyN)
    have hne : ¬ y.2.2 = 3 * N + 4 := by omega
    refine ⟨?_, k2, Or.inl k3, ?_, k5⟩
    · show c_St g _ o1 y.1 y.2.1 a.2 (if y.2.2 = 3 * N + 4 then R else RR y.2.2)
      rw [if_neg hne]
      exact k1
    · show (if y.2.2 = 3 * N + 4 then D else DD y.2.2) = _
      rw [if_neg hne]
      exact k4
  have cellS : ∀ b : Nat, m_tg M b ≠ 0 → b ≠ y0.2.1 0 0 → (m_pr X (y0.2.1 0 0) 5 (some R)).1 b = M.1 b ∧ o1 b = o b := fun b q1 q2 => ⟨by rw [u_pr_ne q2, n6.2 b q1], n3 b q1⟩
  refine ⟨fun q => if q = 3 * N + 4 then R else RR q, fun q => if q = 3 * N + 4 then D else DD q, fun q => U q ∨ q = 3 * N + 4, ⟨⟨fun b hb => ?_, fun b => ?_, c_g1_le n7 leX, 3 * N + 6, fun b => ?_⟩, fun rr hrr => ?_, ⟨?_, ?_, Or.inr rfl, ?_, hS, c6, c7⟩, fun i hi => keepH _ _ (hdis.1 i hi) (hhist i hi), fun b hb => keepH _ _ ((hdis.2.2 (by rw [show d.2.2.1 = some b from hb]; exact fun z => by cases z)).1) (hkept b hb), hdis, ?_⟩, ?_⟩
  · rw [m_tg_pr]
    exact n5 b hb
  · by_cases z : m_tg M b = 0
    · rcases n4 b z with w | w | w <;> rw [w] <;> omega
    · rw [n3 b z]
      exact b2 b
  · by_cases z : m_tg M b = 0
    · rcases n4 b z with w | w | w <;> rw [w] <;> omega
    · rw [n3 b z]
      have := hN b
      omega
  · rcases hrr with hrr | hrr
    · have hrd := hroads rr hrr
      obtain ⟨_, r2, ⟨u, _, r4⟩, r5, _⟩ := id hrd
      have q1 := hN (RR rr)
      rw [r4.1] at q1
      have q1 : rr < N := q1
      obtain ⟨Hm, hm1, hm2⟩ := r5
      have q2 : rr + 1 < N := by
        have := hN Hm
        rw [(c_Mh_H hm2).1] at this
        exact this
      have r1 := hrd.1
      have := d_road_same hrd le (same rr (by omega) (by omega) q1) (same (rr + 1) (by omega) (by omega) q2)
      have hne : ¬ rr = 3 * N + 4 := by omega
      unfold d_road at this ⊢
      dsimp only
      rw [if_neg hne, if_neg hne]
      exact this
    · subst hrr
      have s1 : c_same X o1 (m_pr X (y0.2.1 0 0) 5 (some R)) o1 (3 * N + 4) := fun b hb => by
        have hb' : (o1 b).1 = 3 * N + 4 := by rcases hb with w | w <;> exact w
        refine ⟨u_pr_ne (fun z => ?_), rfl⟩
        rw [z, n3 _ (by rw [tS]; decide), oS] at hb'
        have : y0.1 = 3 * N + 4 := hb'
        omega
      have s2 : c_same X o1 (m_pr X (y0.2.1 0 0) 5 (some R)) o1 (3 * N + 4 + 1) := fun b hb => by
        have hb' : (o1 b).1 = 3 * N + 4 + 1 := by rcases hb with w | w <;> exact w
        refine ⟨u_pr_ne (fun z => ?_), rfl⟩
        rw [z, n3 _ (by rw [tS]; decide), oS] at hb'
        have : y0.1 = 3 * N + 4 + 1 := hb'
        omega
      unfold d_road
      dsimp only
      rw [if_pos rfl, if_pos rfl]
      exact ⟨by omega, by omega, ⟨144, Nat.le_refl _, c_Rd_same n1 leX s1⟩, c_Mp_same n2 leX s2 (s1 R (Or.inl (by rw [hRo]))).1, hok⟩
  · -- the state
    show c_St g _ o1 y0.1 y0.2.1 a'.2 (if 3 * N + 4 = 3 * N + 4 then R else RR (3 * N + 4))
    rw [if_pos rfl]
    obtain ⟨s1, ⟨a1, a2, a3, a4, a5, a6, a7⟩, s3, s4⟩ := id c1
    have hdom : ∀ t k : Nat, c_dom a'.2 t k ↔ c_dom d.1.2 t k := fun t k => by
      unfold c_dom
      constructor
      · rintro (h | h | ⟨q1, q2, q3⟩ | h)
        · exact Or.inl h
        · exact Or.inr (Or.inl h)
        · exact Or.inr (Or.inr (Or.inl ⟨q1, q2, by rw [← hn t q1 q2]; exact q3⟩))
        · exact Or.inr (Or.inr (Or.inr h))
      · rintro (h | h | ⟨q1, q2, q3⟩ | h)
        · exact Or.inl h
        · exact Or.inr (Or.inl h)
        · exact Or.inr (Or.inr (Or.inl ⟨q1, q2, by rw [hn t q1 q2]; exact q3⟩))
        · exact Or.inr (Or.inr (Or.inr h))
    have gS : ∀ j : Nat, j ≠ 5 → m_gr (m_pr X (y0.2.1 0 0) 5 (some R)) (y0.2.1 0 0) j = m_gr M (y0.2.1 0 0) j := fun j hj => by
      rw [m_gr_pr, if_neg (fun z => hj z.2), c_cell_gr (n6.2 _ (by rw [tS]; decide))]
    refine ⟨fun t k hd => ?_, ⟨(gS 0 (by decide)).trans a1, (gS 1 (by decide)).trans a2, (gS 2 (by decide)).trans a3, (gS 3 (by decide)).trans a4, (gS 4 (by decide)).trans a5, by rw [m_gr_pr, if_pos ⟨rfl, rfl⟩], ?_⟩, fun t q1 q2 => ?_, fun b t k hb ht => ?_⟩
    · have e := s1 t k ((hdom t k).mp hd)
      have hz : m_tg M (y0.2.1 t k) ≠ 0 := b1 _ (by rw [e.1]; show y0.1 ≠ 0; omega)
      exact ⟨(n3 _ hz).trans e.1, (le _ hz).1.trans e.2⟩
    · have t8 := ct_8 c1
      rw [(le _ (by rw [t8]; decide)).2]
      exact a7
    · rw [hn t q1 q2]
      obtain ⟨p1, p2, dt, p3, p4⟩ := s3 t q1 q2
      have hlt := St_t c1 (d_6 (n := d.1.2) q1 q2)
      have hlt' : m_tg M (y0.2.1 6 t) = 14 := hlt
      have ce := (cellS (y0.2.1 6 t) (by rw [hlt']; decide) (fun z => by rw [z, tS] at hlt'; cases hlt')).1
      refine ⟨p1, (c_cell_gi ce).trans p2, dt, (c_cell_gr ce).trans p3, ?_⟩
      rcases p4 with p4 | ⟨v1, v2, v3, v4, v5⟩
      · exact Or.inl p4
      · have cd := cellS dt (by rw [v2]; decide) (fun z => by rw [z, tS] at v2; cases v2)
        exact Or.inr ⟨cd.2.trans v1, (c_cell_tg cd.1).trans v2, by rw [c_cell_ln cd.1]; exact v3, by rw [c_cell_ln cd.1]; exact v4, fun k hk => by rw [c_cell_gr cd.1]; exact v5 k hk⟩
    · have hz : m_tg M b ≠ 0 := fun z => by
        rcases n4 b z with w | w | w
        · rw [hb] at w
          have : y0.1 = 0 := w
          omega
        · rw [hb] at w
          have : y0.1 = 3 * N + 4 := w
          omega
        · rw [hb] at w
          have : y0.1 = 3 * N + 4 + 1 := w
          omega
      rw [n3 b hz] at hb
      obtain ⟨w1, w2⟩ := s4 b t k hb ht
      exact ⟨w1, (hdom t k).mpr w2⟩
  · -- its content
    show c_cM _ o1 y0.1 a'.1 = _
    have hlab : ∀ b : Nat, (o1 b).1 = y0.1 → m_tg M b ≠ 0 := fun b hb z => by
      rcases n4 b z with w | w | w
      · have := hb.symm.trans w; omega
      · have := hb.symm.trans w; omega
      · have := hb.symm.trans w; omega
    unfold c_cM q_ints
    refine Prod.ext (funext fun b => ?_) rfl
    dsimp only
    have e : c_enc o1 y0.1 a'.1 (m_gi (m_pr X (y0.2.1 0 0) 5 (some R))) b = m_gi (m_pr X (y0.2.1 0 0) 5 (some R)) b := by
      funext j
      by_cases hr : (o1 b).1 = y0.1
      · have hz := hlab b hr
        have ho := n3 b hz
        have hob : o b = (y0.1, (o b).2.1, (o b).2.2) := Prod.ext (by rw [← ho]; exact hr) rfl
        rw [c_enc_at (t := (o b).2.1) (k := (o b).2.2) (ho.trans hob)]
        cases hm : c_mp (o b).2.1 j with
        | none => rfl
        | some q =>
          show a'.1 q.1 (o b).2.2 q.2 = _
          rw [m_gi_pr, c_cell_gi (n6.2 b hz)]
          exact (u_gi hσ hob hm).symm
      · exact c_enc_ne hr
    rw [e]
    rfl
  · show (if 3 * N + 4 = 3 * N + 4 then D else DD (3 * N + 4)) = _
    rw [if_pos rfl, hD]
  · have h2 : 2 < N := by
      have := hN x
      rw [hx.1] at this
      exact this
    obtain ⟨x1, x2, x3, x4⟩ := d_x_same hx b3 (same 2 (by omega) (by omega) h2)
    exact ⟨x1, x2, x3, x4⟩
  · intro b hb
    have hz : m_tg M b ≠ 0 := fun z => by
      rcases hb with hb | hb
      · exact b1 b (by rw [hb]; decide) z
      · rcases n4 b z with w | w | w
        · have := hb.symm.trans w; omega
        · have := hb.symm.trans w; omega
        · have := hb.symm.trans w; omega
    have e1 := n3 b hz
    have hb' : (o b).1 = 3 := by
      rcases hb with hb | hb
      · exact hb
      · rw [e1] at hb; exact hb
    exact cellS b hz (fun z => by
      rw [z, oS] at hb'
      have : y0.1 = 3 := hb'
      omega)
end
