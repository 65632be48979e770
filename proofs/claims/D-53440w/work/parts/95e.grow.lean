/-! PURE: a list of the desk's state grows -/
set_option maxRecDepth 100000
section
variable {g : Nat → Nat} {M X1 X2 : Mem} {o : Nat → Nat × Nat × Nat} {x : Nat} {RR : Nat → Nat} {DD : Nat → Nat → Nat → Nat} {U : Nat → Prop} {y0 : Yt} {yh : Nat → Yt} {yk : Yt} {d : Dt} {σ : Cn} {s u : Nat}
theorem c_enc_at {r t k j b : Nat} {I : Nat → Nat → Int32} (h : o b = (r, t, k)) : c_enc o r σ I b j = match c_mp t j with | some x => σ x.1 k x.2 | none => I b j := by
  unfold c_enc
  rw [h]
  dsimp only
  rw [if_pos rfl]
  rfl
theorem c_enc_ne {r j b : Nat} {I : Nat → Nat → Int32} (h : (o b).1 ≠ r) : c_enc o r σ I b j = I b j := if_neg h
theorem St_L {r : Nat} {E : Nat → Nat → Nat} {n : Nat → Nat} {R : Nat} (h : c_St g M o r E n R) (h1 : 1 ≤ s) (h4 : s ≤ 4) : ∃ dd : Nat, c_L g M (E 6 s) dd (n s) (fun k => some (E s k)) ∧ (dd = g 1 ∨ o dd = (r, 7, s)) := by
  obtain ⟨_, b2, dd, b3, b4⟩ := h.2.2.1 s h1 h4
  refine ⟨dd, ⟨St_t h (d_6 h1 h4), b2, b3, ?_⟩, ?_⟩
  · rcases b4 with b4 | ⟨c1, c2, c3, c4, c5⟩
    · exact Or.inl b4
    · exact Or.inr ⟨c2, c3, c4, c5⟩
  · rcases b4 with b4 | ⟨c1, _⟩
    · exact Or.inl b4.2
    · exact Or.inr c1
theorem u_at2_eq {E : Nat → Nat → Nat} {s k v : Nat} : u_at2 E s k v s k = v := if_pos ⟨rfl, rfl⟩
theorem u_at2_ne {E : Nat → Nat → Nat} {s k v t i : Nat} (h : ¬ (t = s ∧ i = k)) : u_at2 E s k v t i = E t i := if_neg h
theorem d_grow {dd d' kc : Nat} {v : Nat → Int32} (hC : d_C g M o x RR DD U y0 yh yk d) (hs1 : 1 ≤ s) (hs4 : s ≤ 4) (hns : d.1.2 s < 40) (hu : m_tg M u = 0) (hX1 : ∀ b : Nat, b ≠ u → X1.1 b = M.1 b) (htu : m_tg X1 u = c_tgs s) (hv : ∀ j : Nat, j < c_nf s → m_gi X1 u j = v j) (hsz : m_nc X1 ≤ m_nc M + 1 ∧ m_ns X1 ≤ m_ns M + 15)
    (hL : c_L g M (y0.2.1 6 s) dd (d.1.2 s) (fun k => some (y0.2.1 s k))) (hod : dd = g 1 ∨ o dd = (y0.1, 7, s))
    (hL2 : c_L g X2 (y0.2.1 6 s) d' (d.1.2 s + 1) (c_e (fun k => some (y0.2.1 s k)) (d.1.2 s) (some u))) (hd' : (d' = dd ∧ m_tg X1 dd = 103) ∨ m_tg X1 d' = 0) (hkc : kc ≤ 1) (hf : c_fr X1 X2 (y0.2.1 6 s) d' kc (kc * c_nc (d.1.2 s)))
    (hold : ∀ t k j : Nat, c_dom d.1.2 t k → ∀ z : Nat × Nat, c_mp t j = some z → σ z.1 k z.2 = d.1.1 z.1 k z.2) (hnew : ∀ (j : Nat) (z : Nat × Nat), c_mp s j = some z → v j = σ z.1 (d.1.2 s) z.2) (hS : u_Sv (σ, u_at d.1.2 s (d.1.2 s + 1))) (hD : u_Dk σ (d.1.2 5) = u_Dk d.1.1 (d.1.2 5)) :
    ∃ o' : Nat → Nat × Nat × Nat, d_C g X2 o' x RR DD U (y0.1, u_at2 y0.2.1 s (d.1.2 s) u, y0.2.2) yh yk ((σ, u_at d.1.2 s (d.1.2 s + 1)), d.2) ∧ c_same M o X2 o' 3 ∧ m_nc X2 ≤ m_nc M + 2 ∧ m_ns X2 ≤ m_ns M + 105 := by
  obtain ⟨⟨b1, b2, b3, N, b4⟩, hroads, hcur, hhist, hkept, hdis, hx⟩ := id hC
  obtain ⟨c1, c2, c3, c4, c5, c6, c7⟩ := id hcur
  obtain ⟨s1, s2, s3, s4⟩ := id c1
  generalize hr : y0.1 = r at *
  generalize hE : y0.2.1 = E at *
  generalize hn : d.1.2 = n at *
  have tt := c_tgs_el hs1 hs4
  have old : ∀ b : Nat, m_tg M b ≠ 0 → X1.1 b = M.1 b := fun b hb => hX1 b (fun z => hb (by rw [z]; exact hu))
  have ol : o (E 6 s) = (r, 6, s) := St_o c1 (d_6 hs1 hs4)
  have tl : m_tg M (E 6 s) = 14 := hL.1
  have tdd : m_tg M dd = 103 ∨ m_tg M dd = 160 := c_L_tag hL b3
  have ddcase : (d' = dd ∧ m_tg M dd = 103) ∨ m_tg M d' = 0 := by
    rcases hd' with ⟨e1, e2⟩ | e
    · exact Or.inl ⟨e1, by rw [← c_cell_tg (old dd (by rcases tdd with w | w <;> rw [w] <;> decide))]; exact e2⟩
    · right
      apply Classical.byContradiction
      intro z
      rw [c_cell_tg (old d' z)] at e
      exact z e
  have ud' : u ≠ d' := fun z => by
    rcases ddcase with ⟨e1, e2⟩ | e
    · rw [z, e1, e2] at hu
      cases hu
    · rcases hd' with ⟨e1, e2⟩ | e'
      · rw [e1] at e
        rcases tdd with w | w <;> rw [w] at e <;> cases e
      · rw [← z, htu, tt] at e'
        omega
  have uL : u ≠ E 6 s := fun z => by rw [z, tl] at hu; cases hu
  have odM : ∀ b : Nat, b = d' → m_tg M b ≠ 0 → o b = (r, 7, s) := fun b hb hz => by
    rcases ddcase with ⟨e1, e2⟩ | e
    · rcases hod with w | w
      · rw [w, b3.1] at e2
        cases e2
      · rw [hb, e1]
        exact w
    · rw [hb] at hz
      exact absurd e hz
  -- the labels
  have hoM : ∀ b : Nat, m_tg M b ≠ 0 → (if b = u then (r, s, n s) else if b = d' then (r, 7, s) else o b) = o b := fun b hb => by
    rw [if_neg (fun z => hb (by rw [z]; exact hu))]
    by_cases z : b = d'
    · rw [if_pos z, odM b z hb]
    · rw [if_neg z]
  have cell : ∀ b : Nat, m_tg M b ≠ 0 → b ≠ E 6 s → b ≠ d' → X2.1 b = M.1 b := fun b q1 q2 q3 => (hf.2.1 b q2 q3).trans (old b q1)
  have same : ∀ p : Nat, p ≠ 0 → p ≠ r → c_same M o X2 (fun b => if b = u then (r, s, n s) else if b = d' then (r, 7, s) else o b) p := fun p p0 pr b hb => by
    by_cases z : m_tg M b = 0
    · exfalso
      rcases hb with hb | hb
      · exact b1 b (by rw [hb]; exact p0) z
      · have hb' : (if b = u then (r, s, n s) else if b = d' then (r, 7, s) else o b).1 = p := hb
        split at hb'
        · exact pr hb'.symm
        · split at hb'
          · exact pr hb'.symm
          · exact b1 b (by rw [hb']; exact p0) z
    · have e1 := hoM b z
      have hb' : (o b).1 = p := by
        rcases hb with hb | hb
        · exact hb
        · have hb' : (if b = u then (r, s, n s) else if b = d' then (r, 7, s) else o b).1 = p := hb
          rw [e1] at hb'
          exact hb'
      refine ⟨cell b z (fun w => pr (by rw [← hb', w, ol])) (fun w => pr (by rw [← hb', odM b w z])), e1⟩
  have le1 : m_le M X1 := fun b hb => ⟨c_cell_tg (old b hb), c_cell_ln (old b hb)⟩
  have hle : m_le M X2 := m_le_tr le1 hf.1
  have keepH : ∀ y : Yt, ∀ a : Cs, y.1 ≠ r → d_hold g M o RR DD U y a → d_hold g X2 (fun b => if b = u then (r, s, n s) else if b = d' then (r, 7, s) else o b) RR DD U y a := fun y a hyr hy => d_hold_same hy (same y.1 (d_hold_ne hy).1 hyr)
  have td' : m_tg X2 d' = 103 := by
    rcases hL2.2.2.2 with ⟨z, _⟩ | z
    · omega
    · exact z.1
  have tu2 : m_tg X2 u = c_tgs s := by
    rw [c_cell_tg (hf.2.1 u uL ud')]
    exact htu
  have hkn : kc * c_nc (n s) ≤ 90 := by
    have hnc : c_nc (n s) ≤ 90 := Nat.le_trans c_nc_le (by omega)
    have : kc = 0 ∨ kc = 1 := by omega
    rcases this with z | z <;> subst z <;> omega
  -- the state's own objects
  have own : ∀ b t k : Nat, (if b = u then (r, s, n s) else if b = d' then (r, 7, s) else o b) = (r, t, k) → (b = u ∧ t = s ∧ k = n s) ∨ (b = d' ∧ t = 7) ∨ (b ≠ u ∧ b ≠ d' ∧ o b = (r, t, k)) := fun b t k hb => by
    by_cases z : b = u
    · rw [if_pos z] at hb
      cases hb
      exact Or.inl ⟨z, rfl, rfl⟩
    · rw [if_neg z] at hb
      by_cases w : b = d'
      · rw [if_pos w] at hb
        cases hb
        exact Or.inr (Or.inl ⟨w, rfl⟩)
      · rw [if_neg w] at hb
        exact Or.inr (Or.inr ⟨z, w, hb⟩)
  have dom' : ∀ t k : Nat, c_dom n t k → c_dom (u_at n s (n s + 1)) t k := fun t k h => by
    rcases h with h | h | ⟨q1, q2, q3⟩ | h
    · exact Or.inl h
    · exact Or.inr (Or.inl h)
    · refine Or.inr (Or.inr (Or.inl ⟨q1, q2, ?_⟩))
      by_cases e : t = s
      · subst e
        rw [u_at_eq]
        omega
      · rw [u_at_ne e]
        exact q3
    · exact Or.inr (Or.inr (Or.inr h))
  have eE : ∀ t k : Nat, c_dom n t k → u_at2 E s (n s) u t k = E t k := fun t k h => u_at2_ne (fun z => by
    rcases h with h | h | ⟨q1, q2, q3⟩ | h
    · omega
    · omega
    · rw [z.1, z.2] at q3
      omega
    · omega)
  have cellE : ∀ t k : Nat, c_dom n t k → t ≠ 6 → X2.1 (E t k) = M.1 (E t k) := fun t k h h6 => by
    have e := s1 t k h
    have htg : m_tg M (E t k) ≠ 0 ∧ m_tg M (E t k) ≠ 14 ∧ m_tg M (E t k) ≠ 103 := by
      rw [e.2]
      rcases h with h | h | ⟨q1, q2, q3⟩ | h
      · rw [h.1]; decide
      · rw [h.1]; decide
      · rw [c_tgs_el q1 q2]; omega
      · omega
    refine cell _ htg.1 (fun z => htg.2.1 (by rw [z]; exact tl)) (fun z => ?_)
    rcases ddcase with ⟨e1, e2⟩ | e
    · exact htg.2.2 (by rw [z, e1]; exact e2)
    · exact htg.1 (by rw [z]; exact e)
  have hdis2 : d_dis (r, u_at2 E s (n s) u, y0.2.2) yh yk ((σ, u_at n s (n s + 1)), d.2) := by
    unfold d_dis at hdis ⊢
    rw [hr] at hdis
    exact hdis
  refine ⟨fun b => if b = u then (r, s, n s) else if b = d' then (r, 7, s) else o b, ⟨⟨fun b hb => ?_, fun b => ?_, c_g1_le b3 hle, max N (r + 1), fun b => ?_⟩, fun rr hrr => ?_, ⟨⟨fun t k ht => ?_, ?_, fun t q1 q2 => ?_, fun b t k hb ht => ?_⟩, ?_, c3, ?_, hS, ?_, ?_⟩, fun i hi => keepH _ _ (by rw [← hr]; exact hdis.1 i hi) (hhist i hi), fun a ha => keepH _ _ (by rw [← hr]; exact (hdis.2.2 (by rw [show d.2.2.1 = some a from ha]; exact fun z => by cases z)).1) (hkept a ha), hdis2, ?_⟩, same 3 (by omega) (by omega), by have := hf.2.2.1; omega, by have := hf.2.2.2; omega⟩
  · have hb' : (if b = u then (r, s, n s) else if b = d' then (r, 7, s) else o b).1 ≠ 0 := hb
    by_cases z : b = u
    · rw [z, tu2, tt]; omega
    · rw [if_neg z] at hb'
      by_cases w : b = d'
      · rw [w, td']; decide
      · rw [if_neg w] at hb'
        rw [(hle b (b1 b hb')).1]
        exact b1 b hb'
  · show (if b = u then (r, s, n s) else if b = d' then (r, 7, s) else o b).1 ≠ 1
    split
    · show r ≠ 1; omega
    · split
      · show r ≠ 1; omega
      · exact b2 b
  · show (if b = u then (r, s, n s) else if b = d' then (r, 7, s) else o b).1 < max N (r + 1)
    split
    · show r < _; omega
    · split
      · show r < _; omega
      · have := b4 b; omega
  · have hrd := hroads rr hrr
    have := hrd.1
    have := hrd.2.1
    exact d_road_same hrd hle (same rr (by omega) (by omega)) (same (rr + 1) (by omega) (by omega))
  · -- domain
    by_cases z : t = s ∧ k = n s
    · obtain ⟨z1, z2⟩ := z
      subst z1
      subst z2
      show (if u_at2 E t (n t) u t (n t) = u then (r, t, n t) else if u_at2 E t (n t) u t (n t) = d' then (r, 7, t) else o (u_at2 E t (n t) u t (n t))) = (r, t, n t) ∧ m_tg X2 (u_at2 E t (n t) u t (n t)) = c_tgs t
      rw [u_at2_eq, if_pos rfl]
      exact ⟨rfl, tu2⟩
    · have hdm : c_dom n t k := by
        rcases ht with h | h | ⟨q1, q2, q3⟩ | h
        · exact Or.inl h
        · exact Or.inr (Or.inl h)
        · refine Or.inr (Or.inr (Or.inl ⟨q1, q2, ?_⟩))
          have q3 : k < u_at n s (n s + 1) t := q3
          by_cases e : t = s
          · subst e
            rw [u_at_eq] at q3
            have : k ≠ n t := fun w => z ⟨rfl, w⟩
            omega
          · rw [u_at_ne e] at q3
            exact q3
        · exact Or.inr (Or.inr (Or.inr h))
      have e0 := s1 t k hdm
      have hz : m_tg M (E t k) ≠ 0 := b1 _ (by rw [e0.1]; show r ≠ 0; omega)
      show (if u_at2 E s (n s) u t k = u then (r, s, n s) else if u_at2 E s (n s) u t k = d' then (r, 7, s) else o (u_at2 E s (n s) u t k)) = (r, t, k) ∧ m_tg X2 (u_at2 E s (n s) u t k) = c_tgs t
      rw [eE t k hdm]
      exact ⟨(hoM _ hz).trans e0.1, (hle _ hz).1.trans e0.2⟩
  · obtain ⟨a1, a2, a3, a4, a5, a6, a7⟩ := s2
    have n6 : ∀ k : Nat, 1 ≤ k → k ≤ 4 → u_at2 E s (n s) u 6 k = E 6 k := fun k q1 q2 => eE 6 k (d_6 q1 q2)
    have n0 : u_at2 E s (n s) u 0 0 = E 0 0 := eE 0 0 d_0
    have n8 : u_at2 E s (n s) u 8 0 = E 8 0 := eE 8 0 d_8
    have ce0 := cellE 0 0 d_0 (by decide)
    have ce8 := cellE 8 0 d_8 (by decide)
    show m_gr X2 (u_at2 E s (n s) u 0 0) 0 = some (u_at2 E s (n s) u 6 1) ∧ m_gr X2 (u_at2 E s (n s) u 0 0) 1 = some (u_at2 E s (n s) u 6 2) ∧ m_gr X2 (u_at2 E s (n s) u 0 0) 2 = some (u_at2 E s (n s) u 6 3) ∧ m_gr X2 (u_at2 E s (n s) u 0 0) 3 = some (u_at2 E s (n s) u 6 4) ∧ m_gr X2 (u_at2 E s (n s) u 0 0) 4 = some (u_at2 E s (n s) u 8 0) ∧ m_gr X2 (u_at2 E s (n s) u 0 0) 5 = some (RR y0.2.2) ∧ m_ln X2 (u_at2 E s (n s) u 8 0) = 3
    rw [n0, n8, n6 1 (by decide) (by decide), n6 2 (by decide) (by decide), n6 3 (by decide) (by decide), n6 4 (by decide) (by decide), c_cell_gr ce0, c_cell_gr ce0, c_cell_gr ce0, c_cell_gr ce0, c_cell_gr ce0, c_cell_gr ce0, c_cell_ln ce8]
    exact ⟨a1, a2, a3, a4, a5, a6, a7⟩
  · -- lists
    show u_at n s (n s + 1) t < 1000 ∧ c_lst g X2 _ r t (u_at n s (n s + 1) t) (u_at2 E s (n s) u 6 t) (u_at2 E s (n s) u t)
    rw [eE 6 t (d_6 q1 q2)]
    by_cases e : t = s
    · subst e
      rw [u_at_eq]
      refine ⟨by omega, hL2.2.1, d', hL2.2.2.1, ?_⟩
      rcases hL2.2.2.2 with ⟨z, _⟩ | ⟨w1, w2, w3, w4⟩
      · omega
      · refine Or.inr ⟨?_, w1, w2, w3, fun k hk => ?_⟩
        · show (if d' = u then (r, t, n t) else if d' = d' then (r, 7, t) else o d') = (r, 7, t)
          rw [if_neg (fun z => ud' z.symm), if_pos rfl]
        · rw [w4 k hk]
          unfold c_e
          by_cases z : k = n t
          · rw [if_pos z, z, u_at2_eq]
          · rw [if_neg z, u_at2_ne (fun w => z w.2)]
    · rw [u_at_ne e]
      obtain ⟨p1, p2, dt, p3, p4⟩ := s3 t q1 q2
      have hlt : m_tg M (E 6 t) = 14 := St_t c1 (d_6 q1 q2)
      have clt : X2.1 (E 6 t) = M.1 (E 6 t) := cell _ (by rw [hlt]; decide) (fun z => by
        have h1 := St_o c1 (d_6 (n := n) q1 q2)
        rw [z, ol] at h1
        cases h1
        exact e rfl) (fun z => by
        rcases ddcase with ⟨e1, e2⟩ | e'
        · rw [z, e1, e2] at hlt
          cases hlt
        · rw [z, e'] at hlt
          cases hlt)
      refine ⟨p1, (c_cell_gi clt).trans p2, dt, (c_cell_gr clt).trans p3, ?_⟩
      rcases p4 with p4 | ⟨v1, v2, v3, v4, v5⟩
      · exact Or.inl p4
      · have hdt : X2.1 dt = M.1 dt := cell dt (by rw [v2]; decide) (fun z => by rw [z, tl] at v2; cases v2) (fun z => by
          rcases ddcase with ⟨e1, e2⟩ | e'
          · have := odM dt z (by rw [v2]; decide)
            rw [v1] at this
            cases this
            exact e rfl
          · rw [z, e'] at v2
            cases v2)
        refine Or.inr ⟨(hoM dt (by rw [v2]; decide)).trans v1, (c_cell_tg hdt).trans v2, by rw [c_cell_ln hdt]; exact v3, by rw [c_cell_ln hdt]; exact v4, fun k hk => ?_⟩
        rw [c_cell_gr hdt, v5 k hk, u_at2_ne (fun w => e w.1)]
  · -- uniqueness
    rcases own b t k hb with ⟨w1, w2, w3⟩ | ⟨w1, w2⟩ | ⟨w1, w2, w3⟩
    · rw [w1, w2, w3]
      exact ⟨u_at2_eq.symm, d_k hs1 hs4 (by show n s < u_at n s (n s + 1) s; rw [u_at_eq]; omega)⟩
    · omega
    · obtain ⟨q1, q2⟩ := s4 b t k w3 ht
      refine ⟨?_, dom' t k q2⟩
      show b = u_at2 E s (n s) u t k
      rw [eE t k q2]
      exact q1
  · -- content
    show c_cM X2 _ r σ = X2
    unfold c_cM q_ints
    refine Prod.ext (funext fun b => ?_) rfl
    dsimp only
    have e : c_enc (fun b => if b = u then (r, s, n s) else if b = d' then (r, 7, s) else o b) r σ (m_gi X2) b = m_gi X2 b := by
      funext j
      by_cases z : b = u
      · rw [c_enc_at (t := s) (k := n s) (if_pos z)]
        cases hm : c_mp s j with
        | none => rfl
        | some w =>
          show σ w.1 (n s) w.2 = m_gi X2 b j
          rw [z, c_cell_gi (hf.2.1 u uL ud'), hv j (c_mp_nf hm hs1 hs4)]
          exact (hnew j w hm).symm
      · by_cases w : b = d'
        · rw [c_enc_at (t := 7) (k := s) ((if_neg z).trans (if_pos w))]
          rfl
        · by_cases hr' : (o b).1 = r
          · have hob : o b = (r, (o b).2.1, (o b).2.2) := Prod.ext hr' rfl
            rw [c_enc_at (t := (o b).2.1) (k := (o b).2.2) (((if_neg z).trans (if_neg w)).trans hob)]
            cases hm : c_mp (o b).2.1 j with
            | none => rfl
            | some q =>
              have hsk : (o b).2.1 ≤ 4 ∨ (o b).2.1 = 8 := by
                generalize (o b).2.1 = t at hm
                unfold c_mp at hm
                split at hm <;> first | (left; decide) | (right; rfl) | cases hm
              obtain ⟨q1, q2⟩ := s4 b _ _ hob hsk
              have h6 : (o b).2.1 ≠ 6 := by omega
              have ce := cellE _ _ q2 h6
              rw [← q1] at ce
              show σ q.1 (o b).2.2 q.2 = m_gi X2 b j
              rw [hold _ _ j q2 q hm, c_cell_gi ce]
              exact (u_gi c2 hob hm).symm
          · refine c_enc_ne (fun h => hr' ?_)
            have h' : (if b = u then (r, s, n s) else if b = d' then (r, 7, s) else o b).1 = r := h
            rw [if_neg z, if_neg w] at h'
            exact h'
    rw [e]
    rfl
  · show DD y0.2.2 = u_Dk σ (u_at n s (n s + 1) 5)
    rw [u_at_ne (by omega), hD]
    exact c4
  · exact c6
  · exact c7
  · -- the desk
    have hx2 : d_x g X2 (fun b => if b = u then (r, s, n s) else if b = d' then (r, 7, s) else o b) x y0 yh yk d := d_x_same hx b3 (same 2 (by omega) (by omega))
    obtain ⟨x1, x2, x3, x4⟩ := hx2
    refine ⟨x1, x2, ?_, x4⟩
    rw [x3, hE]
    show some (E 0 0) = some (u_at2 E s (n s) u 0 0)
    rw [eE 0 0 d_0]
end
