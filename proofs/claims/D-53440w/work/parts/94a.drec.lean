/-! PURE: the desk's record of a state -/
set_option maxRecDepth 100000
def u_ps {α : Type} (c : α) (h : Nat) (f : Nat → α) : Nat → α := if h = 4 then (fun i => if i < 3 then f (i + 1) else c) else fun i => if i < h then f i else c
def u_pn (h : Nat) : Nat := if h = 4 then 4 else h + 1
/-- the state is recorded -/
def d_rec (d : Dt) : Dt := (d.1, (u_pn d.2.1.1, u_ps d.1 d.2.1.1 d.2.1.2), d.2.2)
section
variable {g : Nat → Nat} {M M' : Mem} {o o' : Nat → Nat × Nat × Nat} {x : Nat} {RR : Nat → Nat} {DD : Nat → Nat → Nat → Nat} {U : Nat → Prop} {y0 : Yt} {yh : Nat → Yt} {yk : Yt} {d : Dt}
theorem d_same2 {q : Nat} (hLb : c_Lb M o) (h2 : ∀ b : Nat, m_tg M b ≠ 0 → o' b = o b ∧ ((o b).1 ≠ 2 → M'.1 b = M.1 b)) (h3 : ∀ b : Nat, m_tg M b = 0 → (o' b).1 = 0 ∨ (o' b).1 = 2 ∨ (o' b).1 = q) : ∀ p : Nat, p ≠ 0 → p ≠ 2 → p ≠ q → c_same M o M' o' p := by
  intro p p0 p2 pq b hb
  by_cases z : m_tg M b = 0
  · exfalso
    rcases hb with hb | hb
    · exact hLb b (by rw [hb]; exact p0) z
    · rcases h3 b z with w | w | w
      · exact p0 (hb.symm.trans w)
      · exact p2 (hb.symm.trans w)
      · exact pq (hb.symm.trans w)
  · obtain ⟨a1, a2⟩ := h2 b z
    refine ⟨a2 ?_, a1⟩
    rcases hb with hb | hb
    · rw [hb]; exact p2
    · rw [a1] at hb
      rw [hb]; exact p2
theorem d_hold_ne {y : Yt} {a : Cs} (h : d_hold g M o RR DD U y a) : y.1 ≠ 0 ∧ y.1 ≠ 2 ∧ y.1 ≠ 3 ∧ y.1 ≠ 1 := by
  have := h.2.2.2.2.2.2
  omega
/-- the history is not full -/
theorem d_rec24 {Q : Mem → Prop} (hobj : ∀ (M : Mem) (y : Nat), q_obj (m_tg M y) → m_asg M y "java/lang/Object") (hC : d_C g M o x RR DD U y0 yh yk d) (hh : d.2.1.1 ≤ 3) (hroom : m_nc M + 200 ≤ m_CM ∧ m_ns M + 8200 ≤ m_SM)
    (hQ : ∀ (M' : Mem) (o' : Nat → Nat × Nat × Nat) (y' : Yt), d_C g M' o' x RR DD U y0 (fun i => if i < d.2.1.1 then yh i else y') yk (d.1, (d.2.1.1 + 1, fun i => if i < d.2.1.1 then d.2.1.2 i else d.1), d.2.2) → c_same M o M' o' 3 → m_nc M' ≤ m_nc M + 160 → m_ns M' ≤ m_ns M + 8000 → Q M') : wp_X0_record_b24 g M x Q := by
  obtain ⟨⟨b1, b2, b3, N, b4⟩, hroads, hcur, hhist, hkept, hdis, hx⟩ := id hC
  obtain ⟨x1, x2, x3, x4, ⟨l, dl, x5, x6, x7, x8⟩, x9, bb, x10, x11⟩ := id hx
  obtain ⟨c1, c2, c3, c4, c5, c6, c7⟩ := id hcur
  have hR := c5.1.1
  have hqf : ∀ b : Nat, (o b).1 ≠ 3 * N + 6 := fun b z => by have := b4 b; omega
  refine ⟨x2, l, x5, y0.2.1 0 0, x3, ct_0 c1, ?_⟩
  refine c1_copy (q := 3 * N + 6) hobj c2 c1 (by omega) b1 ⟨hR.1.2.2.2.2.2.2.1, hR.1.2.2.2.2.2.2.2.1, hR.1.2.2.2.2.2.2.2.2.1, hR.1.2.2.2.2.2.2.2.2.2⟩ (fun k hk => (hR.2.2.1 k hk).2.1) (fun k hk => (hR.2.2.2.2 k hk).2.1) hqf ⟨by omega, by omega⟩ (fun X o1 E' hCO _ => ?_)
  obtain ⟨s1, s2, s3, s4, s5, s6, s7, s8, s9⟩ := hCO
  have tl : m_tg M l = 14 := x7.1
  have Xl := s3.2 l (by rw [tl]; decide)
  have ldl : m_tg M dl ≠ 0 := by rcases c_L_tag x7 b3 with z | z <;> rw [z] <;> decide
  have Xdl := s3.2 dl ldl
  have hLX : c_L g X l dl d.2.1.1 (fun i => some ((yh i).2.1 0 0)) := c_L_same x7 Xl Xdl
  refine ⟨(c_cell_tg Xl).trans tl, ?_⟩
  have obj2 : ∀ (Y : Mem) (b : Nat), m_tg Y b = 2 → q_obj (m_tg Y b) := fun Y b h => Or.inl h
  refine q_add hobj s7 hLX (by omega) ⟨by omega, by omega⟩ (fun k hk y hy => ?_) (fun y hy => ?_) (fun M' d' kc hkc hL2 hf _ => ?_)
  · cases hy
    have := ct_0 (hhist k hk).1
    exact obj2 X _ ((s3.1 _ (by rw [this]; decide)).1.trans this)
  · cases hy
    exact obj2 X _ (ct_0 s1)
  · -- the labels
    have hk1 : kc ≤ 1 := by rcases hkc with ⟨e, _⟩ | ⟨e, _⟩ <;> omega
    have hnc : c_nc d.2.1.1 ≤ 16 := Nat.le_trans c_nc_le (by omega)
    have hkn : kc * c_nc d.2.1.1 ≤ 16 := by
      have : kc = 0 ∨ kc = 1 := by omega
      rcases this with z | z <;> subst z <;> omega
    have dcase : (d' = dl ∧ m_tg X dl = 103) ∨ m_tg X d' = 0 := by
      rcases hkc with ⟨_, e1, e2, _⟩ | ⟨_, e1, _⟩
      · exact Or.inl ⟨e1, e2⟩
      · exact Or.inr e1
    have dM : (d' = dl ∧ m_tg M dl = 103) ∨ m_tg M d' = 0 := by
      rcases dcase with ⟨e1, e2⟩ | e
      · exact Or.inl ⟨e1, by rw [← c_cell_tg Xdl]; exact e2⟩
      · right
        apply Classical.byContradiction
        intro z
        rw [(s3.1 d' z).1] at e
        exact z e
    have o1dl : (d' = dl ∧ m_tg M dl = 103) → o1 d' = (2, 2, 0) := fun ⟨e1, e2⟩ => by
      rw [e1, s4 dl ldl]
      rcases x8 with z | z
      · rw [z, b3.1] at e2
        cases e2
      · exact z.1
    have hle : m_le M M' := m_le_tr s3.1 hf.1
    have td' : m_tg M' d' = 103 := by
      rcases hL2.2.2.2 with ⟨z, _⟩ | z
      · omega
      · exact z.1
    have hoM : ∀ b : Nat, m_tg M b ≠ 0 → (if b = d' then ((2, 2, 0) : Nat × Nat × Nat) else o1 b) = o b ∧ ((o b).1 ≠ 2 → M'.1 b = M.1 b) := fun b hb => by
      have e1 : (if b = d' then ((2, 2, 0) : Nat × Nat × Nat) else o1 b) = o b := by
        by_cases z : b = d'
        · rw [if_pos z]
          rcases dM with w | w
          · rw [z, ← s4 d' (by rw [w.1]; exact ldl), o1dl w]
          · rw [z] at hb
            exact absurd w hb
        · rw [if_neg z, s4 b hb]
      refine ⟨e1, fun h2 => ?_⟩
      rw [hf.2.1 b (fun z => h2 (by rw [z, x6])) (fun z => h2 (by rw [← e1, if_pos z])), s3.2 b hb]
    have ho0 : ∀ b : Nat, m_tg M b = 0 → (if b = d' then ((2, 2, 0) : Nat × Nat × Nat) else o1 b).1 = 0 ∨ (if b = d' then ((2, 2, 0) : Nat × Nat × Nat) else o1 b).1 = 2 ∨ (if b = d' then ((2, 2, 0) : Nat × Nat × Nat) else o1 b).1 = 3 * N + 6 := fun b hb => by
      by_cases z : b = d'
      · rw [if_pos z]
        exact Or.inr (Or.inl rfl)
      · rw [if_neg z]
        rcases s5 b hb with w | w
        · exact Or.inl w
        · exact Or.inr (Or.inr w)
    have same := d_same2 (M' := M') (o' := fun b => if b = d' then ((2, 2, 0) : Nat × Nat × Nat) else o1 b) b1 hoM ho0
    refine hQ M' (fun b => if b = d' then (2, 2, 0) else o1 b) (3 * N + 6, E', y0.2.2) ?_ ?_ (by have := hf.2.2.1; omega) (by have := hf.2.2.2; omega)
    · -- all
      have hN : ∀ y : Yt, ∀ a : Cs, d_hold g M o RR DD U y a → y.1 < N := fun y a hy => by
        have := b4 (y.2.1 0 0)
        rw [St_o hy.1 d_0] at this
        exact this
      have keepH : ∀ y : Yt, ∀ a : Cs, d_hold g M o RR DD U y a → d_hold g M' (fun b => if b = d' then ((2, 2, 0) : Nat × Nat × Nat) else o1 b) RR DD U y a := fun y a hy => by
        have h1 := d_hold_ne hy
        have h2 := hN y a hy
        exact d_hold_same hy (same y.1 h1.1 h1.2.1 (by omega))
      have sameq : c_same X o1 M' (fun b => if b = d' then ((2, 2, 0) : Nat × Nat × Nat) else o1 b) (3 * N + 6) := fun b hb => by
        have bd : b ≠ d' := fun z => by
          rcases hb with hb | hb
          · rcases dM with w | w
            · rw [z, o1dl w] at hb
              have h2 : 2 = 3 * N + 6 := hb
              omega
            · have := s6 b (by rw [hb]; omega)
              rcases dcase with v | v
              · rw [v.1] at w
                exact ldl w
              · rw [z] at this
                exact this v
          · have hb' : (if b = d' then ((2, 2, 0) : Nat × Nat × Nat) else o1 b).1 = 3 * N + 6 := hb
            rw [if_pos z] at hb'
            have h2 : 2 = 3 * N + 6 := hb'
            omega
        refine ⟨hf.2.1 b (fun z => ?_) bd, if_neg bd⟩
        have hb' : (o1 b).1 = 3 * N + 6 := by
          rcases hb with hb | hb
          · exact hb
          · have hb' : (if b = d' then ((2, 2, 0) : Nat × Nat × Nat) else o1 b).1 = 3 * N + 6 := hb
            rw [if_neg bd] at hb'
            exact hb'
        rw [z, s4 l (by rw [tl]; decide), x6] at hb'
        have h2 : 2 = 3 * N + 6 := hb'
        omega
      have newH : d_hold g M' (fun b => if b = d' then ((2, 2, 0) : Nat × Nat × Nat) else o1 b) RR DD U (3 * N + 6, E', y0.2.2) d.1 := ⟨c_St_same s1 sameq, d_cM_same s2 sameq, c3, c4, c5, by show (3 * N + 6) % 3 = 0; omega, by show 6 ≤ 3 * N + 6; omega⟩
      refine ⟨⟨fun b hb => ?_, fun b => ?_, c_g1_le s7 hf.1, 3 * N + 7, fun b => ?_⟩, fun rr hrr => ?_, keepH _ _ hcur, fun i hi => ?_, fun a ha => keepH _ _ (hkept a ha), ⟨fun i hi => ?_, fun i j hi hj hij => ?_, fun hk => ⟨(hdis.2.2 hk).1, fun i hi => ?_⟩⟩, ?_⟩
      · by_cases z : b = d'
        · rw [z, td']
          decide
        · have hb' : (if b = d' then ((2, 2, 0) : Nat × Nat × Nat) else o1 b).1 ≠ 0 := hb
          rw [if_neg z] at hb'
          have := s6 b hb'
          rw [(hf.1 b this).1]
          exact this
      · show (if b = d' then ((2, 2, 0) : Nat × Nat × Nat) else o1 b).1 ≠ 1
        by_cases z : m_tg M b = 0
        · rcases ho0 b z with w | w | w <;> rw [w] <;> omega
        · rw [(hoM b z).1]
          exact b2 b
      · show (if b = d' then ((2, 2, 0) : Nat × Nat × Nat) else o1 b).1 < 3 * N + 7
        by_cases z : m_tg M b = 0
        · rcases ho0 b z with w | w | w <;> rw [w] <;> omega
        · rw [(hoM b z).1]
          have := b4 b
          omega
      · have hr := hroads rr hrr
        obtain ⟨r1, r2, ⟨u, r3, r4⟩, r5, r6⟩ := id hr
        have hrN : rr < N := by
          have := b4 (RR rr)
          rw [r4.1] at this
          exact this
        exact d_road_same hr hle (same rr (by omega) (by omega) (by omega)) (same (rr + 1) (by omega) (by omega) (by omega))
      · show d_hold g M' _ RR DD U (if i < d.2.1.1 then yh i else (3 * N + 6, E', y0.2.2)) (if i < d.2.1.1 then d.2.1.2 i else d.1)
        by_cases z : i < d.2.1.1
        · rw [if_pos z, if_pos z]
          exact keepH _ _ (hhist i z)
        · rw [if_neg z, if_neg z]
          exact newH
      · show (if i < d.2.1.1 then yh i else (3 * N + 6, E', y0.2.2)).1 ≠ y0.1
        by_cases z : i < d.2.1.1
        · rw [if_pos z]
          exact hdis.1 i z
        · rw [if_neg z]
          have := hN _ _ hcur
          show 3 * N + 6 ≠ y0.1
          omega
      · have hi' : i < d.2.1.1 + 1 := hi
        have hj' : j < d.2.1.1 + 1 := hj
        show (if i < d.2.1.1 then yh i else (3 * N + 6, E', y0.2.2)).1 ≠ (if j < d.2.1.1 then yh j else (3 * N + 6, E', y0.2.2)).1
        by_cases z : i < d.2.1.1
        · rw [if_pos z]
          by_cases w : j < d.2.1.1
          · rw [if_pos w]
            exact hdis.2.1 i j z w hij
          · rw [if_neg w]
            have := hN _ _ (hhist i z)
            show (yh i).1 ≠ 3 * N + 6
            omega
        · rw [if_neg z]
          by_cases w : j < d.2.1.1
          · rw [if_pos w]
            have := hN _ _ (hhist j w)
            show 3 * N + 6 ≠ (yh j).1
            omega
          · omega
      · show (if i < d.2.1.1 then yh i else (3 * N + 6, E', y0.2.2)).1 ≠ yk.1
        by_cases z : i < d.2.1.1
        · rw [if_pos z]
          exact (hdis.2.2 hk).2 i z
        · rw [if_neg z]
          cases hkk : d.2.2.1 with
          | none => exact absurd hkk hk
          | some a =>
            have := hN _ _ (hkept a hkk)
            show 3 * N + 6 ≠ yk.1
            omega
      · -- the desk itself
        have cell2 : ∀ b : Nat, m_tg M b ≠ 0 → b ≠ l → b ≠ dl → M'.1 b = M.1 b ∧ (if b = d' then ((2, 2, 0) : Nat × Nat × Nat) else o1 b) = o b := fun b q1 q2 q3 => by
          have bd : b ≠ d' := fun z => by
            rcases dM with w | w
            · exact q3 (z.trans w.1)
            · rw [z] at q1
              exact q1 w
          exact ⟨(hf.2.1 b q2 bd).trans (s3.2 b q1), (hoM b q1).1⟩
        have nx : x ≠ l := fun z => by rw [z, x6] at x1; cases x1
        have nxd : x ≠ dl := fun z => by
          rcases c_L_tag x7 b3 with w | w <;> rw [← z, x2] at w <;> cases w
        have ex := cell2 x (by rw [x2]; decide) nx nxd
        refine ⟨ex.2.trans x1, (c_cell_tg ex.1).trans x2, (c_cell_gr ex.1).trans x3, (c_cell_gr ex.1).trans x4, ⟨l, d', (c_cell_gr ex.1).trans x5, ((hoM l (by rw [tl]; decide)).1).trans x6, c_L_cg hL2 (fun k hk => ?_), Or.inr ⟨if_pos rfl, ?_⟩⟩, by show d.2.1.1 + 1 ≤ 4; omega, bb, (c_cell_gr ex.1).trans x10, d_tb_same x11 (cell2 bb ?_ ?_ ?_) (fun c _ hc hc2 => cell2 c ?_ ?_ ?_)⟩
        · unfold c_e
          show (if k = d.2.1.1 then some (E' 0 0) else some ((yh k).2.1 0 0)) = some ((if k < d.2.1.1 then yh k else (3 * N + 6, E', y0.2.2)).2.1 0 0)
          by_cases z : k = d.2.1.1
          · rw [if_pos z, if_neg (by omega)]
          · rw [if_neg z, if_pos (by have hk' : k < d.2.1.1 + 1 := hk; omega)]
        · rcases hkc with ⟨_, e1, e2, _, e4⟩ | ⟨_, e1, e3, e4⟩
          · rw [e4, c_cell_ln Xdl]
            rcases x8 with w | w
            · rw [c_cell_tg Xdl, w, b3.1] at e2
              cases e2
            · exact w.2
          · rw [e4]
            rw [c_cell_ln Xdl] at e3
            rcases x8 with w | w
            · rw [w, b3.2] at e3
              rw [e3]
              rfl
            · rw [w.2] at e3
              omega
        · rw [x11.2.1]; decide
        · intro z
          have := x11.2.1
          rw [z, tl] at this
          cases this
        · intro z
          have := x11.2.1
          rcases c_L_tag x7 b3 with w | w <;> rw [← z, this] at w <;> cases w
        · rw [hc2]; decide
        · intro z
          rw [z, tl] at hc2
          cases hc2
        · intro z
          rcases c_L_tag x7 b3 with w | w <;> rw [← z, hc2] at w <;> cases w
    · exact same 3 (by omega) (by omega) (by omega)
end
