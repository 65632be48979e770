/-! PURE: Roads are made: begin, nearer -/
set_option maxRecDepth 100000
/-- while it begins: k places done -/
def c_KB (g : Nat → Nat) (Xb X : Mem) (R H dD dF l d : Nat) (P2 : Nat → Prop) (D : Nat → Nat → Nat) (k : Nat) : Prop :=
  c_BS g Xb X R H dD dF l ∧ c_L g X l d k (fun _ => none) ∧ (m_tg Xb d = 0 ∨ d = g 1) ∧ m_ln X d = (c_cap k).1 ∧ c_Mh g X P2 H D 144 ∧ (∀ b : Nat, P2 b → m_tg Xb b = 0 ∧ (m_tg X b = 17 ∨ m_tg X b = 104 ∨ m_tg X b = 19 ∨ m_tg X b = 4)) ∧ (∀ a b : Nat, a < 12 → b < 12 → 12 * a + b < k → m_gi X (dD + 1 + a) b = c_far D a b ∧ m_gi X (dF + 1 + a) b = c_far (u_W0 D) a b)
section
variable {g : Nat → Nat} {Xb X X' : Mem} {R H dD dF l d k : Nat} {D : Nat → Nat → Nat} {P2 : Nat → Prop}
theorem c_KB_P2 (hB : c_KB g Xb X R H dD dF l d P2 D k) (hle : m_le X X') (hc : ∀ b : Nat, (m_tg X b = 17 ∨ m_tg X b = 104 ∨ m_tg X b = 19 ∨ m_tg X b = 4) → X'.1 b = X.1 b) : c_Mh g X' P2 H D 144 ∧ ∀ b : Nat, P2 b → m_tg Xb b = 0 ∧ (m_tg X' b = 17 ∨ m_tg X' b = 104 ∨ m_tg X' b = 19 ∨ m_tg X' b = 4) := by
  obtain ⟨_, _, _, _, h5, h6, _⟩ := hB
  refine ⟨c_Mh_same h5 hle (fun _ h => h) (fun b hb => hc b (h6 b hb).2), fun b hb => ⟨(h6 b hb).1, ?_⟩⟩
  rw [c_cell_tg (hc b (h6 b hb).2)]
  exact (h6 b hb).2
theorem c2_begin {a b : Nat} {Q : Mem → Prop} (hobj : ∀ (M : Mem) (y : Nat), q_obj (m_tg M y) → m_asg M y "java/lang/Object") (hB : c_KB g Xb X R H dD dF l d P2 D (12 * a + b)) (hD : u_Dok D) (ha : a < 12) (hb : b < 12) (hroom : m_nc X + 4 ≤ m_CM ∧ m_ns X + 400 ≤ m_SM)
    (hQ : ∀ (X' : Mem) (d' kc : Nat), c_KB g Xb X' R H dD dF l d' P2 D (12 * a + b + 1) → m_le X X' → m_nc X' ≤ m_nc X + 1 + kc → m_ns X' ≤ m_ns X + 2 + kc * c_nc (12 * a + b) → (kc = 0 ∧ c_cap (12 * a + b + 1) = c_cap (12 * a + b) ∨ kc = 1 ∧ c_cap (12 * a + b + 1) = (c_nc (12 * a + b), (c_cap (12 * a + b)).2.1 + 1, (c_cap (12 * a + b)).2.2 + c_nc (12 * a + b))) → Q X') : wp_X2_begin g X R (nI a) (nI b) Q := by
  obtain ⟨hS, hL, hd0, hcap, hM, hP2, hints⟩ := id hB
  obtain ⟨b1, b2, b3, b4, b5, b6, b7, b8, b9, b10, b11⟩ := id hS
  have tl : m_tg X l = 14 := hL.1
  refine ⟨b3, H, b4, ⟨by omega, by omega⟩, fun u5 hu M7 h7 => ⟨by rw [h7, m_tg_al, if_pos rfl], fun Ma hma M12 h12 hle12 => ?_⟩⟩
  have cell12 : ∀ x : Nat, m_tg X x ≠ 0 → M12.1 x = X.1 x := fun x hx => by
    have hxu : x ≠ u5 := fun z => hx (by rw [z]; exact hu)
    rw [h12, m_cell_pi hxu, hma, m_cell_pi hxu, h7, m_cell_al hxu]
  have le12 : m_le X M12 := fun x hx => ⟨c_cell_tg (cell12 x hx), c_cell_ln (cell12 x hx)⟩
  have n12 : m_nc M12 = m_nc X + 1 ∧ m_ns M12 = m_ns X + 2 := by rw [h12, hma, h7]; exact ⟨rfl, rfl⟩
  have P12 := c_KB_P2 hB le12 (fun x hx => cell12 x (by omega))
  have lo : (if nI b < nI a then nI b else nI a) = nI (min a b) := by
    by_cases z : b < a
    · rw [if_pos ((pn_lt (by omega) (by omega)).mpr z), Nat.min_eq_right (by omega)]
    · rw [if_neg (fun y => z ((pn_lt (by omega) (by omega)).mp y)), Nat.min_eq_left (by omega)]
  have hi : (if nI a < nI b then nI b else nI a) = nI (max a b) := by
    by_cases z : a < b
    · rw [if_pos ((pn_lt (by omega) (by omega)).mpr z), Nat.max_eq_right (by omega)]
    · rw [if_neg (fun y => z ((pn_lt (by omega) (by omega)).mp y)), Nat.max_eq_left (by omega)]
  rw [lo] at hma
  rw [hi] at h12
  have kt : m_tg M12 u5 = 4 := by rw [h12, m_tg_pi, hma, m_tg_pi, h7, m_tg_al, if_pos rfl]
  have k0 : m_gi M12 u5 0 = nI (min a b) := by rw [h12, m_gi_pi, if_neg (by omega), hma, m_gi_pi, if_pos ⟨rfl, rfl⟩]
  have k1 : m_gi M12 u5 1 = nI (max a b) := by rw [h12, m_gi_pi, if_pos ⟨rfl, rfl⟩]
  have hsym : D (min a b) (max a b) = D a b := by
    by_cases z : a ≤ b
    · rw [Nat.min_eq_left z, Nat.max_eq_right z]
    · rw [Nat.min_eq_right (by omega), Nat.max_eq_left (by omega)]
      exact (hD b a hb ha).1
  have S12 : c_BS g Xb M12 R H dD dF l := c_BS_same hS le12 (fun x hx => cell12 x (by
    rcases hx with rfl | rfl | rfl
    · rw [b3]; decide
    · rw [b8.1]; decide
    · rw [b9.1]; decide)) (fun x hx => cell12 x (by rw [(b1.1 x hx).1]; exact hx))
  have L12 : c_L g M12 l d (12 * a + b) (fun _ => none) := by
    refine c_L_same hL (cell12 l (by rw [tl]; decide)) (cell12 d ?_)
    rcases hL.2.2.2 with ⟨_, q⟩ | ⟨q, _⟩
    · rw [q, b2.1]; decide
    · rw [q]; decide
  have c12d : m_ln M12 d = (c_cap (12 * a + b)).1 := by
    rw [← hcap]
    refine c_cell_ln (cell12 d ?_)
    rcases hL.2.2.2 with ⟨_, q⟩ | ⟨q, _⟩
    · rw [q, b2.1]; decide
    · rw [q]; decide
  have i12 : ∀ x y f : Nat, x < 12 → y < 12 → (m_gi M12 (dD + 1 + x) f = m_gi X (dD + 1 + x) f) ∧ (m_gi M12 (dF + 1 + x) f = m_gi X (dF + 1 + x) f) := fun x y f hx hy => ⟨c_cell_gi (cell12 _ (by rw [(b8.2.2 x hx).2.1]; decide)), c_cell_gi (cell12 _ (by rw [(b9.2.2 x hx).2.1]; decide))⟩
  obtain ⟨e1, e2, e3, e4, e5, e6, e7, e8, e9, e10, e11⟩ := id S12
  have vb : vp_in (nI b) 12 := (pn_in (by omega)).mpr hb
  have va : vp_in (nI a) 12 := (pn_in (by omega)).mpr ha
  have ca : (nI a).toNatClampNeg = a := pn_cl (by omega)
  have cb : (nI b).toNatClampNeg = b := pn_cl (by omega)
  have hab : (nI a = nI b) = (a = b) := pn_eqe (by omega) (by omega)
  obtain ⟨rD1, rD2, rD3⟩ := e8.2.2 a ha
  obtain ⟨rF1, rF2, rF3⟩ := e9.2.2 a ha
  have hrows : dD + 1 + a ≠ dF + 1 + a := by have := b11 (1 + a) (1 + a) (by omega) (by omega); omega
  have hW0 : c_far (u_W0 D) a b = if a = b then 0 else c_far D a b := by
    unfold c_far u_W0
    by_cases z : a = b
    · rw [if_pos z, if_pos z, if_pos (by omega)]
      rfl
    · rw [if_neg z, if_neg z]
  -- the length is laid, the way begins
  have fin : ∀ val : Int32, val = c_far D a b → wp_X2_begin_b42 g M12 R (nI a) (nI b) (dD + 1 + a) (nI b) val Q := by
    intro val hval
    refine ⟨rD2, by rw [rD3]; exact vb, fun M3 h3 => ?_⟩
    rw [cb] at h3
    have tg3 : ∀ x : Nat, m_tg M3 x = m_tg M12 x := fun x => by rw [h3, m_tg_pi]
    have ln3 : ∀ x : Nat, m_ln M3 x = m_ln M12 x := fun x => by rw [h3, m_ln_pi]
    have gr3 : ∀ x f : Nat, m_gr M3 x f = m_gr M12 x f := fun x f => by rw [h3, m_gr_pi]
    -- the end
    have fin2 : ∀ w : Int32, w = c_far (u_W0 D) a b → wp_X2_begin_b67 g M3 R (dF + 1 + a) (nI b) w Q := by
      intro w hw
      refine ⟨(tg3 _).trans rF2, by rw [ln3, rF3]; exact vb, fun M4 h4 => ?_⟩
      rw [cb] at h4
      have cell4 : ∀ x : Nat, x ≠ dD + 1 + a → x ≠ dF + 1 + a → M4.1 x = M12.1 x := fun x x1 x2 => by rw [h4, m_cell_pi x2, h3, m_cell_pi x1]
      have le4 : m_le M12 M4 := by rw [h4, h3]; exact m_le_tr m_le_pi m_le_pi
      have tg4 : ∀ x : Nat, m_tg M4 x = m_tg M12 x := fun x => by rw [h4, m_tg_pi, tg3]
      have no4 : ∀ x : Nat, m_tg M12 x ≠ 101 → M4.1 x = M12.1 x := fun x hx => cell4 x (fun z => hx (by rw [z]; exact rD2)) (fun z => hx (by rw [z]; exact rF2))
      have g4 : c_g1 g M4 := c_g1_le e2 le4
      have S4 : c_BS g Xb M4 R H dD dF l := c_BS_same S12 le4 (fun x hx => no4 x (by
        rcases hx with rfl | rfl | rfl
        · rw [e3]; decide
        · rw [e8.1]; decide
        · rw [e9.1]; decide)) (fun x hx => cell4 x (fun z => hx (by rw [z]; have := (b10.2.2 (1 + a) (by omega)).1; rw [show dD + 1 + a = dD + (1 + a) by omega]; exact this)) (fun z => hx (by rw [z]; have := (b10.2.2 (1 + a) (by omega)).2; rw [show dF + 1 + a = dF + (1 + a) by omega]; exact this)))
      have L4 : c_L g M4 l d (12 * a + b) (fun _ => none) := by
        refine c_L_same L12 (no4 l (by rw [L12.1]; decide)) (no4 d ?_)
        rcases L12.2.2.2 with ⟨_, q⟩ | ⟨q, _⟩
        · rw [q, e2.1]; decide
        · rw [q]; decide
      have ld4 : m_ln M4 d = (c_cap (12 * a + b)).1 := by
        rw [h4, m_ln_pi, ln3]
        exact c12d
      have n4 : m_nc M4 = m_nc M12 ∧ m_ns M4 = m_ns M12 := by rw [h4, h3]; exact ⟨rfl, rfl⟩
      refine ⟨(tg4 R).trans e3, l, S4.2.2.2.2.2.2.1, L4.1, ?_⟩
      refine q_add hobj g4 L4 (by omega) ⟨by omega, by omega⟩ (fun j _ y hy => by cases hy) (fun y hy => by cases hy) (fun M' d' kc hkc hL' hfr _ => ?_)
      have hdX : m_tg Xb d' = 0 := by
        rcases hkc with ⟨_, q1, q2, _⟩ | ⟨_, q1, _⟩
        · rw [q1]
          rcases hd0 with h | h
          · exact h
          · exfalso
            rw [h, g4.1] at q2
            cases q2
        · apply Classical.byContradiction
          intro z
          have h0 : m_tg M4 d' = m_tg Xb d' := (tg4 d').trans (e1.1 d' z).1
          rw [q1] at h0
          exact z h0.symm
      have hd103 : m_tg M' d' = 103 := by
        rcases hL'.2.2.2 with ⟨q, _⟩ | ⟨q, _⟩
        · omega
        · exact q
      -- other cells stay
      have oth : ∀ x : Nat, m_tg M12 x ≠ 0 → m_tg M12 x ≠ 101 → m_tg M12 x ≠ 14 → m_tg M12 x ≠ 103 → M'.1 x = M12.1 x := fun x x0 x1 x2 x3 => by
        rw [hfr.2.1 x (fun z => x2 (by rw [z]; exact L12.1)) (fun z => by
          have h0 := (hfr.1 x (by rw [tg4]; exact x0)).1
          rw [z, hd103, ← z, tg4] at h0
          exact x3 h0.symm)]
        exact no4 x x1
      have le' : m_le M12 M' := m_le_tr le4 hfr.1
      have P' := c_KB_P2 hB (m_le_tr le12 le') (fun x hx => by
        have x0 : m_tg X x ≠ 0 := by omega
        have hx12 : m_tg M12 x = m_tg X x := c_cell_tg (cell12 x x0)
        rw [oth x (by rw [hx12]; exact x0) (by rw [hx12]; omega) (by rw [hx12]; omega) (by rw [hx12]; omega)]
        exact cell12 x x0)
      have row' : ∀ x f : Nat, x < 12 → m_gi M' (dD + 1 + x) f = m_gi M4 (dD + 1 + x) f ∧ m_gi M' (dF + 1 + x) f = m_gi M4 (dF + 1 + x) f := fun x f hx => by
        have tD : m_tg M4 (dD + 1 + x) = 101 := (tg4 _).trans (e8.2.2 x hx).2.1
        have tF : m_tg M4 (dF + 1 + x) = 101 := (tg4 _).trans (e9.2.2 x hx).2.1
        have nl : ∀ y : Nat, m_tg M4 y = 101 → M'.1 y = M4.1 y := fun y hy => hfr.2.1 y (fun z => by rw [z, L4.1] at hy; cases hy) (fun z => by
          have h0 := (hfr.1 y (by rw [hy]; decide)).1
          rw [z, hd103, ← z, hy] at h0
          cases h0)
        exact ⟨c_cell_gi (nl _ tD), c_cell_gi (nl _ tF)⟩
      have hcapk : kc = 0 ∧ c_cap (12 * a + b + 1) = c_cap (12 * a + b) ∧ m_ln M' d' = (c_cap (12 * a + b)).1 ∨ kc = 1 ∧ c_cap (12 * a + b + 1) = (c_nc (12 * a + b), (c_cap (12 * a + b)).2.1 + 1, (c_cap (12 * a + b)).2.2 + c_nc (12 * a + b)) ∧ m_ln M' d' = c_nc (12 * a + b) := by
        rcases hkc with ⟨q0, _, _, q3, q4⟩ | ⟨q0, _, q3, q4⟩
        · exact Or.inl ⟨q0, c_cap_lo (by rw [← ld4]; exact q3) (by omega), by rw [q4, ld4]⟩
        · exact Or.inr ⟨q0, c_cap_hi (by rw [← ld4]; exact q3) (by omega), q4⟩
      refine hQ M' d' kc ⟨c_BS_same S4 hfr.1 (fun x hx => ?_) (fun x hx => ?_), c_L_cg hL' (fun j _ => ?_), Or.inl hdX, ?_, P'.1, P'.2, fun a' b' ha' hb' hlt => ?_⟩ (m_le_tr le12 le') ?_ ?_ (hcapk.imp (fun q => ⟨q.1, q.2.1⟩) (fun q => ⟨q.1, q.2.1⟩))
      · have hx4 : m_tg M4 x ≠ 14 ∧ m_tg M4 x ≠ 103 ∧ m_tg M4 x ≠ 0 := by
          rcases hx with rfl | rfl | rfl
          · rw [tg4, e3]; decide
          · rw [tg4, e8.1]; decide
          · rw [tg4, e9.1]; decide
        exact hfr.2.1 x (fun z => hx4.1 (by rw [z]; exact L4.1)) (fun z => by
          have h0 := (hfr.1 x hx4.2.2).1
          rw [z, hd103, ← z] at h0
          exact hx4.2.1 h0.symm)
      · exact hfr.2.1 x (fun z => hx (by rw [z]; exact b10.2.1)) (fun z => hx (by rw [z]; exact hdX))
      · unfold c_e
        split <;> rfl
      · rcases hcapk with ⟨_, q1, q2⟩ | ⟨_, q1, q2⟩
        · rw [q1, q2]
        · rw [q1, q2]
      · rw [(row' a' b' ha').1, (row' a' b' ha').2, h4, m_gi_pi, m_gi_pi, h3, m_gi_pi, m_gi_pi]
        have hDF : dD + 1 + a' ≠ dF + 1 + a := by have := b11 (1 + a') (1 + a) (by omega) (by omega); omega
        have hFD : dF + 1 + a' ≠ dD + 1 + a := by have := b11 (1 + a) (1 + a') (by omega) (by omega); omega
        rw [if_neg (fun z : dD + 1 + a' = dF + 1 + a ∧ b' = b => hDF z.1)]
        by_cases e : a' = a ∧ b' = b
        · rw [if_pos (show dD + 1 + a' = dD + 1 + a ∧ b' = b from ⟨by rw [e.1], e.2⟩), if_pos (show dF + 1 + a' = dF + 1 + a ∧ b' = b from ⟨by rw [e.1], e.2⟩), e.1, e.2]
          exact ⟨hval, hw⟩
        · rw [if_neg (fun z : dD + 1 + a' = dD + 1 + a ∧ b' = b => e ⟨by omega, z.2⟩), if_neg (fun z : dF + 1 + a' = dF + 1 + a ∧ b' = b => e ⟨by omega, z.2⟩), if_neg (fun z : dF + 1 + a' = dD + 1 + a ∧ b' = b => hFD z.1), (i12 a' b' b' ha' hb').1, (i12 a' b' b' ha' hb').2]
          exact hints a' b' ha' hb' (by
            have : ¬ 12 * a' + b' = 12 * a + b := fun z => e (by omega)
            omega)
      · have := hfr.2.2.1
        omega
      · have := hfr.2.2.2
        omega
    refine ⟨(tg3 R).trans e3, dF, (gr3 _ _).trans e6, (tg3 dF).trans e9.1, by rw [ln3, e9.2.1]; exact va, dF + 1 + a, by rw [ca, gr3]; exact rF1, ?_⟩
    rw [hab]
    refine ⟨fun hne => ⟨dD, (gr3 _ _).trans e5, (tg3 dD).trans e8.1, by rw [ln3, e8.2.1]; exact va, dD + 1 + a, by rw [ca, gr3]; exact rD1, (tg3 _).trans rD2, by rw [ln3, rD3]; exact vb, ?_⟩, fun he => fin2 0 ?_⟩
    · rw [cb]
      refine fin2 _ ?_
      rw [h3, m_gi_pi, if_pos ⟨rfl, rfl⟩, hval, hW0, if_neg hne]
    · rw [hW0, if_pos he]
  refine ⟨(c_Mh_H P12.1).2.1, c_Mget P12.1 kt k0 k1 (by omega) (by omega) (hD _ 0 (by omega) (by omega)).2.2 (fun x hlt xt xv _ => ⟨fun y hy => (by cases hy; exact xt), dD, e5, e8.1, by rw [e8.2.1]; exact va, dD + 1 + a, by rw [ca]; exact rD1, fun z => (by cases z), fun u30 hu30 => ?_⟩) (fun hn _ => ⟨fun y hy => (by cases hy), dD, e5, e8.1, by rw [e8.2.1]; exact va, dD + 1 + a, by rw [ca]; exact rD1, fun _ => fin (-5) ?_, fun u30 hu30 => (by cases hu30)⟩)⟩
  · cases hu30
    refine ⟨xt, xt, fun _ => fin _ ?_⟩
    rw [xv, hsym]
    rw [hsym] at hlt
    exact (c_far_yes hlt).symm
  · rw [hsym] at hn
    unfold c_far
    rw [if_neg hn]
end
