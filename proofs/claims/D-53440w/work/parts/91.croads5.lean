/-! PURE: Roads are made: nearer and nearer -/
set_option maxRecDepth 100000
/-- the grids are laid: far holds F -/
def c_KC (g : Nat → Nat) (Xb X : Mem) (R H dD dF l d : Nat) (P2 : Nat → Prop) (D F : Nat → Nat → Nat) : Prop :=
  c_BS g Xb X R H dD dF l ∧ c_L g X l d 144 (fun _ => none) ∧ (m_tg Xb d = 0 ∨ d = g 1) ∧ m_ln X d = (c_cap 144).1 ∧ c_Mh g X P2 H D 144 ∧ (∀ b : Nat, P2 b → m_tg Xb b = 0 ∧ (m_tg X b = 17 ∨ m_tg X b = 104 ∨ m_tg X b = 19 ∨ m_tg X b = 4)) ∧ ∀ a b : Nat, a < 12 → b < 12 → m_gi X (dD + 1 + a) b = c_far D a b ∧ m_gi X (dF + 1 + a) b = c_far F a b
section
variable {g : Nat → Nat} {Xb X X' : Mem} {R H dD dF l d k : Nat} {D F : Nat → Nat → Nat} {P2 : Nat → Prop}
/-- one place of far is laid anew -/
theorem c_KC_put {a b : Nat} {v : Int32} {F' : Nat → Nat → Nat} (hC : c_KC g Xb X R H dD dF l d P2 D F) (ha : a < 12) (hb : b < 12) (hv : v = c_far F' a b) (hF : ∀ x y : Nat, x < 12 → y < 12 → ¬ (x = a ∧ y = b) → c_far F' x y = c_far F x y) : c_KC g Xb (m_pi X (dF + 1 + a) b v) R H dD dF l d P2 D F' := by
  obtain ⟨hS, hL, hd0, hcap, hM, hP2, hints⟩ := hC
  obtain ⟨b1, b2, b3, b4, b5, b6, b7, b8, b9, b10, b11⟩ := id hS
  have tr := (b9.2.2 a ha).2.1
  have cell : ∀ x : Nat, m_tg X x ≠ 101 → (m_pi X (dF + 1 + a) b v).1 x = X.1 x := fun x hx => m_cell_pi (fun z => hx (by rw [z]; exact tr))
  have tg : ∀ x : Nat, m_tg (m_pi X (dF + 1 + a) b v) x = m_tg X x := fun x => m_tg_pi
  refine ⟨c_BS_same hS m_le_pi (fun x hx => cell x (by
    rcases hx with rfl | rfl | rfl
    · rw [b3]; decide
    · rw [b8.1]; decide
    · rw [b9.1]; decide)) (fun x hx => m_cell_pi (fun z => hx (by
      rw [z]
      have := (b10.2.2 (1 + a) (by omega)).2
      rw [show dF + 1 + a = dF + (1 + a) by omega]
      exact this))), c_L_same hL (cell l (by rw [hL.1]; decide)) (cell d ?_), hd0, by rw [m_ln_pi]; exact hcap, c_Mh_same hM m_le_pi (fun _ h => h) (fun x hx => cell x (by have := (hP2 x hx).2; omega)), fun x hx => ⟨(hP2 x hx).1, by rw [tg]; exact (hP2 x hx).2⟩, fun x y hx hy => ⟨?_, ?_⟩⟩
  · rcases hL.2.2.2 with ⟨q, _⟩ | ⟨q, _⟩
    · omega
    · rw [q]; decide
  · have hne : dD + 1 + x ≠ dF + 1 + a := by have := b11 (1 + x) (1 + a) (by omega) (by omega); omega
    rw [m_gi_pi, if_neg (fun z => hne z.1)]
    exact (hints x y hx hy).1
  · rw [m_gi_pi]
    by_cases e : x = a ∧ y = b
    · rw [if_pos ⟨by rw [e.1], e.2⟩, e.1, e.2]
      exact hv
    · rw [if_neg (fun z => e ⟨by omega, z.2⟩), (hints x y hx hy).2, hF x y hx hy e]
theorem c2_comeNearer {a b c : Nat} {Q : Mem → Prop} {F' : Nat → Nat → Nat} (hC : c_KC g Xb X R H dD dF l d P2 D F) (ha : a < 12) (hb : b < 12) (hc : c < 12) (h1 : F a c ≤ 100000) (h2 : F c b ≤ 100000) (h3 : F a b ≤ 100000) (s1 : F a c < 100000 → F a c ≤ 720) (s2 : F c b < 100000 → F c b ≤ 720) (hF' : F' a b = min (F a b) (F a c + F c b)) (hF : ∀ x y : Nat, x < 12 → y < 12 → ¬ (x = a ∧ y = b) → F' x y = F x y)
    (hQ : ∀ X' : Mem, c_KC g Xb X' R H dD dF l d P2 D F' → m_le X X' → m_nc X' = m_nc X → m_ns X' = m_ns X → Q X') : wp_X2_comeNearer g X R (nI a) (nI b) (nI c) Q := by
  obtain ⟨hS, hL, hd0, hcap, hM, hP2, hints⟩ := id hC
  obtain ⟨b1, b2, b3, b4, b5, b6, b7, b8, b9, b10, b11⟩ := id hS
  obtain ⟨ra1, ra2, ra3⟩ := b9.2.2 a ha
  obtain ⟨rc1, rc2, rc3⟩ := b9.2.2 c hc
  have va : vp_in (nI a) 12 := (pn_in (by omega)).mpr ha
  have vb : vp_in (nI b) 12 := (pn_in (by omega)).mpr hb
  have vc : vp_in (nI c) 12 := (pn_in (by omega)).mpr hc
  have ca : (nI a).toNatClampNeg = a := pn_cl (by omega)
  have cb : (nI b).toNatClampNeg = b := pn_cl (by omega)
  have cc : (nI c).toNatClampNeg = c := pn_cl (by omega)
  have gac := (hints a c ha hc).2
  have gcb := (hints c b hc hb).2
  have gab := (hints a b ha hb).2
  have tF := b9.1
  have lF := b9.2.1
  have hcf : ∀ x y : Nat, x < 12 → y < 12 → ¬ (x = a ∧ y = b) → c_far F' x y = c_far F x y := fun x y hx hy hn => by
    unfold c_far
    rw [hF x y hx hy hn]
  have same : F' a b = F a b → Q X := fun he => by
    refine hQ X ⟨hS, hL, hd0, hcap, hM, hP2, fun x y hx hy => ⟨(hints x y hx hy).1, ?_⟩⟩ m_le_rf rfl rfl
    rw [(hints x y hx hy).2]
    unfold c_far
    by_cases e : x = a ∧ y = b
    · rw [e.1, e.2, he]
    · rw [hF x y hx hy e]
  have put : ∀ v : Int32, v = c_far F' a b → wp_X2_comeNearer_b72 g X R (nI a) (nI b) v Q := fun v hv => by
    refine ⟨b3, dF, b6, tF, by rw [lF]; exact va, dF + 1 + a, by rw [ca]; exact ra1, ra2, by rw [ra3]; exact vb, fun M10 h10 => ?_⟩
    rw [cb] at h10
    rw [h10]
    exact hQ _ (c_KC_put hC ha hb hv hcf) m_le_pi rfl rfl
  simp (decide := true) only [wp_X2_comeNearer, true_and, and_true, forall_const, Option.some.injEq, exists_eq_left', forall_eq, true_implies, b3, b6, tF, lF, va, vb, vc, ca, cb, cc, ra1, ra2, ra3, rc1, rc2, rc3, gac, gcb, gab, c_far_no h1, c_far_no h2, c_far_no h3]
  refine ⟨fun z => same ?_, fun z => ⟨fun z2 => ⟨fun z3 => put _ ?_, fun z3 => ⟨fun z4 => same ?_, fun z4 => put _ ?_⟩⟩, fun z2 => same ?_⟩⟩
  · rw [hF', Nat.min_eq_left (by omega)]
  · have z := Classical.not_not.mp z
    have z2 := Classical.not_not.mp z2
    have k1 := s1 z
    have k2 := s2 z2
    have e : F' a b = F a c + F c b := by rw [hF', Nat.min_eq_right (by omega)]
    rw [c_far_yes z, c_far_yes z2, pn_add, c_far_yes (by omega), e]
  · have z := Classical.not_not.mp z
    have z2 := Classical.not_not.mp z2
    have z3 := Classical.not_not.mp z3
    have k1 := s1 z
    have k2 := s2 z2
    rw [c_far_yes z, c_far_yes z2, c_far_yes z3, pn_add] at z4
    have := (pn_le (by omega) (by omega)).mp z4
    rw [hF', Nat.min_eq_left (by omega)]
  · have z := Classical.not_not.mp z
    have z2 := Classical.not_not.mp z2
    have z3 := Classical.not_not.mp z3
    have k1 := s1 z
    have k2 := s2 z2
    rw [c_far_yes z, c_far_yes z2, c_far_yes z3, pn_add] at z4
    have z5 : ¬ F a b ≤ F a c + F c b := fun y => z4 ((pn_le (by omega) (by omega)).mpr y)
    have e : F' a b = F a c + F c b := by rw [hF', Nat.min_eq_right (by omega)]
    rw [c_far_yes z, c_far_yes z2, pn_add, c_far_yes (by omega), e]
  · rw [hF', Nat.min_eq_left (by omega)]
/-- the stage c, k places done -/
def u_mix (D : Nat → Nat → Nat) (c k : Nat) : Nat → Nat → Nat := fun a b => if 12 * a + b < k then u_Wk D (c + 1) a b else u_Wk D c a b
theorem c2_near (hD : u_Dok D) {Q : Mem → Prop} (hC : c_KC g Xb X R H dD dF l d P2 D (u_W0 D)) (hQ : ∀ X' : Mem, c_KC g Xb X' R H dD dF l d P2 D (u_Wk D 12) → m_le X X' → m_nc X' = m_nc X → m_ns X' = m_ns X → Q X') : ∃ j167 : Nat, wp_X2_init_b167 g Q j167 X R 0 := by
  have congr : ∀ {Y : Mem} {F1 F2 : Nat → Nat → Nat}, (∀ a b : Nat, a < 12 → b < 12 → F1 a b = F2 a b) → c_KC g Xb Y R H dD dF l d P2 D F1 → c_KC g Xb Y R H dD dF l d P2 D F2 := fun {Y F1 F2} he h => by
    obtain ⟨q1, q2, q3, q4, q5, q6, q7⟩ := h
    exact ⟨q1, q2, q3, q4, q5, q6, fun a b ha hb => ⟨(q7 a b ha hb).1, by rw [(q7 a b ha hb).2]; unfold c_far; rw [he a b ha hb]⟩⟩
  have H3 : ∀ c : Nat, c < 12 → ∀ a : Nat, a < 12 → ∀ (k167 : Mem → Nat → Int32 → Prop) (k177 : Mem → Nat → Int32 → Int32 → Prop), (∀ Y : Mem, c_KC g Xb Y R H dD dF l d P2 D (u_mix D c (12 * (a + 1))) → m_le X Y → m_nc Y = m_nc X → m_ns Y = m_ns X → k177 Y R (nI c) (nI (a + 1))) → ∀ (dd b : Nat), b + dd = 12 → ∀ Y : Mem, c_KC g Xb Y R H dD dF l d P2 D (u_mix D c (12 * a + b)) → m_le X Y → m_nc Y = m_nc X → m_ns Y = m_ns X → wp_X2_init_b187 g k167 k177 Q (dd + 1) Y R (nI c) (nI a) (nI b) := by
    intro c hc a ha k167 k177 hk dd
    have hS := u_Sk hD c (by omega)
    induction dd with
    | zero =>
      intro b hb Y hY hle hn1 hn2
      have e : b = 12 := by omega
      subst e
      refine ⟨fun _ => ?_, fun z => absurd (by decide) z⟩
      rw [pn_succ]
      exact hk Y (by rw [show 12 * (a + 1) = 12 * a + 12 by omega]; exact hY) hle hn1 hn2
    | succ dd ih =>
      intro b hb Y hY hle hn1 hn2
      have hb12 : b < 12 := by omega
      refine ⟨fun z => ?_, fun _ => ⟨hY.1.2.2.1, ?_⟩⟩
      · have := (pn_le (a := 12) (by omega) (by omega)).mp z
        omega
      · have cc := (hS.1 c c hc hc).2.1
        have w1 := (hS.1 a c ha hc).1
        have w2 := (hS.1 c b hc hb12).1
        have w3 := (hS.1 a b ha hb12).1
        have sm1 : u_mix D c (12 * a + b) a c = u_Wk D c a c := by
          unfold u_mix
          split
          · show min (u_Wk D c a c) (u_Wk D c a c + u_Wk D c c c) = _
            omega
          · rfl
        have sm2 : u_mix D c (12 * a + b) c b = u_Wk D c c b := by
          unfold u_mix
          split
          · show min (u_Wk D c c b) (u_Wk D c c c + u_Wk D c c b) = _
            omega
          · rfl
        have sm3 : u_mix D c (12 * a + b) a b = u_Wk D c a b := by
          unfold u_mix
          rw [if_neg (by omega)]
        refine c2_comeNearer (F' := u_mix D c (12 * a + b + 1)) hY ha hb12 hc (by rw [sm1]; exact w1) (by rw [sm2]; exact w2) (by rw [sm3]; exact w3) (fun z => by rw [sm1] at z ⊢; exact u_S_720 hD hS ha hc z) (fun z => by rw [sm2] at z ⊢; exact u_S_720 hD hS hc hb12 z) ?_ (fun x y hx hy hn => ?_) (fun Y' q1 q2 q3 q4 _ => ?_)
        · rw [sm1, sm2, sm3]
          unfold u_mix
          rw [if_pos (by omega)]
          rfl
        · unfold u_mix
          have : (12 * x + y < 12 * a + b + 1) ↔ (12 * x + y < 12 * a + b) := by
            have : ¬ 12 * x + y = 12 * a + b := fun z => hn (by omega)
            omega
          simp only [this]
        · rw [pn_succ]
          exact ih (b + 1) (by omega) Y' q1 (m_le_tr hle q2) (q3.trans hn1) (q4.trans hn2)
  have H2 : ∀ c : Nat, c < 12 → ∀ (k167 : Mem → Nat → Int32 → Prop), (∀ Y : Mem, c_KC g Xb Y R H dD dF l d P2 D (u_Wk D (c + 1)) → m_le X Y → m_nc Y = m_nc X → m_ns Y = m_ns X → k167 Y R (nI (c + 1))) → ∀ (dd a : Nat), a + dd = 12 → ∀ Y : Mem, c_KC g Xb Y R H dD dF l d P2 D (u_mix D c (12 * a)) → m_le X Y → m_nc Y = m_nc X → m_ns Y = m_ns X → wp_X2_init_b177 g k167 Q (dd + 1) Y R (nI c) (nI a) := by
    intro c hc k167 hk dd
    induction dd with
    | zero =>
      intro a ha Y hY hle hn1 hn2
      have e : a = 12 := by omega
      subst e
      refine ⟨fun _ => ?_, fun z => absurd (by decide) z⟩
      rw [pn_succ]
      refine hk Y (congr (fun x y hx hy => ?_) hY) hle hn1 hn2
      unfold u_mix
      rw [if_pos (by omega)]
    | succ dd ih =>
      intro a ha Y hY hle hn1 hn2
      refine ⟨fun z => ?_, fun _ => ⟨13, H3 c hc a (by omega) _ _ (fun Y' q1 q2 q3 q4 => ih (a + 1) (by omega) Y' q1 q2 q3 q4) 12 0 (by omega) Y hY hle hn1 hn2⟩⟩
      have := (pn_le (a := 12) (by omega) (by omega)).mp z
      omega
  have H1 : ∀ (dd c : Nat), c + dd = 12 → ∀ Y : Mem, c_KC g Xb Y R H dD dF l d P2 D (u_Wk D c) → m_le X Y → m_nc Y = m_nc X → m_ns Y = m_ns X → wp_X2_init_b167 g Q (dd + 1) Y R (nI c) := by
    intro dd
    induction dd with
    | zero =>
      intro c hc Y hY hle hn1 hn2
      have e : c = 12 := by omega
      subst e
      exact ⟨fun _ => hQ Y hY hle hn1 hn2, fun z => absurd (by decide) z⟩
    | succ dd ih =>
      intro c hc Y hY hle hn1 hn2
      refine ⟨fun z => ?_, fun _ => ⟨13, H2 c (by omega) _ (fun Y' q1 q2 q3 q4 => ih (c + 1) (by omega) Y' q1 q2 q3 q4) 12 0 (by omega) Y (congr (fun x y _ _ => ?_) hY) hle hn1 hn2⟩⟩
      · have := (pn_le (a := 12) (by omega) (by omega)).mp z
        omega
      · unfold u_mix
        rw [if_neg (by omega)]
  exact ⟨13, H1 12 0 (by omega) X hC m_le_rf rfl rfl⟩
/-- all places begin -/
theorem c2_begins {Q : Mem → Prop} (hobj : ∀ (M : Mem) (y : Nat), q_obj (m_tg M y) → m_asg M y "java/lang/Object") (hB : c_KB g Xb X R H dD dF l d P2 D 0) (hD : u_Dok D) (hroom : m_nc X + 200 ≤ m_CM ∧ m_ns X + 1500 ≤ m_SM)
    (hQ : ∀ (X' : Mem) (d' : Nat), c_KC g Xb X' R H dD dF l d' P2 D (u_W0 D) → m_le X X' → m_nc X' ≤ m_nc X + 152 → m_ns X' ≤ m_ns X + 762 → ∃ j167 : Nat, wp_X2_init_b167 g Q j167 X' R 0) : ∃ j127 : Nat, wp_X2_init_b127 g Q j127 X R 0 := by
  have H2 : ∀ a : Nat, a < 12 → ∀ (k127 : Mem → Nat → Int32 → Prop), (∀ (Y : Mem) (d' : Nat), c_KB g Xb Y R H dD dF l d' P2 D (12 * (a + 1)) → m_le X Y → m_nc Y ≤ m_nc X + 12 * (a + 1) + (c_cap (12 * (a + 1))).2.1 → m_ns Y ≤ m_ns X + 2 * (12 * (a + 1)) + (c_cap (12 * (a + 1))).2.2 → k127 Y R (nI (a + 1))) → ∀ (dd b : Nat), b + dd = 12 → ∀ (Y : Mem) (d' : Nat), c_KB g Xb Y R H dD dF l d' P2 D (12 * a + b) → m_le X Y → m_nc Y ≤ m_nc X + (12 * a + b) + (c_cap (12 * a + b)).2.1 → m_ns Y ≤ m_ns X + 2 * (12 * a + b) + (c_cap (12 * a + b)).2.2 → wp_X2_init_b137 g k127 Q (dd + 1) Y R (nI a) (nI b) := by
    intro a ha k127 hk dd
    induction dd with
    | zero =>
      intro b hb Y d' hY hle hn1 hn2
      have e : b = 12 := by omega
      subst e
      have ek : 12 * (a + 1) = 12 * a + 12 := by omega
      refine ⟨fun _ => ?_, fun z => absurd (by decide) z⟩
      rw [pn_succ]
      exact hk Y d' (by rw [ek]; exact hY) hle (by rw [ek]; exact hn1) (by rw [ek]; exact hn2)
    | succ dd ih =>
      intro b hb Y d' hY hle hn1 hn2
      have hb12 : b < 12 := by omega
      have hcl := c_cap_le (n := 12 * a + b) (by omega)
      refine ⟨fun z => ?_, fun _ => ⟨hY.1.2.2.1, ?_⟩⟩
      · have := (pn_le (a := 12) (by omega) (by omega)).mp z
        omega
      · refine c2_begin hobj hY hD ha hb12 ⟨by omega, by omega⟩ (fun Y' d2 kc q1 q2 q3 q4 q5 _ => ?_)
        rw [pn_succ]
        refine ih (b + 1) (by omega) Y' d2 q1 (m_le_tr hle q2) ?_ ?_
        · rw [show 12 * a + (b + 1) = 12 * a + b + 1 by omega]
          rcases q5 with ⟨e0, e1⟩ | ⟨e0, e1⟩
          · rw [e1]
            omega
          · rw [e1]
            dsimp only
            omega
        · rw [show 12 * a + (b + 1) = 12 * a + b + 1 by omega]
          rcases q5 with ⟨e0, e1⟩ | ⟨e0, e1⟩
          · rw [e1]
            rw [e0, Nat.zero_mul] at q4
            omega
          · rw [e1]
            rw [e0, Nat.one_mul] at q4
            dsimp only
            omega
  have H1 : ∀ (dd a : Nat), a + dd = 12 → ∀ (Y : Mem) (d' : Nat), c_KB g Xb Y R H dD dF l d' P2 D (12 * a) → m_le X Y → m_nc Y ≤ m_nc X + 12 * a + (c_cap (12 * a)).2.1 → m_ns Y ≤ m_ns X + 2 * (12 * a) + (c_cap (12 * a)).2.2 → wp_X2_init_b127 g Q (dd + 1) Y R (nI a) := by
    intro dd
    induction dd with
    | zero =>
      intro a ha Y d' hY hle hn1 hn2
      have e : a = 12 := by omega
      subst e
      have hcl : (c_cap (12 * 12)).2.1 ≤ 8 ∧ (c_cap (12 * 12)).2.2 ≤ 474 := c_cap_le (by omega)
      obtain ⟨q1, q2, q3, q4, q5, q6, q7⟩ := hY
      exact ⟨fun _ => hQ Y d' ⟨q1, q2, q3, q4, q5, q6, fun x y hx hy => q7 x y hx hy (by omega)⟩ hle (by omega) (by omega), fun z => absurd (by decide) z⟩
    | succ dd ih =>
      intro a ha Y d' hY hle hn1 hn2
      refine ⟨fun z => ?_, fun _ => ⟨13, H2 a (by omega) _ (fun Y' d2 q1 q2 q3 q4 => ih (a + 1) (by omega) Y' d2 q1 q2 q3 q4) 12 0 (by omega) Y d' hY hle hn1 hn2⟩⟩
      have := (pn_le (a := 12) (by omega) (by omega)).mp z
      omega
  exact ⟨13, H1 12 0 (by omega) X d hB m_le_rf (by show m_nc X ≤ m_nc X + 0 + 0; omega) (by show m_ns X ≤ m_ns X + 0 + 0; omega)⟩
end
