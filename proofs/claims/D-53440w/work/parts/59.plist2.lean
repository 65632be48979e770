/-! PURE: ArrayList: into the middle, out of it -/
set_option maxRecDepth 100000
def c_ei (e : Nat → Option Nat) (i : Nat) (v : Option Nat) : Nat → Option Nat := fun k => if k < i then e k else if k = i then v else e (k - 1)
section
variable {g : Nat → Nat} {M : Mem}
theorem q_ob_le {M M1 : Mem} {y : Nat} (hle : m_le M M1) (ho : q_obj (m_tg M y)) : q_obj (m_tg M1 y) := by
  have h0 : m_tg M y ≠ 0 := fun z => by rw [z] at ho; unfold q_obj at ho; omega
  rw [(hle y h0).1]
  exact ho
theorem q_add38 {a d n i : Nat} {e : Nat → Option Nat} {v : Option Nat} {Q : Mem → Prop} (ha : m_tg M a = 14) (hd : m_gr M a 1 = some d) (htd : m_tg M d = 103) (hl : n < m_ln M d) (hl2 : m_ln M d ≤ 10 + 2 * n) (hn : n ≤ 150) (hi : i ≤ n) (he : ∀ k : Nat, k < n → m_gr M d k = e k) (hobj : ∀ (M : Mem) (y : Nat), q_obj (m_tg M y) → m_asg M y "java/lang/Object") (heo : ∀ k : Nat, k < n → ∀ y : Nat, e k = some y → q_obj (m_tg M y)) (hv : ∀ y : Nat, v = some y → q_obj (m_tg M y))
    (hQ : ∀ M', c_L g M' a d (n + 1) (c_ei e i v) → m_ln M' d = m_ln M d → c_fr M M' a d 0 0 → Q M') : wp_J2_add_3_b38 g M a (nI i) v (nI n) (some d) Q := by
  have had : a ≠ d := fun z => by rw [← z, ha] at htd; cases htd
  have s1 : nI n - nI i = nI (n - i) := pn_sub hi
  unfold wp_J2_add_3_b38
  rw [s1, pn_succ]
  refine ⟨d, rfl, htd, ⟨pn_nn (by omega), pn_nn (by omega), pn_nn (by omega), ?_, ?_⟩, fun j hj y hy => ?_, fun M6 h6 => ⟨?_, fun y hy => ?_, fun M11 h11 => ⟨?_, fun M17 h17 => ?_⟩⟩⟩
  · rw [pn_cl (by omega), pn_cl (by omega)]
    omega
  · rw [pn_cl (by omega), pn_cl (by omega)]
    omega
  · rw [pn_cl (by omega)] at hj
    rw [pn_cl (by omega), he _ (by omega)] at hy
    exact hobj M y (heo _ (by omega) y hy)
  · rw [h6, m_ln_cr]
    exact (pn_in (by omega)).mpr (by omega)
  · exact hobj M6 y (by rw [h6]; exact q_ob_le m_le_cr (hv y hy))
  · rw [h11, m_tg_pr, h6, m_tg_cr]
    exact ha
  · rw [pn_cl (by omega), pn_cl (by omega), pn_cl (by omega)] at h6
    rw [pn_cl (by omega)] at h11
    refine hQ M17 ⟨?_, ?_, ?_, Or.inr ⟨?_, ⟨?_, ?_⟩, ?_, fun k hk => ?_⟩⟩ (by rw [h17, m_ln_pi, h11, m_ln_pr, h6, m_ln_cr]) ⟨?_, fun b hb1 hb2 => ?_, ?_, ?_⟩
    · rw [h17, m_tg_pi, h11, m_tg_pr, h6, m_tg_cr, ha]
    · rw [h17, m_gi_pi, if_pos ⟨rfl, rfl⟩, pn_succ]
    · rw [h17, m_gr_pi, h11, m_gr_pr, if_neg (fun z => had z.1), h6, m_gr_cr, if_neg (fun z => had z.1), hd]
    · rw [h17, m_tg_pi, h11, m_tg_pr, h6, m_tg_cr, htd]
    · rw [h17, m_ln_pi, h11, m_ln_pr, h6, m_ln_cr]
      omega
    · rw [h17, m_ln_pi, h11, m_ln_pr, h6, m_ln_cr]
      omega
    · rw [h17, m_ln_pi, h11, m_ln_pr, h6, m_ln_cr]
      omega
    · rw [h17, m_gr_pi, h11, m_gr_pr]
      unfold c_ei
      by_cases hk2 : k = i
      · rw [if_pos ⟨rfl, hk2⟩, if_neg (by omega), if_pos hk2]
      · rw [if_neg (fun z => hk2 z.2), h6, m_gr_cr]
        by_cases hk3 : k < i
        · rw [if_pos hk3, if_neg (by omega)]
          exact he k (by omega)
        · rw [if_neg hk3, if_neg hk2, if_pos ⟨rfl, by omega, by omega⟩, he _ (by omega)]
          congr 1
          omega
    · rw [h17, h11, h6]
      exact m_le_tr m_le_cr (m_le_tr m_le_pr m_le_pi)
    · rw [h17, h11, h6]
      unfold m_pi m_pr m_cr
      dsimp only
      rw [if_neg hb1, if_neg hb2, if_neg hb2]
    · rw [h17, h11, h6]
      exact Nat.le_refl _
    · rw [h17, h11, h6]
      exact Nat.le_refl _
/-- an element is put into the middle -/
theorem q_add3 {a d n i : Nat} {e : Nat → Option Nat} {v : Option Nat} {Q : Mem → Prop} (hobj : ∀ (M : Mem) (y : Nat), q_obj (m_tg M y) → m_asg M y "java/lang/Object") (hg : c_g1 g M) (h : c_L g M a d n e) (hn : n ≤ 150) (hi : i ≤ n) (hroom : m_nc M + 1 ≤ m_CM ∧ m_ns M + (10 + 2 * n) ≤ m_SM) (he : ∀ k : Nat, k < n → ∀ y : Nat, e k = some y → q_obj (m_tg M y)) (hv : ∀ y : Nat, v = some y → q_obj (m_tg M y))
    (hQ : ∀ (M' : Mem) (d' kc : Nat), (kc = 0 ∧ d' = d ∧ m_tg M d = 103 ∧ n < m_ln M d ∧ m_ln M' d' = m_ln M d ∨ kc = 1 ∧ m_tg M d' = 0 ∧ n = m_ln M d ∧ m_ln M' d' = c_nc n) → c_L g M' a d' (n + 1) (c_ei e i v) → c_fr M M' a d' kc (kc * c_nc n) → Q M') : wp_J2_add_3 g M a (nI i) v Q := by
  obtain ⟨ha, hz, hd, hc⟩ := h
  refine ⟨ha, ha, fun z => ?_, fun _ => ⟨fun _ => fun _ => ?_, fun z => z (by exact (pn_le (a := 0) (by omega) (by omega)).mpr (Nat.zero_le _))⟩⟩
  · rw [hz] at z
    have := (pn_lt (by omega) (by omega)).mp z
    omega
  refine fun M2 h2 => ⟨d, by rw [h2, m_gr_pi]; exact hd, ?_⟩
  have f2 : c_fr M M2 a a 0 0 := by rw [h2]; exact c_fr_pi
  have g2 : c_g1 g M2 := c_g1_le hg f2.1
  have hL2 : c_L g M2 a d n e := by
    refine ⟨by rw [h2, m_tg_pi]; exact ha, by rw [h2, m_gi_pi, if_neg (by omega)]; exact hz, by rw [h2, m_gr_pi]; exact hd, ?_⟩
    rcases hc with hc | ⟨c1, c2, c3, c4⟩
    · exact Or.inl hc
    · refine Or.inr ⟨by rw [h2, m_tg_pi]; exact c1, by rw [h2, m_ln_pi]; exact c2, by rw [h2, m_ln_pi]; exact c3, fun k hk => by rw [h2, m_gr_pi]; exact c4 k hk⟩
  have hob2 : ∀ k : Nat, k < n → ∀ y : Nat, e k = some y → q_obj (m_tg M2 y) := fun k hk y hy => q_ob_le f2.1 (he k hk y hy)
  have z2 : m_gi M2 a 2 = nI n := hL2.2.1
  have t2 : m_tg M2 d = m_tg M d := by rw [h2, m_tg_pi]
  have l2 : m_ln M2 d = m_ln M d := by rw [h2, m_ln_pi]
  rw [z2]
  refine ⟨c_isA g2 hL2, fun hne => ?_, fun heq => ?_⟩
  · rcases hL2.2.2.2 with ⟨h0, hdg⟩ | ⟨c1, c2, c3, c4⟩
    · exfalso
      apply hne
      rw [h0, hdg, g2.2]
    · have hlt : n < m_ln M2 d := by
        have : n ≠ m_ln M2 d := fun z => hne (by rw [← z])
        omega
      refine q_add38 (g := g) (e := e) hL2.1 hL2.2.2.1 c1 hlt c3 hn hi c4 hobj hob2 (fun y hy => q_ob_le f2.1 (hv y hy)) (fun M' hL' hln hf' => hQ M' d 0 (Or.inl ⟨rfl, rfl, t2 ▸ c1, by rw [← l2]; exact hlt, hln.trans l2⟩) hL' ?_)
      have := c_fr_tr' f2 hf'
      exact ⟨this.1, this.2.1, by have := this.2.2.1; omega, by have := this.2.2.2; omega⟩
  · have hfull : n = m_ln M2 d := by
      have hb : m_ln M2 d < 2147483648 := by
        rcases hL2.2.2.2 with ⟨h0, hdg⟩ | ⟨c1, c2, c3, c4⟩
        · rw [hdg, g2.2]
          omega
        · omega
      exact (pn_inj (by omega) hb).mp heq
    refine q_grow hobj g2 hL2 hn hfull ⟨by rw [h2]; exact hroom.1, by rw [h2]; exact hroom.2⟩ hob2 (fun M4 d' k1 k2 k3 k4 k5 k6 k7 k8 k9 hle => ?_)
    refine q_add38 (g := g) (e := e) k8 k6 k2 k3 (by rw [k4]; exact c_nc_le) hn hi k5 hobj (fun k hk y hy => q_ob_le k9.1 (hob2 k hk y hy)) (fun y hy => q_ob_le k9.1 (q_ob_le f2.1 (hv y hy))) (fun M' hL' hln hf' => hQ M' d' 1 (Or.inr ⟨rfl, ?_, by rw [← l2]; exact hfull, hln.trans k4⟩) hL' ?_)
    · rw [← k1, h2, m_tg_pi]
    · have := c_fr_tr' f2 (c_fr_sm k9 hf')
      exact ⟨this.1, this.2.1, by have := this.2.2.1; omega, by have := this.2.2.2; omega⟩
theorem q_rem34 {a d n : Nat} {e : Nat → Option Nat} {Q : Mem → Prop} (ha : m_tg M a = 14) (hd : m_gr M a 1 = some d) (htd : m_tg M d = 103) (hl : n + 1 ≤ m_ln M d) (hl2 : m_ln M d ≤ 100) (he : ∀ k : Nat, k < n → m_gr M d k = e k)
    (hQ : ∀ M', m_tg M' a = 14 → m_gi M' a 2 = nI n → m_gr M' a 1 = some d → m_tg M' d = 103 → m_ln M' d = m_ln M d → (∀ k : Nat, k < n → m_gr M' d k = e k) → c_fr M M' a d 0 0 → Q M') : wp_J2_fastRemove_b34 g M a d (nI n) Q := by
  have had : a ≠ d := fun z => by rw [← z, ha] at htd; cases htd
  refine ⟨ha, fun M2 h2 => ⟨?_, ?_, fun M8 h8 => ?_⟩⟩
  · rw [h2, m_tg_pi, htd]
  · rw [h2, m_ln_pi]
    exact (pn_in (by omega)).mpr (by omega)
  · rw [pn_cl (by omega)] at h8
    refine hQ M8 ?_ ?_ ?_ ?_ ?_ (fun k hk => ?_) ⟨?_, fun b hb1 hb2 => ?_, ?_, ?_⟩
    · rw [h8, m_tg_pr, h2, m_tg_pi, ha]
    · rw [h8, m_gi_pr, h2, m_gi_pi, if_pos ⟨rfl, rfl⟩]
    · rw [h8, m_gr_pr, if_neg (fun z => had z.1), h2, m_gr_pi, hd]
    · rw [h8, m_tg_pr, h2, m_tg_pi, htd]
    · rw [h8, m_ln_pr, h2, m_ln_pi]
    · rw [h8, m_gr_pr, if_neg (fun z => by omega), h2, m_gr_pi]
      exact he k hk
    · rw [h8, h2]
      exact m_le_tr m_le_pi m_le_pr
    · rw [h8, h2]
      unfold m_pr m_pi
      dsimp only
      rw [if_neg hb2, if_neg hb1]
    · rw [h8, h2]
      exact Nat.le_refl _
    · rw [h8, h2]
      exact Nat.le_refl _
/-- an element is taken out (here a list is small; its array may be larger than it needs) -/
theorem q_remove {a d n i : Nat} {e : Nat → Option Nat} {Q : Option Nat → Mem → Prop} (hobj : ∀ (M : Mem) (y : Nat), q_obj (m_tg M y) → m_asg M y "java/lang/Object") (ha : m_tg M a = 14) (hz : m_gi M a 2 = nI (n + 1)) (hd : m_gr M a 1 = some d) (htd : m_tg M d = 103) (hl : n + 1 ≤ m_ln M d) (hl2 : m_ln M d ≤ 100) (hi : i ≤ n) (hek : ∀ k : Nat, k < n + 1 → m_gr M d k = e k) (he : ∀ k : Nat, k < n + 1 → ∀ y : Nat, e k = some y → q_obj (m_tg M y))
    (hQ : ∀ M', m_tg M' a = 14 → m_gi M' a 2 = nI n → m_gr M' a 1 = some d → m_tg M' d = 103 → m_ln M' d = m_ln M d → (∀ k : Nat, k < n → m_gr M' d k = if k < i then e k else e (k + 1)) → c_fr M M' a d 0 0 → Q (e i) M') : wp_J2_remove g M a (nI i) Q := by
  have had : a ≠ d := fun z => by rw [← z, ha] at htd; cases htd
  refine ⟨ha, q_checkIndex (Int32.not_lt.mp (pn_nn (by omega))) (by rw [hz]; exact (pn_lt (by omega) (by omega)).mpr (by omega)) (fun _ => ⟨d, hd, htd, (pn_in (by omega)).mpr (by omega), fun r10 hr => ?_⟩)⟩
  rw [pn_cl (by omega), hek i (by omega)] at hr
  subst hr
  refine ⟨ha, fun M2 h2 => ?_⟩
  have f2 : c_fr M M2 a a 0 0 := by rw [h2]; exact c_fr_pi
  have a2 : m_tg M2 a = 14 := by rw [h2, m_tg_pi, ha]
  have z2 : m_gi M2 a 2 = nI (n + 1) := by rw [h2, m_gi_pi, if_neg (by omega), hz]
  have d2 : m_gr M2 a 1 = some d := by rw [h2, m_gr_pi, hd]
  have t2 : m_tg M2 d = 103 := by rw [h2, m_tg_pi, htd]
  have l2 : m_ln M2 d = m_ln M d := by rw [h2, m_ln_pi]
  have e2 : ∀ k : Nat, k < n + 1 → m_gr M2 d k = e k := fun k hk => by rw [h2, m_gr_pi]; exact hek k hk
  have s1 : nI (n + 1) - 1 = nI n := pn_sub (b := 1) (by omega)
  rw [z2, s1]
  refine ⟨fun hle => ?_, fun hle => ?_⟩
  · have hin : i = n := by
      have := (pn_le (by omega) (by omega)).mp hle
      omega
    subst hin
    refine q_rem34 (g := g) (e := e) a2 d2 t2 (by omega) (by omega) (fun k hk => e2 k (by omega)) (fun M' b1 b2 b3 b4 b5 b6 b7 _ => hQ M' b1 b2 b3 b4 (b5.trans l2) (fun k hk => by rw [if_pos hk]; exact b6 k hk) ?_)
    have := c_fr_tr' f2 b7
    exact this
  · have hin : i < n := by
      apply Classical.byContradiction
      intro z
      exact hle ((pn_le (by omega) (by omega)).mpr (by omega))
    have s2 : nI n - nI i = nI (n - i) := pn_sub (by omega)
    unfold wp_J2_fastRemove_b34
    rw [pn_succ]
    have s3 : nI n - nI i = nI (n - i) := pn_sub (by omega)
    rw [s3]
    refine ⟨t2, ⟨pn_nn (by omega), pn_nn (by omega), pn_nn (by omega), ?_, ?_⟩, fun j hj y hy => ?_, fun M10 h10 => ?_⟩
    · rw [pn_cl (by omega), pn_cl (by omega)]
      omega
    · rw [pn_cl (by omega), pn_cl (by omega)]
      omega
    · rw [pn_cl (by omega)] at hj
      rw [pn_cl (by omega), e2 _ (by omega)] at hy
      exact hobj M2 y (q_ob_le f2.1 (he _ (by omega) y hy))
    · rw [pn_cl (by omega), pn_cl (by omega), pn_cl (by omega)] at h10
      have f10 : c_fr M2 M10 a d 0 0 := by
        rw [h10]
        exact ⟨m_le_cr, fun b _ hb => by unfold m_cr; dsimp only; rw [if_neg hb], Nat.le_refl _, Nat.le_refl _⟩
      refine q_rem34 (g := g) (e := fun k => if k < i then e k else e (k + 1)) ?_ ?_ ?_ ?_ ?_ (fun k hk => ?_) (fun M' b1 b2 b3 b4 b5 b6 b7 _ => hQ M' b1 b2 b3 b4 ?_ b6 ?_)
      · rw [h10, m_tg_cr, a2]
      · rw [h10, m_gr_cr, if_neg (fun z => had z.1), d2]
      · rw [h10, m_tg_cr, t2]
      · rw [h10, m_ln_cr]
        omega
      · rw [h10, m_ln_cr]
        omega
      · rw [h10, m_gr_cr]
        by_cases hk2 : k < i
        · rw [if_neg (by omega), if_pos hk2]
          exact e2 k (by omega)
        · rw [if_pos ⟨rfl, by omega, by omega⟩, if_neg hk2, e2 _ (by omega)]
          congr 1
          omega
      · rw [b5, h10, m_ln_cr, l2]
      · exact c_fr_tr' f2 (c_fr_sm f10 b7)
end
