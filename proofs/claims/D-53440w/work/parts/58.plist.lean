/-! PURE: ArrayList over the memory -/
set_option maxRecDepth 100000
def q_obj (t : Nat) : Prop := t = 2 ∨ t = 6 ∨ t = 7 ∨ t = 8 ∨ t = 9 ∨ t = 14 ∨ t = 150
/-- the shared empty array -/
def c_g1 (g : Nat → Nat) (M : Mem) : Prop := m_tg M (g 1) = 160 ∧ m_ln M (g 1) = 0
theorem c_g1_le {g : Nat → Nat} {M M' : Mem} (h : c_g1 g M) (hl : m_le M M') : c_g1 g M' := by
  obtain ⟨a, b⟩ := hl (g 1) (by rw [h.1]; decide)
  exact ⟨a.trans h.1, b.trans h.2⟩
/-- a list at a, its array d, n elements e -/
def c_L (g : Nat → Nat) (M : Mem) (a d n : Nat) (e : Nat → Option Nat) : Prop := m_tg M a = 14 ∧ m_gi M a 2 = nI n ∧ m_gr M a 1 = some d ∧ ((n = 0 ∧ d = g 1) ∨ (m_tg M d = 103 ∧ (0 < m_ln M d ∧ n ≤ m_ln M d) ∧ m_ln M d ≤ 10 + 2 * n ∧ ∀ k : Nat, k < n → m_gr M d k = e k))
/-- cells but a and d are what they were; at most k cells of s slots more -/
def c_fr (M M' : Mem) (a d c s : Nat) : Prop := m_le M M' ∧ (∀ b : Nat, b ≠ a → b ≠ d → M'.1 b = M.1 b) ∧ m_nc M' ≤ m_nc M + c ∧ m_ns M' ≤ m_ns M + s
/-- the size of the array that is laid when one of n is full -/
def c_nc (n : Nat) : Nat := if n = 0 then 10 else n + max 1 (n / 2)
theorem c_nc_le {n : Nat} : c_nc n ≤ 10 + 2 * n := by unfold c_nc; split <;> omega
def c_e (e : Nat → Option Nat) (n : Nat) (v : Option Nat) : Nat → Option Nat := fun k => if k = n then v else e k
theorem pn_shr {n : Nat} (h : n ≤ 150) : (nI n) >>> ((1 : Int32) &&& 31) = nI (n / 2) := by
  have H : ∀ k : Fin 151, (nI k.val) >>> ((1 : Int32) &&& 31) = nI (k.val / 2) := by decide +kernel
  exact H ⟨n, by omega⟩
theorem c_isA {g : Nat → Nat} {M : Mem} {a d n : Nat} {e : Nat → Option Nat} (hg : c_g1 g M) (h : c_L g M a d n e) : m_isA M d := by
  rcases h.2.2.2 with ⟨_, rfl⟩ | ⟨h, _⟩
  · exact Or.inr hg.1
  · exact Or.inl (by omega)
section
variable {g : Nat → Nat} {M : Mem}
theorem q_init {a : Nat} {Q : Mem → Prop} (ha : m_tg M a = 14) (hz : m_gi M a 2 = 0) (hQ : c_g1 g M → ∀ M', M' = m_pr (m_pi M a 0 0) a 1 (some (g 1)) → c_L g M' a (g 1) 0 (fun _ => none) → c_fr M M' a a 0 0 → Q M') : wp_J2_init g M a Q := by
  refine fun _ => ⟨ha, fun M4 h4 hle h1 h2 => ?_⟩
  subst h4
  refine ⟨m_tg_pi.trans ha, fun M6 h6 => hQ ⟨m_tg_pi.symm.trans h1, m_ln_pi.symm.trans h2⟩ M6 h6 ?_ ?_⟩
  · subst h6
    refine ⟨by rw [m_tg_pr, m_tg_pi]; exact ha, ?_, ?_, Or.inl ⟨rfl, rfl⟩⟩
    · rw [m_gi_pr, m_gi_pi, if_neg (by omega), hz]
      rfl
    · rw [m_gr_pr, if_pos ⟨rfl, rfl⟩]
  · subst h6
    refine ⟨m_le_tr m_le_pi m_le_pr, fun b hb _ => ?_, Nat.le_refl _, Nat.le_refl _⟩
    show (m_pr (m_pi M a 0 0) a 1 (some (g 1))).1 b = M.1 b
    unfold m_pr m_pi
    dsimp only
    rw [if_neg hb, if_neg hb]
/-- the array is grown -/
theorem q_grow {a d n : Nat} {e : Nat → Option Nat} {Q : Option Nat → Mem → Prop} (hobj : ∀ (M : Mem) (y : Nat), q_obj (m_tg M y) → m_asg M y "java/lang/Object") (hg : c_g1 g M) (h : c_L g M a d n e) (hn : n ≤ 150) (hfull : n = m_ln M d) (hroom : m_nc M + 1 ≤ m_CM ∧ m_ns M + (10 + 2 * n) ≤ m_SM) (he : ∀ k : Nat, k < n → ∀ y : Nat, e k = some y → q_obj (m_tg M y))
    (hQ : ∀ (M' : Mem) (d' : Nat), m_tg M d' = 0 → m_tg M' d' = 103 → n < m_ln M' d' → m_ln M' d' = c_nc n → (∀ k : Nat, k < n → m_gr M' d' k = e k) → m_gr M' a 1 = some d' → m_gi M' a 2 = nI n → m_tg M' a = 14 → c_fr M M' a d' 1 (c_nc n) → Q (some d') M') : wp_J2_grow g M a Q := by
  obtain ⟨ha, hz, hd, hc⟩ := h
  have hisA : m_isA M d := c_isA hg ⟨ha, hz, hd, hc⟩
  refine ⟨ha, ha, d, hd, hisA, fun hpos => ?_, fun hnp => ⟨d, hd, fun _ _ => ⟨fun _ => ?_, fun hne => ?_⟩⟩⟩
  · have hn0 : 0 < n := by
      rw [← hfull] at hpos
      exact (pn_lt (a := 0) (by omega) (by omega)).mp hpos
    rcases hc with ⟨h0, _⟩ | ⟨htd, hl, hcap, hek⟩
    · omega
    have e1 : nI (m_ln M d) = nI n := by rw [hfull]
    have e2 : m_gi M a 2 + 1 - nI n = 1 := by rw [hz, pn_succ]; exact (pn_sub (by omega)).trans (by rw [Nat.add_sub_cancel_left]; rfl)
    rw [e1]
    unfold wp_J2_grow_2_b20 wp_J14_newLength
    rw [e2, pn_shr hn]
    have e3 : (if (1 : Int32) < nI (n / 2) then nI (n / 2) else 1) = nI (max 1 (n / 2)) := by
      have hlt : ((1 : Int32) < nI (n / 2)) = (1 < n / 2) := pn_lte (a := 1) (by omega) (by omega)
      by_cases z : 1 < n / 2
      · rw [if_pos (by rw [hlt]; exact z), Nat.max_eq_right (by omega)]
      · rw [if_neg (by rw [hlt]; exact z), Nat.max_eq_left (by omega)]
        rfl
    rw [e3, pn_add]
    have hmx : max 1 (n / 2) ≤ n := by omega
    have hmx1 : 1 ≤ max 1 (n / 2) := by omega
    generalize hN : n + max 1 (n / 2) = N
    have hN1 : n < N := by omega
    have hN2 : N ≤ 2 * n := by omega
    have hcn : c_nc n = N := by unfold c_nc; rw [if_neg (by omega), hN]
    refine ⟨fun z => absurd z (fun w => by have := (pn_le (b := 0) (by omega) (by omega)).mp w; omega), fun _ => ⟨fun z => absurd z (fun w => by have := (pn_lt (a := 2147483639) (by omega) (by omega)).mp w; omega), fun _ => fun _ => ⟨ha, d, hd, htd, fun z => absurd rfl z, fun _ => ?_⟩⟩⟩
    refine ⟨pn_nn (by omega), ?_, fun u4 hu4 M6 h6 => ?_⟩
    · rw [pn_cl (by omega)]
      exact ⟨hroom.1, by omega⟩
    have hdu : d ≠ u4 := fun z => by rw [← z, htd] at hu4; cases hu4
    have hau : a ≠ u4 := fun z => by rw [← z, ha] at hu4; cases hu4
    have had : a ≠ d := fun z => by rw [← z, ha] at htd; cases htd
    have ecl : (nI N).toNatClampNeg = N := pn_cl (by omega)
    rw [ecl] at h6
    have t6 : m_tg M6 d = 103 := by rw [h6, m_tg_al, if_neg hdu, htd]
    have l6 : m_ln M6 d = n := by rw [h6, m_ln_al, if_neg hdu, hfull]
    have l6u : m_ln M6 u4 = N := by rw [h6, m_ln_al, if_pos rfl]
    have emin : (if nI N < nI (m_ln M6 d) then nI N else nI (m_ln M6 d)) = nI n := by
      rw [l6, if_neg]
      intro w
      have := (pn_lt (by omega) (by omega)).mp w
      omega
    have c0 : Int32.toNatClampNeg 0 = 0 := rfl
    have gd : ∀ k : Nat, k < n → m_gr M6 d k = e k := fun k hk => by rw [h6, m_gr_al, if_neg hdu]; exact hek k hk
    rw [emin]
    refine ⟨Or.inl (by omega), t6, ⟨by decide, by decide, pn_nn (by omega), ?_, ?_⟩, fun i hi y hy => ?_, fun M14 h14 => ?_⟩
    · rw [pn_cl (by omega), c0, l6]
      omega
    · rw [pn_cl (by omega), c0, l6u]
      omega
    · rw [pn_cl (by omega)] at hi
      rw [c0, Nat.zero_add, gd i hi] at hy
      have hy1 := he i hi y hy
      refine hobj M6 y ?_
      rw [h6, m_tg_al, if_neg]
      · exact hy1
      · intro z
        rw [z, hu4] at hy1
        unfold q_obj at hy1
        omega
    · rw [pn_cl (by omega), c0] at h14
      intro _ _ M11 h11 _
      refine hQ M11 u4 hu4 ?_ ?_ ?_ (fun k hk => ?_) ?_ ?_ ?_ ⟨?_, fun b hb1 hb2 => ?_, ?_, ?_⟩
      · rw [h11, m_tg_pr, h14, m_tg_cr, h6, m_tg_al, if_pos rfl]
      · rw [h11, m_ln_pr, h14, m_ln_cr, l6u]
        exact hN1
      · rw [h11, m_ln_pr, h14, m_ln_cr, l6u, hcn]
      · rw [h11, m_gr_pr, if_neg (fun z => hau z.1.symm), h14, m_gr_cr, if_pos ⟨rfl, Nat.zero_le _, by omega⟩]
        rw [Nat.zero_add, Nat.sub_zero]
        exact gd k hk
      · rw [h11, m_gr_pr, if_pos ⟨rfl, rfl⟩]
      · rw [h11, m_gi_pr, h14, m_gi_cr, h6, m_gi_al, if_neg hau, hz]
      · rw [h11, m_tg_pr, h14, m_tg_cr, h6, m_tg_al, if_neg hau, ha]
      · rw [h11, h14]
        refine m_le_tr ?_ (m_le_tr m_le_cr m_le_pr)
        rw [h6]
        exact m_le_al hu4
      · rw [h11, h14, h6]
        unfold m_pr m_cr m_al
        dsimp only
        rw [if_neg hb1, if_neg hb2, if_neg hb2]
      · rw [h11, h14, h6]
        exact Nat.le_refl _
      · rw [h11, h14, h6]
        show m_ns M + N ≤ _
        rw [hcn]
        exact Nat.le_refl _
  · have hn0 : n = 0 := by
      apply Nat.eq_zero_of_not_pos
      intro h0
      apply hnp
      rw [← hfull]
      exact (pn_lt (a := 0) (by omega) (by omega)).mpr h0
    subst hn0
    rw [hz]
    have e10 : (if (10 : Int32) < nI 0 + 1 then nI 0 + 1 else 10) = 10 := by decide
    rw [e10]
    refine ⟨by decide, ⟨hroom.1, hroom.2⟩, fun u13 hu M15 h15 M20 h20 => ?_⟩
    have hau : a ≠ u13 := fun z => by rw [← z, ha] at hu; cases hu
    have c10 : Int32.toNatClampNeg 10 = 10 := rfl
    rw [c10] at h15
    intro _
    refine hQ M20 u13 hu ?_ ?_ ?_ (fun k hk => absurd hk (Nat.not_lt_zero _)) ?_ ?_ ?_ ⟨?_, fun b hb1 hb2 => ?_, ?_, ?_⟩
    · rw [h20, m_tg_pr, h15, m_tg_al, if_pos rfl]
    · rw [h20, m_ln_pr, h15, m_ln_al, if_pos rfl]
      decide
    · rw [h20, m_ln_pr, h15, m_ln_al, if_pos rfl]
      rfl
    · rw [h20, m_gr_pr, if_pos ⟨rfl, rfl⟩]
    · rw [h20, m_gi_pr, h15, m_gi_al, if_neg hau, hz]
    · rw [h20, m_tg_pr, h15, m_tg_al, if_neg hau, ha]
    · rw [h20]
      refine m_le_tr ?_ m_le_pr
      rw [h15]
      exact m_le_al hu
    · rw [h20, h15]
      unfold m_pr m_al
      dsimp only
      rw [if_neg hb1, if_neg hb2]
    · rw [h20, h15]
      exact Nat.le_refl _
    · rw [h20, h15]
      exact Nat.le_refl _
  · exfalso
    have hn0 : n = 0 := by
      apply Nat.eq_zero_of_not_pos
      intro h0
      apply hnp
      rw [← hfull]
      exact (pn_lt (a := 0) (by omega) (by omega)).mpr h0
    rcases hc with ⟨_, h9⟩ | ⟨htd, hl, hcap, hek⟩
    · exact hne (by rw [h9])
    · omega
end
section
variable {g : Nat → Nat} {M : Mem}
/-- the end of add -/
theorem q_add11 {a d n : Nat} {e : Nat → Option Nat} {v : Option Nat} {Q : Mem → Prop} (ha : m_tg M a = 14) (hd : m_gr M a 1 = some d) (htd : m_tg M d = 103) (hl : n < m_ln M d) (hl2 : m_ln M d ≤ 10 + 2 * n) (hn : n ≤ 150) (he : ∀ k : Nat, k < n → m_gr M d k = e k) (hv : ∀ y : Nat, v = some y → m_asg M y "java/lang/Object")
    (hQ : ∀ M', c_L g M' a d (n + 1) (c_e e n v) → m_ln M' d = m_ln M d → c_fr M M' a d 0 0 → Q M') : wp_J2_add_2_b11 g M a v (some d) (nI n) Q := by
  have had : a ≠ d := fun z => by rw [← z, ha] at htd; cases htd
  refine ⟨d, rfl, htd, (pn_in (by omega)).mpr hl, hv, fun M5 h5 => ⟨?_, fun M11 h11 => ?_⟩⟩
  · rw [h5, m_tg_pr]
    exact ha
  · rw [pn_cl (by omega)] at h5
    rw [pn_succ] at h11
    refine hQ M11 ⟨?_, ?_, ?_, Or.inr ⟨?_, ⟨?_, ?_⟩, ?_, fun k hk => ?_⟩⟩ (by rw [h11, m_ln_pi, h5, m_ln_pr]) ⟨?_, fun b hb1 hb2 => ?_, ?_, ?_⟩
    · rw [h11, m_tg_pi, h5, m_tg_pr, ha]
    · rw [h11, m_gi_pi, if_pos ⟨rfl, rfl⟩]
    · rw [h11, m_gr_pi, h5, m_gr_pr, if_neg (fun z => had z.1), hd]
    · rw [h11, m_tg_pi, h5, m_tg_pr, htd]
    · rw [h11, m_ln_pi, h5, m_ln_pr]
      omega
    · rw [h11, m_ln_pi, h5, m_ln_pr]
      omega
    · rw [h11, m_ln_pi, h5, m_ln_pr]
      omega
    · rw [h11, m_gr_pi, h5, m_gr_pr]
      unfold c_e
      by_cases hk2 : k = n
      · rw [if_pos ⟨rfl, hk2⟩, if_pos hk2]
      · rw [if_neg (fun z => hk2 z.2), if_neg hk2]
        exact he k (by omega)
    · rw [h11, h5]
      exact m_le_tr m_le_pr m_le_pi
    · rw [h11, h5]
      unfold m_pi m_pr
      dsimp only
      rw [if_neg hb1, if_neg hb2]
    · rw [h11, h5]
      exact Nat.le_refl _
    · rw [h11, h5]
      exact Nat.le_refl _
theorem c_fr_tr {M M1 M2 : Mem} {a d d' c s c' s' : Nat} (h1 : c_fr M M1 a d c s) (h2 : c_fr M1 M2 a d' c' s') (hd : d' = d ∨ d = a ∨ d' = a) : ∃ d9, (d9 = d ∨ d9 = d') ∧ c_fr M M2 a d9 (c + c') (s + s') := by
  rcases hd with rfl | rfl | rfl
  · exact ⟨d', Or.inl rfl, m_le_tr h1.1 h2.1, fun b h3 h4 => (h2.2.1 b h3 h4).trans (h1.2.1 b h3 h4), by have := h1.2.2.1; have := h2.2.2.1; omega, by have := h1.2.2.2; have := h2.2.2.2; omega⟩
  · exact ⟨d', Or.inr rfl, m_le_tr h1.1 h2.1, fun b h3 h4 => (h2.2.1 b h3 h4).trans (h1.2.1 b h3 h3), by have := h1.2.2.1; have := h2.2.2.1; omega, by have := h1.2.2.2; have := h2.2.2.2; omega⟩
  · exact ⟨d, Or.inl rfl, m_le_tr h1.1 h2.1, fun b h3 h4 => (h2.2.1 b h3 h3).trans (h1.2.1 b h3 h4), by have := h1.2.2.1; have := h2.2.2.1; omega, by have := h1.2.2.2; have := h2.2.2.2; omega⟩
theorem c_fr_tr' {M M1 M2 : Mem} {a d' c s c' s' : Nat} (h1 : c_fr M M1 a a c s) (h2 : c_fr M1 M2 a d' c' s') : c_fr M M2 a d' (c + c') (s + s') :=
  ⟨m_le_tr h1.1 h2.1, fun b h3 h4 => (h2.2.1 b h3 h4).trans (h1.2.1 b h3 h3), by have := h1.2.2.1; have := h2.2.2.1; omega, by have := h1.2.2.2; have := h2.2.2.2; omega⟩
theorem c_fr_pi {a k : Nat} {x : Int32} : c_fr M (m_pi M a k x) a a 0 0 := ⟨m_le_pi, fun b hb _ => by unfold m_pi; dsimp only; rw [if_neg hb], Nat.le_refl _, Nat.le_refl _⟩
theorem c_fr_sm {M M1 M2 : Mem} {a d c s c' s' : Nat} (h1 : c_fr M M1 a d c s) (h2 : c_fr M1 M2 a d c' s') : c_fr M M2 a d (c + c') (s + s') :=
  ⟨m_le_tr h1.1 h2.1, fun b h3 h4 => (h2.2.1 b h3 h4).trans (h1.2.1 b h3 h4), by have := h1.2.2.1; have := h2.2.2.1; omega, by have := h1.2.2.2; have := h2.2.2.2; omega⟩
/-- an element is added at the end: in the same array, or in one that is new -/
theorem q_add {a d n : Nat} {e : Nat → Option Nat} {v : Option Nat} {Q : Int32 → Mem → Prop} (hobj : ∀ (M : Mem) (y : Nat), q_obj (m_tg M y) → m_asg M y "java/lang/Object") (hg : c_g1 g M) (h : c_L g M a d n e) (hn : n ≤ 150) (hroom : m_nc M + 1 ≤ m_CM ∧ m_ns M + (10 + 2 * n) ≤ m_SM) (he : ∀ k : Nat, k < n → ∀ y : Nat, e k = some y → q_obj (m_tg M y)) (hv : ∀ y : Nat, v = some y → q_obj (m_tg M y))
    (hQ : ∀ (M' : Mem) (d' kc : Nat), (kc = 0 ∧ d' = d ∧ m_tg M d = 103 ∧ n < m_ln M d ∧ m_ln M' d' = m_ln M d ∨ kc = 1 ∧ m_tg M d' = 0 ∧ n = m_ln M d ∧ m_ln M' d' = c_nc n) → c_L g M' a d' (n + 1) (c_e e n v) → c_fr M M' a d' kc (kc * c_nc n) → Q 1 M') : wp_J2_add g M a v Q := by
  obtain ⟨ha, hz, hd, hc⟩ := h
  refine ⟨ha, fun M2 h2 => ⟨d, by rw [h2, m_gr_pi]; exact hd, ?_⟩⟩
  have f2 : c_fr M M2 a a 0 0 := by rw [h2]; exact c_fr_pi
  have g2 : c_g1 g M2 := c_g1_le hg f2.1
  have hL2 : c_L g M2 a d n e := by
    refine ⟨by rw [h2, m_tg_pi]; exact ha, by rw [h2, m_gi_pi, if_neg (by omega)]; exact hz, by rw [h2, m_gr_pi]; exact hd, ?_⟩
    rcases hc with hc | ⟨c1, c2, c3, c4⟩
    · exact Or.inl hc
    · refine Or.inr ⟨by rw [h2, m_tg_pi]; exact c1, by rw [h2, m_ln_pi]; exact c2, by rw [h2, m_ln_pi]; exact c3, fun k hk => by rw [h2, m_gr_pi]; exact c4 k hk⟩
  have hob : ∀ (M1 : Mem) (y : Nat), m_le M2 M1 → q_obj (m_tg M y) → q_obj (m_tg M1 y) := fun M1 y hle ho => by
    have h0 : m_tg M y ≠ 0 := fun z => by rw [z] at ho; unfold q_obj at ho; omega
    have e1 := (f2.1 y h0).1
    have e2 := (hle y (by rw [e1]; exact h0)).1
    rw [e2, e1]
    exact ho
  have z2 : m_gi M2 a 2 = nI n := hL2.2.1
  have l2 : m_ln M2 d = m_ln M d := by rw [h2, m_ln_pi]
  have t2 : m_tg M2 d = m_tg M d := by rw [h2, m_tg_pi]
  rw [z2]
  refine ⟨c_isA g2 hL2, fun hne => ?_, fun heq => ⟨hL2.1, ?_⟩⟩
  · rcases hL2.2.2.2 with ⟨h0, hdg⟩ | ⟨c1, c2, c3, c4⟩
    · exfalso
      apply hne
      rw [h0, hdg, g2.2]
    · have hlt : n < m_ln M2 d := by
        have : n ≠ m_ln M2 d := fun z => hne (by rw [← z])
        omega
      refine q_add11 (g := g) (e := e) hL2.1 hL2.2.2.1 c1 hlt c3 hn c4 (fun y hy => hobj M2 y (hob M2 y m_le_rf (hv y hy))) (fun M' hL' hln hf' _ => hQ M' d 0 (Or.inl ⟨rfl, rfl, t2 ▸ c1, by rw [← l2]; exact hlt, hln.trans l2⟩) hL' ?_)
      have := c_fr_tr' f2 hf'
      exact ⟨this.1, this.2.1, by have := this.2.2.1; omega, by have := this.2.2.2; omega⟩
  · have hfull : n = m_ln M2 d := by
      have hb : m_ln M2 d < 2147483648 := by
        rcases hL2.2.2.2 with ⟨h0, hdg⟩ | ⟨c1, c2, c3, c4⟩
        · rw [hdg, g2.2]
          omega
        · omega
      exact (pn_inj (by omega) hb).mp heq
    refine q_grow hobj g2 hL2 hn hfull ⟨by rw [h2]; exact hroom.1, by rw [h2]; exact hroom.2⟩ (fun k hk y hy => hob M2 y m_le_rf (he k hk y hy)) (fun M4 d' k1 k2 k3 k4 k5 k6 k7 k8 k9 hle => ?_)
    refine q_add11 (g := g) (e := e) k8 k6 k2 k3 (by rw [k4]; exact c_nc_le) hn k5 (fun y hy => hobj M4 y (hob M4 y k9.1 (hv y hy))) (fun M' hL' hln hf' _ => hQ M' d' 1 (Or.inr ⟨rfl, ?_, by rw [← l2]; exact hfull, hln.trans k4⟩) hL' ?_)
    · rw [← k1, h2, m_tg_pi]
    · have := c_fr_tr' f2 (c_fr_sm k9 hf')
      exact ⟨this.1, this.2.1, by have := this.2.2.1; omega, by have := this.2.2.2; omega⟩
end
