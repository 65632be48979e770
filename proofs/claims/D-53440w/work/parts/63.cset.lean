/-! PURE: a HashSet of areas, each put in once -/
set_option maxRecDepth 100000
/-- the set s, its map h, table T, k areas f -/
def c_HS (M : Mem) (s h T k : Nat) (f : Nat → Nat) : Prop := m_tg M s = 20 ∧ m_gr M s 0 = some h ∧ m_tg M h = 16 ∧ m_gi M h 4 = nI k ∧ ((k = 0 ∧ m_gr M h 2 = none ∧ m_gi M h 6 = 0) ∨ (m_gr M h 2 = some T ∧ m_tg M T = 104 ∧ m_ln M T = 16 ∧ m_gi M h 6 = 12 ∧ ∀ v : Nat, v < 12 → (∀ i : Nat, i < k → f i ≠ v) → m_gr M T v = none))
def c_fe (f : Nat → Nat) (k v : Nat) : Nat → Nat := fun i => if i = k then v else f i
theorem pn_hash {v : Nat} (h : v < 12) : (nI v) ^^^ ((Int32.toUInt32 (nI v) >>> (Int32.toUInt32 16 &&& Int32.toUInt32 31)).toInt32) = nI v := by
  have H : ∀ k : Fin 12, (nI k.val) ^^^ ((Int32.toUInt32 (nI k.val) >>> (Int32.toUInt32 16 &&& Int32.toUInt32 31)).toInt32) = nI k.val := by decide +kernel
  exact H ⟨v, h⟩
theorem pn_and15 {v : Nat} (h : v < 12) : (nI 16 - 1) &&& nI v = nI v := by
  have H : ∀ k : Fin 12, (nI 16 - 1) &&& nI k.val = nI k.val := by decide +kernel
  exact H ⟨v, h⟩
section
variable {g : Nat → Nat} {M : Mem}
theorem m_le_cell {M M' : Mem} (h : ∀ b : Nat, m_tg M b ≠ 0 → m_tg M' b = m_tg M b ∧ m_ln M' b = m_ln M b) : m_le M M' := h
theorem q_put29 {s h T k v x : Nat} {f : Nat → Nat} {Q : Option Nat → Mem → Prop} (hnode : ∀ (M : Mem) (y : Nat), m_tg M y = 18 → m_asg M y "java/util/HashMap$Node") (hs : m_tg M s = 20) (hsr : m_gr M s 0 = some h) (hh : m_tg M h = 16) (hsz : m_gi M h 4 = nI k) (hT : m_gr M h 2 = some T) (hTt : m_tg M T = 104) (hTl : m_ln M T = 16) (hth : m_gi M h 6 = 12) (hfree : ∀ v : Nat, v < 12 → (∀ i : Nat, i < k → f i ≠ v) → m_gr M T v = none) (hv : v < 12) (hk : k ≤ 11) (hnew : ∀ i : Nat, i < k → f i ≠ v) (hroom : m_nc M + 1 ≤ m_CM ∧ m_ns M + 4 ≤ m_SM)
    (hQ : ∀ M', c_HS M' s h T (k + 1) (c_fe f k v) → m_le M M' → (∀ b : Nat, b ≠ h → b ≠ T → m_tg M b ≠ 0 → M'.1 b = M.1 b) → m_nc M' = m_nc M + 1 → m_ns M' = m_ns M + 4 → Q none M') : wp_J8_putValH_b29 g M h (nI v) x (g 2) 0 1 (some T) (nI 16) Q := by
  have hcl : (nI v).toNatClampNeg = v := pn_cl (by omega)
  unfold wp_J8_putValH_b29
  rw [pn_and15 hv, hcl]
  have hTv : m_gr M T v = none := hfree v hv hnew
  have hvin : vp_in (nI v) 16 := (pn_in (by omega)).mpr (by omega)
  refine ⟨T, rfl, hTt, by rw [hTl]; exact hvin, fun r5 h5 => ⟨fun _ => ⟨hh, hroom, fun nd hnd M4 h4 => ?_⟩, fun u7 h7 => by rw [h5, hTv] at h7; cases h7⟩⟩
  have hnT : T ≠ nd := fun z => by rw [← z, hTt] at hnd; cases hnd
  have hnh : h ≠ nd := fun z => by rw [← z, hh] at hnd; cases hnd
  have hns : s ≠ nd := fun z => by rw [← z, hs] at hnd; cases hnd
  have hhT : h ≠ T := fun z => by rw [← z, hh] at hTt; cases hTt
  have hsh : s ≠ h := fun z => by rw [← z, hs] at hh; cases hh
  have hsT : s ≠ T := fun z => by rw [← z, hs] at hTt; cases hTt
  refine ⟨by rw [h4, m_tg_al, if_pos rfl], fun Ma ha Mb hb Mc hc Md hd _ _ => ⟨?_, ?_, fun M32 h32 => ?_⟩⟩
  · rw [hd, m_ln_pr, hc, m_ln_pr, hb, m_ln_pr, ha, m_ln_pi, h4, m_ln_al, if_neg hnT, hTl]
    exact hvin
  · intro y hy
    cases hy
    refine hnode _ _ ?_
    rw [hd, m_tg_pr, hc, m_tg_pr, hb, m_tg_pr, ha, m_tg_pi, h4, m_tg_al, if_pos rfl]
  · have tg32 : ∀ b : Nat, m_tg M32 b = if b = nd then 18 else m_tg M b := fun b => by rw [h32, m_tg_pr, hd, m_tg_pr, hc, m_tg_pr, hb, m_tg_pr, ha, m_tg_pi, h4, m_tg_al]
    have ln32 : ∀ b : Nat, m_ln M32 b = if b = nd then 0 else m_ln M b := fun b => by rw [h32, m_ln_pr, hd, m_ln_pr, hc, m_ln_pr, hb, m_ln_pr, ha, m_ln_pi, h4, m_ln_al]
    have gi32 : ∀ b j : Nat, b ≠ nd → m_gi M32 b j = m_gi M b j := fun b j hbn => by rw [h32, m_gi_pr, hd, m_gi_pr, hc, m_gi_pr, hb, m_gi_pr, ha, m_gi_pi, if_neg (fun z => hbn z.1), h4, m_gi_al, if_neg hbn]
    have gr32 : ∀ b j : Nat, b ≠ nd → m_gr M32 b j = if b = T ∧ j = v then some nd else m_gr M b j := fun b j hbn => by
      rw [h32, m_gr_pr, hd, m_gr_pr, hc, m_gr_pr, hb, m_gr_pr, ha, m_gr_pi, h4, m_gr_al]
      simp only [hbn, false_and, if_false]
    have ce32 : ∀ b : Nat, b ≠ nd → b ≠ T → M32.1 b = M.1 b := fun b h1 h2 => by
      rw [h32, hd, hc, hb, ha, h4]
      unfold m_pr m_pi m_al
      dsimp only
      rw [if_neg h2, if_neg h1, if_neg h1, if_neg h1, if_neg h1, if_neg h1]
    refine ⟨by rw [tg32, if_neg hnh, hh], fun M2 h2 M6 h6 => ⟨fun _ => ⟨?_, fun _ => ?_⟩, fun z => absurd ?_ z⟩⟩
    · rw [h6, m_tg_pi, h2, m_tg_pi, tg32, if_neg hnh, hh]
    · have tg6 : ∀ b : Nat, m_tg M6 b = if b = nd then 18 else m_tg M b := fun b => by rw [h6, m_tg_pi, h2, m_tg_pi, tg32]
      have ln6 : ∀ b : Nat, m_ln M6 b = if b = nd then 0 else m_ln M b := fun b => by rw [h6, m_ln_pi, h2, m_ln_pi, ln32]
      have gr6 : ∀ b j : Nat, b ≠ nd → m_gr M6 b j = if b = T ∧ j = v then some nd else m_gr M b j := fun b j hbn => by rw [h6, m_gr_pi, h2, m_gr_pi, gr32 b j hbn]
      refine hQ M6 ⟨?_, ?_, ?_, ?_, Or.inr ⟨?_, ?_, ?_, ?_, fun w hw hwn => ?_⟩⟩ (fun b hb0 => ?_) (fun b hb1 hb2 hb0 => ?_) ?_ ?_
      · rw [tg6, if_neg hns, hs]
      · rw [gr6 s 0 hns, if_neg (fun z => hsT z.1), hsr]
      · rw [tg6, if_neg hnh, hh]
      · rw [h6, m_gi_pi, if_pos ⟨rfl, rfl⟩, h2, m_gi_pi, if_neg (by omega), gi32 h 4 hnh, hsz, pn_succ]
      · rw [gr6 h 2 hnh, if_neg (fun z => hhT z.1), hT]
      · rw [tg6, if_neg hnT, hTt]
      · rw [ln6, if_neg hnT, hTl]
      · rw [h6, m_gi_pi, if_neg (by omega), h2, m_gi_pi, if_neg (by omega), gi32 h 6 hnh, hth]
      · have hwv : w ≠ v := fun z => by
          have := hwn k (by omega)
          unfold c_fe at this
          rw [if_pos rfl] at this
          exact this z.symm
        rw [gr6 T w hnT, if_neg (fun z => hwv z.2)]
        refine hfree w hw (fun i hi => ?_)
        have := hwn i (by omega)
        unfold c_fe at this
        rw [if_neg (by omega)] at this
        exact this
      · have hbn : b ≠ nd := fun z => hb0 (by rw [z]; exact hnd)
        rw [tg6, ln6, if_neg hbn, if_neg hbn]
        exact ⟨rfl, rfl⟩
      · have hbn : b ≠ nd := fun z => hb0 (by rw [z]; exact hnd)
        rw [h6, h2]
        unfold m_pi
        dsimp only
        rw [if_neg hb1, if_neg hb1]
        exact ce32 b hbn hb2
      · rw [h6, h2, h32, hd, hc, hb, ha, h4]
        rfl
      · rw [h6, h2, h32, hd, hc, hb, ha, h4]
        rfl
    · rw [h6, m_gi_pi, if_neg (by omega), h2, m_gi_pi, if_neg (by omega), m_gi_pi, if_neg (by omega), gi32 h 4 hnh, gi32 h 6 hnh, hsz, hth, pn_succ]
      exact (pn_le (b := 12) (by omega) (by omega)).mpr (by omega)
theorem q_setadd {s h T k v x : Nat} {f : Nat → Nat} {Q : Int32 → Mem → Prop} (hnode : ∀ (M : Mem) (y : Nat), m_tg M y = 18 → m_asg M y "java/util/HashMap$Node") (hS : c_HS M s h T k f) (hx : m_tg M x = 11) (hxv : m_gi M x 0 = nI v) (hv : v < 12) (hk : k ≤ 11) (hnew : ∀ i : Nat, i < k → f i ≠ v) (hroom : m_nc M + 2 ≤ m_CM ∧ m_ns M + 20 ≤ m_SM)
    (hQ : ∀ (M' : Mem) (T' : Nat), (T' = T ∧ m_tg M T = 104 ∨ m_tg M T' = 0) → c_HS M' s h T' (k + 1) (c_fe f k v) → m_le M M' → (∀ b : Nat, b ≠ h → b ≠ T' → m_tg M b ≠ 0 → M'.1 b = M.1 b) → m_nc M' ≤ m_nc M + 1 + (if k = 0 then 1 else 0) → m_ns M' ≤ m_ns M + 4 + (if k = 0 then 16 else 0) → Q 1 M') : wp_J26_add g M s x Q := by
  obtain ⟨hs, hsr, hh, hsz, hc⟩ := hS
  refine ⟨hs, h, hsr, hh, hx, hx, fun _ _ => ⟨hh, hh, fun r2 h2 => ⟨fun hn => ?_, fun T4 h4 => ?_⟩⟩⟩
  · rw [hxv, pn_hash hv]
    rcases hc with ⟨hk0, hnone, hth⟩ | ⟨hT, _⟩
    · subst hk0
      have hsh : s ≠ h := fun z => by rw [← z, hs] at hh; cases hh
      refine ⟨hh, hh, fun r2' h2' => ⟨fun _ => ⟨hh, fun _ => ⟨fun _ => ?_, fun z => absurd (by rw [hth]; decide) z⟩, fun z => absurd (by decide) z⟩, fun u4 h4 => by rw [h2', hnone] at h4; cases h4⟩⟩
      refine ⟨fun _ => ⟨hh, fun M3 h3 => ⟨by decide, ⟨?_, ?_⟩, fun T' hT' M11 h11 M16 h16 => ⟨fun _ _ => ⟨T', rfl, ?_, ?_⟩, fun u z => by cases z⟩⟩⟩, fun z => absurd z (by decide)⟩
      · rw [h3]
        show m_nc M + 1 ≤ m_CM
        omega
      · rw [h3]
        show m_ns M + 16 ≤ m_SM
        omega
      · left
        rw [h16, m_tg_pr, h11, m_tg_al, if_pos rfl]
        omega
      · have hT0 : m_tg M T' = 0 := by rw [h3, m_tg_pi] at hT'; exact hT'
        have hhT : h ≠ T' := fun z => by rw [← z, hh] at hT0; cases hT0
        have hsT : s ≠ T' := fun z => by rw [← z, hs] at hT0; cases hT0
        have c16 : Int32.toNatClampNeg 16 = 16 := rfl
        rw [c16] at h11
        have l16 : m_ln M16 T' = 16 := by rw [h16, m_ln_pr, h11, m_ln_al, if_pos rfl]
        rw [l16]
        refine q_put29 (g := g) (f := f) hnode (s := s) (k := 0) ?_ ?_ ?_ ?_ ?_ ?_ l16 ?_ (fun w _ _ => ?_) hv (by omega) (fun i hi => absurd hi (Nat.not_lt_zero _)) ⟨?_, ?_⟩ (fun M' hS' hle hfr hnc hns _ _ => ⟨fun _ => ?_, fun u z => by cases z⟩)
        · rw [h16, m_tg_pr, h11, m_tg_al, if_neg hsT, h3, m_tg_pi, hs]
        · rw [h16, m_gr_pr, if_neg (fun z => hsh z.1), h11, m_gr_al, if_neg hsT, h3, m_gr_pi, hsr]
        · rw [h16, m_tg_pr, h11, m_tg_al, if_neg hhT, h3, m_tg_pi, hh]
        · rw [h16, m_gi_pr, h11, m_gi_al, if_neg hhT, h3, m_gi_pi, if_neg (by omega), hsz]
        · rw [h16, m_gr_pr, if_pos ⟨rfl, rfl⟩]
        · rw [h16, m_tg_pr, h11, m_tg_al, if_pos rfl]
        · rw [h16, m_gi_pr, h11, m_gi_al, if_neg hhT, h3, m_gi_pi, if_pos ⟨rfl, rfl⟩]
        · rw [h16, m_gr_pr, if_neg (fun z => hhT z.1.symm), h11, m_gr_al, if_pos rfl]
        · rw [h16, h11, h3]
          show m_nc M + 1 + 1 ≤ m_CM
          omega
        · rw [h16, h11, h3]
          show m_ns M + 16 + 4 ≤ m_SM
          omega
        · have hle16 : m_le M M16 := by
            rw [h16, h11, h3]
            exact m_le_tr m_le_pi (m_le_tr (m_le_al (by rw [m_tg_pi]; exact hT0)) m_le_pr)
          refine hQ M' T' (Or.inr hT0) hS' (m_le_tr hle16 hle) (fun b hb1 hb2 hb0 => ?_) ?_ ?_
          · have e16 : M16.1 b = M.1 b := by
              rw [h16, h11, h3]
              unfold m_pr m_al m_pi
              dsimp only
              rw [if_neg hb1, if_neg hb2, if_neg hb1]
            rw [hfr b hb1 hb2 (by rw [c_cell_tg e16]; exact hb0), e16]
          · rw [hnc, h16, h11, h3, if_pos rfl]
            show m_nc M + 1 + 1 ≤ _
            omega
          · rw [hns, h16, h11, h3, if_pos rfl]
            show m_ns M + 16 + 4 ≤ _
            omega
    · rw [h2, hT] at hn
      cases hn
  · rw [hxv, pn_hash hv]
    rcases hc with ⟨hk0, hnone, hth⟩ | ⟨hT, hTt, hTl, hth, hfree⟩
    · rw [h2, hnone] at h4
      cases h4
    · have e4 : T = T4 := by
        rw [h2, hT] at h4
        cases h4
        rfl
      subst e4
      refine ⟨Or.inl (by omega), fun _ => ?_, fun z => absurd z (by rw [hTl]; decide)⟩
      rw [hTl]
      refine q_put29 (g := g) hnode hs hsr hh hsz hT hTt hTl hth hfree hv hk hnew ⟨by omega, by omega⟩ (fun M' hS' hle hfr hnc hns _ _ => ⟨fun _ => ?_, fun u z => by cases z⟩)
      exact hQ M' T (Or.inl ⟨rfl, hTt⟩) hS' hle hfr (by omega) (by omega)
theorem q_setinit {s : Nat} {Q : Mem → Prop} (hs : m_tg M s = 20) (hroom : m_nc M + 1 ≤ m_CM ∧ m_ns M + 8 ≤ m_SM)
    (hQ : ∀ (M' : Mem) (h : Nat), m_tg M h = 0 → (∀ (T : Nat) (f : Nat → Nat), c_HS M' s h T 0 f) → m_le M M' → (∀ b : Nat, b ≠ s → m_tg M b ≠ 0 → M'.1 b = M.1 b) → m_nc M' = m_nc M + 1 → m_ns M' = m_ns M + 8 → Q M') : wp_J26_init g M s Q := by
  refine fun _ _ => ⟨hroom, fun h hh M6 h6 _ => ⟨by rw [h6, m_tg_al, if_pos rfl], fun M4 h4 _ => ?_⟩⟩
  have hsh : s ≠ h := fun z => by rw [← z, hs] at hh; cases hh
  refine ⟨by rw [h4, m_tg_pi, h6, m_tg_al, if_neg hsh, hs], fun M14 h14 => hQ M14 h hh (fun _ _ => ⟨?_, ?_, ?_, ?_, Or.inl ⟨rfl, ?_, ?_⟩⟩) (fun b hb0 => ?_) (fun b hb1 hb0 => ?_) ?_ ?_⟩
  · rw [h14, m_tg_pr, h4, m_tg_pi, h6, m_tg_al, if_neg hsh, hs]
  · rw [h14, m_gr_pr, if_pos ⟨rfl, rfl⟩]
  · rw [h14, m_tg_pr, h4, m_tg_pi, h6, m_tg_al, if_pos rfl]
  · rw [h14, m_gi_pr, h4, m_gi_pi, if_neg (by omega), h6, m_gi_al, if_pos rfl]
    rfl
  · rw [h14, m_gr_pr, if_neg (fun z => hsh z.1.symm), h4, m_gr_pi, h6, m_gr_al, if_pos rfl]
  · rw [h14, m_gi_pr, h4, m_gi_pi, if_neg (by omega), h6, m_gi_al, if_pos rfl]
  · have hbn : b ≠ h := fun z => hb0 (by rw [z]; exact hh)
    rw [h14, m_tg_pr, m_ln_pr, h4, m_tg_pi, m_ln_pi, h6, m_tg_al, m_ln_al, if_neg hbn, if_neg hbn]
    exact ⟨rfl, rfl⟩
  · have hbn : b ≠ h := fun z => hb0 (by rw [z]; exact hh)
    rw [h14, h4, h6]
    unfold m_pr m_pi m_al
    dsimp only
    rw [if_neg hb1, if_neg hbn, if_neg hbn]
  · rw [h14, h4, h6]
    rfl
  · rw [h14, h4, h6]
    rfl
end
