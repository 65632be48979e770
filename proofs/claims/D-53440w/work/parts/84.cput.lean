/-! PURE: a LinkedHashMap: resize whole -/
set_option maxRecDepth 100000
def l_B2 (B : Nat → List Nat) (cap : Nat) : Nat → List Nat := fun i => (B (i % cap)).filter (fun h => h % (2 * cap) = i)
section
variable {g : Nat → Nat} {nd V : Nat → Nat} {B : Nat → List Nat}
/-- the table is doubled -/
theorem l_resize2 {Q : Option Nat → Mem → Prop} {X : Mem} {H T cap : Nat} (hnode : ∀ (M : Mem) (y : Nat), m_tg M y = 19 → m_asg M y "java/util/HashMap$Node") (hcap : cap = 16 ∨ cap = 32) (hH : m_tg X H = 17) (hHT : m_gr X H 2 = some T) (hT : m_tg X T = 104) (hTl : m_ln X T = cap) (hth : m_gi X H 6 = nI (cap * 3 / 4)) (htg : ∀ i x : Nat, x ∈ B i → m_tg X (nd x) = 19 ∧ m_gi X (nd x) 0 = nI x ∧ x < 144 ∧ x % cap = i) (hinj : ∀ i k h x : Nat, h ∈ B i → x ∈ B k → nd h = nd x → h = x) (hndu : ∀ i : Nat, (B i).Nodup) (hch : ∀ i : Nat, i < cap → l_ch X nd (m_gr X T i) (B i)) (hroom : m_nc X + 1 ≤ m_CM ∧ m_ns X + 64 ≤ m_SM)
    (hQ : ∀ (X' : Mem) (T' : Nat), m_tg X T' = 0 → m_tg X' T' = 104 → m_ln X' T' = 2 * cap → m_gr X' H 2 = some T' → m_gi X' H 6 = nI (2 * cap * 3 / 4) → (∀ i : Nat, i < 2 * cap → l_ch X' nd (m_gr X' T' i) (l_B2 B cap i)) → m_le X X' → (∀ b : Nat, b ≠ H → b ≠ T → b ≠ T' → (∀ i h : Nat, h ∈ B i → b ≠ nd h) → X'.1 b = X.1 b) → (∀ i h f : Nat, h ∈ B i → f ≠ 3 → m_gr X' (nd h) f = m_gr X (nd h) f) → (∀ b f : Nat, b ≠ T' → ¬ (b = H ∧ f = 6) → m_gi X' b f = m_gi X b f) → (∀ f : Nat, f ≠ 2 → m_gr X' H f = m_gr X H f) → m_nc X' = m_nc X + 1 → m_ns X' = m_ns X + 2 * cap → Q (some T') X') : wp_J8_resizeL g X H Q := by
  have hcl : (nI (2 * cap)).toNatClampNeg = 2 * cap := pn_cl (by omega)
  have sh1 : (nI cap) <<< ((1 : Int32) &&& 31) = nI (2 * cap) := by rcases hcap with rfl | rfl <;> decide
  have sh2 : (nI (cap * 3 / 4)) <<< ((1 : Int32) &&& 31) = nI (2 * cap * 3 / 4) := by rcases hcap with rfl | rfl <;> decide
  have hHn : ∀ i h : Nat, h ∈ B i → nd h ≠ H := fun i h hh z => by
    have := (htg i h hh).1
    rw [z, hH] at this
    cases this
  have hHT' : H ≠ T := fun z => by rw [z, hT] at hH; cases hH
  refine ⟨hH, fun r2 h2 => ⟨fun z => ?_, fun u4 h4 => ?_⟩⟩
  · rw [h2, hHT] at z
    cases z
  · have e4 : T = u4 := by
      rw [h2, hHT] at h4
      cases h4
      rfl
    subst e4
    rw [hTl]
    refine ⟨Or.inl (by omega), hH, fun z => ?_, fun _ => ⟨fun _ => ?_, fun z => absurd ?_ z⟩⟩
    · have := (pn_le (b := 0) (by omega) (by omega)).mp z
      omega
    · rw [sh1, hth, sh2]
      refine ⟨fun z => ?_, fun _ => ⟨fun z => ?_, fun _ => ?_⟩⟩
      · have := (pn_le (a := 1073741824) (by omega) (by omega)).mp z
        omega
      · have := (pn_lt (b := 16) (by omega) (by omega)).mp z
        omega
      · refine ⟨fun _ => ⟨hH, fun M3 h3 => ⟨pn_nn (by omega), ?_, fun T' hT' M11 h11 M16 h16 => ⟨fun z => (by cases z), fun u21 h21 => ?_⟩⟩⟩, fun z => ?_⟩
        · rw [hcl, h3]
          exact ⟨hroom.1, by show m_ns X + 2 * cap ≤ _; have := hroom.2; omega⟩
        · cases h21
          rw [hcl] at h11
          have hT0 : m_tg X T' = 0 := by rw [h3, m_tg_pi] at hT'; exact hT'
          have hHT2 : H ≠ T' := fun z => by rw [← z, hH] at hT0; cases hT0
          have hTT : T ≠ T' := fun z => by rw [← z, hT] at hT0; cases hT0
          have hnT' : ∀ i h : Nat, h ∈ B i → nd h ≠ T' := fun i h hh z => by
            have := (htg i h hh).1
            rw [z, hT0] at this
            cases this
          have tg16 : ∀ b : Nat, m_tg M16 b = if b = T' then 104 else m_tg X b := fun b => by rw [h16, m_tg_pr, h11, m_tg_al, h3, m_tg_pi]
          have ln16 : ∀ b : Nat, m_ln M16 b = if b = T' then 2 * cap else m_ln X b := fun b => by rw [h16, m_ln_pr, h11, m_ln_al, h3, m_ln_pi]
          have gi16 : ∀ b f : Nat, m_gi M16 b f = if b = T' then 0 else if b = H ∧ f = 6 then nI (2 * cap * 3 / 4) else m_gi X b f := fun b f => by rw [h16, m_gi_pr, h11, m_gi_al, h3, m_gi_pi]
          have gr16 : ∀ b f : Nat, m_gr M16 b f = if b = H ∧ f = 2 then some T' else if b = T' then none else m_gr X b f := fun b f => by rw [h16, m_gr_pr, h11, m_gr_al, h3, m_gr_pi]
          have ce16 : ∀ b : Nat, b ≠ H → b ≠ T' → M16.1 b = X.1 b := fun b b1 b2 => by
            rw [h16, h11, h3]
            unfold m_pr m_al m_pi
            dsimp only
            rw [if_neg b1, if_neg b2, if_neg b1]
          have ch16 : ∀ i : Nat, i < cap → l_ch M16 nd (m_gr M16 T i) (B i) := fun i hi => by
            rw [gr16, if_neg (fun z => hHT' z.1.symm), if_neg hTT]
            exact l_ch_same (hch i hi) (fun h hh => by rw [gr16, if_neg (fun z => hHn i h hh z.1), if_neg (hnT' i h hh)])
          refine ⟨cap + 1, l_buckets (g := g) (nd := nd) (B := B) hnode hcap (by rw [tg16, if_neg hTT, hT]) (by rw [ln16, if_neg hTT, hTl]) (by rw [tg16, if_pos rfl]) (by rw [ln16, if_pos rfl]) hTT (fun i x hx => ?_) hinj hndu (fun X' hS => ?_) cap 0 (by omega) M16 ⟨fun _ => ⟨rfl, rfl⟩, fun _ _ => rfl, rfl, rfl, fun _ _ _ _ => rfl, fun _ _ _ _ _ => rfl, fun i _ hi => ⟨rfl, ch16 i hi, ?_, ?_⟩, fun i hi => absurd hi (Nat.not_lt_zero _)⟩⟩
          · obtain ⟨y1, y2, y3, y4⟩ := htg i x hx
            exact ⟨by rw [tg16, if_neg (hnT' i x hx), y1], by rw [gi16, if_neg (hnT' i x hx), if_neg (fun z => hHn i x hx z.1), y2], y3, y4⟩
          · obtain ⟨s1, s2, s3, s4, s5, s6, s7, s8⟩ := hS
            have cellH : X'.1 H = M16.1 H := s5 H hHT' hHT2 (fun i h hh z => hHn i h hh z.symm)
            have le16 : m_le X M16 := fun b hb => by
              have hbT : b ≠ T' := fun z => hb (by rw [z]; exact hT0)
              rw [tg16, ln16, if_neg hbT, if_neg hbT]
              exact ⟨rfl, rfl⟩
            refine hQ X' T' hT0 ((s1 T').1.trans (by rw [tg16, if_pos rfl])) ((s1 T').2.trans (by rw [ln16, if_pos rfl])) ((c_cell_gr cellH).trans (by rw [gr16, if_pos ⟨rfl, rfl⟩])) ((c_cell_gi cellH).trans (by rw [gi16, if_neg hHT2, if_pos ⟨rfl, rfl⟩])) (fun i hi => ?_) (m_le_tr le16 (fun b _ => s1 b)) (fun b b1 b2 b3 b4 => (s5 b b2 b3 b4).trans (ce16 b b1 b3)) (fun i h f hh hf => ?_) (fun b f b1 b2 => ?_) (fun f hf => ?_) ?_ ?_
            · unfold l_B2
              by_cases hic : i < cap
              · have := (s8 i hic).1
                rw [show i % cap = i from Nat.mod_eq_of_lt hic]
                exact this
              · have := (s8 (i - cap) (by omega)).2
                have e1 : i - cap + cap = i := by omega
                have e2 : i % cap = i - cap := by
                  rw [Nat.mod_eq_sub_mod (by omega)]
                  exact Nat.mod_eq_of_lt (by omega)
                rw [e1] at this
                rw [e2]
                exact this
            · rw [s6 i h f hh hf, gr16, if_neg (fun z => hHn i h hh z.1), if_neg (hnT' i h hh)]
            · rw [s2, gi16, if_neg b1, if_neg b2]
            · rw [c_cell_gr cellH, gr16, if_neg (fun z => hf z.2), if_neg hHT2]
            · rw [s3, h16, h11, h3]
              rfl
            · rw [s4, h16, h11, h3]
              rfl
          · rw [gr16, if_neg (fun z => hHT2 z.1.symm), if_pos rfl]
          · rw [gr16, if_neg (fun z => hHT2 z.1.symm), if_pos rfl]
        · exfalso
          rw [show (nI (2 * cap * 3 / 4) = 0) = (2 * cap * 3 / 4 = 0) from pn_eqe (b := 0) (by omega) (by omega)] at z
          omega
    · exact (pn_lt (b := 1073741824) (by omega) (by omega)).mpr (by omega)
end
