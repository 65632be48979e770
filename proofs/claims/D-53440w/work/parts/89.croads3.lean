/-! PURE: Roads are made: roads are kept, one is put in -/
set_option maxRecDepth 100000
section
variable {g : Nat → Nat} {Xb X X' : Mem} {R H dD dF l : Nat} {D Db : Nat → Nat → Nat}
theorem c_BS_S (h : c_BS g Xb X R H dD dF l) (hl : m_tg X l = 14) {b : Nat} (hb : c_S R dD dF l b) : m_tg X b ≠ 0 := by
  obtain ⟨_, _, b3, _, _, _, _, b8, b9, _, _⟩ := h
  rcases hb with rfl | rfl | ⟨j, hj, rfl | rfl⟩
  · rw [b3]
    decide
  · rw [hl]
    decide
  · cases j with
    | zero =>
      rw [Nat.add_zero, b8.1]
      decide
    | succ j =>
      have := (b8.2.2 j (by omega)).2.1
      rw [show dD + (j + 1) = dD + 1 + j by omega, this]
      decide
  · cases j with
    | zero =>
      rw [Nat.add_zero, b9.1]
      decide
    | succ j =>
      have := (b9.2.2 j (by omega)).2.1
      rw [show dF + (j + 1) = dF + 1 + j by omega, this]
      decide
/-- cells of Roads and cells of before stay -/
theorem c_BS_same (h : c_BS g Xb X R H dD dF l) (hle : m_le X X') (hS : ∀ b : Nat, (b = R ∨ b = dD ∨ b = dF) → X'.1 b = X.1 b) (ho : ∀ b : Nat, m_tg Xb b ≠ 0 → X'.1 b = X.1 b) : c_BS g Xb X' R H dD dF l := by
  obtain ⟨b1, b2, b3, b4, b5, b6, b7, b8, b9, b10, b11⟩ := h
  have eR := hS R (Or.inl rfl)
  exact ⟨⟨m_le_tr b1.1 hle, fun b hb => (ho b hb).trans (b1.2 b hb)⟩, c_g1_le b2 hle, (c_cell_tg eR).trans b3, (c_cell_gr eR).trans b4, (c_cell_gr eR).trans b5, (c_cell_gr eR).trans b6, (c_cell_gr eR).trans b7, c_gd_same b8 hle (fun f => c_cell_gr (hS dD (Or.inr (Or.inl rfl)))), c_gd_same b9 hle (fun f => c_cell_gr (hS dF (Or.inr (Or.inr rfl)))), b10, b11⟩
/-- while roads are kept -/
def c_KA (g : Nat → Nat) (Xb X : Mem) (R H dD dF l : Nat) (D : Nat → Nat → Nat) (h : Nat) : Prop := c_BS g Xb X R H dD dF l ∧ c_L g X l (g 1) 0 (fun _ => none) ∧ c_Mh g X (c_P Xb R dD dF l) H D h
theorem c_P_fresh (h : c_KA g Xb X R H dD dF l D 0 ∨ True) (hB : c_BS g Xb X R H dD dF l) (hl : m_tg X l = 14) {b : Nat} (hb : m_tg X b = 0) : c_P Xb R dD dF l b := ⟨Classical.byContradiction (fun z => z ((hB.1.1 b z).1.symm.trans hb)), fun z => c_BS_S hB hl z hb⟩
theorem c_S_R : c_S R dD dF l R := Or.inl rfl
theorem c_S_D : c_S R dD dF l dD := Or.inr (Or.inr ⟨0, Nat.zero_le _, Or.inl rfl⟩)
theorem c_S_F : c_S R dD dF l dF := Or.inr (Or.inr ⟨0, Nat.zero_le _, Or.inr rfl⟩)
theorem c_S_l : c_S R dD dF l l := Or.inr (Or.inl rfl)
/-- a step of memory that leaves all but the map's cells -/
theorem c_KA_step {h h' : Nat} (hA : c_KA g Xb X R H dD dF l D h) (hle : m_le X X') (hc : ∀ b : Nat, m_tg X b ≠ 0 → ¬ c_P Xb R dD dF l b → X'.1 b = X.1 b) {D' : Nat → Nat → Nat} (hm : c_Mh g X' (c_P Xb R dD dF l) H D' h') : c_KA g Xb X' R H dD dF l D' h' := by
  obtain ⟨hB, hL, _⟩ := hA
  have hl : m_tg X l = 14 := hL.1
  have hS : ∀ b : Nat, c_S R dD dF l b → X'.1 b = X.1 b := fun b hb => hc b (c_BS_S hB hl hb) (fun z => z.2 hb)
  refine ⟨c_BS_same hB hle (fun b hb => ?_) (fun b hb => hc b (by rw [(hB.1.1 b hb).1]; exact hb) (fun z => hb z.1)), ?_, hm⟩
  · rcases hb with rfl | rfl | rfl
    · exact hS _ c_S_R
    · exact hS _ c_S_D
    · exact hS _ c_S_F
  · have e := hS l c_S_l
    obtain ⟨k1, k2, k3, k4⟩ := hL
    refine ⟨(c_cell_tg e).trans k1, (c_cell_gi e).trans k2, (c_cell_gr e).trans k3, ?_⟩
    rcases k4 with k4 | ⟨q1, q2, q3, q4⟩
    · exact Or.inl k4
    · have := hB.2.1.1
      rw [q1] at this
      cases this
/-- a pair is put into the new map -/
theorem c_Mput {h k x v lo hi : Nat} {Q : Option Nat → Mem → Prop} {D' : Nat → Nat → Nat} (hnode : ∀ (M : Mem) (y : Nat), m_tg M y = 19 → m_asg M y "java/util/HashMap$Node") (hA : c_KA g Xb X R H dD dF l D h) (hnp : u_np D h ≤ 39) (hlh : lo < hi) (hh12 : hi < 12) (Pk : c_P Xb R dD dF l k) (kt : m_tg X k = 4) (k0 : m_gi X k 0 = nI lo) (k1 : m_gi X k 1 = nI hi) (xt : m_tg X x = 150) (xv : m_ub g x = nI v) (hroom : m_nc X + 3 ≤ m_CM ∧ m_ns X + 90 ≤ m_SM)
    (hno : ¬ (12 * lo + hi < h ∧ D lo hi < 100000)) {h' : Nat} (hnp' : u_np D' h' = u_np D h + 1) (hD' : ∀ y : Nat, l_hv y → (y < h' ∧ D' (y / 12) (y % 12) < 100000 ↔ (y < h ∧ D (y / 12) (y % 12) < 100000) ∨ y = 12 * lo + hi) ∧ (y < h → D (y / 12) (y % 12) < 100000 → D' (y / 12) (y % 12) = D (y / 12) (y % 12))) (hv : D' lo hi = v)
    (hQ : ∀ X' : Mem, c_KA g Xb X' R H dD dF l D' h' → m_le X X' → m_nc X' ≤ m_nc X + 3 → m_ns X' ≤ m_ns X + 90 → Q none X') : wp_J8_putL g X H k x Q := by
  obtain ⟨hB, hL, T, cap, B, nd, V, hM, hx⟩ := id hA
  have hl : m_tg X l = 14 := hL.1
  have ed : (12 * lo + hi) / 12 = lo := by omega
  have em : (12 * lo + hi) % 12 = hi := by omega
  have hvv : l_hv (12 * lo + hi) := ⟨by omega, by omega⟩
  obtain ⟨x1, x2⟩ := hx _ hvv
  rw [ed, em] at x1 x2
  refine l_put (v := v) hnode hM (by omega) (fun b hb => c_P_fresh (D := D) (Or.inr trivial) hB hl hb) hlh hh12 (fun z => hno (x1.mp z)) Pk kt k0 k1 xt xv hroom (fun M' T' cap' B' nd' V' q1 q2 q3 q4 q5 q6 q7 => hQ M' (c_KA_step hA q4 q5 ⟨T', cap', B', nd', V', by rw [hnp']; exact q1, fun y hy => ?_⟩) q4 q6 q7)
  obtain ⟨y1, y2⟩ := hx y hy
  obtain ⟨z1, z2⟩ := hD' y hy
  refine ⟨?_, fun hin => ?_⟩
  · rw [q2, y1, z1]
  · rw [q3]
    by_cases e : y = 12 * lo + hi
    · rw [if_pos e, e, ed, em, hv]
    · rw [if_neg e]
      have h1 := (q2 y).mp hin
      rcases h1 with h1 | h1
      · rw [y2 h1, z2 (y1.mp h1).1 (y1.mp h1).2]
      · exact absurd h1 e
/-- what is known of the Roads before -/
def c_RB (g : Nat → Nat) (Xb : Mem) (Rb : Nat) (Db : Nat → Nat → Nat) : Prop := m_tg Xb Rb = 3 ∧ ∃ (Hb : Nat) (Pb : Nat → Prop), m_gr Xb Rb 0 = some Hb ∧ (∀ b : Nat, Pb b → m_tg Xb b ≠ 0) ∧ c_Mh g Xb Pb Hb Db 144 ∧ u_np Db 144 ≤ 30
theorem c2_keep {a b Rb k : Nat} {Q : Mem → Prop} (hnode : ∀ (M : Mem) (y : Nat), m_tg M y = 19 → m_asg M y "java/util/HashMap$Node") (hA : c_KA g Xb X R H dD dF l Db (12 * a + b)) (hRB : c_RB g Xb Rb Db) (hDb : u_Dok Db) (hab : a < b) (hb : b < 12) (Pk : c_P Xb R dD dF l k) (kt : m_tg X k = 4) (k0 : m_gi X k 0 = nI a) (k1 : m_gi X k 1 = nI b) (hroom : m_nc X + 3 ≤ m_CM ∧ m_ns X + 90 ≤ m_SM)
    (hQ : ∀ X' : Mem, c_KA g Xb X' R H dD dF l Db (12 * a + b + 1) → m_le X X' → m_nc X' ≤ m_nc X + 3 → m_ns X' ≤ m_ns X + 90 → Q X') : wp_X2_keep g X R Rb k Q := by
  obtain ⟨r1, Hb, Pb, r2, r3, r4, r5⟩ := hRB
  have hnw := hA.1.1
  have hcell : ∀ x : Nat, m_tg Xb x ≠ 0 → X.1 x = Xb.1 x := hnw.2
  have eR := hcell Rb (by rw [r1]; decide)
  have hMb : c_Mh g X Pb Hb Db 144 := c_Mh_same r4 hnw.1 (fun _ h => h) (fun x hx => hcell x (r3 x hx))
  have ed : (12 * a + b) / 12 = a := by omega
  have em : (12 * a + b) % 12 = b := by omega
  have enp : u_np Db (12 * a + b + 1) = u_np Db (12 * a + b) + (if (12 * a + b) / 12 < (12 * a + b) % 12 ∧ Db ((12 * a + b) / 12) ((12 * a + b) % 12) < 100000 then 1 else 0) := rfl
  rw [ed, em] at enp
  refine ⟨(c_cell_tg eR).trans r1, Hb, (c_cell_gr eR).trans r2, (c_Mh_H hMb).2.1, ?_⟩
  refine c_Mget hMb kt k0 k1 (by omega) hb (hDb a a (by omega) (by omega)).2.2 (fun x hlt xt xv _ => ⟨fun y hy => (by cases hy; exact xt), fun z => (by cases z), fun u11 hu => ?_⟩) (fun hn _ => ⟨fun y hy => (by cases hy), fun _ => ?_, fun u11 hu => (by cases hu)⟩)
  · cases hu
    rw [if_pos ⟨hab, hlt⟩] at enp
    have hmono := u_np_mono (D := Db) (h := 12 * a + b + 1) (k := 144) (by omega)
    refine ⟨hA.1.2.2.1, H, hA.1.2.2.2.1, (c_Mh_H hA.2.2).2.1, ?_⟩
    refine c_Mput (D' := Db) (h' := 12 * a + b + 1) hnode hA (by omega) hab hb Pk kt k0 k1 xt xv hroom (fun z => by omega) enp (fun y hy => ⟨⟨fun z => ?_, fun z => ?_⟩, fun _ _ => rfl⟩) rfl (fun X' q1 q2 q3 q4 _ => hQ X' q1 q2 q3 q4)
    · by_cases e : y = 12 * a + b
      · exact Or.inr e
      · exact Or.inl ⟨by omega, z.2⟩
    · rcases z with z | z
      · exact ⟨by omega, z.2⟩
      · rw [z, ed, em]
        exact ⟨by omega, hlt⟩
  · rw [if_neg (fun z => hn z.2)] at enp
    refine hQ X ⟨hA.1, hA.2.1, ?_⟩ m_le_rf (by omega) (by omega)
    obtain ⟨T, cap, B, nd, V, q1, q2⟩ := hA.2.2
    refine ⟨T, cap, B, nd, V, by rw [enp]; exact q1, fun y hy => ⟨?_, (q2 y hy).2⟩⟩
    rw [(q2 y hy).1]
    refine ⟨fun z => ⟨by omega, z.2⟩, fun z => ⟨?_, z.2⟩⟩
    by_cases e : y = 12 * a + b
    · rw [e, ed, em] at z
      exact absurd z.2 hn
    · omega
/-- all roads of before are kept -/
theorem c2_keeps {Rb : Nat} {x3 : Int32} {r2 : Option Nat} {Q : Mem → Prop} {X4 : Mem} (hnode : ∀ (M : Mem) (y : Nat), m_tg M y = 19 → m_asg M y "java/util/HashMap$Node") (hA : c_KA g Xb X4 R H dD dF l Db 0) (hRB : c_RB g Xb Rb Db) (hDb : u_Dok Db) (hroom : m_nc X4 + 600 ≤ m_CM ∧ m_ns X4 + 14000 ≤ m_SM)
    (hQ : ∀ X : Mem, c_KA g Xb X R H dD dF l Db 144 → m_le X4 X → m_nc X ≤ m_nc X4 + 576 → m_ns X ≤ m_ns X4 + 13248 → wp_X2_init_b105 g X R r2 x3 Q) : ∃ j57 : Nat, wp_X2_init_b57 g Q j57 X4 R Rb r2 x3 0 := by
  have H2 : ∀ a : Nat, a < 12 → ∀ (k57 : Mem → Nat → Nat → Option Nat → Int32 → Int32 → Prop), (∀ X : Mem, c_KA g Xb X R H dD dF l Db (12 * (a + 1)) → m_le X4 X → m_nc X ≤ m_nc X4 + 4 * (12 * (a + 1)) → m_ns X ≤ m_ns X4 + 92 * (12 * (a + 1)) → k57 X R Rb r2 x3 (nI (a + 1))) → ∀ (dd b : Nat), b + dd = 12 → a < b → ∀ X : Mem, c_KA g Xb X R H dD dF l Db (12 * a + b) → m_le X4 X → m_nc X ≤ m_nc X4 + 4 * (12 * a + b) → m_ns X ≤ m_ns X4 + 92 * (12 * a + b) → wp_X2_init_b70 g k57 Q (dd + 1) X R Rb r2 x3 (nI a) (nI b) := by
    intro a ha k57 hk dd
    induction dd with
    | zero =>
      intro b hb hab X hX hle hnc hns
      have e : b = 12 := by omega
      subst e
      refine ⟨fun _ => ?_, fun z => absurd (by decide) z⟩
      rw [pn_succ]
      exact hk X (by rw [show 12 * (a + 1) = 12 * a + 12 by omega]; exact hX) hle (by omega) (by omega)
    | succ dd ih =>
      intro b hb hab X hX hle hnc hns
      have hb12 : b < 12 := by omega
      refine ⟨fun z => ?_, fun _ => ⟨⟨by omega, by omega⟩, fun u3 hu M5 h5 => ⟨by rw [h5, m_tg_al, if_pos rfl], fun Ma ha' M9 h9 hle9 => ?_⟩⟩⟩
      · have := (pn_le (a := 12) (by omega) (by omega)).mp z
        omega
      · have hul : m_tg X l = 14 := hX.2.1.1
        have Pu := c_P_fresh (D := Db) (Or.inr trivial) hX.1 hul hu
        have hlt : nI a < nI b := (pn_lt (by omega) (by omega)).mpr hab
        have hnlt : ¬ nI b < nI a := fun z => by have := (pn_lt (by omega) (by omega)).mp z; omega
        rw [if_neg hnlt] at ha'
        rw [if_pos hlt] at h9
        have cell : ∀ x : Nat, m_tg X x ≠ 0 → M9.1 x = X.1 x := fun x hx => by
          have hxu : x ≠ u3 := fun z => hx (by rw [z]; exact hu)
          rw [h9, m_cell_pi hxu, ha', m_cell_pi hxu, h5, m_cell_al hxu]
        have hleX : m_le X M9 := fun x hx => ⟨c_cell_tg (cell x hx), c_cell_ln (cell x hx)⟩
        have n9 : m_nc M9 = m_nc X + 1 ∧ m_ns M9 = m_ns X + 2 := by rw [h9, ha', h5]; exact ⟨rfl, rfl⟩
        have hA9 : c_KA g Xb M9 R H dD dF l Db (12 * a + b) := by
          refine c_KA_step hX hleX (fun x hx _ => cell x hx) ?_
          have hm := c_Mh_tag hX.2.2
          exact c_Mh_same hm hleX (fun x hx => hx.1) (fun x hx => cell x (by have := hx.2; omega))
        refine ⟨hA9.1.2.2.1, ?_⟩
        refine c2_keep hnode hA9 hRB hDb hab hb12 Pu (by rw [h9, m_tg_pi, ha', m_tg_pi, h5, m_tg_al, if_pos rfl]) (by rw [h9, m_gi_pi, if_neg (by omega), ha', m_gi_pi, if_pos ⟨rfl, rfl⟩]) (by rw [h9, m_gi_pi, if_pos ⟨rfl, rfl⟩]) ⟨by omega, by omega⟩ (fun X' q1 q2 q3 q4 _ => ?_)
        rw [pn_succ]
        exact ih (b + 1) (by omega) (by omega) X' q1 (m_le_tr hle (m_le_tr hleX q2)) (by omega) (by omega)
  have H1 : ∀ (dd a : Nat), a + dd = 12 → ∀ X : Mem, c_KA g Xb X R H dD dF l Db (12 * a) → m_le X4 X → m_nc X ≤ m_nc X4 + 4 * (12 * a) → m_ns X ≤ m_ns X4 + 92 * (12 * a) → wp_X2_init_b57 g Q (dd + 1) X R Rb r2 x3 (nI a) := by
    intro dd
    induction dd with
    | zero =>
      intro a ha X hX hle hnc hns
      have e : a = 12 := by omega
      subst e
      exact ⟨fun _ => hQ X hX hle (by omega) (by omega), fun z => absurd (by decide) z⟩
    | succ dd ih =>
      intro a ha X hX hle hnc hns
      refine ⟨fun z => ?_, fun _ => ⟨12 - (a + 1) + 1, ?_⟩⟩
      · have := (pn_le (a := 12) (by omega) (by omega)).mp z
        omega
      · rw [pn_succ]
        refine H2 a (by omega) _ (fun X' q1 q2 q3 q4 => ih (a + 1) (by omega) X' q1 q2 q3 q4) (12 - (a + 1)) (a + 1) (by omega) (by omega) X ⟨hX.1, hX.2.1, c_Mh_skip hX.2.2 (by omega) (fun y h1 h2 hv => ?_) (by omega)⟩ hle (by omega) (by omega)
        have := hv.1
        omega
  exact ⟨13, H1 12 0 (by omega) X4 hA m_le_rf (by omega) (by omega)⟩
end
