/-! PURE: Roads are made: the parts -/
set_option maxRecDepth 100000
/-- a grid of 12 rows of 12 -/
def c_gd (X : Mem) (d : Nat) : Prop := m_tg X d = 105 ∧ m_ln X d = 12 ∧ ∀ a : Nat, a < 12 → m_gr X d a = some (d + 1 + a) ∧ m_tg X (d + 1 + a) = 101 ∧ m_ln X (d + 1 + a) = 12
/-- while Roads are made: R, its map H, grids dD dF, list l; Xb is the memory before R -/
def c_BS (g : Nat → Nat) (Xb X : Mem) (R H dD dF l : Nat) : Prop :=
  c_nw Xb X ∧ c_g1 g X ∧ m_tg X R = 3 ∧ m_gr X R 0 = some H ∧ m_gr X R 1 = some dD ∧ m_gr X R 2 = some dF ∧ m_gr X R 3 = some l ∧ c_gd X dD ∧ c_gd X dF ∧ (m_tg Xb R = 0 ∧ m_tg Xb l = 0 ∧ ∀ j : Nat, j ≤ 12 → m_tg Xb (dD + j) = 0 ∧ m_tg Xb (dF + j) = 0) ∧ ∀ i j : Nat, i ≤ 12 → j ≤ 12 → dD + i ≠ dF + j
theorem c_gd_same {X X' : Mem} {d : Nat} (h : c_gd X d) (hl : m_le X X') (hc : ∀ f : Nat, m_gr X' d f = m_gr X d f) : c_gd X' d := by
  obtain ⟨a, b, e⟩ := h
  refine ⟨m_le_tg hl a, (m_le_ln hl a).trans b, fun x hx => ?_⟩
  obtain ⟨k1, k2, k3⟩ := e x hx
  exact ⟨(hc x).trans k1, m_le_tg hl k2, (m_le_ln hl k2).trans k3⟩
/-- how many pairs below h have a road -/
def u_np (D : Nat → Nat → Nat) : Nat → Nat
  | 0 => 0
  | h + 1 => u_np D h + (if h / 12 < h % 12 ∧ D (h / 12) (h % 12) < 100000 then 1 else 0)
theorem u_np_mono {D : Nat → Nat → Nat} {h k : Nat} (hk : h ≤ k) : u_np D h ≤ u_np D k := by
  induction k with
  | zero =>
    have : h = 0 := by omega
    rw [this]
    exact Nat.le_refl _
  | succ k ih =>
    by_cases e : h = k + 1
    · rw [e]
      exact Nat.le_refl _
    · have h1 := ih (by omega)
      have e2 : u_np D (k + 1) = u_np D k + (if k / 12 < k % 12 ∧ D (k / 12) (k % 12) < 100000 then 1 else 0) := rfl
      omega
/-- the map holds the roads below h of D -/
def c_Mh (g : Nat → Nat) (M : Mem) (P : Nat → Prop) (H : Nat) (D : Nat → Nat → Nat) (h : Nat) : Prop := ∃ (T cap : Nat) (B : Nat → List Nat) (nd V : Nat → Nat), l_M g M P H T cap (u_np D h) B nd V ∧ ∀ y : Nat, l_hv y → (l_in B cap y ↔ y < h ∧ D (y / 12) (y % 12) < 100000) ∧ (l_in B cap y → V y = D (y / 12) (y % 12))
theorem l_M_tag {g : Nat → Nat} {M : Mem} {P : Nat → Prop} {H T cap cnt : Nat} {B : Nat → List Nat} {nd V : Nat → Nat} (h : l_M g M P H T cap cnt B nd V) : l_M g M (fun b => P b ∧ (m_tg M b = 17 ∨ m_tg M b = 104 ∨ m_tg M b = 19 ∨ m_tg M b = 4)) H T cap cnt B nd V := by
  obtain ⟨m1, m2, m3, m4, m5, m6, ⟨b1, b2, b3⟩, m8⟩ := h
  refine ⟨⟨m1, Or.inl m2⟩, m2, m3, m4, m5, fun t ht => ⟨⟨(m6 t ht).1, Or.inr (Or.inr (Or.inl (m6 t ht).2))⟩, (m6 t ht).2⟩, ⟨fun i y hy => ?_, b2, b3⟩, ?_⟩
  · obtain ⟨k1, k2, k3, a1, a2, a3, ⟨k, c1, c2, c3, c4⟩, c5⟩ := b1 i y hy
    exact ⟨k1, k2, k3, ⟨a1, Or.inr (Or.inr (Or.inl a2))⟩, a2, a3, ⟨k, c1, ⟨c2, Or.inr (Or.inr (Or.inr c3))⟩, c3, c4⟩, c5⟩
  · rcases m8 with m8 | ⟨k1, k2, k3, k4, k5⟩
    · exact Or.inl m8
    · exact Or.inr ⟨k1, k2, ⟨k3, Or.inr (Or.inl k4)⟩, k4, k5⟩
theorem c_Mh_tag {g : Nat → Nat} {M : Mem} {P : Nat → Prop} {H h : Nat} {D : Nat → Nat → Nat} (hm : c_Mh g M P H D h) : c_Mh g M (fun b => P b ∧ (m_tg M b = 17 ∨ m_tg M b = 104 ∨ m_tg M b = 19 ∨ m_tg M b = 4)) H D h := by
  obtain ⟨T, cap, B, nd, V, a, b⟩ := hm
  exact ⟨T, cap, B, nd, V, l_M_tag a, b⟩
theorem c_Mh_same {g : Nat → Nat} {M M' : Mem} {P P' : Nat → Prop} {H h : Nat} {D : Nat → Nat → Nat} (hm : c_Mh g M P H D h) (hl : m_le M M') (hP : ∀ b : Nat, P b → P' b) (hc : ∀ b : Nat, P b → M'.1 b = M.1 b) : c_Mh g M' P' H D h := by
  obtain ⟨T, cap, B, nd, V, a, b⟩ := hm
  exact ⟨T, cap, B, nd, V, l_M_same a hl hP hc, b⟩
theorem c_Mh_H {g : Nat → Nat} {M : Mem} {P : Nat → Prop} {H h : Nat} {D : Nat → Nat → Nat} (hm : c_Mh g M P H D h) : P H ∧ m_tg M H = 17 ∧ m_gi M H 4 = nI (u_np D h) := by
  obtain ⟨T, cap, B, nd, V, a, b⟩ := hm
  exact ⟨a.1, a.2.1, a.2.2.2.2.1⟩
section
variable {g : Nat → Nat} {M : Mem} {P : Nat → Prop} {H : Nat} {D : Nat → Nat → Nat}
/-- the map of all roads is asked -/
theorem c_Mget {k lo hi : Nat} {Q : Option Nat → Mem → Prop} (hm : c_Mh g M P H D 144) (hk : m_tg M k = 4) (k0 : m_gi M k 0 = nI lo) (k1 : m_gi M k 1 = nI hi) (hl : lo ≤ hi) (hh : hi < 12) (hself : D lo lo = 100000) (hy : ∀ x : Nat, D lo hi < 100000 → m_tg M x = 150 → m_ub g x = nI (D lo hi) → Q (some x) M) (hn : ¬ D lo hi < 100000 → Q none M) : wp_J9_getL g M H k Q := by
  obtain ⟨T, cap, B, nd, V, a, b⟩ := hm
  have ed : (12 * lo + hi) / 12 = lo := by omega
  have em : (12 * lo + hi) % 12 = hi := by omega
  by_cases e : lo = hi
  · subst e
    refine l_get a hk k0 k1 (by omega) hh (fun x hin _ _ => ?_) (fun _ => hn (by rw [hself]; omega))
    exfalso
    have := (a.2.2.2.2.2.2.1.1 _ _ hin).2.2.1.1
    omega
  · have hv : l_hv (12 * lo + hi) := ⟨by omega, by omega⟩
    obtain ⟨b1, b2⟩ := b _ hv
    rw [ed, em] at b1 b2
    refine l_get a hk k0 k1 (by omega) hh (fun x hin x1 x2 => hy x (b1.mp hin).2 x1 (by rw [x2, b2 hin])) (fun hin => hn (fun z => hin (b1.mpr ⟨by omega, z⟩)))
end
