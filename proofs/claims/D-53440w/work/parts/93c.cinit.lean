/-! PURE: a new State, empty -/
set_option maxRecDepth 100000
/-- a new list -/
def c_nl (g : Nat → Nat) (Y Y' : Mem) (u : Nat) : Prop := m_tg Y u = 0 ∧ c_g1 g Y' ∧ c_L g Y' u (g 1) 0 (fun _ => none) ∧ (∀ b : Nat, b ≠ u → Y'.1 b = Y.1 b) ∧ m_nc Y' ≤ m_nc Y + 1 ∧ m_ns Y' ≤ m_ns Y + 3
section
variable {g : Nat → Nat} {Xa X0 : Mem} {S : Nat}
theorem q_nl {Y : Mem} {Q : Nat → Mem → Prop} (hQ : ∀ (u : Nat) (Y' : Mem), c_nl g Y Y' u → Q u Y') : ∀ u : Nat, m_tg Y u = 0 → ∀ M4 : Mem, M4 = (m_al Y u 14 0 3) → wp_J2_init g M4 u (fun (M8 : Mem) => m_le M4 M8 → Q u M8) := by
  intro u hu M4 e4
  refine q_init (by rw [e4, m_tg_al, if_pos rfl]) (by rw [e4, m_gi_al, if_pos rfl]) (fun hg Y' _ hL hf _ => hQ u Y' ⟨hu, c_g1_le hg hf.1, hL, fun b hb => ?_, ?_, ?_⟩)
  · rw [hf.2.1 b hb hb, e4, u_al_ne hb]
  · have := hf.2.2.1
    rw [e4] at this
    exact this
  · have := hf.2.2.2
    rw [e4] at this
    exact this
theorem c_nl_S {Y Y' : Mem} {u i : Nat} (h : c_nl g Y Y' u) (hS : m_tg Y S = 2) : S ≠ u ∧ m_tg (m_pr Y' S i (some u)) S = 2 ∧ m_tg (m_pr Y' S i (some u)) u = 14 ∧ (∀ b : Nat, b ≠ u → b ≠ S → (m_pr Y' S i (some u)).1 b = Y.1 b) ∧ c_g1 g (m_pr Y' S i (some u)) ∧ (∀ j : Nat, m_gr (m_pr Y' S i (some u)) S j = if j = i then some u else m_gr Y S j) ∧ (∀ j : Nat, m_gi (m_pr Y' S i (some u)) S j = m_gi Y S j) ∧ c_L g (m_pr Y' S i (some u)) u (g 1) 0 (fun _ => none) ∧ m_nc (m_pr Y' S i (some u)) ≤ m_nc Y + 1 ∧ m_ns (m_pr Y' S i (some u)) ≤ m_ns Y + 3 ∧ m_ln (m_pr Y' S i (some u)) S = m_ln Y S := by
  obtain ⟨h1, h2, h3, h4, h5, h6⟩ := h
  have hne : S ≠ u := fun z => by rw [z, h1] at hS; cases hS
  have hS' := h4 S hne
  refine ⟨hne, by rw [m_tg_pr, c_cell_tg hS']; exact hS, by rw [m_tg_pr]; exact h3.1, fun b b1 b2 => ?_, ⟨by rw [m_tg_pr]; exact h2.1, by rw [m_ln_pr]; exact h2.2⟩, fun j => ?_, fun j => by rw [m_gi_pr, c_cell_gi hS'], c_L_same h3 (u_pr_ne (fun z => hne z.symm)) (u_pr_ne (fun z => ?_)), h5, h6, by rw [m_ln_pr, c_cell_ln hS']⟩
  · rw [u_pr_ne b2, h4 b b1]
  · rw [m_gr_pr]
    by_cases e : j = i
    · rw [if_pos ⟨rfl, e⟩, if_pos e]
    · rw [if_neg (fun z => e z.2), if_neg e, c_cell_gr hS']
  · have := h2.1
    rw [z, c_cell_tg hS', hS] at this
    cases this
theorem c1_init {E : Nat → Nat → Nat} {V : Nat → Nat → Nat → Int32} {Q : Mem → Prop} (hnw : c_nw Xa X0) (hS : m_tg X0 S = 2) (hSa : m_tg Xa S = 0) (hsz : m_nc X0 ≤ m_nc Xa + 1 ∧ m_ns X0 ≤ m_ns Xa + 8) (hroom : m_nc Xa + 160 ≤ m_CM ∧ m_ns Xa + 8000 ≤ m_SM)
    (hQ : ∀ (X : Mem) (P : Nat) (L : Nat → Nat), c_CP g Xa X S P L (fun _ => g 1) (fun _ => 0) E V → (∀ j : Nat, m_gi X S j = m_gi X0 S j) → (∀ j : Nat, m_gi X P j = 0) → m_ln X S = m_ln X0 S → Q X) : wp_X1_init g X0 S Q := by
  have tz : ∀ Y : Mem, c_nw Xa Y → ∀ u : Nat, m_tg Y u = 0 → m_tg Xa u = 0 := fun Y hY u hu => by
    apply Classical.byContradiction
    intro z
    rw [(hY.1 u z).1] at hu
    exact z hu
  refine ⟨⟨by omega, by omega⟩, q_nl (fun u1 N1 h1 => ?_)⟩
  obtain ⟨a1, a2, a3, a4, a5, a6, a7, a8, a9, a10, a11⟩ := c_nl_S (i := 0) h1 hS
  have s1 : m_tg N1 S = 2 := by rw [c_cell_tg (h1.2.2.2.1 S a1)]; exact hS
  refine ⟨s1, fun M12 e12 => ?_⟩
  rw [← e12] at a2 a3 a4 a5 a6 a7 a8 a9 a10 a11
  refine ⟨⟨by omega, by omega⟩, q_nl (fun u2 N2 h2 M31 e31 => ?_)⟩
  obtain ⟨b1, b2, b3, b4, b5, b6, b7, b8, b9, b10, b11⟩ := c_nl_S (i := 1) h2 a2
  rw [← e31] at b2 b3 b4 b5 b6 b7 b8 b9 b10 b11
  refine ⟨⟨by omega, by omega⟩, q_nl (fun u3 N3 h3 M53 e53 => ?_)⟩
  obtain ⟨c1, c2, c3, c4, c5, c6, c7, c8, c9, c10, c11⟩ := c_nl_S (i := 2) h3 b2
  rw [← e53] at c2 c3 c4 c5 c6 c7 c8 c9 c10 c11
  refine ⟨⟨by omega, by omega⟩, q_nl (fun u4 N4 h4 M78 e78 => ?_)⟩
  obtain ⟨d1, d2, d3, d4, d5, d6, d7, d8, d9, d10, d11⟩ := c_nl_S (i := 3) h4 c2
  rw [← e78] at d2 d3 d4 d5 d6 d7 d8 d9 d10 d11
  refine ⟨by decide, ⟨by omega, by rw [show Int32.toNatClampNeg 3 = 3 from rfl]; omega⟩, fun P hP M90 e90 X eX => ?_⟩
  have g1S : ∀ Y : Mem, c_g1 g Y → m_tg Y S = 2 → g 1 ≠ S := fun Y q1 q2 z => by rw [← z, q1.1] at q2; cases q2
  have e90' : M90 = m_al M78 P 101 3 3 := e90
  -- distinct
  have n21 : u2 ≠ u1 := fun z => by have := h2.1; rw [z, a3] at this; cases this
  have t1M31 : m_tg M31 u1 = 14 := by rw [c_cell_tg (b4 u1 (fun z => n21 z.symm) (fun z => a1 z.symm))]; exact a3
  have n31 : u3 ≠ u1 := fun z => by have := h3.1; rw [z, t1M31] at this; cases this
  have n32 : u3 ≠ u2 := fun z => by have := h3.1; rw [z, b3] at this; cases this
  have t1M53 : m_tg M53 u1 = 14 := by rw [c_cell_tg (c4 u1 (fun z => n31 z.symm) (fun z => a1 z.symm))]; exact t1M31
  have t2M53 : m_tg M53 u2 = 14 := by rw [c_cell_tg (c4 u2 (fun z => n32 z.symm) (fun z => b1 z.symm))]; exact b3
  have n41 : u4 ≠ u1 := fun z => by have := h4.1; rw [z, t1M53] at this; cases this
  have n42 : u4 ≠ u2 := fun z => by have := h4.1; rw [z, t2M53] at this; cases this
  have n43 : u4 ≠ u3 := fun z => by have := h4.1; rw [z, c3] at this; cases this
  have t1M78 : m_tg M78 u1 = 14 := by rw [c_cell_tg (d4 u1 (fun z => n41 z.symm) (fun z => a1 z.symm))]; exact t1M53
  have t2M78 : m_tg M78 u2 = 14 := by rw [c_cell_tg (d4 u2 (fun z => n42 z.symm) (fun z => b1 z.symm))]; exact t2M53
  have t3M78 : m_tg M78 u3 = 14 := by rw [c_cell_tg (d4 u3 (fun z => n43 z.symm) (fun z => c1 z.symm))]; exact c3
  have p1 : P ≠ u1 := fun z => by rw [z, t1M78] at hP; cases hP
  have p2 : P ≠ u2 := fun z => by rw [z, t2M78] at hP; cases hP
  have p3 : P ≠ u3 := fun z => by rw [z, t3M78] at hP; cases hP
  have p4 : P ≠ u4 := fun z => by rw [z, d3] at hP; cases hP
  have pS : P ≠ S := fun z => by rw [z, d2] at hP; cases hP
  have cX : ∀ b : Nat, b ≠ P → b ≠ S → X.1 b = M78.1 b := fun b q1 q2 => by rw [eX, u_pr_ne q2, e90', u_al_ne q1]
  have tg1 : ∀ b : Nat, m_tg X b = if b = P then 101 else m_tg M78 b := fun b => by rw [eX, m_tg_pr, e90', m_tg_al]
  have g78 : g 1 ≠ P := fun z => by have := d5.1; rw [z, hP] at this; cases this
  have all : ∀ b : Nat, m_tg X0 b ≠ 0 → b ≠ S → X.1 b = X0.1 b := fun b q1 q2 => by
    have r1 : b ≠ u1 := fun z => q1 (by rw [z]; exact h1.1)
    have x1 := a4 b r1 q2
    have r2 : b ≠ u2 := fun z => by have := h2.1; rw [← z, c_cell_tg x1] at this; exact q1 this
    have x2 := (b4 b r2 q2).trans x1
    have r3 : b ≠ u3 := fun z => by have := h3.1; rw [← z, c_cell_tg x2] at this; exact q1 this
    have x3 := (c4 b r3 q2).trans x2
    have r4 : b ≠ u4 := fun z => by have := h4.1; rw [← z, c_cell_tg x3] at this; exact q1 this
    have x4 := (d4 b r4 q2).trans x3
    have r5 : b ≠ P := fun z => by rw [← z, c_cell_tg x4] at hP; exact q1 hP
    exact (cX b r5 q2).trans x4
  have tX0 : ∀ b : Nat, m_tg X b = 0 → b ≠ S → m_tg Xa b = 0 := fun b q1 q2 => by
    apply Classical.byContradiction
    intro z
    have e := (hnw.1 b z).1
    have := c_cell_tg (all b (by rw [e]; exact z) q2)
    rw [q1, e] at this
    exact z this.symm
  have fresh : ∀ b : Nat, (m_tg M12 b = 0 ∨ m_tg M31 b = 0 ∨ m_tg M53 b = 0 ∨ m_tg M78 b = 0 ∨ m_tg X0 b = 0) → b ≠ S → m_tg Xa b = 0 := fun b hb q2 => by
    apply Classical.byContradiction
    intro z
    have e := (hnw.1 b z).1
    have q1 : m_tg X0 b ≠ 0 := by rw [e]; exact z
    have r1 : b ≠ u1 := fun z => q1 (by rw [z]; exact h1.1)
    have x1 := a4 b r1 q2
    have r2 : b ≠ u2 := fun z => by have := h2.1; rw [← z, c_cell_tg x1] at this; exact q1 this
    have x2 := (b4 b r2 q2).trans x1
    have r3 : b ≠ u3 := fun z => by have := h3.1; rw [← z, c_cell_tg x2] at this; exact q1 this
    have x3 := (c4 b r3 q2).trans x2
    have r4 : b ≠ u4 := fun z => by have := h4.1; rw [← z, c_cell_tg x3] at this; exact q1 this
    have x4 := (d4 b r4 q2).trans x3
    rcases hb with w | w | w | w | w
    · rw [c_cell_tg x1] at w; exact q1 w
    · rw [c_cell_tg x2] at w; exact q1 w
    · rw [c_cell_tg x3] at w; exact q1 w
    · rw [c_cell_tg x4] at w; exact q1 w
    · exact q1 w
  have gS : ∀ j : Nat, m_gr X S j = if j = 4 then some P else if j = 3 then some u4 else if j = 2 then some u3 else if j = 1 then some u2 else if j = 0 then some u1 else m_gr X0 S j := fun j => by
    rw [eX, m_gr_pr]
    by_cases e : j = 4
    · rw [if_pos ⟨rfl, e⟩, if_pos e]
    · rw [if_neg (fun z => e z.2), if_neg e, e90', m_gr_al, if_neg (fun z => pS z.symm), d6, c6, b6, a6]
  have lX : ∀ u : Nat, u ≠ S → u ≠ P → c_L g M78 u (g 1) 0 (fun _ => none) → ∀ e : Nat → Option Nat, c_L g X u (g 1) 0 e := fun u q1 q2 hL e => c_L_cg (c_L_same hL (cX u q2 q1) (cX (g 1) g78 (g1S M78 d5 d2))) (fun k hk => absurd hk (Nat.not_lt_zero _))
  have l3 := c_L_same c8 (d4 u3 (fun z => n43 z.symm) (fun z => c1 z.symm)) (d4 (g 1) (fun z => by have := h4.1; rw [← z, c5.1] at this; cases this) (g1S M53 c5 c2))
  have l2' := c_L_same b8 (c4 u2 (fun z => n32 z.symm) (fun z => b1 z.symm)) (c4 (g 1) (fun z => by have := h3.1; rw [← z, b5.1] at this; cases this) (g1S M31 b5 b2))
  have l2 := c_L_same l2' (d4 u2 (fun z => n42 z.symm) (fun z => b1 z.symm)) (d4 (g 1) (fun z => by have := h4.1; rw [← z, c5.1] at this; cases this) (g1S M53 c5 c2))
  have l1'' := c_L_same a8 (b4 u1 (fun z => n21 z.symm) (fun z => a1 z.symm)) (b4 (g 1) (fun z => by have := h2.1; rw [← z, a5.1] at this; cases this) (g1S M12 a5 a2))
  have l1' := c_L_same l1'' (c4 u1 (fun z => n31 z.symm) (fun z => a1 z.symm)) (c4 (g 1) (fun z => by have := h3.1; rw [← z, b5.1] at this; cases this) (g1S M31 b5 b2))
  have l1 := c_L_same l1' (d4 u1 (fun z => n41 z.symm) (fun z => a1 z.symm)) (d4 (g 1) (fun z => by have := h4.1; rw [← z, c5.1] at this; cases this) (g1S M53 c5 c2))
  have nwX : c_nw Xa X := ⟨fun b hb => by
    have hbS : b ≠ S := fun z => hb (by rw [z]; exact hSa)
    have e := hnw.1 b hb
    have e' := all b (by rw [e.1]; exact hb) hbS
    rw [c_cell_tg e', c_cell_ln e']
    exact e, fun b hb => by
    have hbS : b ≠ S := fun z => hb (by rw [z]; exact hSa)
    exact (all b (by rw [(hnw.1 b hb).1]; exact hb) hbS).trans (hnw.2 b hb)⟩
  have two : ∀ s : Nat, 1 ≤ s → s ≤ 4 → s = 1 ∨ s = 2 ∨ s = 3 ∨ s = 4 := fun s q1 q2 => by omega
  have ncX : m_nc X = m_nc M78 + 1 := by rw [eX, m_nc_pr, e90', m_nc_al]
  have nsX : m_ns X = m_ns M78 + 3 := by rw [eX, m_ns_pr, e90', m_ns_al]
  refine hQ X P (fun s => if s = 1 then u1 else if s = 2 then u2 else if s = 3 then u3 else u4) ⟨nwX, ⟨?_, ?_⟩, ⟨?_, hSa⟩, ⟨?_, ?_, ?_⟩, ⟨?_, ?_, ?_, ?_, ?_⟩, fun s q1 q2 => ?_, fun s t q1 q2 q3 q4 q5 => ⟨?_, Or.inr rfl⟩, fun s k _ _ hk => absurd hk (Nat.not_lt_zero _), ?_, ?_⟩ (fun j => ?_) (fun j => ?_) ?_
  · rw [c_cell_tg (cX (g 1) g78 (g1S M78 d5 d2))]; exact d5.1
  · rw [c_cell_ln (cX (g 1) g78 (g1S M78 d5 d2))]; exact d5.2
  · rw [tg1, if_neg (fun z => pS z.symm)]; exact d2
  · rw [tg1, if_pos rfl]
  · exact fresh P (Or.inr (Or.inr (Or.inr (Or.inl hP)))) pS
  · rw [eX, m_ln_pr, e90', m_ln_al, if_pos rfl]
  · rw [gS]; rfl
  · rw [gS]; rfl
  · rw [gS]; rfl
  · rw [gS]; rfl
  · rw [gS]; rfl
  · rcases two s q1 q2 with z | z | z | z <;> subst z
    · exact ⟨fresh u1 (Or.inr (Or.inr (Or.inr (Or.inr h1.1)))) (fun z => a1 z.symm), lX u1 (fun z => a1 z.symm) (fun z => p1 z.symm) l1 _, Or.inl rfl⟩
    · exact ⟨fresh u2 (Or.inl h2.1) (fun z => b1 z.symm), lX u2 (fun z => b1 z.symm) (fun z => p2 z.symm) l2 _, Or.inl rfl⟩
    · exact ⟨fresh u3 (Or.inr (Or.inl h3.1)) (fun z => c1 z.symm), lX u3 (fun z => c1 z.symm) (fun z => p3 z.symm) l3 _, Or.inl rfl⟩
    · exact ⟨fresh u4 (Or.inr (Or.inr (Or.inl h4.1))) (fun z => d1 z.symm), lX u4 (fun z => d1 z.symm) (fun z => p4 z.symm) d8 _, Or.inl rfl⟩
  · rcases two s q1 q2 with z | z | z | z <;> subst z <;> rcases two t q3 q4 with w | w | w | w <;> subst w <;> first | exact absurd rfl q5 | skip
    · exact n21.symm
    · exact n31.symm
    · exact n41.symm
    · exact n21
    · exact n32.symm
    · exact n42.symm
    · exact n31
    · exact n32
    · exact n43.symm
    · exact n41
    · exact n42
    · exact n43
  · omega
  · omega
  · rw [eX, m_gi_pr, e90', m_gi_al, if_neg (fun z => pS z.symm), d7, c7, b7, a7]
  · rw [eX, m_gi_pr, e90', m_gi_al, if_pos rfl]
  · rw [eX, m_ln_pr, e90', m_ln_al, if_neg (fun z => pS z.symm), d11, c11, b11, a11]
end
