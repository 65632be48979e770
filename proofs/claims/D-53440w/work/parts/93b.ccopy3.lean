/-! PURE: a State is copied: labels -/
set_option maxRecDepth 100000
/-- which place of the new State a cell is -/
def c_own (g : Nat → Nat) (S P : Nat) (L d cnt : Nat → Nat) (E : Nat → Nat → Nat) (b : Nat) (x : Nat × Nat) : Prop :=
  (x.1 = 0 ∧ x.2 = 0 ∧ b = S) ∨ (x.1 = 8 ∧ x.2 = 0 ∧ b = P) ∨ (x.1 = 6 ∧ (1 ≤ x.2 ∧ x.2 ≤ 4) ∧ b = L x.2) ∨ (x.1 = 7 ∧ (1 ≤ x.2 ∧ x.2 ≤ 4) ∧ b = d x.2 ∧ d x.2 ≠ g 1) ∨ ((1 ≤ x.1 ∧ x.1 ≤ 4) ∧ x.2 < cnt x.1 ∧ b = E x.1 x.2)
noncomputable def c_labS (g : Nat → Nat) (o : Nat → Nat × Nat × Nat) (r : Nat) (S P : Nat) (L d cnt : Nat → Nat) (E : Nat → Nat → Nat) : Nat → Nat × Nat × Nat := fun b => @dite _ (∃ x : Nat × Nat, c_own g S P L d cnt E b x) (Classical.propDecidable _) (fun h => (r, (Classical.choose h).1, (Classical.choose h).2)) (fun _ => o b)
def c_newE (S P : Nat) (L : Nat → Nat) (E : Nat → Nat → Nat) : Nat → Nat → Nat := fun s k => if s = 0 then S else if s = 8 then P else if s = 6 then L k else E s k
section
variable {g : Nat → Nat} {Xa X X' : Mem} {S P R : Nat} {L d cnt : Nat → Nat} {E : Nat → Nat → Nat} {V : Nat → Nat → Nat → Int32} {o : Nat → Nat × Nat × Nat} {r : Nat} {σ : Cn}
theorem c_own_fresh (h : c_CP g Xa X S P L d cnt E V) {b : Nat} {x : Nat × Nat} (hx : c_own g S P L d cnt E b x) : m_tg Xa b = 0 ∧ m_tg X b = (if x.1 = 7 then 103 else c_tgs x.1) := by
  obtain ⟨h1, h2, h3, h4, h5, h6, h7, h8, h9, h10⟩ := h
  rcases hx with ⟨a, b, c⟩ | ⟨a, b, c⟩ | ⟨a, b, c⟩ | ⟨a, b, c, e⟩ | ⟨a, b, c⟩
  · rw [a, c]; exact ⟨h3.2, h3.1⟩
  · rw [a, c]; exact ⟨h4.2.1, h4.1⟩
  · rw [a, c]
    obtain ⟨w1, w2, w3⟩ := h6 x.2 b.1 b.2
    exact ⟨w1, w2.1⟩
  · rw [a, c]
    obtain ⟨w1, w2, w3⟩ := h6 x.2 b.1 b.2
    refine ⟨w3.resolve_left e, ?_⟩
    rcases w2.2.2.2 with ⟨_, z⟩ | z
    · exact absurd z e
    · rw [if_pos rfl]; exact z.1
  · rw [c]
    obtain ⟨w1, w2, w3⟩ := h8 x.1 x.2 a.1 a.2 b
    refine ⟨w2, ?_⟩
    rw [if_neg (by omega)]
    exact w1
theorem c_own_uq (h : c_CP g Xa X S P L d cnt E V) {b : Nat} {x y : Nat × Nat} (hx : c_own g S P L d cnt E b x) (hy : c_own g S P L d cnt E b y) : x = y := by
  have tx := (c_own_fresh h hx).2
  have ty := (c_own_fresh h hy).2
  rw [tx] at ty
  obtain ⟨h1, h2, h3, h4, h5, h6, h7, h8, h9, h10⟩ := h
  have key : ∀ (u v : Nat), (u = 0 ∨ u = 8 ∨ u = 6 ∨ u = 7 ∨ (1 ≤ u ∧ u ≤ 4)) → (v = 0 ∨ v = 8 ∨ v = 6 ∨ v = 7 ∨ (1 ≤ v ∧ v ≤ 4)) → (if u = 7 then 103 else c_tgs u) = (if v = 7 then 103 else c_tgs v) → u = v := by
    intro u v hu hv hh
    have h1 : u ≤ 8 := by omega
    have h2 : v ≤ 8 := by omega
    have a1 : u = 0 ∨ u = 1 ∨ u = 2 ∨ u = 3 ∨ u = 4 ∨ u = 6 ∨ u = 7 ∨ u = 8 := by omega
    have a2 : v = 0 ∨ v = 1 ∨ v = 2 ∨ v = 3 ∨ v = 4 ∨ v = 6 ∨ v = 7 ∨ v = 8 := by omega
    rcases a1 with z | z | z | z | z | z | z | z <;> subst z <;> rcases a2 with w | w | w | w | w | w | w | w <;> subst w <;> first | rfl | (exact absurd hh (by decide))
  have cl : ∀ {b : Nat} {z : Nat × Nat}, c_own g S P L d cnt E b z → (z.1 = 0 ∨ z.1 = 8 ∨ z.1 = 6 ∨ z.1 = 7 ∨ (1 ≤ z.1 ∧ z.1 ≤ 4)) := fun hz => by
    rcases hz with ⟨a, _⟩ | ⟨a, _⟩ | ⟨a, _⟩ | ⟨a, _⟩ | ⟨a, _⟩
    · exact Or.inl a
    · exact Or.inr (Or.inl a)
    · exact Or.inr (Or.inr (Or.inl a))
    · exact Or.inr (Or.inr (Or.inr (Or.inl a)))
    · exact Or.inr (Or.inr (Or.inr (Or.inr a)))
  have e1 := key _ _ (cl hx) (cl hy) ty
  refine Prod.ext e1 ?_
  rcases hx with ⟨a, b1, c⟩ | ⟨a, b1, c⟩ | ⟨a, b1, c⟩ | ⟨a, b1, c, e⟩ | ⟨a, b1, c⟩ <;> rcases hy with ⟨a', b2, c'⟩ | ⟨a', b2, c'⟩ | ⟨a', b2, c'⟩ | ⟨a', b2, c', e'⟩ | ⟨a', b2, c'⟩ <;> first | (exact b1.trans b2.symm) | (exfalso; omega) | skip
  · apply Classical.byContradiction
    intro z
    exact (h7 x.2 y.2 b1.1 b1.2 b2.1 b2.2 z).1 (c.symm.trans c')
  · apply Classical.byContradiction
    intro z
    rcases (h7 x.2 y.2 b1.1 b1.2 b2.1 b2.2 z).2 with w | w
    · exact w (c.symm.trans c')
    · exact e w
  · rw [← e1] at b2 c'
    exact (h8 x.1 x.2 a.1 a.2 b1).2.2.2 y.2 b2 (c.symm.trans c')
theorem c_labS_at (h : c_CP g Xa X S P L d cnt E V) {b : Nat} {x : Nat × Nat} (hx : c_own g S P L d cnt E b x) : c_labS g o r S P L d cnt E b = (r, x.1, x.2) := by
  unfold c_labS
  have hh : ∃ x : Nat × Nat, c_own g S P L d cnt E b x := ⟨x, hx⟩
  rw [dif_pos hh, c_own_uq h (Classical.choose_spec hh) hx]
theorem c_labS_no {b : Nat} (hb : ¬ ∃ x : Nat × Nat, c_own g S P L d cnt E b x) : c_labS g o r S P L d cnt E b = o b := dif_neg hb
/-- cells of S and P change -/
theorem c_CP_SP (h : c_CP g Xa X S P L d cnt E V) (hc : ∀ b : Nat, b ≠ S → b ≠ P → X'.1 b = X.1 b) (hS : m_tg X' S = 2) (hP : m_tg X' P = 101) (hlS : m_ln X' S = m_ln X S) (hlP : m_ln X' P = 3) (hr : ∀ j : Nat, j < 5 → m_gr X' S j = m_gr X S j) (hn : m_nc X' = m_nc X ∧ m_ns X' = m_ns X) : c_CP g Xa X' S P L d cnt E V := by
  obtain ⟨h1, h2, h3, h4, h5, h6, h7, h8, h9, h10⟩ := h
  have hh : ∀ b t : Nat, m_tg X b = t → t ≠ 2 → t ≠ 101 → X'.1 b = X.1 b := fun b t q1 q2 q3 => hc b (fun z => by rw [z, h3.1] at q1; exact q2 q1.symm) (fun z => by rw [z, h4.1] at q1; exact q3 q1.symm)
  refine ⟨⟨fun b hb => ?_, fun b hb => ?_⟩, ⟨?_, ?_⟩, ⟨hS, h3.2⟩, ⟨hP, h4.2.1, hlP⟩, ?_, fun s q1 q2 => ?_, h7, fun s k q1 q2 hk => ?_, by rw [hn.1]; exact h9, by rw [hn.2]; exact h10⟩
  · have e := hc b (fun z => hb (by rw [z]; exact h3.2)) (fun z => hb (by rw [z]; exact h4.2.1))
    rw [c_cell_tg e, c_cell_ln e]
    exact h1.1 b hb
  · exact (hc b (fun z => hb (by rw [z]; exact h3.2)) (fun z => hb (by rw [z]; exact h4.2.1))).trans (h1.2 b hb)
  · rw [c_cell_tg (hh _ 160 h2.1 (by decide) (by decide))]; exact h2.1
  · rw [c_cell_ln (hh _ 160 h2.1 (by decide) (by decide))]; exact h2.2
  · rw [hr 0 (by omega), hr 1 (by omega), hr 2 (by omega), hr 3 (by omega), hr 4 (by omega)]
    exact h5
  · obtain ⟨w1, w2, w3⟩ := h6 s q1 q2
    refine ⟨w1, c_L_same w2 (hh _ 14 w2.1 (by decide) (by decide)) ?_, w3⟩
    rcases c_L_tag w2 h2 with z | z
    · exact hh _ 103 z (by decide) (by decide)
    · exact hh _ 160 z (by decide) (by decide)
  · obtain ⟨w1, w2, w3, w4⟩ := h8 s k q1 q2 hk
    have tt := c_tgs_el q1 q2
    have e := hh _ _ w1 (by rw [tt]; omega) (by rw [tt]; omega)
    exact ⟨(c_cell_tg e).trans w1, w2, fun j hj => (c_cell_gi e).trans (w3 j hj), w4⟩
theorem c_mp_nf {s j : Nat} {x : Nat × Nat} (h : c_mp s j = some x) (h1 : 1 ≤ s) (h4 : s ≤ 4) : j < c_nf s := by
  unfold c_mp at h
  split at h <;> first | omega | decide | cases h
/-- with labels, it is a State -/
theorem c_labS_ok (h : c_CP g Xa X S P L d cnt E V) (hcnt : ∀ s : Nat, 1 ≤ s → s ≤ 4 → cnt s < 1000) (hfree : ∀ b : Nat, (o b).1 ≠ r) (hLb : c_Lb Xa o) (hR : m_gr X S 5 = some R)
    (hV : ∀ s k j : Nat, 1 ≤ s → s ≤ 4 → k < cnt s → ∀ x : Nat × Nat, c_mp s j = some x → V s k j = σ x.1 k x.2) (hS6 : m_gi X S 6 = σ 0 0 1) (hS7 : m_gi X S 7 = σ 0 0 0) (hP : m_gi X P 0 = σ 0 0 2 ∧ m_gi X P 1 = σ 0 0 3 ∧ m_gi X P 2 = σ 0 0 4) :
    c_St g X (c_labS g o r S P L d cnt E) r (c_newE S P L E) cnt R ∧ c_cM X (c_labS g o r S P L d cnt E) r σ = X ∧ (∀ b : Nat, m_tg Xa b ≠ 0 → c_labS g o r S P L d cnt E b = o b) ∧ (∀ b : Nat, m_tg Xa b = 0 → (c_labS g o r S P L d cnt E b).1 = 0 ∨ (c_labS g o r S P L d cnt E b).1 = r) ∧ c_Lb X (c_labS g o r S P L d cnt E) := by
  obtain ⟨h1, h2, h3, h4, h5, h6, h7, h8, h9, h10⟩ := id h
  have inv : ∀ b s k : Nat, c_labS g o r S P L d cnt E b = (r, s, k) → c_own g S P L d cnt E b (s, k) := fun b s k hb => by
    by_cases z : ∃ x : Nat × Nat, c_own g S P L d cnt E b x
    · obtain ⟨x, hx⟩ := z
      rw [c_labS_at h hx] at hb
      have e1 : x.1 = s := congrArg (fun p => p.2.1) hb
      have e2 : x.2 = k := congrArg (fun p => p.2.2) hb
      rw [← e1, ← e2]
      exact hx
    · rw [c_labS_no z] at hb
      exact absurd (by rw [hb]) (hfree b)
  have e0 : c_newE S P L E 0 0 = S := rfl
  have e8 : c_newE S P L E 8 0 = P := rfl
  have e6 : ∀ k : Nat, c_newE S P L E 6 k = L k := fun k => rfl
  have ek : ∀ s k : Nat, 1 ≤ s → s ≤ 4 → c_newE S P L E s k = E s k := fun s k q1 q2 => by
    unfold c_newE
    rw [if_neg (by omega), if_neg (by omega), if_neg (by omega)]
  refine ⟨⟨fun s k hd => ?_, ⟨h5.1, h5.2.1, h5.2.2.1, h5.2.2.2.1, h5.2.2.2.2, hR, h4.2.2⟩, fun s q1 q2 => ⟨hcnt s q1 q2, ?_⟩, fun b s k hb hs => ?_⟩, ?_, fun b hb => ?_, fun b hb => ?_, fun b hb => ?_⟩
  · rcases hd with ⟨a, b⟩ | ⟨a, b⟩ | ⟨a, b, c⟩ | ⟨a, b, c⟩
    · subst a; subst b
      exact ⟨c_labS_at h (x := (0, 0)) (Or.inl ⟨rfl, rfl, rfl⟩), h3.1⟩
    · subst a; subst b
      exact ⟨c_labS_at h (x := (8, 0)) (Or.inr (Or.inl ⟨rfl, rfl, rfl⟩)), h4.1⟩
    · rw [ek s k a b]
      exact ⟨c_labS_at h (x := (s, k)) (Or.inr (Or.inr (Or.inr (Or.inr ⟨⟨a, b⟩, c, rfl⟩)))), (h8 s k a b c).1⟩
    · subst a
      rw [e6]
      exact ⟨c_labS_at h (x := (6, k)) (Or.inr (Or.inr (Or.inl ⟨rfl, ⟨b, c⟩, rfl⟩))), (h6 k b c).2.1.1⟩
  · obtain ⟨w1, w2, w3⟩ := h6 s q1 q2
    rw [e6]
    refine ⟨w2.2.1, d s, w2.2.2.1, ?_⟩
    rcases w2.2.2.2 with z | ⟨z1, z2, z3, z4⟩
    · exact Or.inl z
    · refine Or.inr ⟨c_labS_at h (x := (7, s)) (Or.inr (Or.inr (Or.inr (Or.inl ⟨rfl, ⟨q1, q2⟩, rfl, fun z => by rw [z, h2.1] at z1; cases z1⟩)))), z1, z2, z3, fun k hk => ?_⟩
      rw [z4 k hk, ek s k q1 q2]
  · have ho := inv b s k hb
    rcases ho with ⟨a, b1, c⟩ | ⟨a, b1, c⟩ | ⟨a, b1, c⟩ | ⟨a, b1, c, e⟩ | ⟨a, b1, c⟩
    · have a' : s = 0 := a
      have b' : k = 0 := b1
      subst a'; subst b'
      exact ⟨c, d_0⟩
    · have a' : s = 8 := a
      have b' : k = 0 := b1
      subst a'; subst b'
      exact ⟨c, d_8⟩
    · have a' : s = 6 := a
      omega
    · have a' : s = 7 := a
      omega
    · rw [ek s k a.1 a.2]
      exact ⟨c, d_k a.1 a.2 b1⟩
  · unfold c_cM q_ints
    refine Prod.ext (funext fun b => ?_) rfl
    dsimp only
    have e : c_enc (c_labS g o r S P L d cnt E) r σ (m_gi X) b = m_gi X b := by
      funext j
      unfold c_enc
      by_cases hr : (c_labS g o r S P L d cnt E b).1 = r
      · rw [if_pos hr]
        cases hm : c_mp (c_labS g o r S P L d cnt E b).2.1 j with
        | none => rfl
        | some x =>
          dsimp only
          have ho := inv b (c_labS g o r S P L d cnt E b).2.1 (c_labS g o r S P L d cnt E b).2.2 (Prod.ext hr rfl)
          generalize c_labS g o r S P L d cnt E b = y at ho hm hr
          obtain ⟨y1, s, k⟩ := y
          dsimp only at ho hm ⊢
          rcases ho with ⟨a, b1, c⟩ | ⟨a, b1, c⟩ | ⟨a, b1, c⟩ | ⟨a, b1, c, e⟩ | ⟨a, b1, c⟩
          · have a' : s = 0 := a
            have b' : k = 0 := b1
            subst a'; subst b'; subst c
            unfold c_mp at hm
            split at hm <;> first | omega | (cases hm; first | exact hS6.symm | exact hS7.symm) | cases hm
          · have a' : s = 8 := a
            have b' : k = 0 := b1
            subst a'; subst b'; subst c
            unfold c_mp at hm
            split at hm <;> first | omega | (cases hm; first | exact hP.1.symm | exact hP.2.1.symm | exact hP.2.2.symm) | cases hm
          · have a' : s = 6 := a
            subst a'
            unfold c_mp at hm
            split at hm <;> first | omega | cases hm
          · have a' : s = 7 := a
            subst a'
            unfold c_mp at hm
            split at hm <;> first | omega | cases hm
          · have c' : b = E s k := c
            rw [c', (h8 s k a.1 a.2 b1).2.2.1 j (c_mp_nf hm a.1 a.2), hV s k j a.1 a.2 b1 x hm]
      · rw [if_neg hr]
    rw [e]
    rfl
  · refine c_labS_no (fun z => ?_)
    obtain ⟨x, hx⟩ := z
    exact hb (c_own_fresh h hx).1
  · by_cases z : ∃ x : Nat × Nat, c_own g S P L d cnt E b x
    · obtain ⟨x, hx⟩ := z
      rw [c_labS_at h hx]
      exact Or.inr rfl
    · rw [c_labS_no z]
      left
      apply Classical.byContradiction
      intro w
      exact hLb b w hb
  · by_cases z : ∃ x : Nat × Nat, c_own g S P L d cnt E b x
    · obtain ⟨x, hx⟩ := z
      rw [(c_own_fresh h hx).2]
      split
      · decide
      · unfold c_tgs
        split <;> decide
    · rw [c_labS_no z] at hb
      have := hLb b hb
      rw [(h1.1 b this).1]
      exact this
end
