/-! PURE: patrols, garages come to be: what always holds -/
set_option maxRecDepth 100000
def u_pat (n : Nat → Nat) (σ : Cn) (a sk tw : Int32) : Cn := c_up (c_up (c_up (c_up (c_up (c_up (c_up (c_up (c_up (c_up (c_up σ 2 (n 2) 0 a) 2 (n 2) 1 sk) 2 (n 2) 2 tw) 2 (n 2) 4 a) 2 (n 2) 3 0) 2 (n 2) 5 (-5)) 2 (n 2) 6 (-5)) 0 0 7 (σ 0 0 7 + 1)) 2 (n 2) 20 (-5)) 2 (n 2) 21 (-5)) 2 (n 2) 22 (nI (n 2))
def u_grg (n : Nat → Nat) (σ : Cn) (a pl : Int32) : Cn := c_up (c_up (c_up (c_up σ 3 (n 3) 0 a) 3 (n 3) 1 pl) 0 0 8 (σ 0 0 8 + 1)) 3 (n 3) 20 0
section
variable {n : Nat → Nat} {σ : Cn}
theorem u_I_pat {a : Nat} {sk tw : Int32} (hI : u_I n σ) (hn : n 2 < 6) (ha : a < 12) (htw : tw = 0 ∨ tw = 1) : u_I (u_at n 2 (n 2 + 1)) (u_pat n σ (nI a) sk tw) := by
  obtain ⟨iR, iU, iB, iF, iM, iO, iD, iK, iT, iZ⟩ := hI
  generalize hσ : u_pat n σ (nI a) sk tw = σ'
  have m1 : u_at n 2 (n 2 + 1) 1 = n 1 := u_at_ne (by decide)
  have m2 : u_at n 2 (n 2 + 1) 2 = n 2 + 1 := u_at_eq
  have m3 : u_at n 2 (n 2 + 1) 3 = n 3 := u_at_ne (by decide)
  have m4 : u_at n 2 (n 2 + 1) 4 = n 4 := u_at_ne (by decide)
  have m5 : u_at n 2 (n 2 + 1) 5 = n 5 := u_at_ne (by decide)
  have e4 : ∀ i f : Nat, σ' 4 i f = σ 4 i f := fun i f => by rw [← hσ]; unfold u_pat; simp (decide := true) only [c_rx]
  have e1 : ∀ i f : Nat, σ' 1 i f = σ 1 i f := fun i f => by rw [← hσ]; unfold u_pat; simp (decide := true) only [c_rx]
  have e3 : ∀ i f : Nat, σ' 3 i f = σ 3 i f := fun i f => by rw [← hσ]; unfold u_pat; simp (decide := true) only [c_rx]
  have e2 : ∀ i f : Nat, i ≠ n 2 → σ' 2 i f = σ 2 i f := fun i f hi => by rw [← hσ]; unfold u_pat; simp (decide := true) only [c_rk hi, c_rx]
  have e0 : ∀ f : Nat, f ≠ 7 → σ' 0 0 f = σ 0 0 f := fun f hf => by
    rw [← hσ]; unfold u_pat; simp (decide := true) only [c_rx]
    exact (if_neg (fun z => hf z.2.2)).trans (by simp (decide := true) only [c_rx])
  have g7 : σ' 0 0 7 = σ 0 0 7 + 1 := by rw [← hσ]; unfold u_pat; simp (decide := true) only [c_rn, c_rs]
  have g22 : σ' 2 (n 2) 22 = nI (n 2) := by rw [← hσ]; unfold u_pat; simp (decide := true) only [c_rn, c_rs]
  have g2 : σ' 2 (n 2) 2 = tw := by rw [← hσ]; unfold u_pat; simp (decide := true) only [c_rn, c_rs]
  have g0 : σ' 2 (n 2) 0 = nI a := by rw [← hσ]; unfold u_pat; simp (decide := true) only [c_rn, c_rs]
  have g4 : σ' 2 (n 2) 4 = nI a := by rw [← hσ]; unfold u_pat; simp (decide := true) only [c_rn, c_rs]
  have g3 : σ' 2 (n 2) 3 = 0 := by rw [← hσ]; unfold u_pat; simp (decide := true) only [c_rn, c_rs]
  clear hσ
  obtain ⟨⟨c5, c6, c7, c8, c9, d5, d1, d2, d3, d4⟩, r1, r2, r3, r4⟩ := iR
  have bz : ∀ i : Nat, i ≠ n 2 → (u_busy σ' i ↔ u_busy σ i) := fun i hi => by
    unfold u_busy
    rw [e2 i 3 hi]
  refine ⟨⟨⟨?_, ?_, ?_, ?_, ?_, ?_⟩, ?_, ?_, ?_, ?_⟩, ?_, ?_, ?_, ?_, ?_, ?_, ?_, ?_, ?_⟩
  · rw [m5, e0 5 (by decide)]; exact c5
  · rw [m1, e0 6 (by decide)]; exact c6
  · rw [m2, g7, c7]; exact pn_succ
  · rw [m3, e0 8 (by decide)]; exact c8
  · rw [m4, e0 9 (by decide)]; exact c9
  · rw [m1, m2, m3, m4, m5]; exact ⟨d5, d1, by omega, d3, d4⟩
  · rw [m1]
    intro k hk
    rw [e1]
    exact r1 k hk
  · rw [m2]
    intro p hp
    by_cases e : p = n 2
    · subst e
      exact ⟨g22, by rw [g2]; exact htw, ⟨a, ha, g0⟩, a, ha, g4⟩
    · simp only [e2 p _ e]
      exact r2 p (by omega)
  · rw [m3]
    intro q hq
    simp only [e3]
    exact r3 q hq
  · rw [m4, m1]
    intro c hc
    simp only [e4]
    exact r4 c hc
  · intro q hq
    rw [m3] at hq
    rw [m2, e3, iU q hq]
    have s0 : u_under σ' (nI q) (n 2 + 1) = if σ' 2 (n 2) 3 = 3 ∧ σ' 2 (n 2) 13 = nI q then u_under σ' (nI q) (n 2) + 1 else u_under σ' (nI q) (n 2) := rfl
    rw [s0, if_neg (fun z => by rw [g3] at z; exact absurd z.1 (by decide))]
    have gen : ∀ N : Nat, N ≤ n 2 → u_under σ' (nI q) N = u_under σ (nI q) N := by
      intro N
      induction N with
      | zero => intro _; rfl
      | succ N ih =>
        intro hN
        have s1 : u_under σ' (nI q) (N + 1) = if σ' 2 N 3 = 3 ∧ σ' 2 N 13 = nI q then u_under σ' (nI q) N + 1 else u_under σ' (nI q) N := rfl
        have s2 : u_under σ (nI q) (N + 1) = if σ 2 N 3 = 3 ∧ σ 2 N 13 = nI q then u_under σ (nI q) N + 1 else u_under σ (nI q) N := rfl
        rw [s1, s2, ih (by omega), e2 N 3 (by omega), e2 N 13 (by omega)]
    exact (gen _ (Nat.le_refl _)).symm
  · refine ⟨fun p hp => ?_, fun c hc => ?_⟩
    · rw [m2] at hp
      by_cases e : p = n 2
      · subst e
        refine ⟨Or.inl g3, fun z => ?_⟩
        unfold u_busy at z
        rw [g3] at z
        exact absurd z (by decide)
      · obtain ⟨q1, q2⟩ := iB.1 p (by omega)
        refine ⟨?_, fun z => ?_⟩
        · rw [e2 p 3 e]
          rcases q1 with w | w | w
          · exact Or.inl w
          · exact Or.inr (Or.inl w)
          · exact Or.inr (Or.inr ((bz p e).mpr w))
        · obtain ⟨c, hl⟩ := q2 ((bz p e).mp z)
          refine ⟨c, ?_⟩
          unfold u_link at hl ⊢
          simp only [e2 p _ e, e4, m3, m4]
          exact hl
    · rw [m4] at hc
      rw [e4]
      rcases iB.2 c hc with w | ⟨p, q1, q2, q3, q4⟩
      · exact Or.inl w
      · exact Or.inr ⟨p, by rw [m2]; omega, q2, (bz p (by omega)).mpr q3, by rw [e2 p 5 (by omega)]; exact q4⟩
  · intro c hc
    rw [m4] at hc
    have := iF c hc
    unfold u_fi at this ⊢
    simp only [e4, m2]
    obtain ⟨a1, a2, a3⟩ := this
    refine ⟨a1, ?_, a3⟩
    rcases a2 with w | ⟨p, w1, w2⟩
    · exact Or.inl w
    · exact Or.inr ⟨p, by omega, w2⟩
  · unfold u_M u_m at iM ⊢
    simp only [e4, e1, m1, m4]
    exact iM
  · unfold u_O at iO ⊢
    simp only [e4, m4]
    exact iO
  · unfold u_D at iD ⊢
    rw [m1, e0 10 (by decide), e0 11 (by decide)]
    simp only [e1]
    exact iD
  · unfold u_K u_cb u_late at iK ⊢
    rw [m1, m4, e0 12 (by decide)]
    simp only [e4, e1]
    exact iK
  · unfold u_Ti at iT ⊢
    rw [e0 0 (by decide)]
    exact iT
  · obtain ⟨y1, y2, y3, y4⟩ := iZ
    refine ⟨fun k hk => ?_, fun k hk => ?_, fun k hk => ?_, fun c hc => ?_⟩
    · rw [m1] at hk
      simp only [e1]
      exact y1 k hk
    · rw [m2] at hk
      simp only [e2 k _ (by omega : k ≠ n 2)]
      exact y2 k (by omega)
    · rw [m3] at hk
      simp only [e3]
      exact y3 k hk
    · rw [m4] at hc
      rw [e4]
      exact y4 c hc
theorem u_I_grg {a : Nat} {pl : Int32} (hI : u_I n σ) (hn : n 3 < 5) (ha : a < 12) : u_I (u_at n 3 (n 3 + 1)) (u_grg n σ (nI a) pl) := by
  obtain ⟨iR, iU, iB, iF, iM, iO, iD, iK, iT, iZ⟩ := hI
  generalize hσ : u_grg n σ (nI a) pl = σ'
  have m1 : u_at n 3 (n 3 + 1) 1 = n 1 := u_at_ne (by decide)
  have m2 : u_at n 3 (n 3 + 1) 2 = n 2 := u_at_ne (by decide)
  have m3 : u_at n 3 (n 3 + 1) 3 = n 3 + 1 := u_at_eq
  have m4 : u_at n 3 (n 3 + 1) 4 = n 4 := u_at_ne (by decide)
  have m5 : u_at n 3 (n 3 + 1) 5 = n 5 := u_at_ne (by decide)
  have e4 : ∀ i f : Nat, σ' 4 i f = σ 4 i f := fun i f => by rw [← hσ]; unfold u_grg; simp (decide := true) only [c_rx]
  have e1 : ∀ i f : Nat, σ' 1 i f = σ 1 i f := fun i f => by rw [← hσ]; unfold u_grg; simp (decide := true) only [c_rx]
  have e2 : ∀ i f : Nat, σ' 2 i f = σ 2 i f := fun i f => by rw [← hσ]; unfold u_grg; simp (decide := true) only [c_rx]
  have e3 : ∀ i f : Nat, i ≠ n 3 → σ' 3 i f = σ 3 i f := fun i f hi => by rw [← hσ]; unfold u_grg; simp (decide := true) only [c_rk hi, c_rx]
  have e0 : ∀ f : Nat, f ≠ 8 → σ' 0 0 f = σ 0 0 f := fun f hf => by
    rw [← hσ]; unfold u_grg; simp (decide := true) only [c_rx]
    exact (if_neg (fun z => hf z.2.2)).trans (by simp (decide := true) only [c_rx])
  have g8 : σ' 0 0 8 = σ 0 0 8 + 1 := by rw [← hσ]; unfold u_grg; simp (decide := true) only [c_rn, c_rs]
  have g0 : σ' 3 (n 3) 0 = nI a := by rw [← hσ]; unfold u_grg; simp (decide := true) only [c_rn, c_rs]
  have g20 : σ' 3 (n 3) 20 = 0 := by rw [← hσ]; unfold u_grg; simp (decide := true) only [c_rn, c_rs]
  clear hσ
  obtain ⟨⟨c5, c6, c7, c8, c9, d5, d1, d2, d3, d4⟩, r1, r2, r3, r4⟩ := iR
  refine ⟨⟨⟨?_, ?_, ?_, ?_, ?_, ?_⟩, ?_, ?_, ?_, ?_⟩, ?_, ?_, ?_, ?_, ?_, ?_, ?_, ?_, ?_⟩
  · rw [m5, e0 5 (by decide)]; exact c5
  · rw [m1, e0 6 (by decide)]; exact c6
  · rw [m2, e0 7 (by decide)]; exact c7
  · rw [m3, g8, c8]; exact pn_succ
  · rw [m4, e0 9 (by decide)]; exact c9
  · rw [m1, m2, m3, m4, m5]; exact ⟨d5, d1, d2, by omega, d4⟩
  · rw [m1]
    intro k hk
    rw [e1]
    exact r1 k hk
  · rw [m2]
    intro p hp
    simp only [e2]
    exact r2 p hp
  · rw [m3]
    intro q hq
    by_cases e : q = n 3
    · subst e
      exact ⟨a, ha, g0⟩
    · simp only [e3 q _ e]
      exact r3 q (by omega)
  · rw [m4, m1]
    intro c hc
    simp only [e4]
    exact r4 c hc
  · intro q hq
    rw [m3] at hq
    rw [m2, u_under_cg2 (σ := σ) (fun p => ⟨e2 p 3, e2 p 13⟩)]
    by_cases e : q = n 3
    · subst e
      rw [g20]
      have gen : ∀ N : Nat, N ≤ n 2 → u_under σ (nI (n 3)) N = 0 := by
        intro N
        induction N with
        | zero => intro _; rfl
        | succ N ih =>
          intro hN
          unfold u_under
          rw [if_neg (fun z => ?_)]
          · exact ih (by omega)
          · obtain ⟨c, hl⟩ := (iB.1 N (by omega)).2 (Or.inr (Or.inr z.1))
            obtain ⟨_, _, _, _, _, _, h3⟩ := hl
            obtain ⟨_, _, _, q, hq, _, e13⟩ := h3 z.1
            rw [e13] at z
            have := (pn_inj (by omega) (by omega)).mp z.2
            omega
      exact (gen _ (Nat.le_refl _)).symm
    · rw [e3 q 20 e]
      exact iU q (by omega)
  · unfold u_B u_busy u_link at iB ⊢
    simp only [e2, e4, m2, m3, m4]
    refine ⟨fun p hp => ⟨(iB.1 p hp).1, fun z => ?_⟩, iB.2⟩
    obtain ⟨c, a1, a2, a3, a4, a5, a6, a7⟩ := (iB.1 p hp).2 z
    refine ⟨c, a1, a2, a3, a4, a5, a6, fun w => ?_⟩
    obtain ⟨v1, v2, v3, q, v4, v5⟩ := a7 w
    exact ⟨v1, v2, v3, q, by omega, v5⟩
  · intro c hc
    rw [m4] at hc
    have := iF c hc
    unfold u_fi at this ⊢
    simp only [e4, m2]
    exact this
  · unfold u_M u_m at iM ⊢
    simp only [e4, e1, m1, m4]
    exact iM
  · unfold u_O at iO ⊢
    simp only [e4, m4]
    exact iO
  · unfold u_D at iD ⊢
    rw [m1, e0 10 (by decide), e0 11 (by decide)]
    simp only [e1]
    exact iD
  · unfold u_K u_cb u_late at iK ⊢
    rw [m1, m4, e0 12 (by decide)]
    simp only [e4, e1]
    exact iK
  · unfold u_Ti at iT ⊢
    rw [e0 0 (by decide)]
    exact iT
  · obtain ⟨y1, y2, y3, y4⟩ := iZ
    refine ⟨fun k hk => ?_, fun k hk => ?_, fun k hk => ?_, fun c hc => ?_⟩
    · rw [m1] at hk
      simp only [e1]
      exact y1 k hk
    · rw [m2] at hk
      simp only [e2]
      exact y2 k hk
    · rw [m3] at hk
      rw [e3 k 2 (by omega), e3 k 3 (by omega)]
      exact y3 k (by omega)
    · rw [m4] at hc
      rw [e4]
      exact y4 c hc
end
