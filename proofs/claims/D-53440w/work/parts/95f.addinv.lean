/-! PURE: members, patrols, garages come to be: what always holds -/
set_option maxRecDepth 100000
def u_mem (n : Nat → Nat) (σ : Cn) (t : Int32) : Cn := c_up (c_up (c_up (c_up (c_up (c_up σ 1 (n 1) 0 t) 0 0 6 (σ 0 0 6 + 1)) 1 (n 1) 20 0) 1 (n 1) 21 0) 1 (n 1) 22 (-5)) 1 (n 1) 23 0
section
variable {n : Nat → Nat} {σ : Cn}
theorem u_sum_s {f : Nat → Int32} {k : Nat} : u_sum f (k + 1) = u_sum f k + f k := rfl
theorem u_under_cg2 {σ' : Cn} {q : Int32} (h : ∀ p : Nat, σ' 2 p 3 = σ 2 p 3 ∧ σ' 2 p 13 = σ 2 p 13) : ∀ N : Nat, u_under σ' q N = u_under σ q N := by
  intro N
  induction N with
  | zero => rfl
  | succ N ih =>
    unfold u_under
    rw [ih, (h N).1, (h N).2]
theorem u_sum_0 {f : Nat → Int32} : ∀ {N : Nat}, (∀ k : Nat, k < N → f k = 0) → u_sum f N = 0 := by
  intro N
  induction N with
  | zero => intro _; rfl
  | succ N ih =>
    intro h
    unfold u_sum
    rw [ih (fun k hk => h k (by omega)), h N (by omega)]
    rfl
theorem u_at_1 {s v t : Nat} (h : t ≠ s) : u_at n s v t = n t := if_neg h
theorem u_I_mem {t : Nat} (hI : u_I n σ) (hn : n 1 < 20) (ht : t < 3) : u_I (u_at n 1 (n 1 + 1)) (u_mem n σ (nI t)) := by
  obtain ⟨iR, iU, iB, iF, iM, iO, iD, iK, iT, iZ⟩ := hI
  generalize hσ : u_mem n σ (nI t) = σ'
  have m1 : u_at n 1 (n 1 + 1) 1 = n 1 + 1 := u_at_eq
  have m2 : u_at n 1 (n 1 + 1) 2 = n 2 := u_at_ne (by decide)
  have m3 : u_at n 1 (n 1 + 1) 3 = n 3 := u_at_ne (by decide)
  have m4 : u_at n 1 (n 1 + 1) 4 = n 4 := u_at_ne (by decide)
  have m5 : u_at n 1 (n 1 + 1) 5 = n 5 := u_at_ne (by decide)
  have e4 : ∀ i f : Nat, σ' 4 i f = σ 4 i f := fun i f => by rw [← hσ]; unfold u_mem; simp (decide := true) only [c_rx]
  have e2 : ∀ i f : Nat, σ' 2 i f = σ 2 i f := fun i f => by rw [← hσ]; unfold u_mem; simp (decide := true) only [c_rx]
  have e3 : ∀ i f : Nat, σ' 3 i f = σ 3 i f := fun i f => by rw [← hσ]; unfold u_mem; simp (decide := true) only [c_rx]
  have e1 : ∀ i f : Nat, i ≠ n 1 → σ' 1 i f = σ 1 i f := fun i f hi => by rw [← hσ]; unfold u_mem; simp (decide := true) only [c_rk hi, c_rx]
  have e0 : ∀ f : Nat, f ≠ 6 → σ' 0 0 f = σ 0 0 f := fun f hf => by
    rw [← hσ]; unfold u_mem; simp (decide := true) only [c_rx]
    exact (if_neg (fun z => hf z.2.2)).trans (c_rx rfl)
  have g6 : σ' 0 0 6 = σ 0 0 6 + 1 := by rw [← hσ]; unfold u_mem; simp (decide := true) only [c_rn, c_rs]
  have g0 : σ' 1 (n 1) 0 = nI t := by rw [← hσ]; unfold u_mem; simp (decide := true) only [c_rn, c_rs]
  have g1 : σ' 1 (n 1) 1 = σ 1 (n 1) 1 := by rw [← hσ]; unfold u_mem; simp (decide := true) only [c_rn, c_rs]
  have g2 : σ' 1 (n 1) 2 = σ 1 (n 1) 2 := by rw [← hσ]; unfold u_mem; simp (decide := true) only [c_rn, c_rs]
  have g3 : σ' 1 (n 1) 3 = σ 1 (n 1) 3 := by rw [← hσ]; unfold u_mem; simp (decide := true) only [c_rn, c_rs]
  have g20 : σ' 1 (n 1) 20 = 0 := by rw [← hσ]; unfold u_mem; simp (decide := true) only [c_rn, c_rs]
  have g21 : σ' 1 (n 1) 21 = 0 := by rw [← hσ]; unfold u_mem; simp (decide := true) only [c_rn, c_rs]
  have g22 : σ' 1 (n 1) 22 = -5 := by rw [← hσ]; unfold u_mem; simp (decide := true) only [c_rn, c_rs]
  clear hσ
  obtain ⟨⟨c5, c6, c7, c8, c9, d5, d1, d2, d3, d4⟩, r1, r2, r3, r4⟩ := iR
  have z0 := iZ.1 (n 1) (Nat.le_refl _)
  have ncall : ∀ c : Nat, c < n 4 → ¬ σ 4 c 0 = nI (n 1) := fun c hc z => by
    obtain ⟨k, hk, ek⟩ := (r4 c hc).2.2.1
    rw [ek] at z
    have := (pn_inj (by omega) (by omega)).mp z
    omega
  refine ⟨⟨⟨?_, ?_, ?_, ?_, ?_, ?_⟩, ?_, ?_, ?_, ?_⟩, ?_, ?_, ?_, ?_, ?_, ?_, ?_, ?_, ?_⟩
  · rw [m5, e0 5 (by decide)]; exact c5
  · rw [m1, g6, c6]; exact pn_succ
  · rw [m2, e0 7 (by decide)]; exact c7
  · rw [m3, e0 8 (by decide)]; exact c8
  · rw [m4, e0 9 (by decide)]; exact c9
  · rw [m1, m2, m3, m4, m5]; exact ⟨d5, by omega, d2, d3, d4⟩
  · rw [m1]
    intro k hk
    by_cases e : k = n 1
    · subst e
      exact ⟨t, ht, g0⟩
    · rw [e1 k 0 e]
      exact r1 k (by omega)
  · rw [m2]
    intro p hp
    simp only [e2]
    exact r2 p hp
  · rw [m3]
    intro q hq
    simp only [e3]
    exact r3 q hq
  · rw [m4, m1]
    intro c hc
    simp only [e4]
    obtain ⟨a1, a2, ⟨k, a3, a4⟩, a5⟩ := r4 c hc
    exact ⟨a1, a2, ⟨k, by omega, a4⟩, a5⟩
  · intro q hq
    rw [m3] at hq
    rw [m2, e3, iU q hq]
    exact (u_under_cg2 (fun p => ⟨e2 p 3, e2 p 13⟩) _).symm
  · unfold u_B u_busy u_link at iB ⊢
    simp only [e2, e4, m2, m3, m4]
    exact iB
  · intro c hc
    rw [m4] at hc
    have := iF c hc
    unfold u_fi at this ⊢
    simp only [e4, m2]
    exact this
  · intro m hm
    rw [m1] at hm
    unfold u_m
    simp only [e4, m4]
    by_cases e : m = n 1
    · subst e
      exact Or.inl ⟨fun c hc z => ncall c hc z.1, g22⟩
    · rw [e1 m 22 e, e1 m 23 e]
      exact iM m (by omega)
  · unfold u_O at iO ⊢
    simp only [e4, m4]
    exact iO
  · refine ⟨fun m hm => ?_, ?_, ?_⟩
    · rw [m1] at hm
      by_cases e : m = n 1
      · subst e
        rw [g1, g20, g21, z0.1]
        rfl
      · rw [e1 m 1 e, e1 m 20 e, e1 m 21 e]
        exact iD.1 m (by omega)
    · rw [m1, e0 10 (by decide), iD.2.1, u_sum_s, g20, u_sum_cg (h := fun m => σ' 1 m 20) (f := fun m => σ 1 m 20) (fun k hk => e1 k 20 (by omega))]
      exact (Int32.add_zero _).symm
    · rw [m1, e0 11 (by decide), iD.2.2, u_sum_s, g21, u_sum_cg (h := fun m => σ' 1 m 21) (f := fun m => σ 1 m 21) (fun k hk => e1 k 21 (by omega))]
      exact (Int32.add_zero _).symm
  · refine ⟨?_, fun m hm => ?_⟩
    · rw [m4, e0 12 (by decide), iK.1]
      exact u_sum_cg (fun c _ => (e4 c 10).symm)
    · rw [m1] at hm
      have ecb : ∀ c : Nat, u_cb σ' m c = u_cb σ m c := fun c => by unfold u_cb; rw [e4, e4]
      have elt : ∀ c : Nat, u_late σ' m c = u_late σ m c := fun c => by unfold u_late; rw [e4, e4, e4, e4]
      rw [m4, u_sum_cg (f := u_cb σ m) (fun c _ => ecb c), u_sum_cg (f := u_late σ m) (fun c _ => elt c)]
      by_cases e : m = n 1
      · subst e
        rw [g2, g3, z0.2.1, z0.2.2]
        refine ⟨(u_sum_0 (fun c hc => if_neg (ncall c hc))).symm, (u_sum_0 (fun c hc => if_neg (fun z => ncall c hc z.1))).symm⟩
      · rw [e1 m 2 e, e1 m 3 e]
        exact iK.2 m (by omega)
  · unfold u_Ti at iT ⊢
    rw [e0 0 (by decide)]
    exact iT
  · obtain ⟨y1, y2, y3, y4⟩ := iZ
    refine ⟨fun k hk => ?_, fun k hk => ?_, fun k hk => ?_, fun c hc => ?_⟩
    · rw [m1] at hk
      rw [e1 k 1 (by omega), e1 k 2 (by omega), e1 k 3 (by omega)]
      exact y1 k (by omega)
    · rw [m2] at hk
      simp only [e2]
      exact y2 k hk
    · rw [m3] at hk
      simp only [e3]
      exact y3 k hk
    · rw [m4] at hc
      rw [e4]
      exact y4 c hc
end
