/-! PURE: small changes keep what always holds -/
set_option maxRecDepth 100000
section
variable {n : Nat → Nat} {σ σ' : Cn} {k p : Nat} {v : Int32}
theorem u_Dk_cg (h : ∀ k f : Nat, σ' 5 k f = σ 5 k f) : ∀ N : Nat, u_Dk σ' N = u_Dk σ N := by
  intro N
  induction N with
  | zero => rfl
  | succ N ih =>
    unfold u_Dk u_w
    rw [ih, h, h, h]
theorem u_Rds_cg {N : Nat} (h : ∀ k f : Nat, σ' 5 k f = σ 5 k f) (hr : u_Rds σ N) : u_Rds σ' N := fun r hrN => by
  have := hr r hrN
  unfold u_rd u_w at this ⊢
  rw [u_Dk_cg h, h, h, h]
  exact this
theorem u_Sv_up {s f : Nat} (hS : u_Sv (σ, n)) (h5 : Nat.beq 5 s = false) (h4 : s ≠ 4 ∨ k < 40) (hI : u_I n (c_up σ s k f v)) : u_Sv (c_up σ s k f v, n) ∧ u_Dk (c_up σ s k f v) (n 5) = u_Dk σ (n 5) :=
  ⟨⟨hI, u_Rds_cg (fun _ _ => c_rx h5) hS.2.1, u_V4_up hS.2.2 h4⟩, u_Dk_cg (fun _ _ => c_rx h5) _⟩
/-- weather, promises -/
theorem u_I_set {f : Nat} (hI : u_I n σ) (hf : 1 ≤ f ∧ f ≤ 4) : u_I n (c_up σ 0 0 f v) := by
  obtain ⟨iR, iU, iB, iF, iM, iO, iD, iK, iT, iZ⟩ := hI
  have e : ∀ s i f' : Nat, s ≠ 0 ∨ f' ≠ f → (c_up σ 0 0 f v) s i f' = σ s i f' := fun s i f' h => if_neg (fun z => h.elim (fun y => y z.1) (fun y => y z.2.2))
  have e4 : ∀ i f' : Nat, (c_up σ 0 0 f v) 4 i f' = σ 4 i f' := fun i f' => e 4 i f' (Or.inl (by decide))
  have e1 : ∀ i f' : Nat, (c_up σ 0 0 f v) 1 i f' = σ 1 i f' := fun i f' => e 1 i f' (Or.inl (by decide))
  have e2 : ∀ i f' : Nat, (c_up σ 0 0 f v) 2 i f' = σ 2 i f' := fun i f' => e 2 i f' (Or.inl (by decide))
  have e3 : ∀ i f' : Nat, (c_up σ 0 0 f v) 3 i f' = σ 3 i f' := fun i f' => e 3 i f' (Or.inl (by decide))
  have hf4 : f = 1 ∨ f = 2 ∨ f = 3 ∨ f = 4 := by omega
  refine ⟨u_R_up iR (by rcases hf4 with z | z | z | z <;> subst z <;> rfl), u_U_up iU rfl, ?_, fun d hd => u_fi_cg (iF d hd) (e4 d), ?_, ?_, u_D_cg iD (fun m _ => ⟨e1 m 1, e1 m 20, e1 m 21⟩) (e 0 0 10 (Or.inr (by omega))) (e 0 0 11 (Or.inr (by omega))), ?_, ?_, ?_⟩
  · unfold u_B u_busy u_link at iB ⊢
    simp only [e2, e4]
    exact iB
  · unfold u_M u_m at iM ⊢
    simp only [e4, e1]
    exact iM
  · unfold u_O at iO ⊢
    simp only [e4]
    exact iO
  · unfold u_K u_cb u_late at iK ⊢
    simp only [e4, e1]
    rw [e 0 0 12 (Or.inr (by omega))]
    exact iK
  · unfold u_Ti at iT ⊢
    rw [e 0 0 0 (Or.inr (by omega))]
    exact iT
  · unfold u_Z at iZ ⊢
    simp only [e4, e1, e2, e3]
    exact iZ
/-- cars are fetched -/
theorem u_I_fetch (hI : u_I n σ) (hk : k < n 3) : u_I n (c_up σ 3 k 2 v) := by
  obtain ⟨iR, iU, iB, iF, iM, iO, iD, iK, iT, iZ⟩ := hI
  have e4 : ∀ i f' : Nat, (c_up σ 3 k 2 v) 4 i f' = σ 4 i f' := fun i f' => c_rx rfl
  have e1 : ∀ i f' : Nat, (c_up σ 3 k 2 v) 1 i f' = σ 1 i f' := fun i f' => c_rx rfl
  have e2 : ∀ i f' : Nat, (c_up σ 3 k 2 v) 2 i f' = σ 2 i f' := fun i f' => c_rx rfl
  have e0 : ∀ i f' : Nat, (c_up σ 3 k 2 v) 0 i f' = σ 0 i f' := fun i f' => c_rx rfl
  refine ⟨u_R_up iR rfl, u_U_up iU rfl, ?_, fun d hd => u_fi_cg (iF d hd) (e4 d), ?_, ?_, u_D_cg iD (fun m _ => ⟨e1 m 1, e1 m 20, e1 m 21⟩) (e0 0 10) (e0 0 11), ?_, ?_, ?_⟩
  · unfold u_B u_busy u_link at iB ⊢
    simp only [e2, e4]
    exact iB
  · unfold u_M u_m at iM ⊢
    simp only [e4, e1]
    exact iM
  · unfold u_O at iO ⊢
    simp only [e4]
    exact iO
  · unfold u_K u_cb u_late at iK ⊢
    simp only [e4, e1, e0]
    exact iK
  · unfold u_Ti at iT ⊢
    simp only [e0]
    exact iT
  · obtain ⟨z1, z2, z3, z4⟩ := iZ
    refine ⟨fun i hi => ?_, fun i hi => ?_, fun i hi => ?_, fun c hc => ?_⟩
    · simp only [e1]
      exact z1 i hi
    · simp only [e2]
      exact z2 i hi
    · have hne : i ≠ k := by omega
      rw [c_rk hne, c_rk hne]
      exact z3 i hi
    · rw [e4]
      exact z4 c hc
/-- a patrol is elsewhere -/
theorem u_I_home {a : Nat} (hI : u_I n σ) (ha : a < 12) (hv : v = nI a) : u_I n (c_up σ 2 p 4 v) := by
  obtain ⟨iR, iU, iB, iF, iM, iO, iD, iK, iT, iZ⟩ := hI
  have e4 : ∀ i f' : Nat, (c_up σ 2 p 4 v) 4 i f' = σ 4 i f' := fun i f' => c_rx rfl
  have e1 : ∀ i f' : Nat, (c_up σ 2 p 4 v) 1 i f' = σ 1 i f' := fun i f' => c_rx rfl
  have e3 : ∀ i f' : Nat, (c_up σ 2 p 4 v) 3 i f' = σ 3 i f' := fun i f' => c_rx rfl
  have e0 : ∀ i f' : Nat, (c_up σ 2 p 4 v) 0 i f' = σ 0 i f' := fun i f' => c_rx rfl
  have e2 : ∀ i f' : Nat, f' ≠ 4 → (c_up σ 2 p 4 v) 2 i f' = σ 2 i f' := fun i f' h => if_neg (fun z => h z.2.2)
  refine ⟨u_R_24 iR hv ha, u_U_up iU rfl, ?_, fun d hd => u_fi_cg (iF d hd) (e4 d), ?_, ?_, u_D_cg iD (fun m _ => ⟨e1 m 1, e1 m 20, e1 m 21⟩) (e0 0 10) (e0 0 11), ?_, ?_, ?_⟩
  · unfold u_B u_busy u_link at iB ⊢
    simp (decide := true) only [c_rn]
    exact iB
  · unfold u_M u_m at iM ⊢
    simp only [e4, e1]
    exact iM
  · unfold u_O at iO ⊢
    simp only [e4]
    exact iO
  · unfold u_K u_cb u_late at iK ⊢
    simp only [e4, e1, e0]
    exact iK
  · unfold u_Ti at iT ⊢
    simp only [e0]
    exact iT
  · unfold u_Z at iZ ⊢
    simp (decide := true) only [c_rn]
    exact iZ
/-- on duty, or off -/
theorem u_I_duty (hI : u_I n σ) (hp : p < n 2) (h : σ 2 p 3 = 0 ∨ σ 2 p 3 = 4) (hv : v = 0 ∨ v = 4) : u_I n (c_up σ 2 p 3 v) := by
  obtain ⟨iR, iU, iB, iF, iM, iO, iD, iK, iT, iZ⟩ := hI
  have e4 : ∀ i f' : Nat, (c_up σ 2 p 3 v) 4 i f' = σ 4 i f' := fun i f' => c_rx rfl
  have e1 : ∀ i f' : Nat, (c_up σ 2 p 3 v) 1 i f' = σ 1 i f' := fun i f' => c_rx rfl
  have e3 : ∀ i f' : Nat, (c_up σ 2 p 3 v) 3 i f' = σ 3 i f' := fun i f' => c_rx rfl
  have e0 : ∀ i f' : Nat, (c_up σ 2 p 3 v) 0 i f' = σ 0 i f' := fun i f' => c_rx rfl
  have e2 : ∀ i f' : Nat, f' ≠ 3 → (c_up σ 2 p 3 v) 2 i f' = σ 2 i f' := fun i f' h => if_neg (fun z => h z.2.2)
  have ek : ∀ i : Nat, i ≠ p → (c_up σ 2 p 3 v) 2 i 3 = σ 2 i 3 := fun i hi => c_rk hi
  have nb : ¬ u_busy σ p := fun z => by
    unfold u_busy at z
    rcases h with h | h <;> rw [h] at z <;> revert z <;> decide
  have nb' : ¬ u_busy (c_up σ 2 p 3 v) p := fun z => by
    unfold u_busy at z
    rw [c_rs] at z
    rcases hv with h | h <;> rw [h] at z <;> revert z <;> decide
  refine ⟨u_R_up iR rfl, u_U_23 iU (by rcases h with h | h <;> rw [h] <;> decide) (by rcases hv with h | h <;> rw [h] <;> decide), ?_, fun d hd => u_fi_cg (iF d hd) (e4 d), ?_, ?_, u_D_cg iD (fun m _ => ⟨e1 m 1, e1 m 20, e1 m 21⟩) (e0 0 10) (e0 0 11), ?_, ?_, ?_⟩
  · have bz : ∀ i : Nat, i ≠ p → (u_busy (c_up σ 2 p 3 v) i ↔ u_busy σ i) := fun i hi => by
      unfold u_busy
      rw [ek i hi]
    refine ⟨fun i hi => ?_, fun c hc => ?_⟩
    · by_cases e : i = p
      · subst e
        refine ⟨?_, fun z => absurd z nb'⟩
        rw [c_rs]
        rcases hv with z | z
        · exact Or.inl z
        · exact Or.inr (Or.inl z)
      · obtain ⟨q1, q2⟩ := iB.1 i hi
        refine ⟨?_, fun z => ?_⟩
        · rw [ek i e]
          rcases q1 with w | w | w
          · exact Or.inl w
          · exact Or.inr (Or.inl w)
          · exact Or.inr (Or.inr ((bz i e).mpr w))
        · obtain ⟨c, hl⟩ := q2 ((bz i e).mp z)
          refine ⟨c, ?_⟩
          unfold u_link at hl ⊢
          rw [ek i e]
          simp (decide := true) only [c_rn]
          exact hl
    · rcases iB.2 c hc with w | ⟨i, q1, q2, q3, q4⟩
      · left
        rw [e4]
        exact w
      · have e : i ≠ p := fun z => nb (by rw [← z]; exact q3)
        exact Or.inr ⟨i, q1, by rw [e4]; exact q2, (bz i e).mpr q3, by rw [e2 i 5 (by decide)]; exact q4⟩
  · unfold u_M u_m at iM ⊢
    simp only [e4, e1]
    exact iM
  · unfold u_O at iO ⊢
    simp only [e4]
    exact iO
  · unfold u_K u_cb u_late at iK ⊢
    simp only [e4, e1, e0]
    exact iK
  · unfold u_Ti at iT ⊢
    simp only [e0]
    exact iT
  · unfold u_Z at iZ ⊢
    simp (decide := true) only [c_rn]
    exact iZ
end
