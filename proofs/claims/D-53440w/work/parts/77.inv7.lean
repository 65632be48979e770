/-! PURE: what always holds: a minute -/
set_option maxRecDepth 100000
section
variable {n : Nat → Nat} {σ σ' τ : Cn} {p c k q : Nat} {D W : Nat → Nat → Nat}
theorem u_tow_loc {d f : Nat} (hd : d ≠ c) : (u_tow D W n σ p c) 4 d f = σ 4 d f := by
  unfold u_tow
  cases u_gar W σ (u_w σ 4 c 1) (n 3)
  · unfold u_free u_wait c_up
    simp [hd]
  · unfold u_towTo c_up
    simp [hd]
theorem u_come3_loc {d f : Nat} (hd : d ≠ c) : (u_come3 D W n σ p c) 4 d f = σ 4 d f := by
  unfold u_come3
  split
  · unfold c_up
    simp [hd]
  · split
    · exact u_tow_loc hd
    · unfold u_free u_wait c_up
      simp [hd]
theorem u_there_loc {d f : Nat} (hd : d ≠ c) : (u_there D W n σ p c) 4 d f = σ 4 d f := by
  unfold u_there
  split
  · rw [u_tow_loc hd, c_rn (by rfl)]
  · rw [u_come3_loc hd]
    split
    · unfold u_come2 u_come1 c_up
      simp [hd]
    · unfold u_come1 c_up
      simp [hd]
theorem u_send_loc {d f : Nat} (hd : d ≠ c) : (u_send D W n σ c) 4 d f = σ 4 d f := by
  unfold u_send
  cases u_near W σ c (n 2)
  · rfl
  · dsimp only
    split
    · rw [u_there_loc hd]
      unfold u_begin c_up
      simp [hd]
    · unfold u_begin c_up
      simp [hd]
theorem u_row_ok : ∀ c : Nat, (∀ k : Nat, k < (u_row σ c).1 → u_waits σ ((u_row σ c).2 k) = true) ∧ ∀ i j : Nat, i < j → j < (u_row σ c).1 → (u_row σ c).2 i ≠ (u_row σ c).2 j := by
  intro c
  induction c with
  | zero => exact ⟨fun k h => absurd h (Nat.not_lt_zero _), fun i j _ h => absurd h (Nat.not_lt_zero _)⟩
  | succ c ih =>
    unfold u_row
    split
    · rename_i hw
      have hlt := (u_row_lt (σ := σ) c).2
      have hpl := u_pl_le (σ := σ) (c := c) (f := (u_row σ c).2) (u_row σ c).1
      refine ⟨fun k hk => ?_, fun i j hij hj => ?_⟩
      · dsimp only at hk ⊢
        unfold u_ins
        split
        · exact ih.1 k (by omega)
        · split
          · exact hw
          · exact ih.1 (k - 1) (by omega)
      · dsimp only at hj ⊢
        unfold u_ins
        generalize u_pl σ c (u_row σ c).2 (u_row σ c).1 = q at hpl
        by_cases h1 : i < q
        · rw [if_pos h1]
          by_cases h2 : j < q
          · rw [if_pos h2]
            exact ih.2 i j hij (by omega)
          · rw [if_neg h2]
            by_cases h3 : j = q
            · rw [if_pos h3]
              have := hlt i (by omega)
              omega
            · rw [if_neg h3]
              exact ih.2 i (j - 1) (by omega) (by omega)
        · rw [if_neg h1, if_neg (show ¬ j < q by omega), if_neg (show ¬ j = q by omega)]
          by_cases h3 : i = q
          · rw [if_pos h3]
            have := hlt (j - 1) (by omega)
            omega
          · rw [if_neg h3]
            exact ih.2 (i - 1) (j - 1) (by omega) (by omega)
    · exact ih
theorem u_waits_cg {d : Nat} (h5 : σ' 4 d 5 = σ 4 d 5) (h6 : σ' 4 d 6 = σ 4 d 6) : u_waits σ' d = u_waits σ d := by
  unfold u_waits
  rw [h5, h6]
/-- all sends keep it -/
theorem u_I_sendAll {f : Nat → Nat} {r : Nat} (hI : u_I n σ) (hok : u_OK D W) (hf : ∀ k : Nat, k < r → f k < n 4 ∧ u_waits σ (f k) = true) (hd : ∀ i j : Nat, i < j → j < r → f i ≠ f j) : ∀ k : Nat, k ≤ r → u_I n (u_sendAll D W n σ f k) ∧ ∀ d g : Nat, (∀ j : Nat, j < k → f j ≠ d) → (u_sendAll D W n σ f k) 4 d g = σ 4 d g := by
  intro k
  induction k with
  | zero => intro _; exact ⟨hI, fun _ _ _ => rfl⟩
  | succ k ih =>
    intro hk
    obtain ⟨a, b⟩ := ih (by omega)
    have hw : u_waits (u_sendAll D W n σ f k) (f k) = true := by
      rw [u_waits_cg (b (f k) 5 (fun j hj => hd j k hj (by omega))) (b (f k) 6 (fun j hj => hd j k hj (by omega)))]
      exact (hf k (by omega)).2
    refine ⟨u_I_send a hok (hf k (by omega)).1 hw, fun d g hdg => ?_⟩
    unfold u_sendAll
    rw [u_send_loc (fun z => hdg k (by omega) z.symm)]
    exact b d g (fun j hj => hdg j (by omega))
theorem u_SA_of {f : Nat → Nat} {r : Nat} (hI : u_I n σ) (hok : u_OK D W) (hf : ∀ k : Nat, k < r → f k < n 4 ∧ u_waits σ (f k) = true) (hd : ∀ i j : Nat, i < j → j < r → f i ≠ f j) : u_SA D W n σ f r := by
  intro k hk
  obtain ⟨a, b⟩ := u_I_sendAll hI hok hf hd k hk
  exact ⟨a.1, a.2.1, a.2.2.1, fun hkr => ⟨(hf k hkr).1, by
    rw [u_waits_cg (b (f k) 5 (fun j hj => hd j k hj hkr)) (b (f k) 6 (fun j hj => hd j k hj hkr))]
    exact (hf k hkr).2⟩⟩
theorem u_GA_of (hI : u_I n σ) (hok : u_OK D W) : u_GA D W n σ := fun p hp => by
  have := u_I_goAll hI hok p hp
  exact ⟨this.1, this.2.1, this.2.2.1⟩
theorem u_row_f (σ : Cn) (N : Nat) : (∀ k : Nat, k < (u_row σ N).1 → (u_row σ N).2 k < N ∧ u_waits σ ((u_row σ N).2 k) = true) := fun k hk => ⟨(u_row_lt N).2 k hk, (u_row_ok N).1 k hk⟩
theorem u_SA_row (hI : u_I n σ) (hok : u_OK D W) : u_SA D W n σ (u_row σ (n 4)).2 (u_row σ (n 4)).1 := u_SA_of hI hok (u_row_f σ (n 4)) (u_row_ok (n 4)).2
theorem u_I_sent (hI : u_I n σ) (hok : u_OK D W) : u_I n (u_sent D W n σ) := (u_I_sendAll hI hok (u_row_f σ (n 4)) (u_row_ok (n 4)).2 _ (Nat.le_refl _)).1
/-- the clock is no part of the rest -/
theorem u_I_clock {t : Nat} {v : Int32} (hI : u_I n σ) (hv : v = nI t) (ht : t ≤ 2880) : u_I n (c_up σ 0 0 0 v) := by
  obtain ⟨iR, iU, iB, iF, iM, iO, iD, iK, iT, iZ⟩ := hI
  have e : ∀ s i f : Nat, s ≠ 0 ∨ f ≠ 0 → (c_up σ 0 0 0 v) s i f = σ s i f := fun s i f h => if_neg (fun z => h.elim (fun y => y z.1) (fun y => y z.2.2))
  have e4 : ∀ i f : Nat, (c_up σ 0 0 0 v) 4 i f = σ 4 i f := fun i f => e 4 i f (Or.inl (by decide))
  have e1 : ∀ i f : Nat, (c_up σ 0 0 0 v) 1 i f = σ 1 i f := fun i f => e 1 i f (Or.inl (by decide))
  have e2 : ∀ i f : Nat, (c_up σ 0 0 0 v) 2 i f = σ 2 i f := fun i f => e 2 i f (Or.inl (by decide))
  have e3 : ∀ i f : Nat, (c_up σ 0 0 0 v) 3 i f = σ 3 i f := fun i f => e 3 i f (Or.inl (by decide))
  refine ⟨u_R_up iR rfl, u_U_up iU rfl, ?_, fun d hd => u_fi_cg (iF d hd) (e4 d), ?_, ?_, u_D_cg iD (fun m _ => ⟨e1 m 1, e1 m 20, e1 m 21⟩) (e 0 0 10 (Or.inr (by decide))) (e 0 0 11 (Or.inr (by decide))), ?_, ⟨t, ht, by rw [c_rs]; exact hv⟩, ?_⟩
  · unfold u_B u_busy u_link at iB ⊢
    simp only [e2, e4]
    exact iB
  · unfold u_M u_m at iM ⊢
    simp only [e4, e1]
    exact iM
  · unfold u_O at iO ⊢
    simp only [e4]
    exact iO
  · unfold u_K u_cb u_late at iK ⊢
    simp only [e4, e1]
    rw [e 0 0 12 (Or.inr (by decide))]
    exact iK
  · unfold u_Z at iZ ⊢
    simp only [e4, e1, e2, e3]
    exact iZ
-- the clock stands while a minute is gone through
theorem u_tow_min : (u_tow D W n σ p c) 0 0 0 = σ 0 0 0 := by
  unfold u_tow
  cases u_gar W σ (u_w σ 4 c 1) (n 3)
  · simp (decide := true) only [u_free, u_wait, c_rn]
  · simp (decide := true) only [u_towTo, c_rn]
theorem u_there_min : (u_there D W n σ p c) 0 0 0 = σ 0 0 0 := by
  unfold u_there
  split
  · rw [u_tow_min]
    simp (decide := true) only [c_rn]
  · have h3 : ∀ τ : Cn, (u_come3 D W n τ p c) 0 0 0 = τ 0 0 0 := fun τ => by
      unfold u_come3
      split
      · simp (decide := true) only [c_rn]
      · split
        · exact u_tow_min
        · simp (decide := true) only [u_free, u_wait, c_rn]
    rw [h3]
    split
    · simp (decide := true) only [u_come2, u_come1, c_rn]
    · simp (decide := true) only [u_come1, c_rn]
theorem u_goOn_min : (u_goOn D W n σ p).1 0 0 0 = σ 0 0 0 := by
  unfold u_goOn
  split
  · dsimp only
    split
    · split
      · dsimp only
        rw [u_there_min]
        simp (decide := true) only [c_rn]
      · split
        · simp (decide := true) only [u_repair, u_free, c_rn]
        · unfold u_endTow
          split
          · simp (decide := true) only [u_free, c_rn]
          · simp (decide := true) only [u_free, u_wait, c_rn]
    · simp (decide := true) only [c_rn]
  · rfl
theorem u_goAll_min : ∀ p : Nat, (u_goAll D W n σ p).1 0 0 0 = σ 0 0 0 := by
  intro p
  induction p with
  | zero => rfl
  | succ p ih => exact u_goOn_min.trans ih
theorem u_send_min : (u_send D W n σ c) 0 0 0 = σ 0 0 0 := by
  unfold u_send
  cases u_near W σ c (n 2)
  · rfl
  · dsimp only
    split
    · rw [u_there_min]
      simp (decide := true) only [u_begin, c_rn]
    · simp (decide := true) only [u_begin, c_rn]
theorem u_sendAll_min {f : Nat → Nat} : ∀ k : Nat, (u_sendAll D W n σ f k) 0 0 0 = σ 0 0 0 := by
  intro k
  induction k with
  | zero => rfl
  | succ k ih => exact u_send_min.trans ih
theorem u_pass_min : (u_pass D W n σ) 0 0 0 = σ 0 0 0 + 1 := by
  unfold u_pass
  rw [c_rs]
  unfold u_sent
  rw [u_sendAll_min, u_goAll_min]
theorem u_I_pass {t : Nat} (hI : u_I n σ) (hok : u_OK D W) (et : σ 0 0 0 = nI t) (ht : t < 2880) : u_I n (u_pass D W n σ) := by
  have h1 := u_I_sent (u_I_goAll hI hok (n 2) (Nat.le_refl _)) hok
  unfold u_pass
  refine u_I_clock (t := t + 1) h1 ?_ (by omega)
  unfold u_sent
  rw [u_sendAll_min, u_goAll_min, et]
  exact pn_succ
end
