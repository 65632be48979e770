/-! PURE: how many calls are done in a minute -/
set_option maxRecDepth 100000
def u_ind (s : Int32) (σ : Cn) (c : Nat) : Int32 := if σ 4 c 5 = s then 1 else 0
def u_many (s : Int32) (σ : Cn) (N : Nat) : Int32 := u_sum (u_ind s σ) N
section
variable {n : Nat → Nat} {σ σ' τ : Cn} {p c k q : Nat} {D W : Nat → Nat → Nat}
theorem u_many_loc {s : Int32} {N : Nat} (hc : c < N) (h4 : ∀ d : Nat, d ≠ c → σ' 4 d 5 = σ 4 d 5) : u_many s σ' N = u_many s σ N - u_ind s σ c + u_ind s σ' c := u_sum_at hc (fun d _ hdc => by unfold u_ind; rw [h4 d hdc])
theorem u_many_no {s : Int32} {N : Nat} (hc : c < N) (h4 : ∀ d : Nat, d ≠ c → σ' 4 d 5 = σ 4 d 5) (h1 : ¬ σ 4 c 5 = s) (h2 : ¬ σ' 4 c 5 = s) : u_many s σ' N = u_many s σ N := by
  rw [u_many_loc hc h4]
  unfold u_ind
  rw [if_neg h1, if_neg h2]
  grind
theorem u_many_yes {s : Int32} {N : Nat} (hc : c < N) (h4 : ∀ d : Nat, d ≠ c → σ' 4 d 5 = σ 4 d 5) (h1 : ¬ σ 4 c 5 = s) (h2 : σ' 4 c 5 = s) : u_many s σ' N = u_many s σ N + 1 := by
  rw [u_many_loc hc h4]
  unfold u_ind
  rw [if_neg h1, if_pos h2]
  grind
theorem u_many_same {s : Int32} {N : Nat} (h4 : ∀ d : Nat, σ' 4 d 5 = σ 4 d 5) : u_many s σ' N = u_many s σ N := u_sum_cg (fun d _ => by unfold u_ind; rw [h4 d])
theorem u_tow_st : (u_tow D W n σ p c) 4 c 5 = 3 ∨ (u_tow D W n σ p c) 4 c 5 = 4 := by
  unfold u_tow
  cases u_gar W σ (u_w σ 4 c 1) (n 3)
  · left
    simp (decide := true) only [u_free, u_wait, c_rn, c_rs]
  · right
    simp (decide := true) only [u_towTo, c_rn, c_rs]
theorem u_come3_st : (u_come3 D W n σ p c) 4 c 5 = 2 ∨ (u_come3 D W n σ p c) 4 c 5 = 3 ∨ (u_come3 D W n σ p c) 4 c 5 = 4 := by
  unfold u_come3
  split
  · left
    simp (decide := true) only [c_rn, c_rs]
  · split
    · exact Or.inr u_tow_st
    · right
      left
      simp (decide := true) only [u_free, u_wait, c_rn, c_rs]
theorem u_there_st : (u_there D W n σ p c) 4 c 5 = 2 ∨ (u_there D W n σ p c) 4 c 5 = 3 ∨ (u_there D W n σ p c) 4 c 5 = 4 := by
  unfold u_there
  split
  · exact Or.inr u_tow_st
  · exact u_come3_st
theorem u_send_st (hw : u_waits σ c = true) : ((u_send D W n σ c) 4 c 5 = 0 ∨ (u_send D W n σ c) 4 c 5 = 1) ∨ (u_send D W n σ c) 4 c 5 = 2 ∨ (u_send D W n σ c) 4 c 5 = 3 ∨ (u_send D W n σ c) 4 c 5 = 4 := by
  have hst : σ 4 c 5 = 0 ∨ σ 4 c 5 = 3 := (of_decide_eq_true hw).imp id (fun z => z.1)
  unfold u_send
  cases u_near W σ c (n 2)
  · rcases hst with z | z
    · exact Or.inl (Or.inl z)
    · exact Or.inr (Or.inr (Or.inl z))
  · dsimp only
    split
    · exact Or.inr u_there_st
    · have h5 : ∀ (p : Nat) (x : Int32), (u_begin σ p c x) 4 c 5 = if σ 4 c 5 = 3 then 3 else 1 := fun p x => by simp (decide := true) only [u_begin, c_rs]
      rw [h5]
      split
      · exact Or.inr (Or.inr (Or.inl rfl))
      · exact Or.inl (Or.inr rfl)
theorem u_send_many {s : Int32} (hs : s = 5 ∨ s = 6) (hc : c < n 4) (hw : u_waits σ c = true) : u_many s (u_send D W n σ c) (n 4) = u_many s σ (n 4) := by
  have hst : σ 4 c 5 = 0 ∨ σ 4 c 5 = 3 := (of_decide_eq_true hw).imp id (fun z => z.1)
  refine u_many_no hc (fun d hd => u_send_loc hd) ?_ ?_
  · rcases hst with z | z <;> rcases hs with y | y <;> (rw [z, y]; decide)
  · rcases u_send_st (D := D) (W := W) (n := n) hw with (z | z) | z | z | z <;> rcases hs with y | y <;> (rw [z, y]; decide)
theorem u_goOn_many (hI : u_I n σ) (hp : p < n 2) : u_many 5 (u_goOn D W n σ p).1 (n 4) + u_many 6 (u_goOn D W n σ p).1 (n 4) = u_many 5 σ (n 4) + u_many 6 σ (n 4) + (u_goOn D W n σ p).2 := by
  have iR := hI.1
  have iB := hI.2.2.1
  have l1 := iR.1.2.2.2.2.2.2.1
  have l3 := iR.1.2.2.2.2.2.2.2.2.1
  have l4 := iR.1.2.2.2.2.2.2.2.2.2
  unfold u_goOn
  by_cases hb : u_busy σ p
  · rw [if_pos (show (σ 2 p 3 = 1 ∨ σ 2 p 3 = 2 ∨ σ 2 p 3 = 3) from hb)]
    obtain ⟨c, hL⟩ := (iB.1 p hp).2 hb
    obtain ⟨hc, k1, k2, ⟨l, hl1, hl2, el⟩, k4, k5, k6⟩ := id hL
    obtain ⟨_, _, ⟨k, hk, ek⟩, a, ha, ea⟩ := iR.2.2.2.2 c hc
    dsimp only
    rw [u_w_of k1 (by omega), u_w_of ek (by omega)]
    have hτ : ∀ s : Int32, u_many s (c_up (c_up σ 2 p 6 (σ 2 p 6 - 1)) 2 p 11 (σ 2 p 11 + 1)) (n 4) = u_many s σ (n 4) := fun s => u_many_same (fun d => by simp (decide := true) only [c_rn])
    by_cases h0 : σ 2 p 6 - 1 = 0
    · rw [if_pos h0]
      by_cases h1 : σ 2 p 3 = 1
      · rw [if_pos h1]
        dsimp only
        have g : ∀ s : Int32, s = 5 ∨ s = 6 → u_many s (u_there D W n (c_up (c_up σ 2 p 6 (σ 2 p 6 - 1)) 2 p 11 (σ 2 p 11 + 1)) p c) (n 4) = u_many s σ (n 4) := fun s hs => by
          rw [← hτ s]
          refine u_many_no hc (fun d hd => u_there_loc hd) ?_ ?_
          · simp (decide := true) only [c_rn]
            rcases k4 h1 with z | z <;> rcases hs with y | y <;> (rw [z, y]; decide)
          · rcases u_there_st (D := D) (W := W) (n := n) (σ := c_up (c_up σ 2 p 6 (σ 2 p 6 - 1)) 2 p 11 (σ 2 p 11 + 1)) (p := p) (c := c) with z | z | z <;> rcases hs with y | y <;> (rw [z, y]; decide)
        rw [g 5 (Or.inl rfl), g 6 (Or.inr rfl), Int32.add_zero]
      · rw [if_neg h1]
        by_cases h2 : σ 2 p 3 = 2
        · rw [if_pos h2]
          dsimp only
          have hst := (k5 h2).1
          have loc : ∀ d : Nat, d ≠ c → (u_repair (c_up (c_up σ 2 p 6 (σ 2 p 6 - 1)) 2 p 11 (σ 2 p 11 + 1)) p c k) 4 d 5 = (c_up (c_up σ 2 p 6 (σ 2 p 6 - 1)) 2 p 11 (σ 2 p 11 + 1)) 4 d 5 := fun d hd => by
            unfold u_repair u_free c_up
            simp [hd]
          have g5 : (u_repair (c_up (c_up σ 2 p 6 (σ 2 p 6 - 1)) 2 p 11 (σ 2 p 11 + 1)) p c k) 4 c 5 = 5 := by simp (decide := true) only [u_repair, u_free, c_rn, c_rs]
          rw [u_many_yes hc loc (by simp (decide := true) only [c_rn]; rw [hst]; decide) g5, u_many_no hc loc (by simp (decide := true) only [c_rn]; rw [hst]; decide) (by rw [g5]; decide), hτ, hτ]
          grind
        · rw [if_neg h2]
          have h3 : σ 2 p 3 = 3 := (hb.resolve_left h1).resolve_left h2
          obtain ⟨w1, w2, ⟨at', hat, eat⟩, q, hq, eq1, eq2⟩ := k6 h3
          rw [u_w_of eq1 (by omega)]
          dsimp only
          have loc : ∀ d : Nat, d ≠ c → (u_endTow (c_up (c_up σ 2 p 6 (σ 2 p 6 - 1)) 2 p 11 (σ 2 p 11 + 1)) p c q) 4 d 5 = (c_up (c_up σ 2 p 6 (σ 2 p 6 - 1)) 2 p 11 (σ 2 p 11 + 1)) 4 d 5 := fun d hd => by
            unfold u_endTow
            split
            · unfold u_free c_up
              simp [hd]
            · unfold u_free u_wait c_up
              simp [hd]
          by_cases ht : σ 3 q 0 = σ 2 p 20
          · have g5 : (u_endTow (c_up (c_up σ 2 p 6 (σ 2 p 6 - 1)) 2 p 11 (σ 2 p 11 + 1)) p c q) 4 c 5 = 6 := by
              unfold u_endTow
              rw [if_pos (by simp (decide := true) only [c_rn]; exact ht)]
              simp (decide := true) only [u_free, c_rn, c_rs]
            rw [if_pos ht, u_many_no hc loc (by simp (decide := true) only [c_rn]; rw [w1]; decide) (by rw [g5]; decide), u_many_yes hc loc (by simp (decide := true) only [c_rn]; rw [w1]; decide) g5, hτ, hτ]
            grind
          · have g5 : (u_endTow (c_up (c_up σ 2 p 6 (σ 2 p 6 - 1)) 2 p 11 (σ 2 p 11 + 1)) p c q) 4 c 5 = 3 := by
              unfold u_endTow
              rw [if_neg (by simp (decide := true) only [c_rn]; exact ht)]
              simp (decide := true) only [u_free, u_wait, c_rn, c_rs]
            rw [if_neg ht, u_many_no hc loc (by simp (decide := true) only [c_rn]; rw [w1]; decide) (by rw [g5]; decide), u_many_no hc loc (by simp (decide := true) only [c_rn]; rw [w1]; decide) (by rw [g5]; decide), hτ, hτ]
            grind
    · rw [if_neg h0]
      dsimp only
      rw [hτ, hτ, Int32.add_zero]
  · rw [if_neg (show ¬ (σ 2 p 3 = 1 ∨ σ 2 p 3 = 2 ∨ σ 2 p 3 = 3) from hb), Int32.add_zero]
theorem u_goAll_many (hI : u_I n σ) (hok : u_OK D W) : ∀ p : Nat, p ≤ n 2 → u_many 5 (u_goAll D W n σ p).1 (n 4) + u_many 6 (u_goAll D W n σ p).1 (n 4) = u_many 5 σ (n 4) + u_many 6 σ (n 4) + (u_goAll D W n σ p).2 := by
  intro p
  induction p with
  | zero =>
    intro _
    exact (Int32.add_zero _).symm
  | succ p ih =>
    intro hp
    have h1 := ih (by omega)
    have h2 := u_goOn_many (D := D) (W := W) (u_I_goAll hI hok p (by omega)) (p := p) (by omega)
    have e1 : (u_goAll D W n σ (p + 1)).1 = (u_goOn D W n (u_goAll D W n σ p).1 p).1 := rfl
    have e2 : (u_goAll D W n σ (p + 1)).2 = (u_goAll D W n σ p).2 + (u_goOn D W n (u_goAll D W n σ p).1 p).2 := rfl
    rw [e1, e2, h2, h1]
    grind
theorem u_sendAll_many {s : Int32} {f : Nat → Nat} {r : Nat} (hs : s = 5 ∨ s = 6) (hSA : u_SA D W n σ f r) : ∀ k : Nat, k ≤ r → u_many s (u_sendAll D W n σ f k) (n 4) = u_many s σ (n 4) := by
  intro k
  induction k with
  | zero => intro _; rfl
  | succ k ih =>
    intro hk
    obtain ⟨a, b⟩ := (hSA k (by omega)).2.2.2 (by omega)
    unfold u_sendAll
    rw [u_send_many hs a b]
    exact ih (by omega)
theorem u_pass_many (hI : u_I n σ) (hok : u_OK D W) : u_many 5 (u_pass D W n σ) (n 4) + u_many 6 (u_pass D W n σ) (n 4) = u_many 5 σ (n 4) + u_many 6 σ (n 4) + (u_goAll D W n σ (n 2)).2 := by
  have h1 := u_I_goAll hI hok (n 2) (Nat.le_refl _)
  have hSA := u_SA_row (D := D) (W := W) h1 hok
  have h0 : ∀ s : Int32, u_many s (u_pass D W n σ) (n 4) = u_many s (u_sent D W n (u_goAll D W n σ (n 2)).1) (n 4) := fun s => u_many_same (fun d => by unfold u_pass; simp (decide := true) only [c_rn])
  rw [h0, h0]
  unfold u_sent
  rw [u_sendAll_many (Or.inl rfl) hSA _ (Nat.le_refl _), u_sendAll_many (Or.inr rfl) hSA _ (Nat.le_refl _)]
  exact u_goAll_many hI hok (n 2) (Nat.le_refl _)
end
