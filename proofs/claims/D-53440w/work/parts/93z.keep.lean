/-! PURE: what a minute leaves alone: the roads; places of calls that are not -/
set_option maxRecDepth 100000
theorem c_rx {σ : Cn} {s k f s' k' f' : Nat} {v : Int32} (h : Nat.beq s' s = false) : c_up σ s k f v s' k' f' = σ s' k' f' := if_neg (fun z => by
  rw [z.1, Nat.beq_refl] at h
  cases h)
section
variable {n : Nat → Nat} {σ σ' : Cn} {D W : Nat → Nat → Nat} {p c : Nat}
theorem u_tow_r5 {k f : Nat} : (u_tow D W n σ p c) 5 k f = σ 5 k f := by
  unfold u_tow
  cases u_gar W σ (u_w σ 4 c 1) (n 3)
  · simp (decide := true) only [u_free, u_wait, c_rx]
  · simp (decide := true) only [u_towTo, c_rx]
theorem u_there_r5 {k f : Nat} : (u_there D W n σ p c) 5 k f = σ 5 k f := by
  unfold u_there
  split
  · rw [u_tow_r5]
    simp (decide := true) only [c_rx]
  · have h3 : ∀ τ : Cn, (u_come3 D W n τ p c) 5 k f = τ 5 k f := fun τ => by
      unfold u_come3
      split
      · simp (decide := true) only [c_rx]
      · split
        · exact u_tow_r5
        · simp (decide := true) only [u_free, u_wait, c_rx]
    rw [h3]
    split
    · simp (decide := true) only [u_come2, u_come1, c_rx]
    · simp (decide := true) only [u_come1, c_rx]
theorem u_goOn_r5 {k f : Nat} : (u_goOn D W n σ p).1 5 k f = σ 5 k f := by
  unfold u_goOn
  split
  · dsimp only
    split
    · split
      · dsimp only
        rw [u_there_r5]
        simp (decide := true) only [c_rx]
      · split
        · simp (decide := true) only [u_repair, u_free, c_rx]
        · unfold u_endTow
          split
          · simp (decide := true) only [u_free, c_rx]
          · simp (decide := true) only [u_free, u_wait, c_rx]
    · simp (decide := true) only [c_rx]
  · rfl
theorem u_goAll_r5 {k f : Nat} : ∀ p : Nat, (u_goAll D W n σ p).1 5 k f = σ 5 k f := by
  intro p
  induction p with
  | zero => rfl
  | succ p ih => exact u_goOn_r5.trans ih
theorem u_send_r5 {k f : Nat} : (u_send D W n σ c) 5 k f = σ 5 k f := by
  unfold u_send
  cases u_near W σ c (n 2)
  · rfl
  · dsimp only
    split
    · rw [u_there_r5]
      simp (decide := true) only [u_begin, c_rx]
    · simp (decide := true) only [u_begin, c_rx]
theorem u_sendAll_r5 {k f : Nat} {h : Nat → Nat} : ∀ i : Nat, (u_sendAll D W n σ h i) 5 k f = σ 5 k f := by
  intro i
  induction i with
  | zero => rfl
  | succ i ih => exact u_send_r5.trans ih
theorem u_pass_r5 {k f : Nat} : (u_pass D W n σ) 5 k f = σ 5 k f := by
  unfold u_pass
  rw [c_rx rfl]
  unfold u_sent
  rw [u_sendAll_r5, u_goAll_r5]
/-- nothing beyond forty calls -/
def u_V4 (σ : Cn) : Prop := ∀ k f : Nat, 40 ≤ k → σ 4 k f = 0
theorem u_V4_up {s k f : Nat} {v : Int32} (h : u_V4 σ) (hs : s ≠ 4 ∨ k < 40) : u_V4 (c_up σ s k f v) := fun i j hi => by
  refine (if_neg (fun z => ?_)).trans (h i j hi)
  rcases hs with w | w
  · exact w z.1.symm
  · rw [z.2.1] at hi
    omega
theorem u_goOn_loc {d f : Nat} (hI : u_I n σ) (hp : p < n 2) (hd : 40 ≤ d) : (u_goOn D W n σ p).1 4 d f = σ 4 d f := by
  have l4 := hI.1.1.2.2.2.2.2.2.2.2.2
  unfold u_goOn
  split
  · rename_i hb
    obtain ⟨c, hc, ec, _⟩ := (hI.2.2.1.1 p hp).2 hb
    have ew : u_w σ 2 p 5 = c := u_w_of ec (by omega)
    have hdc : d ≠ c := by omega
    rw [ew]
    dsimp only
    split
    · split
      · dsimp only
        rw [u_there_loc hdc]
        simp (decide := true) only [c_rx]
      · split
        · simp (decide := true) only [u_repair, u_free, c_rx, c_rk hdc]
        · unfold u_endTow
          split
          · simp (decide := true) only [u_free, c_rx, c_rk hdc]
          · simp (decide := true) only [u_free, u_wait, c_rx, c_rk hdc]
    · simp (decide := true) only [c_rx]
  · rfl
theorem u_V4_pass (hV : u_V4 σ) (hI : u_I n σ) (hok : u_OK D W) : u_V4 (u_pass D W n σ) := fun d f hd => by
  have l4 := hI.1.1.2.2.2.2.2.2.2.2.2
  have hg : ∀ p : Nat, p ≤ n 2 → (u_goAll D W n σ p).1 4 d f = σ 4 d f := by
    intro p
    induction p with
    | zero => intro _; rfl
    | succ p ih => intro hp; exact (u_goOn_loc (u_I_goAll hI hok p (by omega)) (by omega) hd).trans (ih (by omega))
  unfold u_pass
  rw [c_rx rfl]
  unfold u_sent
  have h1 := u_I_goAll hI hok (n 2) (Nat.le_refl _)
  rw [(u_I_sendAll h1 hok (u_row_f _ (n 4)) (u_row_ok (n 4)).2 _ (Nat.le_refl _)).2 d f (fun j hj z => by have := (u_row_f _ (n 4) j hj).1; omega), hg _ (Nat.le_refl _)]
  exact hV d f hd
end
