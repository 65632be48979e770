/-! PURE: what always holds: tow, come, repair, end of a tow -/
set_option maxRecDepth 100000
theorem u_first_le {P : Nat → Bool} {t e : Nat} : ∀ {d a : Nat}, a ≤ e → e < a + d → P e = true → u_first P t a d ≤ e := by
  intro d
  induction d with
  | zero => intro a h1 h2; omega
  | succ d ih =>
    intro a h1 h2 h3
    unfold u_first
    split
    · exact h1
    · rename_i z
      by_cases e2 : a = e
      · rw [e2] at z
        exact absurd h3 z
      · exact ih (by omega) (by omega) h3
theorem u_end_le {D W : Nat → Nat → Nat} {own a t L : Nat} (hL : u_len D W a t = L) (h11 : L ≤ 11) : u_end D W own a t ≤ L := by
  refine u_first_le (Nat.zero_le _) (by omega) ?_
  unfold u_ok
  rw [hL, decide_eq_false (fun z => by omega)]
  rfl
theorem u_P_it {D W : Nat → Nat → Nat} {a t L : Nat} (ha : a < 12) (hs : ∀ i : Nat, i < L → u_it D W t a i ≠ t ∧ u_it D W t a i < 12 ∧ D (u_it D W t a i) (u_it D W t a (i + 1)) ≤ 60 ∧ u_it D W t a (i + 1) ≠ a ∧ u_it D W t a (i + 1) < 12 ∧ D (u_it D W t a i) (u_it D W t a (i + 1)) + W (u_it D W t a (i + 1)) t = W (u_it D W t a i) t ∧ 1 ≤ D (u_it D W t a i) (u_it D W t a (i + 1))) {i : Nat} (hi : i ≤ L) : u_it D W t a i < 12 := by
  cases i with
  | zero => exact ha
  | succ i => exact (hs i (by omega)).2.2.2.2.1
section
variable {n : Nat → Nat} {σ σ' τ : Cn} {p c k q : Nat} {D W : Nat → Nat → Nat}
theorem u_I_towTo {own a t : Nat} (hJ : u_J n σ p c k) (hq : q < n 3) (ha : a < 12) (hP : u_P D W a t) : u_I n (u_towTo D W σ p c q own a t) := by
  obtain ⟨L, hL, hL11, hLt, hs⟩ := hP
  have he := u_end_le (D := D) (W := W) (own := own) hL hL11
  have hat := u_P_it ha hs he
  have hm := u_mins_le (fun i hi => (hs i hi).2.2.1) _ he
  obtain ⟨⟨j1, j2, j3, j4, j5, j6⟩, jR, jV, jH, _⟩ := id hJ
  have l2 := jR.1.2.2.2.2.2.2.2.1
  have l3 := jR.1.2.2.2.2.2.2.2.2.1
  have hl : u_loc p c k q σ (u_towTo D W σ p c q own a t) := u_loc2 (u_loc2 (u_loc3 (u_loc2 (u_loc2 (u_loc2 (u_loc2 (u_loc4 (u_loc4 u_loc_rf))))))))
  have d3 : u_towTo D W σ p c q own a t 2 p 3 = 3 := by simp (decide := true) only [u_towTo, c_rn, c_rs]
  have d13 : u_towTo D W σ p c q own a t 2 p 13 = nI q := by simp (decide := true) only [u_towTo, c_rn, c_rs]
  have hU : u_U n (u_towTo D W σ p c q own a t) := fun i hi => by
    rw [u_uX_un (n 2) j2, u_uX_loc hl, d3, d13]
    by_cases e : i = q
    · subst e
      rw [if_pos ⟨rfl, rfl⟩, show u_towTo D W σ p c i own a t 3 i 20 = σ 3 i 20 + 1 by simp (decide := true) only [u_towTo, c_rn, c_rs], jV i hi]
    · rw [if_neg (fun z => e (u_nI_inj z.2 (by omega) (by omega)).symm), Int32.add_zero, hl.2.2.2 i 20 e]
      exact jV i hi
  refine u_fin (s := 4) hJ hl ?_ hU (u_H_busy (u_H_loc jH hl) j2 (Or.inr (Or.inr d3)) ⟨j1, ?_, ?_, ⟨if u_mins D W a t (u_end D W own a t) = 0 then 1 else 2 * u_mins D W a t (u_end D W own a t), ?_, ?_, ?_⟩, fun z => ?_, fun z => ?_, fun _ => ⟨?_, ?_, ⟨_, hat, ?_⟩, q, hq, ?_, d13⟩⟩) (Or.inr (Or.inr (Or.inl rfl))) ?_ ?_ ?_ ?_ ?_ ?_ ?_ ?_ ?_ (fun f => ?_) (fun f => ?_) (Or.inl hq)
  · exact u_R_up (u_R_up (u_R_up (u_R_up (u_R_up (u_R_up (u_R_up (u_R_up (u_R_up jR rfl) rfl) rfl) rfl) rfl) rfl) rfl) rfl) rfl
  · simp (decide := true) only [u_towTo, c_rn]
    exact j5
  · simp (decide := true) only [u_towTo, c_rn, c_rs]
  · split <;> omega
  · split <;> omega
  · simp (decide := true) only [u_towTo, c_rn, c_rs]
  · rw [d3] at z
    exact absurd z (by decide)
  · rw [d3] at z
    exact absurd z (by decide)
  all_goals first
    | (simp (decide := true) only [u_towTo, c_rn, c_rs]; done)
    | (simp (decide := true) only [u_towTo, c_rn, c_rs]; rfl)
    | (unfold u_towTo c_up; simp)
/-- a repair begins -/
theorem u_I_begin2 (hJ : u_J n σ p c k) (hf : σ 4 c 8 = nI p) (hb : σ 4 c 6 = nI p) : u_I n (c_up (c_up (c_up σ 4 c 5 2) 2 p 3 2) 2 p 6 (5 * σ 4 c 2)) := by
  have hl : u_loc p c k 1000 σ (c_up (c_up (c_up σ 4 c 5 2) 2 p 3 2) 2 p 6 (5 * σ 4 c 2)) := u_loc2 (u_loc2 (u_loc4 u_loc_rf))
  obtain ⟨⟨j1, j2, j3, j4, j5, j6⟩, jR, jV, jH, _, _, _, _, _, _, _, jZ⟩ := id hJ
  obtain ⟨t, t1, t2, et⟩ := jZ.2.2.2 c j1
  have d3 : (c_up (c_up (c_up σ 4 c 5 2) 2 p 3 2) 2 p 6 (5 * σ 4 c 2)) 2 p 3 = 2 := by simp (decide := true) only [c_rn, c_rs]
  have hV : u_V n (c_up (c_up (c_up σ 4 c 5 2) 2 p 3 2) 2 p 6 (5 * σ 4 c 2)) p := fun i hi => by
    rw [u_uX_loc hl, show (c_up (c_up (c_up σ 4 c 5 2) 2 p 3 2) 2 p 6 (5 * σ 4 c 2)) 3 i 20 = σ 3 i 20 by simp (decide := true) only [c_rn]]
    exact jV i hi
  refine u_fin (s := 2) hJ hl ?_ (u_V_to hV j2 (by rw [d3]; decide)) (u_H_busy (u_H_loc jH hl) j2 (Or.inr (Or.inl d3)) ⟨j1, ?_, ?_, ⟨5 * t, by omega, by omega, ?_⟩, fun z => ?_, fun _ => ⟨?_, ?_⟩, fun z => ?_⟩) (Or.inl rfl) ?_ ?_ ?_ ?_ ?_ ?_ ?_ ?_ ?_ (fun f => ?_) (fun f => ?_) (Or.inr (fun f => ?_))
  · exact u_R_up (u_R_up (u_R_up jR rfl) rfl) rfl
  · simp (decide := true) only [c_rn]
    exact j5
  · simp (decide := true) only [c_rn]
    exact hb
  · simp (decide := true) only [c_rn, c_rs]
    rw [et]
    exact pn_mul 5 t
  · rw [d3] at z
    exact absurd z (by decide)
  · simp (decide := true) only [c_rn, c_rs]
  · simp (decide := true) only [c_rn]
    exact hf
  · rw [d3] at z
    exact absurd z (by decide)
  all_goals first
    | (simp (decide := true) only [c_rn, c_rs]; done)
    | (simp (decide := true) only [c_rn, c_rs]; rfl)
    | (unfold c_up; simp)
theorem u_I_tow {a h : Nat} (hJ : u_J n σ p c k) (ha : a < 12) (e1 : σ 4 c 1 = nI a) (hok : u_OK D W) (e2 : σ 2 p 0 = nI h) (hh : h < 12) : u_I n (u_tow D W n σ p c) := by
  unfold u_tow
  have jR := hJ.2.1
  rw [u_w_of e1 (by omega)]
  cases hg : u_gar W σ a (n 3) with
  | none => exact u_I_leave hJ ha e1
  | some q =>
    have hq := u_gar_lt hg
    have l3 := jR.1.2.2.2.2.2.2.2.2.1
    obtain ⟨t, ht, et⟩ := jR.2.2.2.1 q hq
    have hW := u_gar_ok hg
    rw [u_w_of et (by omega)] at hW
    dsimp only
    rw [u_w_of et (by omega), u_w_of e2 (by omega)]
    exact u_I_towTo hJ hq ha (hok.2.2 a t ha ht hW)
theorem u_I_come3 {a h : Nat} (hJ : u_J n σ p c k) (ha : a < 12) (e1 : σ 4 c 1 = nI a) (hok : u_OK D W) (e2 : σ 2 p 0 = nI h) (hh : h < 12) (hf : σ 4 c 8 = nI p) (hb : σ 4 c 6 = nI p) : u_I n (u_come3 D W n σ p c) := by
  unfold u_come3
  split
  · exact u_I_begin2 hJ hf hb
  · split
    · exact u_I_tow hJ ha e1 hok e2 hh
    · exact u_I_leave hJ ha e1
end
