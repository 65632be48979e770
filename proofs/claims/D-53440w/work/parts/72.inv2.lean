/-! PURE: what always holds: a patrol and a call in hand -/
set_option maxRecDepth 100000
section
variable {n : Nat → Nat} {σ σ' τ : Cn} {p c k q : Nat}
theorem u_loc_rf : u_loc p c k q σ σ := ⟨fun _ _ _ => rfl, fun _ _ _ => rfl, fun _ _ _ => rfl, fun _ _ _ => rfl⟩
theorem u_loc2 {f : Nat} {v : Int32} (h : u_loc p c k q σ σ') : u_loc p c k q σ (c_up σ' 2 p f v) := ⟨fun i g hi => (c_rk hi).trans (h.1 i g hi), fun i g hi => (if_neg (fun z => by have := z.1; omega)).trans (h.2.1 i g hi), fun i g hi => (if_neg (fun z => by have := z.1; omega)).trans (h.2.2.1 i g hi), fun i g hi => (if_neg (fun z => by have := z.1; omega)).trans (h.2.2.2 i g hi)⟩
theorem u_loc4 {f : Nat} {v : Int32} (h : u_loc p c k q σ σ') : u_loc p c k q σ (c_up σ' 4 c f v) := ⟨fun i g hi => (if_neg (fun z => by have := z.1; omega)).trans (h.1 i g hi), fun i g hi => (c_rk hi).trans (h.2.1 i g hi), fun i g hi => (if_neg (fun z => by have := z.1; omega)).trans (h.2.2.1 i g hi), fun i g hi => (if_neg (fun z => by have := z.1; omega)).trans (h.2.2.2 i g hi)⟩
theorem u_loc1 {f : Nat} {v : Int32} (h : u_loc p c k q σ σ') : u_loc p c k q σ (c_up σ' 1 k f v) := ⟨fun i g hi => (if_neg (fun z => by have := z.1; omega)).trans (h.1 i g hi), fun i g hi => (if_neg (fun z => by have := z.1; omega)).trans (h.2.1 i g hi), fun i g hi => (c_rk hi).trans (h.2.2.1 i g hi), fun i g hi => (if_neg (fun z => by have := z.1; omega)).trans (h.2.2.2 i g hi)⟩
theorem u_loc3 {f : Nat} {v : Int32} (h : u_loc p c k q σ σ') : u_loc p c k q σ (c_up σ' 3 q f v) := ⟨fun i g hi => (if_neg (fun z => by have := z.1; omega)).trans (h.1 i g hi), fun i g hi => (if_neg (fun z => by have := z.1; omega)).trans (h.2.1 i g hi), fun i g hi => (if_neg (fun z => by have := z.1; omega)).trans (h.2.2.1 i g hi), fun i g hi => (c_rk hi).trans (h.2.2.2 i g hi)⟩
theorem u_loc0 {f : Nat} {v : Int32} (h : u_loc p c k q σ σ') : u_loc p c k q σ (c_up σ' 0 0 f v) := ⟨fun i g hi => (if_neg (fun z => by have := z.1; omega)).trans (h.1 i g hi), fun i g hi => (if_neg (fun z => by have := z.1; omega)).trans (h.2.1 i g hi), fun i g hi => (if_neg (fun z => by have := z.1; omega)).trans (h.2.2.1 i g hi), fun i g hi => (if_neg (fun z => by have := z.1; omega)).trans (h.2.2.2 i g hi)⟩
theorem u_free_loc (h : u_loc p c k q σ σ') : u_loc p c k q σ (u_free σ' p) := u_loc2 (u_loc2 (u_loc2 (u_loc2 (u_loc2 h))))
theorem u_wait_loc {a : Int32} (h : u_loc p c k q σ σ') : u_loc p c k q σ (u_wait σ' c a) := u_loc4 (u_loc4 (u_loc4 h))
/-- a call in hand, by itself -/
def u_fw (n : Nat → Nat) (σ : Cn) (c : Nat) : Prop := (σ 4 c 8 = -5 ∨ ∃ p : Nat, p < n 2 ∧ σ 4 c 8 = nI p) ∧ (σ 4 c 8 ≠ -5 → σ 4 c 20 ≠ -5 ∧ σ 4 c 7 = σ 4 c 20 - σ 4 c 4) ∧ (σ 4 c 8 = -5 → σ 4 c 20 = -5)
def u_J (n : Nat → Nat) (σ : Cn) (p c k : Nat) : Prop := (c < n 4 ∧ p < n 2 ∧ k < n 1 ∧ σ 4 c 0 = nI k ∧ σ 2 p 5 = nI c ∧ σ 4 c 5 < 5) ∧ u_R n σ ∧ u_V n σ p ∧ u_H n σ p c ∧ (∀ d : Nat, d < n 4 → d ≠ c → u_fi n σ d) ∧ u_fw n σ c ∧ u_M n σ ∧ u_O n σ ∧ u_D n σ ∧ u_K n σ ∧ u_Ti σ ∧ u_Z n σ
theorem u_fi_cg (h : u_fi n σ c) (e : ∀ f : Nat, σ' 4 c f = σ 4 c f) : u_fi n σ' c := by
  unfold u_fi at h ⊢
  rw [e 4, e 5, e 7, e 8, e 20]
  exact h
theorem u_M_cg (h : u_M n σ) (h4 : ∀ i f : Nat, i ≠ c → σ' 4 i f = σ 4 i f) (h0 : σ' 4 c 0 = σ 4 c 0) (h5 : ¬ σ 4 c 5 = 5) (h5' : ¬ σ' 4 c 5 = 5) (hm : ∀ m : Nat, m < n 1 → σ' 1 m 22 = σ 1 m 22 ∧ σ' 1 m 23 = σ 1 m 23) : u_M n σ' := by
  intro m hmn
  have e0 : ∀ d : Nat, σ' 4 d 0 = σ 4 d 0 := fun d => by
    by_cases hd : d = c
    · rw [hd, h0]
    · exact h4 d 0 hd
  have e5 : ∀ d : Nat, (σ' 4 d 5 = 5 ↔ σ 4 d 5 = 5) := fun d => by
    by_cases hd : d = c
    · subst hd
      exact ⟨fun z => absurd z h5', fun z => absurd z h5⟩
    · rw [h4 d 5 hd]
  rcases h m hmn with ⟨a, b⟩ | ⟨d, d1, d2, d3, d4, d5, d6⟩
  · exact Or.inl ⟨fun d hd z => a d hd ⟨(e0 d).symm.trans z.1, (e5 d).mp z.2⟩, (hm m hmn).1.trans b⟩
  · have hdc : d ≠ c := fun z => h5 (by rw [← z]; exact d3)
    exact Or.inr ⟨d, d1, (e0 d).trans d2, (e5 d).mpr d3, fun x hx hx2 z => d4 x hx hx2 ⟨(e0 x).symm.trans z.1, (e5 x).mp z.2⟩, by rw [(hm m hmn).1, h4 d 8 hdc]; exact d5, by rw [(hm m hmn).2, h4 d 9 hdc]; exact d6⟩
theorem u_O_cg (h : u_O n σ) (h4 : ∀ i f : Nat, i ≠ c → σ' 4 i f = σ 4 i f) (h0 : σ' 4 c 0 = σ 4 c 0) (h5 : σ 4 c 5 < 5) : u_O n σ' := by
  intro a b hab hb he
  have e0 : ∀ d : Nat, σ' 4 d 0 = σ 4 d 0 := fun d => by
    by_cases hd : d = c
    · rw [hd, h0]
    · exact h4 d 0 hd
  rw [e0, e0] at he
  have := h a b hab hb he
  by_cases hd : a = c
  · subst hd
    exact absurd h5 this
  · rw [h4 a 5 hd]
    exact this
theorem u_D_cg (h : u_D n σ) (hm : ∀ m : Nat, m < n 1 → σ' 1 m 1 = σ 1 m 1 ∧ σ' 1 m 20 = σ 1 m 20 ∧ σ' 1 m 21 = σ 1 m 21) (h0 : σ' 0 0 10 = σ 0 0 10) (h1 : σ' 0 0 11 = σ 0 0 11) : u_D n σ' := by
  obtain ⟨a, b, d⟩ := h
  refine ⟨fun m hmn => ?_, ?_, ?_⟩
  · rw [(hm m hmn).1, (hm m hmn).2.1, (hm m hmn).2.2]
    exact a m hmn
  · rw [h0, b]
    exact (u_sum_cg (fun m hmn => (hm m hmn).2.1)).symm
  · rw [h1, d]
    exact (u_sum_cg (fun m hmn => (hm m hmn).2.2)).symm
theorem u_K_cg (h : u_K n σ) (hc : ∀ d m : Nat, d < n 4 → σ' 4 d 10 = σ 4 d 10 ∧ u_cb σ' m d = u_cb σ m d ∧ u_late σ' m d = u_late σ m d) (hm : ∀ m : Nat, m < n 1 → σ' 1 m 2 = σ 1 m 2 ∧ σ' 1 m 3 = σ 1 m 3) (h0 : σ' 0 0 12 = σ 0 0 12) : u_K n σ' := by
  obtain ⟨a, b⟩ := h
  refine ⟨?_, fun m hmn => ⟨?_, ?_⟩⟩
  · rw [h0, a]
    exact (u_sum_cg (fun d hd => (hc d 0 hd).1)).symm
  · rw [(hm m hmn).1, (b m hmn).1]
    exact (u_sum_cg (fun d hd => (hc d m hd).2.1)).symm
  · rw [(hm m hmn).2, (b m hmn).2]
    exact (u_sum_cg (fun d hd => (hc d m hd).2.2)).symm
theorem u_Z_loc (h : u_Z n σ) (hl : u_loc p c k q σ σ') (hp : p < n 2) (hk : k < n 1) (hq : q < n 3 ∨ ∀ f : Nat, σ' 3 q f = σ 3 q f) (h2 : σ' 4 c 2 = σ 4 c 2) : u_Z n σ' := by
  obtain ⟨a, b, d, d2⟩ := h
  refine ⟨fun i hi => ?_, fun i hi => ?_, fun i hi => ?_, fun i hi => ?_⟩
  · rw [hl.2.2.1 i 1 (by omega), hl.2.2.1 i 2 (by omega), hl.2.2.1 i 3 (by omega)]
    exact a i hi
  · rw [hl.1 i 7 (by omega), hl.1 i 8 (by omega), hl.1 i 9 (by omega), hl.1 i 10 (by omega), hl.1 i 11 (by omega)]
    exact b i hi
  · by_cases e : i = q
    · subst e
      rcases hq with hq | hq
      · omega
      · rw [hq, hq]
        exact d i hi
    · rw [hl.2.2.2 i 2 e, hl.2.2.2 i 3 e]
      exact d i hi
  · by_cases e : i = c
    · rw [e, h2, ← e]
      exact d2 i hi
    · rw [hl.2.1 i 2 e]
      exact d2 i hi
theorem u_loc_cb (hl : u_loc p c k q σ σ') (h0 : σ' 4 c 0 = σ 4 c 0) (h3 : σ' 4 c 3 = σ 4 c 3) (h7 : σ' 4 c 7 = σ 4 c 7) (h8 : σ' 4 c 8 = σ 4 c 8) (h10 : σ' 4 c 10 = σ 4 c 10) : ∀ d m : Nat, d < n 4 → σ' 4 d 10 = σ 4 d 10 ∧ u_cb σ' m d = u_cb σ m d ∧ u_late σ' m d = u_late σ m d := by
  intro d m _
  unfold u_cb u_late
  by_cases hd : d = c
  · subst hd
    rw [h0, h3, h7, h8, h10]
    exact ⟨rfl, rfl, rfl⟩
  · rw [hl.2.1 d 0 hd, hl.2.1 d 3 hd, hl.2.1 d 7 hd, hl.2.1 d 8 hd, hl.2.1 d 10 hd]
    exact ⟨rfl, rfl, rfl⟩
/-- nothing is in hand any more -/
theorem u_fin {s : Nat} (hJ : u_J n σ p c k) (hl : u_loc p c k q σ σ') (hR : u_R n σ') (hU : u_U n σ') (hB : u_B n σ') (hs : s = 2 ∨ s = 3 ∨ s = 4 ∨ s = 6) (h5 : σ' 4 c 5 = nI s) (h0 : σ' 4 c 0 = σ 4 c 0) (h2 : σ' 4 c 2 = σ 4 c 2) (h3 : σ' 4 c 3 = σ 4 c 3) (h4 : σ' 4 c 4 = σ 4 c 4) (h7 : σ' 4 c 7 = σ 4 c 7) (h8 : σ' 4 c 8 = σ 4 c 8) (h10 : σ' 4 c 10 = σ 4 c 10) (h20 : σ' 4 c 20 = σ 4 c 20) (hm : ∀ f : Nat, σ' 1 k f = σ 1 k f) (hz : ∀ f : Nat, σ' 0 0 f = σ 0 0 f) (hq : q < n 3 ∨ ∀ f : Nat, σ' 3 q f = σ 3 q f) : u_I n σ' := by
  obtain ⟨⟨j1, j2, j3, j4, j5, j6⟩, _, _, _, j7, j8, j9, j10, j11, j12, j13, j14⟩ := hJ
  have hmm : ∀ m f : Nat, σ' 1 m f = σ 1 m f := fun m f => by
    by_cases e : m = k
    · rw [e, hm]
    · exact hl.2.2.1 m f e
  have hs5 : ¬ σ' 4 c 5 = 5 := by
    rw [h5]
    rcases hs with rfl | rfl | rfl | rfl <;> decide
  have hs7 : ¬ σ' 4 c 5 = 7 := by
    rw [h5]
    rcases hs with rfl | rfl | rfl | rfl <;> decide
  have hs01 : ¬ (σ' 4 c 5 = 0 ∨ σ' 4 c 5 = 1) := by
    rw [h5]
    rcases hs with rfl | rfl | rfl | rfl <;> decide
  have ho5 : ¬ σ 4 c 5 = 5 := fun z => by rw [z] at j6; exact absurd j6 (by decide)
  refine ⟨hR, hU, hB, fun d hd => ?_, u_M_cg j9 hl.2.1 h0 ho5 hs5 (fun m _ => ⟨hmm m 22, hmm m 23⟩), u_O_cg j10 hl.2.1 h0 j6, u_D_cg j11 (fun m _ => ⟨hmm m 1, hmm m 20, hmm m 21⟩) (hz 10) (hz 11), u_K_cg j12 (u_loc_cb hl h0 h3 h7 h8 h10) (fun m _ => ⟨hmm m 2, hmm m 3⟩) (hz 12), ?_, u_Z_loc j14 hl j2 j3 hq h2⟩
  · by_cases e : d = c
    · subst e
      refine ⟨⟨s, by omega, h5⟩, by rw [h8]; exact j8.1, fun z => absurd z hs01, fun z => ?_, fun z _ => ?_, fun z => absurd z hs5⟩
      · rw [h20, h7, h4]
        rcases z with z | z
        · rw [h8] at z
          exact j8.2.1 z
        · exact absurd z hs7
      · rw [h20]
        rw [h8] at z
        exact j8.2.2 z
    · exact u_fi_cg (j7 d hd e) (fun f => hl.2.1 d f e)
  · unfold u_Ti
    rw [hz]
    exact j13
/-- the call waits for a tow, the patrol is free -/
theorem u_I_leave {a : Nat} (hJ : u_J n σ p c k) (ha : a < 12) (h1 : σ 4 c 1 = nI a) : u_I n (u_free (u_wait σ c (σ 4 c 1)) p) := by
  have hl : u_loc p c k 1000 σ (u_free (u_wait σ c (σ 4 c 1)) p) := u_free_loc (u_wait_loc u_loc_rf)
  obtain ⟨⟨j1, j2, j3, j4, j5, j6⟩, jR, jV, jH, _⟩ := id hJ
  have hV : u_V n (u_free (u_wait σ c (σ 4 c 1)) p) p := fun i hi => by
    rw [u_uX_loc hl, show u_free (u_wait σ c (σ 4 c 1)) p 3 i 20 = σ 3 i 20 by simp (decide := true) only [u_free, u_wait, c_rn]]
    exact jV i hi
  have d3 : u_free (u_wait σ c (σ 4 c 1)) p 2 p 3 = 0 := by simp (decide := true) only [u_free, u_wait, c_rn, c_rs]
  refine u_fin (s := 3) hJ hl ?_ (u_V_to hV j2 (by rw [d3]; decide)) (u_H_done (u_H_loc jH hl) d3 (by simp (decide := true) only [u_free, u_wait, c_rn, c_rs])) (Or.inr (Or.inl rfl)) ?_ ?_ ?_ ?_ ?_ ?_ ?_ ?_ ?_ (fun f => ?_) (fun f => ?_) (Or.inr (fun f => ?_))
  · exact u_R_up (u_R_up (u_R_up (u_R_up (u_R_up (u_R_up (u_R_up (u_R_41 jR h1 ha) rfl) rfl) rfl) rfl) rfl) rfl) rfl
  all_goals first
    | (simp (decide := true) only [u_free, u_wait, c_rn, c_rs]; done)
    | (simp (decide := true) only [u_free, u_wait, c_rn, c_rs]; rfl)
    | (unfold u_free u_wait c_up; simp)
end
