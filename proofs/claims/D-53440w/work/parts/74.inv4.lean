/-! PURE: what always holds: come, repair, the end of a tow -/
set_option maxRecDepth 100000
section
variable {n : Nat → Nat} {σ σ' τ : Cn} {p c k q : Nat} {D W : Nat → Nat → Nat}
theorem u_V_loc (h : u_V n σ p) (hl : u_loc p c k q σ σ') (h20 : ∀ i : Nat, σ' 3 i 20 = σ 3 i 20) : u_V n σ' p := fun i hi => by
  rw [u_uX_loc hl, h20]
  exact h i hi
theorem u_min5 (h : u_Ti σ) : ¬ σ 0 0 0 = -5 := by
  obtain ⟨t, ht, e⟩ := h
  rw [e, u_og_ne (by omega)]
  exact id
/-- the patrol takes the call's place -/
theorem u_J_area {a : Nat} (hJ : u_J n σ p c k) (ha : a < 12) (e1 : σ 4 c 1 = nI a) : u_J n (c_up σ 2 p 4 (σ 4 c 1)) p c k := by
  have hl : u_loc p c k 1000 σ (c_up σ 2 p 4 (σ 4 c 1)) := u_loc2 u_loc_rf
  obtain ⟨⟨j1, j2, j3, j4, j5, j6⟩, jR, jV, jH, jF, jw, jM, jO, jD, jK, jT, jZ⟩ := hJ
  have e4 : ∀ i f : Nat, (c_up σ 2 p 4 (σ 4 c 1)) 4 i f = σ 4 i f := fun i f => if_neg (fun z => by have := z.1; omega)
  have e1' : ∀ i f : Nat, (c_up σ 2 p 4 (σ 4 c 1)) 1 i f = σ 1 i f := fun i f => if_neg (fun z => by have := z.1; omega)
  have e0 : ∀ i f : Nat, (c_up σ 2 p 4 (σ 4 c 1)) 0 i f = σ 0 i f := fun i f => if_neg (fun z => by have := z.1; omega)
  have e3 : ∀ i f : Nat, (c_up σ 2 p 4 (σ 4 c 1)) 3 i f = σ 3 i f := fun i f => if_neg (fun z => by have := z.1; omega)
  refine ⟨⟨j1, j2, j3, by rw [e4]; exact j4, by rw [c_rn rfl]; exact j5, by rw [e4]; exact j6⟩, u_R_24 jR e1 ha, u_V_loc jV hl (fun i => e3 i 20), u_H_loc jH hl, fun d hd hdc => u_fi_cg (jF d hd hdc) (e4 d), ?_, ?_, ?_, u_D_cg jD (fun m _ => ⟨e1' m 1, e1' m 20, e1' m 21⟩) (e0 0 10) (e0 0 11), u_K_cg jK (u_loc_cb hl (e4 c 0) (e4 c 3) (e4 c 7) (e4 c 8) (e4 c 10)) (fun m _ => ⟨e1' m 2, e1' m 3⟩) (e0 0 12), ?_, u_Z_loc jZ hl j2 j3 (Or.inr (e3 1000)) (e4 c 2)⟩
  · unfold u_fw
    rw [e4, e4, e4, e4]
    exact jw
  · unfold u_M u_m at jM ⊢
    simp only [e4, e1']
    exact jM
  · unfold u_O at jO ⊢
    simp only [e4]
    exact jO
  · unfold u_Ti
    rw [e0]
    exact jT
theorem u_J_come1 {a : Nat} (hJ : u_J n σ p c k) (ha : a < 12) (e1 : σ 4 c 1 = nI a) (hF : σ 4 c 8 = -5) (h5 : ¬ σ 4 c 5 = 5) (hno : ¬ σ 4 c 3 < σ 0 0 0 - σ 4 c 4) : u_J n (u_come1 σ p c) p c k := by
  have hl : u_loc p c k 1000 σ (u_come1 σ p c) := u_loc4 (u_loc2 (u_loc4 (u_loc4 (u_loc2 u_loc_rf))))
  obtain ⟨⟨j1, j2, j3, j4, j5, j6⟩, jR, jV, jH, jF, jw, jM, jO, jD, jK, jT, jZ⟩ := hJ
  have l2 := jR.1.2.2.2.2.2.2.2.1
  have e1' : ∀ i f : Nat, (u_come1 σ p c) 1 i f = σ 1 i f := fun i f => by unfold u_come1 c_up; simp
  have e0 : ∀ i f : Nat, (u_come1 σ p c) 0 i f = σ 0 i f := fun i f => by unfold u_come1 c_up; simp
  have e3 : ∀ i f : Nat, (u_come1 σ p c) 3 i f = σ 3 i f := fun i f => by unfold u_come1 c_up; simp
  have g0 : (u_come1 σ p c) 4 c 0 = σ 4 c 0 := by simp (decide := true) only [u_come1, c_rn]
  have g2 : (u_come1 σ p c) 4 c 2 = σ 4 c 2 := by simp (decide := true) only [u_come1, c_rn]
  have g3 : (u_come1 σ p c) 4 c 3 = σ 4 c 3 := by simp (decide := true) only [u_come1, c_rn]
  have g4 : (u_come1 σ p c) 4 c 4 = σ 4 c 4 := by simp (decide := true) only [u_come1, c_rn]
  have g5 : (u_come1 σ p c) 4 c 5 = σ 4 c 5 := by simp (decide := true) only [u_come1, c_rn]
  have g10 : (u_come1 σ p c) 4 c 10 = σ 4 c 10 := by simp (decide := true) only [u_come1, c_rn]
  have g7 : (u_come1 σ p c) 4 c 7 = σ 0 0 0 - σ 4 c 4 := by simp (decide := true) only [u_come1, c_rn, c_rs]
  have g8 : (u_come1 σ p c) 4 c 8 = nI p := by simp (decide := true) only [u_come1, c_rn, c_rs]
  have g20 : (u_come1 σ p c) 4 c 20 = σ 0 0 0 := by simp (decide := true) only [u_come1, c_rn, c_rs]
  refine ⟨⟨j1, j2, j3, by rw [g0]; exact j4, by simp (decide := true) only [u_come1, c_rn]; exact j5, by rw [g5]; exact j6⟩, u_R_up (u_R_up (u_R_up (u_R_up (u_R_24 jR e1 ha) rfl) rfl) rfl) rfl, u_V_loc jV hl (fun i => e3 i 20), u_H_loc jH hl, fun d hd hdc => u_fi_cg (jF d hd hdc) (fun f => hl.2.1 d f hdc), ?_, u_M_cg jM hl.2.1 g0 h5 (by rw [g5]; exact h5) (fun m _ => ⟨e1' m 22, e1' m 23⟩), u_O_cg jO hl.2.1 g0 j6, u_D_cg jD (fun m _ => ⟨e1' m 1, e1' m 20, e1' m 21⟩) (e0 0 10) (e0 0 11), u_K_cg jK (fun d m hd => ?_) (fun m _ => ⟨e1' m 2, e1' m 3⟩) (e0 0 12), ?_, u_Z_loc jZ hl j2 j3 (Or.inr (e3 1000)) g2⟩
  · refine ⟨Or.inr ⟨p, j2, g8⟩, fun _ => ⟨by rw [g20]; exact u_min5 jT, by rw [g7, g20, g4]⟩, fun z => ?_⟩
    rw [g8, u_og_ne (by omega)] at z
    exact z.elim
  · by_cases hdc : d = c
    · subst hdc
      refine ⟨g10, by unfold u_cb; rw [g0, g10], ?_⟩
      unfold u_late
      rw [g0, g3, g7, g8, if_neg (fun z => hno z.2.2), if_neg (fun z => z.2.1 hF)]
    · unfold u_cb u_late
      rw [hl.2.1 d 0 hdc, hl.2.1 d 3 hdc, hl.2.1 d 7 hdc, hl.2.1 d 8 hdc, hl.2.1 d 10 hdc]
      exact ⟨rfl, rfl, rfl⟩
  · unfold u_Ti
    rw [e0]
    exact jT
theorem u_J_come2 {a : Nat} (hJ : u_J n σ p c k) (ha : a < 12) (e1 : σ 4 c 1 = nI a) (hF : σ 4 c 8 = -5) (h5 : ¬ σ 4 c 5 = 5) (hyes : σ 4 c 3 < σ 0 0 0 - σ 4 c 4) : u_J n (u_come2 (u_come1 σ p c) k) p c k := by
  have hl : u_loc p c k 1000 σ (u_come2 (u_come1 σ p c) k) := u_loc0 (u_loc1 (u_loc1 (u_loc1 (u_loc4 (u_loc2 (u_loc4 (u_loc4 (u_loc2 u_loc_rf))))))))
  obtain ⟨⟨j1, j2, j3, j4, j5, j6⟩, jR, jV, jH, jF, jw, jM, jO, jD, jK, jT, jZ⟩ := hJ
  have l1 := jR.1.2.2.2.2.2.2.1
  have l2 := jR.1.2.2.2.2.2.2.2.1
  have e3 : ∀ i f : Nat, (u_come2 (u_come1 σ p c) k) 3 i f = σ 3 i f := fun i f => by unfold u_come2 u_come1 c_up; simp
  have g0 : (u_come2 (u_come1 σ p c) k) 4 c 0 = σ 4 c 0 := by simp (decide := true) only [u_come2, u_come1, c_rn]
  have g2 : (u_come2 (u_come1 σ p c) k) 4 c 2 = σ 4 c 2 := by simp (decide := true) only [u_come2, u_come1, c_rn]
  have g3 : (u_come2 (u_come1 σ p c) k) 4 c 3 = σ 4 c 3 := by simp (decide := true) only [u_come2, u_come1, c_rn]
  have g4 : (u_come2 (u_come1 σ p c) k) 4 c 4 = σ 4 c 4 := by simp (decide := true) only [u_come2, u_come1, c_rn]
  have g5 : (u_come2 (u_come1 σ p c) k) 4 c 5 = σ 4 c 5 := by simp (decide := true) only [u_come2, u_come1, c_rn]
  have g10 : (u_come2 (u_come1 σ p c) k) 4 c 10 = σ 4 c 10 := by simp (decide := true) only [u_come2, u_come1, c_rn]
  have g7 : (u_come2 (u_come1 σ p c) k) 4 c 7 = σ 0 0 0 - σ 4 c 4 := by simp (decide := true) only [u_come2, u_come1, c_rn, c_rs]
  have g8 : (u_come2 (u_come1 σ p c) k) 4 c 8 = nI p := by simp (decide := true) only [u_come2, u_come1, c_rn, c_rs]
  have g20 : (u_come2 (u_come1 σ p c) k) 4 c 20 = σ 0 0 0 := by simp (decide := true) only [u_come2, u_come1, c_rn, c_rs]
  have m21 : (u_come2 (u_come1 σ p c) k) 1 k 21 = σ 1 k 21 + 15 := by simp (decide := true) only [u_come2, u_come1, c_rn, c_rs]
  have m1 : (u_come2 (u_come1 σ p c) k) 1 k 1 = σ 1 k 1 + (-15) := by simp (decide := true) only [u_come2, u_come1, c_rn, c_rs]
  have m3 : (u_come2 (u_come1 σ p c) k) 1 k 3 = σ 1 k 3 + 1 := by simp (decide := true) only [u_come2, u_come1, c_rn, c_rs]
  have m20 : (u_come2 (u_come1 σ p c) k) 1 k 20 = σ 1 k 20 := by simp (decide := true) only [u_come2, u_come1, c_rn]
  have m2 : (u_come2 (u_come1 σ p c) k) 1 k 2 = σ 1 k 2 := by simp (decide := true) only [u_come2, u_come1, c_rn]
  have m22 : (u_come2 (u_come1 σ p c) k) 1 k 22 = σ 1 k 22 := by simp (decide := true) only [u_come2, u_come1, c_rn]
  have m23 : (u_come2 (u_come1 σ p c) k) 1 k 23 = σ 1 k 23 := by simp (decide := true) only [u_come2, u_come1, c_rn]
  have s10 : (u_come2 (u_come1 σ p c) k) 0 0 10 = σ 0 0 10 := by simp (decide := true) only [u_come2, u_come1, c_rn]
  have s11 : (u_come2 (u_come1 σ p c) k) 0 0 11 = σ 0 0 11 + 15 := by simp (decide := true) only [u_come2, u_come1, c_rn, c_rs]
  have s12 : (u_come2 (u_come1 σ p c) k) 0 0 12 = σ 0 0 12 := by simp (decide := true) only [u_come2, u_come1, c_rn]
  have s0 : (u_come2 (u_come1 σ p c) k) 0 0 0 = σ 0 0 0 := by simp (decide := true) only [u_come2, u_come1, c_rn]
  have mm : ∀ m f : Nat, m ≠ k → (u_come2 (u_come1 σ p c) k) 1 m f = σ 1 m f := hl.2.2.1
  refine ⟨⟨j1, j2, j3, by rw [g0]; exact j4, by simp (decide := true) only [u_come2, u_come1, c_rn]; exact j5, by rw [g5]; exact j6⟩, u_R_up (u_R_up (u_R_up (u_R_up (u_R_up (u_R_up (u_R_up (u_R_up (u_R_24 jR e1 ha) rfl) rfl) rfl) rfl) rfl) rfl) rfl) rfl, u_V_loc jV hl (fun i => e3 i 20), u_H_loc jH hl, fun d hd hdc => u_fi_cg (jF d hd hdc) (fun f => hl.2.1 d f hdc), ?_, u_M_cg jM hl.2.1 g0 h5 (by rw [g5]; exact h5) (fun m _ => ?_), u_O_cg jO hl.2.1 g0 j6, ⟨fun m hm => ?_, ?_, ?_⟩, ⟨?_, fun m hm => ⟨?_, ?_⟩⟩, ?_, u_Z_loc jZ hl j2 j3 (Or.inr (e3 1000)) g2⟩
  · refine ⟨Or.inr ⟨p, j2, g8⟩, fun _ => ⟨by rw [g20]; exact u_min5 jT, by rw [g7, g20, g4]⟩, fun z => ?_⟩
    rw [g8, u_og_ne (by omega)] at z
    exact z.elim
  · by_cases hmk : m = k
    · rw [hmk]
      exact ⟨m22, m23⟩
    · exact ⟨mm m 22 hmk, mm m 23 hmk⟩
  · by_cases hmk : m = k
    · rw [hmk, m1, m20, m21, jD.1 k j3]
      grind
    · rw [mm m 1 hmk, mm m 20 hmk, mm m 21 hmk]
      exact jD.1 m hm
  · rw [s10, jD.2.1]
    refine (u_sum_cg (fun m hm => ?_)).symm
    by_cases hmk : m = k
    · rw [hmk, m20]
    · exact mm m 20 hmk
  · rw [s11, u_sum_at (f := fun m => σ 1 m 21) (i := k) j3 (fun m _ hmk => mm m 21 hmk), jD.2.2, m21]
    grind
  · rw [s12, jK.1]
    refine (u_sum_cg (fun d hd => ?_)).symm
    by_cases hdc : d = c
    · rw [hdc, g10]
    · exact hl.2.1 d 10 hdc
  · have e2 : (u_come2 (u_come1 σ p c) k) 1 m 2 = σ 1 m 2 := by
      by_cases hmk : m = k
      · rw [hmk, m2]
      · exact mm m 2 hmk
    rw [e2, (jK.2 m hm).1]
    refine (u_sum_cg (fun d hd => ?_)).symm
    unfold u_cb
    by_cases hdc : d = c
    · rw [hdc, g10, g0]
    · rw [hl.2.1 d 10 hdc, hl.2.1 d 0 hdc]
  · have hold : u_late σ m c = 0 := by
      unfold u_late
      rw [if_neg (fun z => z.2.1 hF)]
    have hoth : ∀ d : Nat, d < n 4 → d ≠ c → u_late (u_come2 (u_come1 σ p c) k) m d = u_late σ m d := fun d _ hdc => by
      unfold u_late
      rw [hl.2.1 d 0 hdc, hl.2.1 d 8 hdc, hl.2.1 d 3 hdc, hl.2.1 d 7 hdc]
    rw [u_sum_at (f := u_late σ m) (i := c) j1 hoth, hold, ← (jK.2 m hm).2]
    have hnew : u_late (u_come2 (u_come1 σ p c) k) m c = if m = k then 1 else 0 := by
      unfold u_late
      rw [g0, g8, g3, g7, j4]
      by_cases hmk : m = k
      · rw [if_pos hmk, if_pos ⟨by rw [hmk], by rw [ne_eq, u_og_ne (by omega)]; exact id, hyes⟩]
      · rw [if_neg hmk, if_neg (fun z => hmk (u_nI_inj z.1 (by omega) (by omega)).symm)]
    rw [hnew]
    by_cases hmk : m = k
    · rw [if_pos hmk, hmk, m3]
      grind
    · rw [if_neg hmk, mm m 3 hmk]
      grind
  · unfold u_Ti
    rw [s0]
    exact jT
theorem u_I_there {a h : Nat} (hJ : u_J n σ p c k) (ha : a < 12) (e1 : σ 4 c 1 = nI a) (hok : u_OK D W) (e2 : σ 2 p 0 = nI h) (hh : h < 12) (hs : σ 4 c 5 = 1 ∧ σ 4 c 8 = -5 ∨ σ 4 c 5 = 3) (hb : σ 4 c 6 = nI p) : u_I n (u_there D W n σ p c) := by
  have l1 := hJ.2.1.1.2.2.2.2.2.2.1
  have j3 := hJ.1.2.2.1
  unfold u_there
  rw [u_w_of hJ.1.2.2.2.1 (by omega)]
  by_cases h3 : σ 4 c 5 = 3
  · rw [if_pos h3]
    exact u_I_tow (u_J_area hJ ha e1) ha (by simp (decide := true) only [c_rn]; exact e1) hok (by simp (decide := true) only [c_rn]; exact e2) hh
  · rw [if_neg h3]
    obtain ⟨s1, sF⟩ := hs.resolve_right h3
    have h5 : ¬ σ 4 c 5 = 5 := by rw [s1]; decide
    by_cases hl : σ 4 c 3 < σ 0 0 0 - σ 4 c 4
    · rw [if_pos hl]
      exact u_I_come3 (u_J_come2 hJ ha e1 sF h5 hl) ha (by simp (decide := true) only [u_come2, u_come1, c_rn]; exact e1) hok (by simp (decide := true) only [u_come2, u_come1, c_rn]; exact e2) hh (by simp (decide := true) only [u_come2, u_come1, c_rn, c_rs]) (by simp (decide := true) only [u_come2, u_come1, c_rn]; exact hb)
    · rw [if_neg hl]
      exact u_I_come3 (u_J_come1 hJ ha e1 sF h5 hl) ha (by simp (decide := true) only [u_come1, c_rn]; exact e1) hok (by simp (decide := true) only [u_come1, c_rn]; exact e2) hh (by simp (decide := true) only [u_come1, c_rn, c_rs]) (by simp (decide := true) only [u_come1, c_rn]; exact hb)
end
