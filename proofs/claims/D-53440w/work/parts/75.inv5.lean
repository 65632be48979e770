/-! PURE: what always holds: repair, the end of a tow, a patrol goes on -/
set_option maxRecDepth 100000
section
variable {n : Nat → Nat} {σ σ' τ : Cn} {p c k q : Nat} {D W : Nat → Nat → Nat}
theorem u_I_repair (hJ : u_J n σ p c k) (h2 : σ 4 c 5 = 2) (hF : σ 4 c 8 = nI p) : u_I n (u_repair σ p c k) := by
  have hl : u_loc p c k 1000 σ (u_repair σ p c k) := u_free_loc (u_loc0 (u_loc1 (u_loc4 (u_loc4 (u_loc4 (u_loc2 (u_loc1 (u_loc1 (u_loc1 u_loc_rf)))))))))
  obtain ⟨⟨j1, j2, j3, j4, j5, j6⟩, jR, jV, jH, jF, jw, jM, jO, jD, jK, jT, jZ⟩ := id hJ
  have l1 := jR.1.2.2.2.2.2.2.1
  have l2 := jR.1.2.2.2.2.2.2.2.1
  have e3 : ∀ i f : Nat, (u_repair σ p c k) 3 i f = σ 3 i f := fun i f => by unfold u_repair u_free c_up; simp
  have g0 : (u_repair σ p c k) 4 c 0 = σ 4 c 0 := by simp (decide := true) only [u_repair, u_free, c_rn]
  have g2 : (u_repair σ p c k) 4 c 2 = σ 4 c 2 := by simp (decide := true) only [u_repair, u_free, c_rn]
  have g3 : (u_repair σ p c k) 4 c 3 = σ 4 c 3 := by simp (decide := true) only [u_repair, u_free, c_rn]
  have g4 : (u_repair σ p c k) 4 c 4 = σ 4 c 4 := by simp (decide := true) only [u_repair, u_free, c_rn]
  have g5 : (u_repair σ p c k) 4 c 5 = 5 := by simp (decide := true) only [u_repair, u_free, c_rn, c_rs]
  have g6 : (u_repair σ p c k) 4 c 6 = -5 := by simp (decide := true) only [u_repair, u_free, c_rn, c_rs]
  have g7 : (u_repair σ p c k) 4 c 7 = σ 4 c 7 := by simp (decide := true) only [u_repair, u_free, c_rn]
  have g8 : (u_repair σ p c k) 4 c 8 = σ 4 c 8 := by simp (decide := true) only [u_repair, u_free, c_rn]
  have g9 : (u_repair σ p c k) 4 c 9 = σ 0 0 0 := by simp (decide := true) only [u_repair, u_free, c_rn, c_rs]
  have g10 : (u_repair σ p c k) 4 c 10 = σ 4 c 10 := by simp (decide := true) only [u_repair, u_free, c_rn]
  have g20 : (u_repair σ p c k) 4 c 20 = σ 4 c 20 := by simp (decide := true) only [u_repair, u_free, c_rn]
  have d3 : (u_repair σ p c k) 2 p 3 = 0 := by simp (decide := true) only [u_repair, u_free, c_rn, c_rs]
  have m1 : (u_repair σ p c k) 1 k 1 = σ 1 k 1 + u_fee σ c k := by simp (decide := true) only [u_repair, u_free, c_rn, c_rs]
  have m2 : (u_repair σ p c k) 1 k 2 = σ 1 k 2 := by simp (decide := true) only [u_repair, u_free, c_rn]
  have m3 : (u_repair σ p c k) 1 k 3 = σ 1 k 3 := by simp (decide := true) only [u_repair, u_free, c_rn]
  have m20 : (u_repair σ p c k) 1 k 20 = σ 1 k 20 + u_fee σ c k := by simp (decide := true) only [u_repair, u_free, c_rn, c_rs]
  have m21 : (u_repair σ p c k) 1 k 21 = σ 1 k 21 := by simp (decide := true) only [u_repair, u_free, c_rn]
  have m22 : (u_repair σ p c k) 1 k 22 = nI p := by simp (decide := true) only [u_repair, u_free, c_rn, c_rs]
  have m23 : (u_repair σ p c k) 1 k 23 = σ 0 0 0 := by simp (decide := true) only [u_repair, u_free, c_rn, c_rs]
  have s10 : (u_repair σ p c k) 0 0 10 = σ 0 0 10 + u_fee σ c k := by simp (decide := true) only [u_repair, u_free, c_rn, c_rs]
  have s11 : (u_repair σ p c k) 0 0 11 = σ 0 0 11 := by simp (decide := true) only [u_repair, u_free, c_rn]
  have s12 : (u_repair σ p c k) 0 0 12 = σ 0 0 12 := by simp (decide := true) only [u_repair, u_free, c_rn]
  have s0 : (u_repair σ p c k) 0 0 0 = σ 0 0 0 := by simp (decide := true) only [u_repair, u_free, c_rn]
  have mm : ∀ m f : Nat, m ≠ k → (u_repair σ p c k) 1 m f = σ 1 m f := hl.2.2.1
  have hFn : ¬ σ 4 c 8 = -5 := by rw [hF, u_og_ne (by omega)]; exact id
  have e0 : ∀ d : Nat, (u_repair σ p c k) 4 d 0 = σ 4 d 0 := fun d => by
    by_cases hd : d = c
    · rw [hd, g0]
    · exact hl.2.1 d 0 hd
  -- no later call of the member
  have hlast : ∀ d : Nat, c < d → d < n 4 → ¬ σ 4 d 0 = nI k := fun d hd hdn z => jO c d hd hdn (j4.trans z.symm) j6
  refine ⟨u_R_up (u_R_up (u_R_up (u_R_up (u_R_up (u_R_up (u_R_up (u_R_up (u_R_up (u_R_up (u_R_up (u_R_up (u_R_up (u_R_up jR rfl) rfl) rfl) rfl) rfl) rfl) rfl) rfl) rfl) rfl) rfl) rfl) rfl) rfl, u_V_to (u_V_loc jV hl (fun i => e3 i 20)) j2 (by rw [d3]; decide), u_H_done (u_H_loc jH hl) d3 g6, fun d hd => ?_, fun m hm => ?_, u_O_cg jO hl.2.1 g0 j6, ⟨fun m hm => ?_, ?_, ?_⟩, u_K_cg jK (u_loc_cb hl g0 g3 g7 g8 g10) (fun m _ => ?_) s12, ?_, u_Z_loc jZ hl j2 j3 (Or.inr (e3 1000)) g2⟩
  · by_cases e : d = c
    · subst e
      refine ⟨⟨5, by omega, g5⟩, by rw [g8]; exact jw.1, fun z => ?_, fun _ => ?_, fun z => ?_, fun _ => by rw [g8]; exact hFn⟩
      · rw [g5] at z
        exact absurd z (by decide)
      · rw [g20, g7, g4]
        exact jw.2.1 hFn
      · rw [g8] at z
        exact absurd z hFn
    · exact u_fi_cg (jF d hd e) (fun f => hl.2.1 d f e)
  · by_cases hmk : m = k
    · subst hmk
      exact Or.inr ⟨c, j1, by rw [g0]; exact j4, g5, fun d hd hdn z => hlast d hd hdn (by rw [← e0 d]; exact z.1), by rw [m22, g8, hF], by rw [m23, g9]⟩
    · have hcm : ¬ σ 4 c 0 = nI m := fun z => by
        rw [j4] at z
        exact hmk (u_nI_inj z (by omega) (by omega)).symm
      have e5 : ∀ d : Nat, σ 4 d 0 = nI m → (u_repair σ p c k) 4 d 5 = σ 4 d 5 := fun d hd => hl.2.1 d 5 (fun z => hcm (by rw [← z]; exact hd))
      rcases jM m hm with ⟨a, b⟩ | ⟨d, d1, d2, d4, d5, d6, d7⟩
      · exact Or.inl ⟨fun d hd z => a d hd ⟨by rw [← e0 d]; exact z.1, by rw [← e5 d (by rw [← e0 d]; exact z.1)]; exact z.2⟩, by rw [mm m 22 hmk]; exact b⟩
      · have hdc : d ≠ c := fun z => hcm (by rw [← z]; exact d2)
        exact Or.inr ⟨d, d1, by rw [e0]; exact d2, by rw [e5 d d2]; exact d4, fun x hx hx2 z => d5 x hx hx2 ⟨by rw [← e0 x]; exact z.1, by rw [← e5 x (by rw [← e0 x]; exact z.1)]; exact z.2⟩, by rw [mm m 22 hmk, hl.2.1 d 8 hdc]; exact d6, by rw [mm m 23 hmk, hl.2.1 d 9 hdc]; exact d7⟩
  · by_cases hmk : m = k
    · rw [hmk, m1, m20, m21, jD.1 k j3]
      grind
    · rw [mm m 1 hmk, mm m 20 hmk, mm m 21 hmk]
      exact jD.1 m hm
  · rw [s10, u_sum_at (f := fun m => σ 1 m 20) (i := k) j3 (fun m _ hmk => mm m 20 hmk), jD.2.1, m20]
    grind
  · rw [s11, jD.2.2]
    refine (u_sum_cg (fun m hm => ?_)).symm
    by_cases hmk : m = k
    · rw [hmk, m21]
    · exact mm m 21 hmk
  · by_cases hmk : m = k
    · rw [hmk]
      exact ⟨m2, m3⟩
    · exact ⟨mm m 2 hmk, mm m 3 hmk⟩
  · unfold u_Ti
    rw [s0]
    exact jT
theorem u_J_of (hI : u_I n σ) (hk : k < n 1) (e0 : σ 4 c 0 = nI k) (hp : p < n 2) (hL : u_link n σ p c) (hb : σ 2 p 3 = 1 ∨ σ 2 p 3 = 2) : u_J n σ p c k := by
  obtain ⟨iR, iU, iB, iF, iM, iO, iD, iK, iT, iZ⟩ := hI
  have l2 := iR.1.2.2.2.2.2.2.2.1
  have l4 := iR.1.2.2.2.2.2.2.2.2.2
  obtain ⟨hc, k1, k2, k3, k4, k5, k6⟩ := id hL
  have hfi := iF c hc
  have h5 : σ 4 c 5 < 5 ∧ σ 4 c 5 ≠ 7 := by
    rcases hb with z | z
    · rcases k4 z with y | y <;> (rw [y]; decide)
    · rw [(k5 z).1]
      decide
  refine ⟨⟨hc, hp, hk, e0, k1, h5.1⟩, iR, u_V_of iU hp (by rcases hb with z | z <;> (rw [z]; decide)), u_H_link iB l2 l4 hp hL, fun d hd _ => iF d hd, ⟨hfi.2.1, fun z => hfi.2.2.2.1 (Or.inl z), fun z => hfi.2.2.2.2.1 z h5.2⟩, iM, iO, iD, iK, iT, iZ⟩
theorem u_J_p {f : Nat} {v : Int32} (hJ : u_J n σ p c k) (hf : (f == 0 || f == 2 || f == 4 || f == 5 || f == 22) = false) : u_J n (c_up σ 2 p f v) p c k := by
  have hl : u_loc p c k 1000 σ (c_up σ 2 p f v) := u_loc2 u_loc_rf
  obtain ⟨⟨j1, j2, j3, j4, j5, j6⟩, jR, jV, jH, jF, jw, jM, jO, jD, jK, jT, jZ⟩ := hJ
  have e4 : ∀ i g : Nat, (c_up σ 2 p f v) 4 i g = σ 4 i g := fun i g => if_neg (fun z => by have := z.1; omega)
  have e1' : ∀ i g : Nat, (c_up σ 2 p f v) 1 i g = σ 1 i g := fun i g => if_neg (fun z => by have := z.1; omega)
  have e0 : ∀ i g : Nat, (c_up σ 2 p f v) 0 i g = σ 0 i g := fun i g => if_neg (fun z => by have := z.1; omega)
  have e3 : ∀ i g : Nat, (c_up σ 2 p f v) 3 i g = σ 3 i g := fun i g => if_neg (fun z => by have := z.1; omega)
  have hf5 : f ≠ 5 := fun z => by rw [z] at hf; cases hf
  have hrok : u_rok 2 f = true := by
    unfold u_rok
    simp only [Bool.or_eq_false_iff] at hf
    simp [hf]
  refine ⟨⟨j1, j2, j3, by rw [e4]; exact j4, (if_neg (fun z => hf5 z.2.2.symm)).trans j5, by rw [e4]; exact j6⟩, u_R_up jR hrok, u_V_loc jV hl (fun i => e3 i 20), u_H_loc jH hl, fun d hd hdc => u_fi_cg (jF d hd hdc) (e4 d), ?_, ?_, ?_, u_D_cg jD (fun m _ => ⟨e1' m 1, e1' m 20, e1' m 21⟩) (e0 0 10) (e0 0 11), u_K_cg jK (u_loc_cb hl (e4 c 0) (e4 c 3) (e4 c 7) (e4 c 8) (e4 c 10)) (fun m _ => ⟨e1' m 2, e1' m 3⟩) (e0 0 12), ?_, u_Z_loc jZ hl j2 j3 (Or.inr (e3 1000)) (e4 c 2)⟩
  · unfold u_fw
    rw [e4, e4, e4, e4]
    exact jw
  · unfold u_M u_m at jM ⊢
    simp only [e4, e1']
    exact jM
  · unfold u_O at jO ⊢
    simp only [e4]
    exact jO
  · unfold u_Ti
    rw [e0]
    exact jT
/-- a car less is on its way to garage q -/
theorem u_J_tow (hI : u_I n σ) (hk : k < n 1) (e0 : σ 4 c 0 = nI k) (hp : p < n 2) (hL : u_link n σ p c) (hb : σ 2 p 3 = 3) (hq : q < n 3) (eq : σ 2 p 13 = nI q) : u_J n (c_up σ 3 q 20 (σ 3 q 20 - 1)) p c k := by
  obtain ⟨iR, iU, iB, iF, iM, iO, iD, iK, iT, iZ⟩ := hI
  have l2 := iR.1.2.2.2.2.2.2.2.1
  have l3 := iR.1.2.2.2.2.2.2.2.2.1
  have l4 := iR.1.2.2.2.2.2.2.2.2.2
  obtain ⟨hc, k1, k2, k3, k4, k5, k6⟩ := id hL
  have hfi := iF c hc
  have h5 : σ 4 c 5 = 4 := (k6 hb).1
  have hl : u_loc p c k q σ (c_up σ 3 q 20 (σ 3 q 20 - 1)) := u_loc3 u_loc_rf
  have e4 : ∀ i g : Nat, (c_up σ 3 q 20 (σ 3 q 20 - 1)) 4 i g = σ 4 i g := fun i g => if_neg (fun z => by have := z.1; omega)
  have e2' : ∀ i g : Nat, (c_up σ 3 q 20 (σ 3 q 20 - 1)) 2 i g = σ 2 i g := fun i g => if_neg (fun z => by have := z.1; omega)
  have e1' : ∀ i g : Nat, (c_up σ 3 q 20 (σ 3 q 20 - 1)) 1 i g = σ 1 i g := fun i g => if_neg (fun z => by have := z.1; omega)
  have e0' : ∀ i g : Nat, (c_up σ 3 q 20 (σ 3 q 20 - 1)) 0 i g = σ 0 i g := fun i g => if_neg (fun z => by have := z.1; omega)
  refine ⟨⟨hc, hp, hk, by rw [e4]; exact e0, by rw [e2']; exact k1, by rw [e4, h5]; decide⟩, u_R_up iR rfl, fun i hi => ?_, u_H_loc (u_H_link iB l2 l4 hp hL) hl, fun d hd hdc => u_fi_cg (iF d hd) (e4 d), ?_, ?_, ?_, u_D_cg iD (fun m _ => ⟨e1' m 1, e1' m 20, e1' m 21⟩) (e0' 0 10) (e0' 0 11), u_K_cg iK (u_loc_cb hl (e4 c 0) (e4 c 3) (e4 c 7) (e4 c 8) (e4 c 10)) (fun m _ => ⟨e1' m 2, e1' m 3⟩) (e0' 0 12), ?_, u_Z_loc iZ hl hp hk (Or.inl hq) (e4 c 2)⟩
  · rw [u_uX_loc hl]
    have hu := iU i hi
    rw [u_uX_un (n 2) hp, hb, eq] at hu
    by_cases e : i = q
    · subst e
      rw [c_rs, hu, if_pos ⟨rfl, rfl⟩]
      grind
    · rw [c_rk e, hu, if_neg (fun z => e (u_nI_inj z.2 (by omega) (by omega)).symm)]
      grind
  · unfold u_fw
    rw [e4, e4, e4, e4]
    exact ⟨hfi.2.1, fun z => hfi.2.2.2.1 (Or.inl z), fun z => hfi.2.2.2.2.1 z (by rw [h5]; decide)⟩
  · unfold u_M u_m at iM ⊢
    simp only [e4, e1']
    exact iM
  · unfold u_O at iO ⊢
    simp only [e4]
    exact iO
  · unfold u_Ti
    rw [e0']
    exact iT
theorem u_I_endTow {a : Nat} (hJ : u_J n (c_up σ 3 q 20 (σ 3 q 20 - 1)) p c k) (hq : q < n 3) (ha : a < 12) (ea : σ 2 p 20 = nI a) : u_I n (u_endTow σ p c q) := by
  obtain ⟨⟨j1, j2, j3, j4, j5, j6⟩, jR, jV, jH, _⟩ := id hJ
  unfold u_endTow
  by_cases h : σ 3 q 0 = σ 2 p 20
  · rw [if_pos h]
    generalize hx : u_free (c_up (c_up (c_up (c_up (c_up (c_up (c_up (c_up (c_up (c_up σ 2 p 4 (σ 2 p 20)) 3 q 20 (σ 3 q 20 - 1)) 2 p 8 (σ 2 p 8 + 1)) 3 q 2 (σ 3 q 2 + 1)) 3 q 3 (σ 3 q 3 + 1)) 4 c 1 (σ 2 p 20)) 4 c 11 (nI q)) 4 c 5 6) 4 c 6 (-5)) 4 c 9 (σ 0 0 0)) p = ρ
    have eρ : ρ = u_free (c_up (c_up (c_up (c_up (c_up (c_up (c_up (c_up (c_up (c_up σ 3 q 20 (σ 3 q 20 - 1)) 2 p 4 (σ 2 p 20)) 2 p 8 (σ 2 p 8 + 1)) 3 q 2 (σ 3 q 2 + 1)) 3 q 3 (σ 3 q 3 + 1)) 4 c 1 (σ 2 p 20)) 4 c 11 (nI q)) 4 c 5 6) 4 c 6 (-5)) 4 c 9 (σ 0 0 0)) p := by
      rw [← hx]
      simp (decide := true) only [u_free, c_comm, id_eq]
    have hl : u_loc p c k q (c_up σ 3 q 20 (σ 3 q 20 - 1)) ρ := by
      rw [eρ]
      exact u_free_loc (u_loc4 (u_loc4 (u_loc4 (u_loc4 (u_loc4 (u_loc3 (u_loc3 (u_loc2 (u_loc2 u_loc_rf)))))))))
    have d3 : ρ 2 p 3 = 0 := by simp (decide := true) only [eρ, u_free, c_rn, c_rs]
    refine u_fin (s := 6) hJ hl ?_ (u_V_to (u_V_loc jV hl (fun i => ?_)) j2 (by rw [d3]; decide)) (u_H_done (u_H_loc jH hl) d3 ?_) (Or.inr (Or.inr (Or.inr rfl))) ?_ ?_ ?_ ?_ ?_ ?_ ?_ ?_ ?_ (fun f => ?_) (fun f => ?_) (Or.inl hq)
    · rw [eρ]
      exact u_R_up (u_R_up (u_R_up (u_R_up (u_R_up (u_R_up (u_R_up (u_R_up (u_R_up (u_R_41 (u_R_up (u_R_up (u_R_up (u_R_24 jR ea ha) rfl) rfl) rfl) ea ha) rfl) rfl) rfl) rfl) rfl) rfl) rfl) rfl) rfl
    · rw [eρ]
      unfold u_free c_up
      simp
    all_goals rw [eρ]
    all_goals first
      | (simp (decide := true) only [u_free, c_rn, c_rs]; done)
      | (simp (decide := true) only [u_free, c_rn, c_rs]; rfl)
      | (unfold u_free c_up; simp)
  · rw [if_neg h]
    generalize hx : u_free (u_wait (c_up (c_up (c_up σ 2 p 4 (σ 2 p 20)) 3 q 20 (σ 3 q 20 - 1)) 2 p 8 (σ 2 p 8 + 1)) c (σ 2 p 20)) p = ρ
    have eρ : ρ = u_free (u_wait (c_up (c_up (c_up σ 3 q 20 (σ 3 q 20 - 1)) 2 p 4 (σ 2 p 20)) 2 p 8 (σ 2 p 8 + 1)) c (σ 2 p 20)) p := by
      rw [← hx]
      simp (decide := true) only [u_free, u_wait, c_comm, id_eq]
    have hl : u_loc p c k q (c_up σ 3 q 20 (σ 3 q 20 - 1)) ρ := by
      rw [eρ]
      exact u_free_loc (u_wait_loc (u_loc2 (u_loc2 u_loc_rf)))
    have d3 : ρ 2 p 3 = 0 := by simp (decide := true) only [eρ, u_free, u_wait, c_rn, c_rs]
    refine u_fin (s := 3) hJ hl ?_ (u_V_to (u_V_loc jV hl (fun i => ?_)) j2 (by rw [d3]; decide)) (u_H_done (u_H_loc jH hl) d3 ?_) (Or.inr (Or.inl rfl)) ?_ ?_ ?_ ?_ ?_ ?_ ?_ ?_ ?_ (fun f => ?_) (fun f => ?_) (Or.inl hq)
    · rw [eρ]
      exact u_R_up (u_R_up (u_R_up (u_R_up (u_R_up (u_R_up (u_R_up (u_R_41 (u_R_up (u_R_24 jR ea ha) rfl) ea ha) rfl) rfl) rfl) rfl) rfl) rfl) rfl
    · rw [eρ]
      unfold u_free u_wait c_up
      simp
    all_goals rw [eρ]
    all_goals first
      | (simp (decide := true) only [u_free, u_wait, c_rn, c_rs]; done)
      | (simp (decide := true) only [u_free, u_wait, c_rn, c_rs]; rfl)
      | (unfold u_free u_wait c_up; simp)
end
