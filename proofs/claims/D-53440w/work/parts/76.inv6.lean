/-! PURE: what always holds: a patrol goes on, a call is sent for -/
set_option maxRecDepth 100000
section
variable {n : Nat → Nat} {σ σ' τ : Cn} {p c k q : Nat} {D W : Nat → Nat → Nat}
theorem u_J_close (hJ : u_J n σ p c k) (hB : u_B n σ) (hU : u_U n σ) (hf : u_fi n σ c) : u_I n σ := by
  obtain ⟨_, jR, _, _, jF, _, jM, jO, jD, jK, jT, jZ⟩ := hJ
  exact ⟨jR, hU, hB, fun d hd => by
    by_cases e : d = c
    · rw [e]
      exact hf
    · exact jF d hd e, jM, jO, jD, jK, jT, jZ⟩
theorem u_J_begin {far : Int32} (hI : u_I n σ) (hp : p < n 2) (hc : c < n 4) (hk : k < n 1) (e0 : σ 4 c 0 = nI k) (hf : σ 2 p 3 = 0) (hw : u_waits σ c = true) : u_J n (u_begin σ p c far) p c k := by
  obtain ⟨iR, iU, iB, iF, iM, iO, iD, iK, iT, iZ⟩ := hI
  have l2 := iR.1.2.2.2.2.2.2.2.1
  have hfi := iF c hc
  have hl : u_loc p c k 1000 σ (u_begin σ p c far) := u_loc4 (u_loc4 (u_loc2 (u_loc2 (u_loc2 u_loc_rf))))
  have hst : σ 4 c 5 = 0 ∨ σ 4 c 5 = 3 := (of_decide_eq_true hw).imp id (fun z => z.1)
  have h5 : (u_begin σ p c far) 4 c 5 = if σ 4 c 5 = 3 then 3 else 1 := by simp (decide := true) only [u_begin, c_rs]
  have e1' : ∀ i f : Nat, (u_begin σ p c far) 1 i f = σ 1 i f := fun i f => by unfold u_begin c_up; simp
  have e0' : ∀ i f : Nat, (u_begin σ p c far) 0 i f = σ 0 i f := fun i f => by unfold u_begin c_up; simp
  have e3 : ∀ i f : Nat, (u_begin σ p c far) 3 i f = σ 3 i f := fun i f => by unfold u_begin c_up; simp
  have e4 : ∀ f : Nat, f ≠ 5 → f ≠ 6 → (u_begin σ p c far) 4 c f = σ 4 c f := fun f h5 h6 => by unfold u_begin c_up; simp [h5, h6]
  have h5lt : (u_begin σ p c far) 4 c 5 < 5 := by
    rw [h5]
    split <;> decide
  have h5ne : ¬ (u_begin σ p c far) 4 c 5 = 5 := fun z => by rw [z] at h5lt; exact absurd h5lt (by decide)
  have ho5 : ¬ σ 4 c 5 = 5 := by rcases hst with z | z <;> (rw [z]; decide)
  have ho7 : ¬ σ 4 c 5 = 7 := by rcases hst with z | z <;> (rw [z]; decide)
  have holt : σ 4 c 5 < 5 := by rcases hst with z | z <;> (rw [z]; decide)
  have g0 := e4 0 (by decide) (by decide)
  refine ⟨⟨hc, hp, hk, by rw [g0]; exact e0, by simp (decide := true) only [u_begin, c_rn, c_rs], h5lt⟩, u_R_up (u_R_up (u_R_up (u_R_up (u_R_up iR rfl) rfl) rfl) rfl) rfl, u_V_loc (u_V_of iU hp (by rw [hf]; decide)) hl (fun i => e3 i 20), u_H_loc (u_H_free iB l2 hp hc hf hw) hl, fun d hd hdc => u_fi_cg (iF d hd) (fun f => hl.2.1 d f hdc), ?_, u_M_cg iM hl.2.1 g0 ho5 h5ne (fun m _ => ⟨e1' m 22, e1' m 23⟩), u_O_cg iO hl.2.1 g0 holt, u_D_cg iD (fun m _ => ⟨e1' m 1, e1' m 20, e1' m 21⟩) (e0' 0 10) (e0' 0 11), u_K_cg iK (u_loc_cb hl g0 (e4 3 (by decide) (by decide)) (e4 7 (by decide) (by decide)) (e4 8 (by decide) (by decide)) (e4 10 (by decide) (by decide))) (fun m _ => ⟨e1' m 2, e1' m 3⟩) (e0' 0 12), ?_, u_Z_loc iZ hl hp hk (Or.inr (e3 1000)) (e4 2 (by decide) (by decide))⟩
  · unfold u_fw
    rw [e4 8 (by decide) (by decide), e4 20 (by decide) (by decide), e4 7 (by decide) (by decide), e4 4 (by decide) (by decide)]
    exact ⟨hfi.2.1, fun z => hfi.2.2.2.1 (Or.inl z), fun z => hfi.2.2.2.2.1 z ho7⟩
  · unfold u_Ti
    rw [e0']
    exact iT
theorem u_I_send (hI : u_I n σ) (hok : u_OK D W) (hc : c < n 4) (hw : u_waits σ c = true) : u_I n (u_send D W n σ c) := by
  have iR := hI.1
  obtain ⟨_, _, ⟨k, hk, ek⟩, a, ha, ea⟩ := iR.2.2.2.2 c hc
  unfold u_send
  cases hn : u_near W σ c (n 2) with
  | none => exact hI
  | some p =>
    obtain ⟨hp, hmay⟩ := u_near_lt hn
    obtain ⟨_, _, ⟨h, hh, eh⟩, b, hb, eb⟩ := iR.2.2.1 p hp
    unfold u_may at hmay
    have hmay := of_decide_eq_true hmay
    have hfar := hmay.2.1
    have hfi := hI.2.2.2.1 c hc
    have hst : σ 4 c 5 = 0 ∨ σ 4 c 5 = 3 := (of_decide_eq_true hw).imp id (fun z => z.1)
    dsimp only
    rw [u_w_of ea (by omega), u_w_of eb (by omega)] at hfar ⊢
    have hJ := u_J_begin (far := nI (W b a)) hI hp hc hk ek hmay.1 hw
    have h5 : (u_begin σ p c (nI (W b a))) 4 c 5 = if σ 4 c 5 = 3 then 3 else 1 := by simp (decide := true) only [u_begin, c_rs]
    have h8 : (u_begin σ p c (nI (W b a))) 4 c 8 = σ 4 c 8 := by simp (decide := true) only [u_begin, c_rn]
    have h6 : (u_begin σ p c (nI (W b a))) 4 c 6 = nI p := by simp (decide := true) only [u_begin, c_rn, c_rs]
    have h23 : (u_begin σ p c (nI (W b a))) 2 p 3 = 1 := by simp (decide := true) only [u_begin, c_rn, c_rs]
    have hs13 : (u_begin σ p c (nI (W b a))) 4 c 5 = 1 ∧ (u_begin σ p c (nI (W b a))) 4 c 8 = -5 ∨ (u_begin σ p c (nI (W b a))) 4 c 5 = 3 := by
      rw [h5, h8]
      rcases hst with z | z
      · left
        rw [if_neg (by rw [z]; decide)]
        exact ⟨rfl, hfi.2.2.1 (Or.inl z)⟩
      · right
        rw [if_pos z]
    split
    · exact u_I_there hJ ha (by simp (decide := true) only [u_begin, c_rn]; exact ea) hok (by simp (decide := true) only [u_begin, c_rn]; exact eh) hh hs13 h6
    · rename_i hW0
      refine u_J_close hJ (u_H_busy hJ.2.2.2.1 hp (Or.inl h23) ⟨hc, hJ.1.2.2.2.2.1, h6, ⟨W b a, by omega, by omega, by simp (decide := true) only [u_begin, c_rn, c_rs]⟩, fun _ => hs13.imp (fun z => z.1) id, fun z => ?_, fun z => ?_⟩) (u_V_to hJ.2.2.1 hp (by rw [h23]; decide)) ⟨?_, ?_, ?_, ?_, ?_, ?_⟩
      · rw [h23] at z
        exact absurd z (by decide)
      · rw [h23] at z
        exact absurd z (by decide)
      · rcases hs13 with z | z
        · exact ⟨1, by omega, z.1⟩
        · exact ⟨3, by omega, z⟩
      · rw [h8]
        exact hfi.2.1
      · intro z
        rcases hs13 with y | y
        · exact y.2
        · rw [y] at z
          exact absurd z (by decide)
      · intro z
        refine hJ.2.2.2.2.2.1.2.1 ?_
        rcases z with z | z
        · exact z
        · rcases hs13 with y | y
          · rw [y.1] at z
            exact absurd z (by decide)
          · rw [y] at z
            exact absurd z (by decide)
      · intro z _
        exact hJ.2.2.2.2.2.1.2.2 z
      · intro z
        rcases hs13 with y | y
        · rw [y.1] at z
          exact absurd z (by decide)
        · rw [y] at z
          exact absurd z (by decide)
theorem u_I_left {v w : Int32} {l : Nat} (hI : u_I n σ) (hp : p < n 2) (hb : u_busy σ p) (hv : v = nI l) (h1 : 1 ≤ l) (h2 : l ≤ 1000000) : u_I n (c_up (c_up σ 2 p 6 v) 2 p 11 w) := by
  obtain ⟨iR, iU, iB, iF, iM, iO, iD, iK, iT, iZ⟩ := hI
  have l2 := iR.1.2.2.2.2.2.2.2.1
  have l4 := iR.1.2.2.2.2.2.2.2.2.2
  obtain ⟨c, hL⟩ := (iB.1 p hp).2 hb
  obtain ⟨_, _, ⟨k, hk, ek⟩, _⟩ := iR.2.2.2.2 c hL.1
  have hl : u_loc p c k 1000 σ (c_up (c_up σ 2 p 6 v) 2 p 11 w) := u_loc2 (u_loc2 u_loc_rf)
  have e4 : ∀ i g : Nat, (c_up (c_up σ 2 p 6 v) 2 p 11 w) 4 i g = σ 4 i g := fun i g => by unfold c_up; simp
  have e1' : ∀ i g : Nat, (c_up (c_up σ 2 p 6 v) 2 p 11 w) 1 i g = σ 1 i g := fun i g => by unfold c_up; simp
  have e0 : ∀ i g : Nat, (c_up (c_up σ 2 p 6 v) 2 p 11 w) 0 i g = σ 0 i g := fun i g => by unfold c_up; simp
  have e3 : ∀ i g : Nat, (c_up (c_up σ 2 p 6 v) 2 p 11 w) 3 i g = σ 3 i g := fun i g => by unfold c_up; simp
  have e2 : ∀ f : Nat, f ≠ 6 → f ≠ 11 → (c_up (c_up σ 2 p 6 v) 2 p 11 w) 2 p f = σ 2 p f := fun f h6 h11 => by unfold c_up; simp [h6, h11]
  refine ⟨u_R_up (u_R_up iR rfl) rfl, u_U_up (u_U_up iU rfl) rfl, u_H_busy (u_H_loc (u_H_link iB l2 l4 hp hL) hl) hp ?_ ?_, fun d hd => u_fi_cg (iF d hd) (e4 d), ?_, ?_, u_D_cg iD (fun m _ => ⟨e1' m 1, e1' m 20, e1' m 21⟩) (e0 0 10) (e0 0 11), u_K_cg iK (u_loc_cb hl (e4 c 0) (e4 c 3) (e4 c 7) (e4 c 8) (e4 c 10)) (fun m _ => ⟨e1' m 2, e1' m 3⟩) (e0 0 12), ?_, u_Z_loc iZ hl hp hk (Or.inr (e3 1000)) (e4 c 2)⟩
  · unfold u_busy
    rw [e2 3 (by decide) (by decide)]
    exact hb
  · obtain ⟨k0, k1, k2, k3, k4, k5, k6⟩ := hL
    unfold u_link
    rw [e2 5 (by decide) (by decide), e2 3 (by decide) (by decide), e2 12 (by decide) (by decide), e2 20 (by decide) (by decide), e2 21 (by decide) (by decide), e2 13 (by decide) (by decide), e4, e4, e4]
    exact ⟨k0, k1, k2, ⟨l, h1, h2, by simp (decide := true) only [c_rn, c_rs]; exact hv⟩, k4, k5, k6⟩
  · unfold u_M u_m at iM ⊢
    simp only [e4, e1']
    exact iM
  · unfold u_O at iO ⊢
    simp only [e4]
    exact iO
  · unfold u_Ti
    rw [e0]
    exact iT
theorem u_I_goOn (hI : u_I n σ) (hok : u_OK D W) (hp : p < n 2) : u_I n (u_goOn D W n σ p).1 := by
  have iR := hI.1
  have iB := hI.2.2.1
  have l1 := iR.1.2.2.2.2.2.2.1
  have l3 := iR.1.2.2.2.2.2.2.2.2.1
  have l4 := iR.1.2.2.2.2.2.2.2.2.2
  unfold u_goOn
  by_cases hb : u_busy σ p
  · rw [if_pos (show (σ 2 p 3 = 1 ∨ σ 2 p 3 = 2 ∨ σ 2 p 3 = 3) from hb)]
    obtain ⟨c, hL⟩ := (iB.1 p hp).2 hb
    obtain ⟨hc, k1, k2, ⟨l, hl1, hl2, el⟩, k4, k5, k6⟩ := id hL
    obtain ⟨_, _, ⟨k, hk, ek⟩, a, ha, ea⟩ := iR.2.2.2.2 c hc
    obtain ⟨_, _, ⟨h, hh, eh⟩, _⟩ := iR.2.2.1 p hp
    have hv : σ 2 p 6 - 1 = nI (l - 1) := by rw [el]; exact pn_sub (b := 1) hl1
    dsimp only
    rw [u_w_of k1 (by omega), u_w_of ek (by omega)]
    by_cases h0 : σ 2 p 6 - 1 = 0
    · rw [if_pos h0]
      have hfi := hI.2.2.2.1 c hc
      by_cases h1 : σ 2 p 3 = 1
      · rw [if_pos h1]
        have hJ := u_J_p (v := σ 2 p 11 + 1) (u_J_p (v := σ 2 p 6 - 1) (u_J_of hI hk ek hp hL (Or.inl h1)) (f := 6) rfl) (f := 11) rfl
        refine u_I_there hJ ha (by simp (decide := true) only [c_rn]; exact ea) hok (by simp (decide := true) only [c_rn]; exact eh) hh ?_ (by simp (decide := true) only [c_rn]; exact k2)
        simp (decide := true) only [c_rn]
        exact (k4 h1).imp (fun z => ⟨z, hfi.2.2.1 (Or.inr z)⟩) id
      · rw [if_neg h1]
        by_cases h2 : σ 2 p 3 = 2
        · rw [if_pos h2]
          have hJ := u_J_p (v := σ 2 p 11 + 1) (u_J_p (v := σ 2 p 6 - 1) (u_J_of hI hk ek hp hL (Or.inr h2)) (f := 6) rfl) (f := 11) rfl
          exact u_I_repair hJ (by simp (decide := true) only [c_rn]; exact (k5 h2).1) (by simp (decide := true) only [c_rn]; exact (k5 h2).2)
        · rw [if_neg h2]
          have h3 : σ 2 p 3 = 3 := (hb.resolve_left h1).resolve_left h2
          obtain ⟨w1, w2, ⟨at', hat, eat⟩, q, hq, eq1, eq2⟩ := k6 h3
          rw [u_w_of eq1 (by omega)]
          have hJ := u_J_p (v := σ 2 p 11 + 1) (u_J_p (v := σ 2 p 6 - 1) (u_J_tow hI hk ek hp hL h3 hq eq2) (f := 6) rfl) (f := 11) rfl
          have e9 : c_up (c_up (c_up σ 3 q 20 (σ 3 q 20 - 1)) 2 p 6 (σ 2 p 6 - 1)) 2 p 11 (σ 2 p 11 + 1) = c_up (c_up (c_up σ 2 p 6 (σ 2 p 6 - 1)) 2 p 11 (σ 2 p 11 + 1)) 3 q 20 ((c_up (c_up σ 2 p 6 (σ 2 p 6 - 1)) 2 p 11 (σ 2 p 11 + 1)) 3 q 20 - 1) := by
            simp (decide := true) only [c_rn]
            simp (decide := true) only [c_comm, id_eq]
          rw [e9] at hJ
          exact u_I_endTow hJ hq hat (by simp (decide := true) only [c_rn]; exact eat)
    · rw [if_neg h0]
      have hl0 : l - 1 ≠ 0 := fun z => h0 (by rw [hv, z]; rfl)
      exact u_I_left hI hp hb hv (by omega) (by omega)
  · rw [if_neg (show ¬ (σ 2 p 3 = 1 ∨ σ 2 p 3 = 2 ∨ σ 2 p 3 = 3) from hb)]
    exact hI
theorem u_I_goAll (hI : u_I n σ) (hok : u_OK D W) : ∀ p : Nat, p ≤ n 2 → u_I n (u_goAll D W n σ p).1 := by
  intro p
  induction p with
  | zero => intro _; exact hI
  | succ p ih => intro hp; exact u_I_goOn (ih (by omega)) hok (by omega)
end
