/-! PURE: a road comes to be: what always holds -/
set_option maxRecDepth 100000
def u_road (n : Nat → Nat) (σ : Cn) (a b v : Int32) : Cn := c_up (c_up (c_up (c_up σ 5 (n 5) 0 a) 5 (n 5) 1 b) 5 (n 5) 2 v) 0 0 5 (σ 0 0 5 + 1)
section
variable {n n' : Nat → Nat} {σ σ' : Cn}
theorem u_Dk_lt : ∀ N : Nat, (∀ r f : Nat, r < N → σ' 5 r f = σ 5 r f) → u_Dk σ' N = u_Dk σ N := by
  intro N
  induction N with
  | zero => intro _; rfl
  | succ N ih =>
    intro h
    unfold u_Dk u_w
    rw [ih (fun r f hr => h r f (by omega)), h N 0 (by omega), h N 1 (by omega), h N 2 (by omega)]
/-- only roads are others -/
theorem u_I_roads (hI : u_I n σ) (hn : n' 1 = n 1 ∧ n' 2 = n 2 ∧ n' 3 = n 3 ∧ n' 4 = n 4) (h5 : σ' 0 0 5 = nI (n' 5)) (h30 : n' 5 ≤ 30) (e : ∀ s i f : Nat, s ≠ 5 → ¬ (s = 0 ∧ f = 5) → σ' s i f = σ s i f) : u_I n' σ' := by
  obtain ⟨iR, iU, iB, iF, iM, iO, iD, iK, iT, iZ⟩ := hI
  obtain ⟨m1, m2, m3, m4⟩ := hn
  have e1 : ∀ i f : Nat, σ' 1 i f = σ 1 i f := fun i f => e 1 i f (by decide) (by omega)
  have e2 : ∀ i f : Nat, σ' 2 i f = σ 2 i f := fun i f => e 2 i f (by decide) (by omega)
  have e3 : ∀ i f : Nat, σ' 3 i f = σ 3 i f := fun i f => e 3 i f (by decide) (by omega)
  have e4 : ∀ i f : Nat, σ' 4 i f = σ 4 i f := fun i f => e 4 i f (by decide) (by omega)
  have e0 : ∀ f : Nat, f ≠ 5 → σ' 0 0 f = σ 0 0 f := fun f hf => e 0 0 f (by decide) (fun z => hf z.2)
  obtain ⟨⟨c5, c6, c7, c8, c9, d5, d1, d2, d3, d4⟩, r1, r2, r3, r4⟩ := iR
  refine ⟨⟨⟨h5, ?_, ?_, ?_, ?_, h30, ?_, ?_, ?_, ?_⟩, ?_, ?_, ?_, ?_⟩, ?_, ?_, ?_, ?_, ?_, ?_, ?_, ?_, ?_⟩
  · rw [m1, e0 6 (by decide)]; exact c6
  · rw [m2, e0 7 (by decide)]; exact c7
  · rw [m3, e0 8 (by decide)]; exact c8
  · rw [m4, e0 9 (by decide)]; exact c9
  · rw [m1]; exact d1
  · rw [m2]; exact d2
  · rw [m3]; exact d3
  · rw [m4]; exact d4
  · rw [m1]
    simp only [e1]
    exact r1
  · rw [m2]
    simp only [e2]
    exact r2
  · rw [m3]
    simp only [e3]
    exact r3
  · rw [m4, m1]
    simp only [e4]
    exact r4
  · intro q hq
    rw [m3] at hq
    rw [m2, u_under_cg2 (σ := σ) (fun p => ⟨e2 p 3, e2 p 13⟩), e3]
    exact iU q hq
  · unfold u_B u_busy u_link at iB ⊢
    simp only [e2, e4, m2, m3, m4]
    exact iB
  · intro c hc
    rw [m4] at hc
    have := iF c hc
    unfold u_fi at this ⊢
    simp only [e4, m2]
    exact this
  · unfold u_M u_m at iM ⊢
    simp only [e4, e1, m1, m4]
    exact iM
  · unfold u_O at iO ⊢
    simp only [e4, m4]
    exact iO
  · unfold u_D at iD ⊢
    rw [m1, e0 10 (by decide), e0 11 (by decide)]
    simp only [e1]
    exact iD
  · unfold u_K u_cb u_late at iK ⊢
    rw [m1, m4, e0 12 (by decide)]
    simp only [e4, e1]
    exact iK
  · unfold u_Ti at iT ⊢
    rw [e0 0 (by decide)]
    exact iT
  · unfold u_Z at iZ ⊢
    simp only [e4, e1, e2, e3, m1, m2, m3, m4]
    exact iZ
theorem u_road_e {a b v : Int32} : ∀ s i f : Nat, s ≠ 5 → ¬ (s = 0 ∧ f = 5) → u_road n σ a b v s i f = σ s i f := fun s i f h5 h0 => by
  unfold u_road
  rw [show c_up (c_up (c_up (c_up σ 5 (n 5) 0 a) 5 (n 5) 1 b) 5 (n 5) 2 v) 0 0 5 (σ 0 0 5 + 1) s i f = c_up (c_up (c_up σ 5 (n 5) 0 a) 5 (n 5) 1 b) 5 (n 5) 2 v s i f from if_neg (fun z => h0 ⟨z.1, z.2.2⟩), show c_up (c_up (c_up σ 5 (n 5) 0 a) 5 (n 5) 1 b) 5 (n 5) 2 v s i f = c_up (c_up σ 5 (n 5) 0 a) 5 (n 5) 1 b s i f from if_neg (fun z => h5 z.1), show c_up (c_up σ 5 (n 5) 0 a) 5 (n 5) 1 b s i f = c_up σ 5 (n 5) 0 a s i f from if_neg (fun z => h5 z.1)]
  exact if_neg (fun z => h5 z.1)
theorem u_road_5 {a b v : Int32} {r f : Nat} (h : r ≠ n 5) : u_road n σ a b v 5 r f = σ 5 r f := by
  unfold u_road
  simp (decide := true) only [c_rx, c_rk h]
theorem u_np_add {D D' : Nat → Nat → Nat} {lo hi : Nat} (hlh : lo < hi) (hh : hi < 12) (hnew : D lo hi = 100000) (hD' : D' lo hi < 100000) (he : ∀ a b : Nat, a < b → b < 12 → ¬ (a = lo ∧ b = hi) → D' a b = D a b) : ∀ k : Nat, k ≤ 144 → u_np D' k = u_np D k + (if 12 * lo + hi < k then 1 else 0) := by
  intro k
  induction k with
  | zero => intro _; rfl
  | succ k ih =>
    intro hk
    have s1 : u_np D' (k + 1) = u_np D' k + (if k / 12 < k % 12 ∧ D' (k / 12) (k % 12) < 100000 then 1 else 0) := rfl
    have s2 : u_np D (k + 1) = u_np D k + (if k / 12 < k % 12 ∧ D (k / 12) (k % 12) < 100000 then 1 else 0) := rfl
    rw [s1, s2, ih (by omega)]
    by_cases e : k = 12 * lo + hi
    · have e1 : k / 12 = lo := by omega
      have e2 : k % 12 = hi := by omega
      have x1 : (if k / 12 < k % 12 ∧ D' (k / 12) (k % 12) < 100000 then 1 else 0) = 1 := if_pos (by rw [e1, e2]; exact ⟨hlh, hD'⟩)
      have x2 : (if k / 12 < k % 12 ∧ D (k / 12) (k % 12) < 100000 then 1 else 0) = 0 := if_neg (fun z => by rw [e1, e2, hnew] at z; omega)
      have x3 : (if 12 * lo + hi < k then 1 else 0) = 0 := if_neg (by omega)
      have x4 : (if 12 * lo + hi < k + 1 then 1 else 0) = 1 := if_pos (by omega)
      rw [x1, x2, x3, x4]
    · have x1 : (if k / 12 < k % 12 ∧ D' (k / 12) (k % 12) < 100000 then 1 else 0) = (if k / 12 < k % 12 ∧ D (k / 12) (k % 12) < 100000 then 1 else 0) := by
        by_cases h : k / 12 < k % 12
        · rw [he (k / 12) (k % 12) h (by omega) (by omega)]
        · rw [if_neg (fun z => h z.1), if_neg (fun z => h z.1)]
      have x2 : (if 12 * lo + hi < k + 1 then 1 else 0) = (if 12 * lo + hi < k then 1 else 0) := by
        by_cases w : 12 * lo + hi < k
        · rw [if_pos w, if_pos (by omega)]
        · rw [if_neg w, if_neg (by omega)]
      rw [x1, x2]
      omega
/-- the roads' count is what the map says -/
theorem u_np_rds : ∀ N : Nat, u_Rds σ N → u_np (u_Dk σ N) 144 = N := by
  intro N
  induction N with
  | zero => intro _; exact u_np_none (fun _ _ _ _ => rfl) 144 (Nat.le_refl _)
  | succ N ih =>
    intro hr
    have hprev : u_Rds σ N := fun r hrN => hr r (by omega)
    obtain ⟨h1, h2⟩ := hr N (by omega)
    obtain ⟨w1, w2, w3, w4, w5, _⟩ := u_rd_w h1
    have hok := u_Dk_ok N (fun r hrN => (hprev r hrN).1)
    have sD : ∀ a b : Nat, u_Dk σ (N + 1) a b = if (a = u_w σ 5 N 0 ∧ b = u_w σ 5 N 1) ∨ (a = u_w σ 5 N 1 ∧ b = u_w σ 5 N 0) then u_w σ 5 N 2 else u_Dk σ N a b := fun _ _ => rfl
    by_cases hlt : u_w σ 5 N 0 < u_w σ 5 N 1
    · rw [u_np_add (D := u_Dk σ N) hlt w2 h2 (by rw [sD, if_pos (Or.inl ⟨rfl, rfl⟩)]; omega) (fun a b hab hb hne => by rw [sD, if_neg (by omega)]) 144 (Nat.le_refl _), ih hprev, if_pos (by omega)]
    · rw [u_np_add (D := u_Dk σ N) (lo := u_w σ 5 N 1) (hi := u_w σ 5 N 0) (by omega) w1 (by rw [(hok _ _ w2 w1).1]; exact h2) (by rw [sD, if_pos (Or.inr ⟨rfl, rfl⟩)]; omega) (fun a b hab hb hne => by rw [sD, if_neg (by omega)]) 144 (Nat.le_refl _), ih hprev, if_pos (by omega)]
/-- with one road more -/
theorem u_road_ok {a b l : Nat} (hS : u_Sv (σ, n)) (hn : n 5 < 30) (ha : a < 12) (hb : b < 12) (hab : a ≠ b) (h1 : 1 ≤ l) (h60 : l ≤ 60) (hno : u_Dk σ (n 5) a b = 100000) : u_Sv (u_road n σ (nI a) (nI b) (nI l), u_at n 5 (n 5 + 1)) ∧ ∀ x y : Nat, u_Dk (u_road n σ (nI a) (nI b) (nI l)) (n 5 + 1) x y = if (x = a ∧ y = b) ∨ (x = b ∧ y = a) then l else u_Dk σ (n 5) x y := by
  obtain ⟨hI, hr, hV⟩ := hS
  have hI : u_I n σ := hI
  have hr : u_Rds σ (n 5) := hr
  have g0 : u_road n σ (nI a) (nI b) (nI l) 5 (n 5) 0 = nI a := by unfold u_road; simp (decide := true) only [c_rn, c_rs]
  have g1 : u_road n σ (nI a) (nI b) (nI l) 5 (n 5) 1 = nI b := by unfold u_road; simp (decide := true) only [c_rn, c_rs]
  have g2 : u_road n σ (nI a) (nI b) (nI l) 5 (n 5) 2 = nI l := by unfold u_road; simp (decide := true) only [c_rn, c_rs]
  have g5 : u_road n σ (nI a) (nI b) (nI l) 0 0 5 = nI (n 5 + 1) := by
    unfold u_road
    rw [c_rs]
    have e5 : σ 0 0 5 = nI (n 5) := hI.1.1.1
    rw [e5]
    exact pn_succ
  have m5 : u_at n 5 (n 5 + 1) 5 = n 5 + 1 := u_at_eq
  have a1 : u_at n 5 (n 5 + 1) 1 = n 1 := u_at_ne (by decide)
  have a2 : u_at n 5 (n 5 + 1) 2 = n 2 := u_at_ne (by decide)
  have a3 : u_at n 5 (n 5 + 1) 3 = n 3 := u_at_ne (by decide)
  have a4 : u_at n 5 (n 5 + 1) 4 = n 4 := u_at_ne (by decide)
  have lt : ∀ N : Nat, N ≤ n 5 → u_Dk (u_road n σ (nI a) (nI b) (nI l)) N = u_Dk σ N := fun N hN => u_Dk_lt N (fun r f hrN => u_road_5 (by omega))
  refine ⟨⟨u_I_roads hI ⟨a1, a2, a3, a4⟩ (by show _ = nI (u_at n 5 (n 5 + 1) 5); rw [m5]; exact g5) (by show u_at n 5 (n 5 + 1) 5 ≤ 30; rw [m5]; omega) u_road_e, ?_, fun k f hk => ?_⟩, fun x y => ?_⟩
  · show u_Rds (u_road n σ (nI a) (nI b) (nI l)) (u_at n 5 (n 5 + 1) 5)
    rw [m5]
    intro r hrN
    by_cases e : r = n 5
    · subst e
      refine ⟨⟨a, b, l, ha, hb, hab, h1, h60, g0, g1, g2⟩, ?_⟩
      rw [lt (n 5) (Nat.le_refl _), u_w_of g0 (by omega), u_w_of g1 (by omega)]
      exact hno
    · have := hr r (show r < n 5 by omega)
      unfold u_rd u_w at this ⊢
      rw [lt r (by omega), u_road_5 e, u_road_5 e, u_road_5 e]
      exact this
  · show u_road n σ (nI a) (nI b) (nI l) 4 k f = 0
    rw [u_road_e 4 k f (by decide) (by omega)]
    exact hV k f hk
  · have s : u_Dk (u_road n σ (nI a) (nI b) (nI l)) (n 5 + 1) x y = if (x = u_w (u_road n σ (nI a) (nI b) (nI l)) 5 (n 5) 0 ∧ y = u_w (u_road n σ (nI a) (nI b) (nI l)) 5 (n 5) 1) ∨ (x = u_w (u_road n σ (nI a) (nI b) (nI l)) 5 (n 5) 1 ∧ y = u_w (u_road n σ (nI a) (nI b) (nI l)) 5 (n 5) 0) then u_w (u_road n σ (nI a) (nI b) (nI l)) 5 (n 5) 2 else u_Dk (u_road n σ (nI a) (nI b) (nI l)) (n 5) x y := rfl
    rw [s, lt (n 5) (Nat.le_refl _), u_w_of g0 (by omega), u_w_of g1 (by omega), u_w_of g2 (by omega)]
end
