/-! PURE: the reference's ways are the nearest ones -/
set_option maxRecDepth 100000
theorem h_fl1_ne {I : Nat → Nat → Int32} {W c k b j : Nat} (h : b ≠ W) : h_fl1 I W c k b j = I b j := if_neg (fun z => h z.1)
theorem h_flk_ne {I : Nat → Nat → Int32} {W c b j : Nat} (h : b ≠ W) : ∀ k : Nat, h_flk I W c k b j = I b j := by
  intro k
  induction k with
  | zero => rfl
  | succ k ih => exact (h_fl1_ne h).trans ih
theorem h_fl_ne {I : Nat → Nat → Int32} {W b j : Nat} (h : b ≠ W) : ∀ c : Nat, h_fl I W c b j = I b j := by
  intro c
  induction c with
  | zero => rfl
  | succ c ih => exact (h_flk_ne h 144).trans ih
/-- one stage, place by place -/
theorem h_flk_is {I : Nat → Nat → Int32} {W c : Nat} {F : Nat → Nat → Nat} (hc : c < 12) (hF : ∀ a b : Nat, a < 12 → b < 12 → F a b ≤ 100000) (h0 : F c c = 0) (hI : ∀ a b : Nat, a < 12 → b < 12 → I W (12 * a + b) = nI (F a b)) : ∀ k : Nat, k ≤ 144 → ∀ a b : Nat, a < 12 → b < 12 → h_flk I W c k W (12 * a + b) = nI (if 12 * a + b < k then min (F a b) (F a c + F c b) else F a b) := by
  intro k
  induction k with
  | zero =>
    intro _ a b ha hb
    rw [if_neg (Nat.not_lt_zero _)]
    exact hI a b ha hb
  | succ k ih =>
    intro hk a b ha hb
    have ih := ih (by omega)
    show h_fl1 (h_flk I W c k) W c k W (12 * a + b) = _
    unfold h_fl1 q_up
    by_cases e : 12 * a + b = k
    · rw [if_pos ⟨rfl, e⟩]
      have ea : k / 12 = a := by omega
      have eb : k % 12 = b := by omega
      have e1 : k / 12 * 12 + c = 12 * a + c := by omega
      have e2 : 12 * c + k % 12 = 12 * c + b := by omega
      subst e
      rw [e1, e2, ih a b ha hb, ih a c ha hc, ih c b hc hb, if_neg (show ¬ 12 * a + b < 12 * a + b by omega), if_pos (show 12 * a + b < 12 * a + b + 1 by omega)]
      have fa := hF a b ha hb
      have fb := hF a c ha hc
      have fc := hF c b hc hb
      have x1 : (if 12 * a + c < 12 * a + b then min (F a c) (F a c + F c c) else F a c) = F a c := by
        split
        · rw [h0]
          omega
        · rfl
      have x2 : (if 12 * c + b < 12 * a + b then min (F c b) (F c c + F c b) else F c b) = F c b := by
        split
        · rw [h0]
          omega
        · rfl
      rw [x1, x2, pn_add]
      by_cases hle : F a b ≤ F a c + F c b
      · rw [if_pos ((pn_le (by omega) (by omega)).mpr hle), Nat.min_eq_left hle]
      · rw [if_neg (fun z => hle ((pn_le (by omega) (by omega)).mp z)), Nat.min_eq_right (by omega)]
    · rw [if_neg (fun z => e z.2), ih a b ha hb]
      by_cases hlt : 12 * a + b < k
      · rw [if_pos hlt, if_pos (by omega)]
      · rw [if_neg hlt, if_neg (by omega)]
theorem h_fl_is {I : Nat → Nat → Int32} {W : Nat} {D : Nat → Nat → Nat} (hD : u_Dok D) (hI : ∀ a b : Nat, a < 12 → b < 12 → I W (12 * a + b) = nI (u_W0 D a b)) : ∀ c : Nat, c ≤ 12 → ∀ a b : Nat, a < 12 → b < 12 → h_fl I W c W (12 * a + b) = nI (u_Wk D c a b) := by
  intro c
  induction c with
  | zero => intro _ a b ha hb; exact hI a b ha hb
  | succ c ih =>
    intro hc a b ha hb
    have hS := u_Sk hD c (by omega)
    have := h_flk_is (I := h_fl I W c) (W := W) (c := c) (F := u_Wk D c) (by omega) (fun a b ha hb => (hS.1 a b ha hb).1) (hS.1 c c (by omega) (by omega)).2.1 (ih (by omega)) 144 (Nat.le_refl _) a b ha hb
    rw [if_pos (by omega)] at this
    exact this
section
variable {g : Nat → Nat} {M : Mem} {m : Nat} {A : Nat → Nat} {I : Nat → Nat → Int32} {σ : Cn}
theorem h_lays_ne {N c j : Nat} (h8 : c ≠ A 8) (h9 : c ≠ A 9) : h_lays I A N c j = I c j := by
  unfold h_lays
  rw [h_fl_ne h9, h_rds_now h8 h9, h_lw0_now h8 h9]
theorem h_rds_is {N : Nat} (hA : q_MA M m A) (hN : N ≤ 30) (hrow : ∀ r f : Nat, r < N → f < 3 → I (A 0) (16 + 3 * r + f) = σ 5 r f) (hr : ∀ r : Nat, r < N → u_rd σ r) : ∀ r : Nat, r ≤ N → ∀ a b : Nat, a < 12 → b < 12 → h_rds (h_lw0 I A 144) A r (A 8) (12 * a + b) = nI (u_Dk σ r a b) ∧ h_rds (h_lw0 I A 144) A r (A 9) (12 * a + b) = nI (u_W0 (u_Dk σ r) a b) := by
  have n80 : A 0 ≠ A 8 := fun e => by have := hA.2.2 0 8 (by unfold q_isar; omega) (by unfold q_isar; omega) e; omega
  have n90 : A 0 ≠ A 9 := fun e => by have := hA.2.2 0 9 (by unfold q_isar; omega) (by unfold q_isar; omega) e; omega
  have n89 : A 8 ≠ A 9 := fun e => by have := hA.2.2 8 9 (by unfold q_isar; omega) (by unfold q_isar; omega) e; omega
  intro r
  induction r with
  | zero =>
    intro _ a b ha hb
    show h_lw0 I A 144 (A 8) (12 * a + b) = _ ∧ h_lw0 I A 144 (A 9) (12 * a + b) = _
    unfold h_lw0 u_W0 u_Dk
    have e1 : (12 * a + b) / 12 = a := by omega
    have e2 : (12 * a + b) % 12 = b := by omega
    rw [if_pos ⟨rfl, by omega⟩, if_neg (fun z => n89 z.1.symm), if_pos ⟨rfl, by omega⟩, e1, e2]
    refine ⟨rfl, ?_⟩
    split <;> rfl
  | succ r ih =>
    intro hrN a b ha hb
    obtain ⟨i8, i9⟩ := ih (by omega) a b ha hb
    obtain ⟨k1, k2, k3, k4, k5, e1, e2, e3⟩ := u_rd_w (hr r (by omega))
    have w0 : h_lw0 I A 144 (A 0) (16 + 3 * r) = σ 5 r 0 := by rw [h_lw0_now n80 n90]; exact hrow r 0 (by omega) (by omega)
    have w1 : h_lw0 I A 144 (A 0) (16 + 3 * r + 1) = σ 5 r 1 := by rw [h_lw0_now n80 n90]; exact hrow r 1 (by omega) (by omega)
    have w2 : h_lw0 I A 144 (A 0) (16 + 3 * r + 2) = σ 5 r 2 := by rw [h_lw0_now n80 n90]; exact hrow r 2 (by omega) (by omega)
    show h_rd1 (h_rds (h_lw0 I A 144) A r) A (h_lw0 I A 144 (A 0) (16 + 3 * r)).toNatClampNeg (h_lw0 I A 144 (A 0) (16 + 3 * r + 1)).toNatClampNeg (h_lw0 I A 144 (A 0) (16 + 3 * r + 2)) (A 8) (12 * a + b) = _ ∧ h_rd1 (h_rds (h_lw0 I A 144) A r) A (h_lw0 I A 144 (A 0) (16 + 3 * r)).toNatClampNeg (h_lw0 I A 144 (A 0) (16 + 3 * r + 1)).toNatClampNeg (h_lw0 I A 144 (A 0) (16 + 3 * r + 2)) (A 9) (12 * a + b) = _
    rw [w0, w1, w2]
    have u0 : (σ 5 r 0).toNatClampNeg = u_w σ 5 r 0 := rfl
    have u1 : (σ 5 r 1).toNatClampNeg = u_w σ 5 r 1 := rfl
    rw [u0, u1, e3]
    generalize hx : u_w σ 5 r 0 = x at *
    generalize hy : u_w σ 5 r 1 = y at *
    unfold h_rd1 q_up
    have p1 : (12 * a + b = 12 * x + y) ↔ (a = x ∧ b = y) := by omega
    have p2 : (12 * a + b = 12 * y + x) ↔ (a = y ∧ b = x) := by omega
    unfold u_W0 u_Dk
    rw [hx, hy]
    refine ⟨?_, ?_⟩
    · rw [if_neg (fun z => n89 z.1), if_neg (fun z => n89 z.1)]
      by_cases c2 : a = y ∧ b = x
      · rw [if_pos ⟨rfl, p2.mpr c2⟩, if_pos (Or.inr c2)]
      · rw [if_neg (fun z => c2 (p2.mp z.2))]
        by_cases c1 : a = x ∧ b = y
        · rw [if_pos ⟨rfl, p1.mpr c1⟩, if_pos (Or.inl c1)]
        · rw [if_neg (fun z => c1 (p1.mp z.2)), if_neg (fun z => z.elim c1 c2)]
          exact i8
    · by_cases c2 : a = y ∧ b = x
      · rw [if_pos ⟨rfl, p2.mpr c2⟩, if_neg (by omega), if_pos (Or.inr c2)]
      · rw [if_neg (fun z => c2 (p2.mp z.2))]
        by_cases c1 : a = x ∧ b = y
        · rw [if_pos ⟨rfl, p1.mpr c1⟩, if_neg (by omega), if_pos (Or.inl c1)]
        · rw [if_neg (fun z => c1 (p1.mp z.2)), if_neg (fun z => n89 z.1.symm), if_neg (fun z => n89 z.1.symm), i9]
          unfold u_W0
          split
          · rfl
          · rw [if_neg (fun z => z.elim c1 c2)]
theorem h_lays_is {N : Nat} (hA : q_MA M m A) (hN : N ≤ 30) (hrow : ∀ r f : Nat, r < N → f < 3 → I (A 0) (16 + 3 * r + f) = σ 5 r f) (hr : ∀ r : Nat, r < N → u_rd σ r) : u_RI (h_lays I A N) A (u_Dk σ N) (u_Wk (u_Dk σ N) 12) := by
  have n89 : A 8 ≠ A 9 := fun e => by have := hA.2.2 8 9 (by unfold q_isar; omega) (by unfold q_isar; omega) e; omega
  have hD := u_Dk_ok N hr
  have hS := u_Sk hD 12 (Nat.le_refl _)
  have hb := u_OK_of hD hS
  intro a b ha hb'
  refine ⟨?_, (hb.1 a b ha hb').1, ?_, (hb.1 a b ha hb').2⟩
  · unfold h_lays
    rw [h_fl_ne n89]
    exact (h_rds_is hA hN hrow hr N (Nat.le_refl _) a b ha hb').1
  · unfold h_lays
    exact h_fl_is hD (fun a b ha hb => (h_rds_is hA hN hrow hr N (Nat.le_refl _) a b ha hb).2) 12 (Nat.le_refl _) a b ha hb'
end
