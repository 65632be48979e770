/-! PURE: the reference, whole: what it holds; its record -/
set_option maxRecDepth 100000
def u_cc (σ : Cn) (j : Nat) : Int32 := σ (c_dec j).1 (c_dec j).2.1 (c_dec j).2.2
/-- the reference's rows but the state's own -/
def d_Rf (m : Nat) (A : Nat → Nat) (I : Nat → Nat → Int32) (d : Dt) : Prop := I m 2 = nI d.2.1.1 ∧ d.2.1.1 ≤ 4 ∧ (∀ i j : Nat, i < d.2.1.1 → j < 810 → I (A 1) (810 * i + j) = u_cc (d.2.1.2 i).1 j) ∧ ((d.2.2.1 = none ∧ I m 4 = 0) ∨ ∃ a : Cs, d.2.2.1 = some a ∧ I m 4 = 1 ∧ ∀ j : Nat, j < 810 → I (A 3) j = u_cc a.1 j) ∧ I m 7 = nI d.2.2.2.1 ∧ d.2.2.2.1 ≤ 60 ∧ (∀ k : Nat, k < d.2.2.2.1 → I (A 6) k = d.2.2.2.2 k) ∧ u_RI I A (u_Dk d.1.1 (d.1.2 5)) (u_Wk (u_Dk d.1.1 (d.1.2 5)) 12)
/-- other cells stay -/
def d_fr (m : Nat) (A : Nat → Nat) (I J : Nat → Nat → Int32) : Prop := ∀ b j : Nat, b ≠ m → (∀ k : Nat, q_isar k → b ≠ A k) → J b j = I b j
theorem d_fr_rf {m : Nat} {A : Nat → Nat} {I : Nat → Nat → Int32} : d_fr m A I I := fun _ _ _ _ => rfl
theorem d_fr_tr {m : Nat} {A : Nat → Nat} {I J K : Nat → Nat → Int32} (h1 : d_fr m A I J) (h2 : d_fr m A J K) : d_fr m A I K := fun b j a c => (h2 b j a c).trans (h1 b j a c)
section
variable {g : Nat → Nat} {M : Mem} {m : Nat} {A : Nat → Nat} {I J : Nat → Nat → Int32} {σ : Cn} {d : Dt}
theorem c_rE_cc {j : Nat} : c_rE (A 0) σ I (A 0) j = u_cc σ j := if_pos rfl
theorem c_rM_of (h : ∀ j : Nat, J (A 0) j = u_cc σ j) : q_ints M J = c_rM M A J σ := by
  unfold c_rM
  congr 1
  funext b j
  unfold c_rE
  by_cases e : b = A 0
  · rw [if_pos e, e]
    exact h j
  · rw [if_neg e]
theorem c_rM_cg (h : ∀ b j : Nat, b ≠ A 0 → J b j = I b j) : c_rM M A J σ = c_rM M A I σ := by
  unfold c_rM
  congr 1
  funext b j
  unfold c_rE
  by_cases e : b = A 0
  · rw [if_pos e, if_pos e]
  · rw [if_neg e, if_neg e, h b j e]
theorem c_rM_rM : c_rM (c_rM M A I σ) A J σ = c_rM M A J σ := rfl
theorem i_0 : q_isar 0 := Or.inl rfl
theorem i_1 : q_isar 1 := Or.inr (Or.inl rfl)
theorem i_3 : q_isar 3 := Or.inr (Or.inr (Or.inl rfl))
theorem i_5 : q_isar 5 := Or.inr (Or.inr (Or.inr (Or.inl rfl)))
theorem i_6 : q_isar 6 := Or.inr (Or.inr (Or.inr (Or.inr (Or.inl rfl))))
theorem i_8 : q_isar 8 := Or.inr (Or.inr (Or.inr (Or.inr (Or.inr (Or.inl rfl)))))
theorem i_9 : q_isar 9 := Or.inr (Or.inr (Or.inr (Or.inr (Or.inr (Or.inr (Or.inl rfl))))))
theorem i_10 : q_isar 10 := Or.inr (Or.inr (Or.inr (Or.inr (Or.inr (Or.inr (Or.inr (Or.inl rfl)))))))
theorem i_12 : q_isar 12 := Or.inr (Or.inr (Or.inr (Or.inr (Or.inr (Or.inr (Or.inr (Or.inr rfl)))))))
theorem q_ne (hA : q_MA M m A) {i j : Nat} (hi : q_isar i) (hj : q_isar j) (h : i ≠ j) : A i ≠ A j := fun z => h (hA.2.2 i j hi hj z)
/-- the rows that a law sees are the same -/
theorem d_Rf_cg (h : d_Rf m A I d) (h2 : J m 2 = I m 2) (h4 : J m 4 = I m 4) (h7 : J m 7 = I m 7) (hA : ∀ k : Nat, (k = 1 ∨ k = 3 ∨ k = 6 ∨ k = 8 ∨ k = 9) → ∀ j : Nat, J (A k) j = I (A k) j) : d_Rf m A J d := by
  obtain ⟨r1, r2, r3, r4, r5, r6, r7, r8⟩ := h
  refine ⟨h2.trans r1, r2, fun i j hi hj => (hA 1 (Or.inl rfl) _).trans (r3 i j hi hj), ?_, h7.trans r5, r6, fun k hk => (hA 6 (Or.inr (Or.inr (Or.inl rfl))) k).trans (r7 k hk), fun a b ha hb => ?_⟩
  · rcases r4 with ⟨z1, z2⟩ | ⟨a, z1, z2, z3⟩
    · exact Or.inl ⟨z1, h4.trans z2⟩
    · exact Or.inr ⟨a, z1, h4.trans z2, fun j hj => (hA 3 (Or.inr (Or.inl rfl)) j).trans (z3 j hj)⟩
  · rw [hA 8 (Or.inr (Or.inr (Or.inr (Or.inl rfl)))), hA 9 (Or.inr (Or.inr (Or.inr (Or.inr rfl))))]
    exact r8 a b ha hb
/-- rows of I or of what the memory holds -/
theorem d_Rf_rE (hA : q_MA M m A) (h : d_Rf m A I d) : d_Rf m A (c_rE (A 0) σ I) d := by
  have hm := q_mA hA i_0
  refine d_Rf_cg h (if_neg hm) (if_neg hm) (if_neg hm) (fun k hk j => if_neg ?_)
  rcases hk with z | z | z | z | z <;> subst z
  · exact q_ne hA i_1 i_0 (by decide)
  · exact q_ne hA i_3 i_0 (by decide)
  · exact q_ne hA i_6 i_0 (by decide)
  · exact q_ne hA i_8 i_0 (by decide)
  · exact q_ne hA i_9 i_0 (by decide)
theorem q_cp_ne {a f b t n c j : Nat} (h : c ≠ b) : q_cp I a f b t n c j = I c j := if_neg (fun z => h z.1)
theorem q_up_ne {a k c j : Nat} {v : Int32} (h : c ≠ a) : q_up I a k v c j = I c j := if_neg (fun z => h z.1)
theorem q_up_nk {a k c j : Nat} {v : Int32} (h : j ≠ k) : q_up I a k v c j = I c j := if_neg (fun z => h z.2)
theorem q_sh_ne {P n c j : Nat} (h : c ≠ P) : q_sh I P n c j = I c j := if_neg (fun z => h z.1)
theorem d_r4_records {Q : Mem → Prop} (hA : q_MA M m A) (hR : d_Rf m A I d) (hQ : ∀ J, d_Rf m A J (d_rec d) → d_fr m A I J → Q (c_rM M A J d.1.1)) : wp_X4_records g (c_rM M A I d.1.1) m Q := by
  obtain ⟨r1, r2, r3, r4, r5, r6, r7, r8⟩ := id hR
  have hm0 := q_mA hA i_0
  have hm1 := q_mA hA i_1
  have h01 := q_ne hA i_0 i_1 (by decide)
  refine q4_records (I := c_rE (A 0) d.1.1 I) (p := d.2.1.1) hA r2 ((if_neg hm0).trans r1) ?_
  generalize hK : c_rE (A 0) d.1.1 I = K
  have k0 : ∀ j : Nat, K (A 0) j = u_cc d.1.1 j := fun j => by rw [← hK]; exact c_rE_cc
  have kn : ∀ b j : Nat, b ≠ A 0 → K b j = I b j := fun b j hb => by rw [← hK]; exact if_neg hb
  have rn : ∀ b j : Nat, b ≠ A 1 → b ≠ m → h_rec K m A d.2.1.1 b j = K b j := fun b j q1 q2 => by
    unfold h_rec
    split
    · rw [q_up_ne q2, q_cp_ne q1, q_up_ne q2, q_sh_ne q1]
    · rw [q_up_ne q2, q_cp_ne q1]
  have rm : ∀ j : Nat, j ≠ 2 → h_rec K m A d.2.1.1 m j = K m j := fun j hj => by
    unfold h_rec
    split
    · rw [q_up_nk hj, q_cp_ne hm1, q_up_nk hj, q_sh_ne hm1]
    · rw [q_up_nk hj, q_cp_ne hm1]
  have rp : h_rec K m A d.2.1.1 m 2 = nI (u_pn d.2.1.1) := by
    unfold h_rec u_pn
    split
    · exact if_pos ⟨rfl, rfl⟩
    · exact if_pos ⟨rfl, rfl⟩
  have rE : ∀ b : Nat, b ≠ A 1 → b ≠ m → b ≠ A 0 → ∀ j : Nat, h_rec K m A d.2.1.1 b j = I b j := fun b q1 q2 q3 j => (rn b j q1 q2).trans (kn b j q3)
  rw [c_rM_of (A := A) (σ := d.1.1) (fun j => (rn (A 0) j h01 hm0.symm).trans (k0 j))]
  refine hQ _ ⟨rp, ?_, fun i j hi hj => ?_, ?_, ?_, r6, fun k hk => ?_, fun a b ha hb => ?_⟩ (fun b j q1 q2 => rE b (q2 1 i_1) q1 (q2 0 i_0) j)
  · show u_pn d.2.1.1 ≤ 4
    unfold u_pn
    split <;> omega
  · show h_rec K m A d.2.1.1 (A 1) (810 * i + j) = u_cc (u_ps d.1 d.2.1.1 d.2.1.2 i).1 j
    have hi' : i < u_pn d.2.1.1 := hi
    unfold u_pn at hi'
    unfold h_rec u_ps
    by_cases h4 : d.2.1.1 = 4
    · rw [if_pos h4] at hi'
      rw [if_pos h4, if_pos h4, q_up_ne hm1.symm]
      by_cases h3 : i < 3
      · rw [if_pos h3]
        have e : q_cp (q_up (q_sh K (A 1) 2430) m 2 (nI 3)) (A 0) 0 (A 1) (3 * 810) 810 (A 1) (810 * i + j) = q_up (q_sh K (A 1) 2430) m 2 (nI 3) (A 1) (810 * i + j) := if_neg (by omega)
        rw [e, q_up_ne hm1.symm]
        have e2 : q_sh K (A 1) 2430 (A 1) (810 * i + j) = K (A 1) (810 * i + j + 810) := if_pos ⟨rfl, by omega⟩
        rw [e2, kn _ _ h01.symm, show 810 * i + j + 810 = 810 * (i + 1) + j by omega]
        exact r3 (i + 1) j (by omega) hj
      · rw [if_neg h3]
        have e : q_cp (q_up (q_sh K (A 1) 2430) m 2 (nI 3)) (A 0) 0 (A 1) (3 * 810) 810 (A 1) (810 * i + j) = q_up (q_sh K (A 1) 2430) m 2 (nI 3) (A 0) (0 + (810 * i + j - 3 * 810)) := if_pos ⟨rfl, by omega, by omega⟩
        rw [e, q_up_ne hm0.symm, q_sh_ne h01, show 0 + (810 * i + j - 3 * 810) = j by omega]
        exact k0 j
    · rw [if_neg h4] at hi'
      rw [if_neg h4, if_neg h4, q_up_ne hm1.symm]
      by_cases h3 : i < d.2.1.1
      · rw [if_pos h3]
        have e : q_cp K (A 0) 0 (A 1) (d.2.1.1 * 810) 810 (A 1) (810 * i + j) = K (A 1) (810 * i + j) := if_neg (by omega)
        rw [e, kn _ _ h01.symm]
        exact r3 i j h3 hj
      · rw [if_neg h3]
        have e : q_cp K (A 0) 0 (A 1) (d.2.1.1 * 810) 810 (A 1) (810 * i + j) = K (A 0) (0 + (810 * i + j - d.2.1.1 * 810)) := if_pos ⟨rfl, by omega, by omega⟩
        rw [e, show 0 + (810 * i + j - d.2.1.1 * 810) = j by omega]
        exact k0 j
  · rcases r4 with ⟨z1, z2⟩ | ⟨a, z1, z2, z3⟩
    · exact Or.inl ⟨z1, by rw [rm 4 (by decide), kn _ _ hm0]; exact z2⟩
    · refine Or.inr ⟨a, z1, by rw [rm 4 (by decide), kn _ _ hm0]; exact z2, fun j hj => ?_⟩
      rw [rE (A 3) (q_ne hA i_3 i_1 (by decide)) (q_mA hA i_3).symm (q_ne hA i_3 i_0 (by decide))]
      exact z3 j hj
  · rw [rm 7 (by decide), kn _ _ hm0]
    exact r5
  · rw [rE (A 6) (q_ne hA i_6 i_1 (by decide)) (q_mA hA i_6).symm (q_ne hA i_6 i_0 (by decide))]
    exact r7 k hk
  · rw [rE (A 8) (q_ne hA i_8 i_1 (by decide)) (q_mA hA i_8).symm (q_ne hA i_8 i_0 (by decide)), rE (A 9) (q_ne hA i_9 i_1 (by decide)) (q_mA hA i_9).symm (q_ne hA i_9 i_0 (by decide))]
    exact r8 a b ha hb
end
