/-! PURE: contents (section, index, field) of a state, and how both programs hold them -/
set_option maxRecDepth 100000
abbrev Cn : Type := Nat → Nat → Nat → Int32
def c_up (σ : Cn) (s k f : Nat) (v : Int32) : Cn := fun s' k' f' => if s' = s ∧ k' = k ∧ f' = f then v else σ s' k' f'
theorem c_rd {σ : Cn} {s k f s' k' f' : Nat} {v : Int32} : c_up σ s k f v s' k' f' = if s' = s ∧ k' = k ∧ f' = f then v else σ s' k' f' := rfl
theorem c_rs {σ : Cn} {s k f : Nat} {v : Int32} : c_up σ s k f v s k f = v := if_pos ⟨rfl, rfl, rfl⟩
theorem c_rn {σ : Cn} {s k f s' k' f' : Nat} {v : Int32} (h : (Nat.beq s' s && Nat.beq f' f) = false) : c_up σ s k f v s' k' f' = σ s' k' f' := if_neg (fun z => by
  rw [z.1, z.2.2, Nat.beq_refl, Nat.beq_refl] at h
  cases h)
theorem c_rk {σ : Cn} {s k f s' k' f' : Nat} {v : Int32} (h : k' ≠ k) : c_up σ s k f v s' k' f' = σ s' k' f' := if_neg (fun z => h z.2.1)
theorem c_uu {σ : Cn} {s k f : Nat} {v w : Int32} : c_up (c_up σ s k f v) s k f w = c_up σ s k f w := by
  funext a b c
  unfold c_up
  split <;> rfl
theorem c_self {σ : Cn} {s k f : Nat} {v : Int32} (h : σ s k f = v) : c_up σ s k f v = σ := by
  funext a b c
  unfold c_up
  split
  · rename_i z
    rw [z.1, z.2.1, z.2.2, h]
  · rfl
/-- order of updates: by field, then section -/
def c_key (s f : Nat) : Nat := f * 10 + s
theorem c_comm {σ : Cn} {s k f s' k' f' : Nat} {v w : Int32} (h : Nat.blt (c_key s' f') (c_key s f) = true) : c_up (c_up σ s k f v) s' k' f' w = c_up (c_up σ s' k' f' w) s k f (id v) := by
  rw [id_eq]
  funext a b c
  unfold c_up
  by_cases h1 : a = s' ∧ b = k' ∧ c = f'
  · by_cases h2 : a = s ∧ b = k ∧ c = f
    · exfalso
      have e1 : s' = s := h1.1.symm.trans h2.1
      have e2 : f' = f := h1.2.2.symm.trans h2.2.2
      rw [e1, e2] at h
      have := Nat.le_of_ble_eq_true h
      omega
    · rw [if_pos h1, if_neg h2, if_pos h1]
  · by_cases h2 : a = s ∧ b = k ∧ c = f
    · rw [if_neg h1, if_pos h2, if_pos h2]
    · rw [if_neg h1, if_neg h2, if_neg h2, if_neg h1]
/-- which content a place of the row of numbers holds -/
def c_dec (j : Nat) : Nat × Nat × Nat :=
  if j < 16 then (0, 0, j) else if j < 106 then (5, (j - 16) / 3, (j - 16) % 3) else if j < 186 then (1, (j - 106) / 4, (j - 106) % 4)
  else if j < 270 then (2, (j - 186) / 14, (j - 186) % 14) else if j < 290 then (3, (j - 270) / 4, (j - 270) % 4) else (4, (j - 290) / 13, (j - 290) % 13)
def c_plc (x : Nat × Nat × Nat) : Nat := match x.1 with
  | 0 => x.2.2
  | 5 => 16 + 3 * x.2.1 + x.2.2
  | 1 => 106 + 4 * x.2.1 + x.2.2
  | 2 => 186 + 14 * x.2.1 + x.2.2
  | 3 => 270 + 4 * x.2.1 + x.2.2
  | _ => 290 + 13 * x.2.1 + x.2.2
theorem c_plc_dec {j : Nat} : c_plc (c_dec j) = j := by
  unfold c_dec
  split
  · rfl
  · split
    · show 16 + 3 * ((j - 16) / 3) + (j - 16) % 3 = j
      omega
    · split
      · show 106 + 4 * ((j - 106) / 4) + (j - 106) % 4 = j
        omega
      · split
        · show 186 + 14 * ((j - 186) / 14) + (j - 186) % 14 = j
          omega
        · split
          · show 270 + 4 * ((j - 270) / 4) + (j - 270) % 4 = j
            omega
          · show 290 + 13 * ((j - 290) / 13) + (j - 290) % 13 = j
            omega
theorem c_dec_inj {i j : Nat} (h : c_dec i = c_dec j) : i = j := by rw [← c_plc_dec (j := i), h, c_plc_dec]
theorem c_dec0 {f : Nat} (h : f < 16) : c_dec f = (0, 0, f) := if_pos h
theorem c_dec5 {k f : Nat} (hk : k < 30) (hf : f < 3) : c_dec (16 + 3 * k + f) = (5, k, f) := by
  unfold c_dec
  rw [if_neg (by omega), if_pos (by omega), show 16 + 3 * k + f - 16 = 3 * k + f by omega]
  congr 2 <;> omega
theorem c_dec1 {k f : Nat} (hk : k < 20) (hf : f < 4) : c_dec (106 + 4 * k + f) = (1, k, f) := by
  unfold c_dec
  rw [if_neg (by omega), if_neg (by omega), if_pos (by omega), show 106 + 4 * k + f - 106 = 4 * k + f by omega]
  congr 2 <;> omega
theorem c_dec2 {k f : Nat} (hk : k < 6) (hf : f < 14) : c_dec (186 + 14 * k + f) = (2, k, f) := by
  unfold c_dec
  rw [if_neg (by omega), if_neg (by omega), if_neg (by omega), if_pos (by omega), show 186 + 14 * k + f - 186 = 14 * k + f by omega]
  congr 2 <;> omega
theorem c_dec3 {k f : Nat} (hk : k < 5) (hf : f < 4) : c_dec (270 + 4 * k + f) = (3, k, f) := by
  unfold c_dec
  rw [if_neg (by omega), if_neg (by omega), if_neg (by omega), if_neg (by omega), if_pos (by omega), show 270 + 4 * k + f - 270 = 4 * k + f by omega]
  congr 2 <;> omega
theorem c_dec4 {k f : Nat} (hk : k < 40) (hf : f < 13) : c_dec (290 + 13 * k + f) = (4, k, f) := by
  unfold c_dec
  rw [if_neg (by omega), if_neg (by omega), if_neg (by omega), if_neg (by omega), if_neg (by omega), show 290 + 13 * k + f - 290 = 13 * k + f by omega]
  congr 2 <;> omega
/-- the reference holds σ in its row of numbers (at N) -/
def c_rE (N : Nat) (σ : Cn) (I : Nat → Nat → Int32) : Nat → Nat → Int32 := fun b j => if b = N then σ (c_dec j).1 (c_dec j).2.1 (c_dec j).2.2 else I b j
theorem c_rE_up {N : Nat} {σ : Cn} {I : Nat → Nat → Int32} {j s k f : Nat} {v : Int32} (h : c_dec j = (s, k, f)) : q_up (c_rE N σ I) N j v = c_rE N (c_up σ s k f v) I := by
  funext b i
  unfold q_up c_rE c_up
  by_cases hb : b = N
  · rw [if_pos hb, if_pos hb]
    by_cases hi : i = j
    · rw [if_pos ⟨hb, hi⟩, hi, h, if_pos ⟨rfl, rfl, rfl⟩]
    · rw [if_neg (fun z => hi z.2), if_neg]
      intro z
      apply hi
      apply c_dec_inj
      rw [h]
      exact Prod.ext z.1 (Prod.ext z.2.1 z.2.2)
  · rw [if_neg hb, if_neg hb, if_neg (fun z => hb z.1)]
theorem c_rE_at {N : Nat} {σ : Cn} {I : Nat → Nat → Int32} {j s k f : Nat} (h : c_dec j = (s, k, f)) : c_rE N σ I N j = σ s k f := by
  unfold c_rE
  rw [if_pos rfl, h]
theorem c_rE_ne {N b j : Nat} {σ : Cn} {I : Nat → Nat → Int32} (h : b ≠ N) : c_rE N σ I b j = I b j := if_neg h
theorem c_dec_lt {j : Nat} : (c_dec j).1 = 0 ∧ (c_dec j).2.2 < 16 ∨ (c_dec j).1 = 5 ∧ (c_dec j).2.2 < 3 ∨ (c_dec j).1 = 1 ∧ (c_dec j).2.2 < 4 ∨ (c_dec j).1 = 2 ∧ (c_dec j).2.2 < 14 ∨ (c_dec j).1 = 3 ∧ (c_dec j).2.2 < 4 ∨ (c_dec j).1 = 4 ∧ (c_dec j).2.2 < 13 := by
  unfold c_dec
  split
  · exact Or.inl ⟨rfl, by assumption⟩
  · split
    · exact Or.inr (Or.inl ⟨rfl, Nat.mod_lt _ (by omega)⟩)
    · split
      · exact Or.inr (Or.inr (Or.inl ⟨rfl, Nat.mod_lt _ (by omega)⟩))
      · split
        · exact Or.inr (Or.inr (Or.inr (Or.inl ⟨rfl, Nat.mod_lt _ (by omega)⟩)))
        · split
          · exact Or.inr (Or.inr (Or.inr (Or.inr (Or.inl ⟨rfl, Nat.mod_lt _ (by omega)⟩))))
          · exact Or.inr (Or.inr (Or.inr (Or.inr (Or.inr ⟨rfl, Nat.mod_lt _ (by omega)⟩))))
/-- what only the component holds is not in the row -/
theorem c_rE_gh {N : Nat} {σ : Cn} {I : Nat → Nat → Int32} {s k f : Nat} {v : Int32} (h : Nat.ble 20 f = true) : c_rE N (c_up σ s k f v) I = c_rE N σ I := by
  funext b j
  unfold c_rE
  by_cases hb : b = N
  · rw [if_pos hb, if_pos hb]
    refine if_neg (fun z => ?_)
    have := Nat.le_of_ble_eq_true h
    have := c_dec_lt (j := j)
    omega
  · rw [if_neg hb, if_neg hb]
