/-! PURE: what always holds of a content -/
set_option maxRecDepth 100000
def u_sum (f : Nat → Int32) : Nat → Int32
  | 0 => 0
  | k + 1 => u_sum f k + f k
theorem u_sum_cg {f h : Nat → Int32} : ∀ {n : Nat}, (∀ k : Nat, k < n → h k = f k) → u_sum h n = u_sum f n := by
  intro n
  induction n with
  | zero => intro _; rfl
  | succ n ih =>
    intro hk
    unfold u_sum
    rw [ih (fun k hkn => hk k (by omega)), hk n (by omega)]
theorem u_sum_at {f h : Nat → Int32} {i : Nat} : ∀ {n : Nat}, i < n → (∀ k : Nat, k < n → k ≠ i → h k = f k) → u_sum h n = u_sum f n - f i + h i := by
  intro n
  induction n with
  | zero => intro hi; omega
  | succ n ih =>
    intro hi hk
    unfold u_sum
    by_cases e : i = n
    · subst e
      rw [u_sum_cg (fun k hkn => hk k (by omega) (by omega))]
      grind
    · rw [ih (by omega) (fun k hkn hne => hk k (by omega) hne), hk n (by omega) (fun z => e z.symm)]
      grind
/-- one call, by itself -/
def u_fi (n : Nat → Nat) (σ : Cn) (c : Nat) : Prop :=
  (∃ s : Nat, s < 8 ∧ σ 4 c 5 = nI s) ∧ (σ 4 c 8 = -5 ∨ ∃ p : Nat, p < n 2 ∧ σ 4 c 8 = nI p) ∧ ((σ 4 c 5 = 0 ∨ σ 4 c 5 = 1) → σ 4 c 8 = -5) ∧ ((σ 4 c 8 ≠ -5 ∨ σ 4 c 5 = 7) → σ 4 c 20 ≠ -5 ∧ σ 4 c 7 = σ 4 c 20 - σ 4 c 4) ∧ (σ 4 c 8 = -5 → σ 4 c 5 ≠ 7 → σ 4 c 20 = -5) ∧ (σ 4 c 5 = 5 → σ 4 c 8 ≠ -5)
def u_Fi (n : Nat → Nat) (σ : Cn) : Prop := ∀ c : Nat, c < n 4 → u_fi n σ c
/-- the last repair of a member -/
def u_m (n : Nat → Nat) (σ : Cn) (m : Nat) : Prop :=
  ((∀ c : Nat, c < n 4 → ¬ (σ 4 c 0 = nI m ∧ σ 4 c 5 = 5)) ∧ σ 1 m 22 = -5) ∨ ∃ c : Nat, c < n 4 ∧ σ 4 c 0 = nI m ∧ σ 4 c 5 = 5 ∧ (∀ d : Nat, c < d → d < n 4 → ¬ (σ 4 d 0 = nI m ∧ σ 4 d 5 = 5)) ∧ σ 1 m 22 = σ 4 c 8 ∧ σ 1 m 23 = σ 4 c 9
def u_M (n : Nat → Nat) (σ : Cn) : Prop := ∀ m : Nat, m < n 1 → u_m n σ m
/-- only the last call of a member may be open -/
def u_O (n : Nat → Nat) (σ : Cn) : Prop := ∀ c d : Nat, c < d → d < n 4 → σ 4 c 0 = σ 4 d 0 → ¬ σ 4 c 5 < 5
def u_D (n : Nat → Nat) (σ : Cn) : Prop := (∀ m : Nat, m < n 1 → σ 1 m 1 = σ 1 m 20 - σ 1 m 21) ∧ σ 0 0 10 = u_sum (fun m => σ 1 m 20) (n 1) ∧ σ 0 0 11 = u_sum (fun m => σ 1 m 21) (n 1)
def u_late (σ : Cn) (m c : Nat) : Int32 := if σ 4 c 0 = nI m ∧ σ 4 c 8 ≠ -5 ∧ σ 4 c 3 < σ 4 c 7 then 1 else 0
def u_cb (σ : Cn) (m c : Nat) : Int32 := if σ 4 c 0 = nI m then σ 4 c 10 else 0
def u_K (n : Nat → Nat) (σ : Cn) : Prop := σ 0 0 12 = u_sum (fun c => σ 4 c 10) (n 4) ∧ ∀ m : Nat, m < n 1 → σ 1 m 2 = u_sum (u_cb σ m) (n 4) ∧ σ 1 m 3 = u_sum (u_late σ m) (n 4)
def u_Ti (σ : Cn) : Prop := ∃ t : Nat, t ≤ 2880 ∧ σ 0 0 0 = nI t
def u_Z (n : Nat → Nat) (σ : Cn) : Prop := (∀ k : Nat, n 1 ≤ k → σ 1 k 1 = 0 ∧ σ 1 k 2 = 0 ∧ σ 1 k 3 = 0) ∧ (∀ k : Nat, n 2 ≤ k → σ 2 k 7 = 0 ∧ σ 2 k 8 = 0 ∧ σ 2 k 9 = 0 ∧ σ 2 k 10 = 0 ∧ σ 2 k 11 = 0) ∧ (∀ k : Nat, n 3 ≤ k → σ 3 k 2 = 0 ∧ σ 3 k 3 = 0) ∧ ∀ c : Nat, c < n 4 → ∃ t : Nat, 1 ≤ t ∧ t ≤ 12 ∧ σ 4 c 2 = nI t
def u_I (n : Nat → Nat) (σ : Cn) : Prop := u_R n σ ∧ u_U n σ ∧ u_B n σ ∧ u_Fi n σ ∧ u_M n σ ∧ u_O n σ ∧ u_D n σ ∧ u_K n σ ∧ u_Ti σ ∧ u_Z n σ
/-- all but patrol p, call c, member k, garage q and the sums is the same -/
def u_loc (p c k q : Nat) (σ σ' : Cn) : Prop := (∀ i f : Nat, i ≠ p → σ' 2 i f = σ 2 i f) ∧ (∀ i f : Nat, i ≠ c → σ' 4 i f = σ 4 i f) ∧ (∀ i f : Nat, i ≠ k → σ' 1 i f = σ 1 i f) ∧ (∀ i f : Nat, i ≠ q → σ' 3 i f = σ 3 i f)
/-- patrol p and call c are in hand: the others' links stand -/
def u_H (n : Nat → Nat) (σ : Cn) (p c : Nat) : Prop :=
  (∀ i : Nat, i < n 2 → i ≠ p → (σ 2 i 3 = 0 ∨ σ 2 i 3 = 4 ∨ u_busy σ i) ∧ (u_busy σ i → ∃ d : Nat, d ≠ c ∧ u_link n σ i d)) ∧
  ∀ d : Nat, d < n 4 → d ≠ c → σ 4 d 6 = -5 ∨ ∃ i : Nat, i ≠ p ∧ i < n 2 ∧ σ 4 d 6 = nI i ∧ u_busy σ i ∧ σ 2 i 5 = nI d
theorem u_H_loc {n : Nat → Nat} {σ σ' : Cn} {p c k q : Nat} (h : u_H n σ p c) (hl : u_loc p c k q σ σ') : u_H n σ' p c := by
  obtain ⟨h1, h2⟩ := h
  obtain ⟨l2, l4, _, _⟩ := hl
  have hb : ∀ i : Nat, i ≠ p → (u_busy σ' i ↔ u_busy σ i) := fun i hi => by unfold u_busy; rw [l2 i 3 hi]
  refine ⟨fun i hi hip => ?_, fun d hd hdc => ?_⟩
  · obtain ⟨a, b⟩ := h1 i hi hip
    refine ⟨?_, fun hbz => ?_⟩
    · rw [l2 i 3 hip]
      exact a.imp id (fun z => z.imp id (fun y => (hb i hip).mpr y))
    · obtain ⟨d, hdc, hlk⟩ := b ((hb i hip).mp hbz)
      refine ⟨d, hdc, ?_⟩
      unfold u_link at hlk ⊢
      rw [l2 i 5 hip, l2 i 6 hip, l2 i 3 hip, l2 i 12 hip, l2 i 20 hip, l2 i 21 hip, l2 i 13 hip, l4 d 6 hdc, l4 d 5 hdc, l4 d 8 hdc]
      exact hlk
  · rcases h2 d hd hdc with h | ⟨i, hip, hi, a, b, e⟩
    · left
      rw [l4 d 6 hdc]
      exact h
    · exact Or.inr ⟨i, hip, hi, by rw [l4 d 6 hdc]; exact a, (hb i hip).mpr b, by rw [l2 i 5 hip]; exact e⟩
theorem u_nI_inj {a b : Nat} (h : nI a = nI b) (ha : a ≤ 1000) (hb : b ≤ 1000) : a = b := (pn_inj (by omega) (by omega)).mp h
theorem u_H_link {n : Nat → Nat} {σ : Cn} {p c : Nat} (h : u_B n σ) (hl2 : n 2 ≤ 6) (hl4 : n 4 ≤ 40) (hp : p < n 2) (hk : u_link n σ p c) : u_H n σ p c := by
  obtain ⟨h1, h2⟩ := h
  obtain ⟨hc, k1, k2, _⟩ := hk
  refine ⟨fun i hi hip => ⟨(h1 i hi).1, fun hb => ?_⟩, fun d hd hdc => ?_⟩
  · obtain ⟨d, hlk⟩ := (h1 i hi).2 hb
    refine ⟨d, fun e => ?_, hlk⟩
    subst e
    have e1 := hlk.2.2.1
    rw [k2] at e1
    exact hip (u_nI_inj e1 (by omega) (by omega)).symm
  · rcases h2 d hd with h | ⟨i, hi, a, b, e⟩
    · exact Or.inl h
    · refine Or.inr ⟨i, fun z => ?_, hi, a, b, e⟩
      rw [z, k1] at e
      exact hdc (u_nI_inj e (by omega) (by omega)).symm
theorem u_H_free {n : Nat → Nat} {σ : Cn} {p c : Nat} (h : u_B n σ) (hl2 : n 2 ≤ 6) (hp : p < n 2) (hc : c < n 4) (hf : σ 2 p 3 = 0) (hw : u_waits σ c = true) : u_H n σ p c := by
  obtain ⟨h1, h2⟩ := h
  have hw := of_decide_eq_true hw
  refine ⟨fun i hi hip => ⟨(h1 i hi).1, fun hb => ?_⟩, fun d hd hdc => ?_⟩
  · obtain ⟨d, hlk⟩ := (h1 i hi).2 hb
    refine ⟨d, fun e => ?_, hlk⟩
    subst e
    obtain ⟨_, _, k2, _, k4, k5, k6⟩ := hlk
    rcases hw with hw | ⟨hw1, hw2⟩
    · rcases hb with z | z | z
      · rcases k4 z with y | y <;> (rw [hw] at y; revert y; decide)
      · have y := (k5 z).1
        rw [hw] at y
        revert y
        decide
      · have y := (k6 z).1
        rw [hw] at y
        revert y
        decide
    · rw [hw2] at k2
      have h9 : (nI i = -5) = False := u_og_ne (by omega)
      rw [← k2] at h9
      exact h9.mp rfl
  · rcases h2 d hd with h | ⟨i, hi, a, b, e⟩
    · exact Or.inl h
    · refine Or.inr ⟨i, fun z => ?_, hi, a, b, e⟩
      rw [z] at b
      rcases b with y | y | y <;> (rw [hf] at y; revert y; decide)
/-- the end: the patrol is free, no one is sent to the call -/
theorem u_H_done {n : Nat → Nat} {σ : Cn} {p c : Nat} (h : u_H n σ p c) (hf : σ 2 p 3 = 0) (hb : σ 4 c 6 = -5) : u_B n σ := by
  have hnb : ¬ u_busy σ p := by
    rintro (y | y | y) <;> (rw [hf] at y; revert y; decide)
  refine ⟨fun i hi => ?_, fun d hd => ?_⟩
  · by_cases hip : i = p
    · subst hip
      exact ⟨Or.inl hf, fun z => absurd z hnb⟩
    · obtain ⟨a, b⟩ := h.1 i hi hip
      exact ⟨a, fun z => (b z).elim (fun d hd => ⟨d, hd.2⟩)⟩
  · by_cases hdc : d = c
    · subst hdc
      exact Or.inl hb
    · rcases h.2 d hd hdc with h | ⟨i, _, hi, a, b, e⟩
      · exact Or.inl h
      · exact Or.inr ⟨i, hi, a, b, e⟩
/-- or it is busy with the call -/
theorem u_H_busy {n : Nat → Nat} {σ : Cn} {p c : Nat} (h : u_H n σ p c) (hp : p < n 2) (hb : u_busy σ p) (hk : u_link n σ p c) : u_B n σ := by
  refine ⟨fun i hi => ?_, fun d hd => ?_⟩
  · by_cases hip : i = p
    · subst hip
      exact ⟨Or.inr (Or.inr hb), fun _ => ⟨c, hk⟩⟩
    · obtain ⟨a, b⟩ := h.1 i hi hip
      exact ⟨a, fun z => (b z).elim (fun d hd => ⟨d, hd.2⟩)⟩
  · by_cases hdc : d = c
    · subst hdc
      exact Or.inr ⟨p, hp, hk.2.2.1, hb, hk.2.1⟩
    · rcases h.2 d hd hdc with h | ⟨i, _, hi, a, b, e⟩
      · exact Or.inl h
      · exact Or.inr ⟨i, hi, a, b, e⟩
/-- patrols but p that tow to q -/
def u_uX (σ : Cn) (p : Nat) (q : Int32) : Nat → Int32
  | 0 => 0
  | i + 1 => if i ≠ p ∧ σ 2 i 3 = 3 ∧ σ 2 i 13 = q then u_uX σ p q i + 1 else u_uX σ p q i
theorem u_uX_loc {σ σ' : Cn} {p c k l : Nat} {q : Int32} (hl : u_loc p c k l σ σ') : ∀ i : Nat, u_uX σ' p q i = u_uX σ p q i := by
  intro i
  induction i with
  | zero => rfl
  | succ i ih =>
    unfold u_uX
    rw [ih]
    by_cases hip : i = p
    · rw [if_neg (fun z => z.1 hip), if_neg (fun z => z.1 hip)]
    · rw [hl.1 i 3 hip, hl.1 i 13 hip]
theorem u_uX_le {σ : Cn} {p : Nat} {q : Int32} : ∀ i : Nat, i ≤ p → u_under σ q i = u_uX σ p q i := by
  intro i
  induction i with
  | zero => intro _; rfl
  | succ i ih =>
    intro hi
    unfold u_uX u_under
    rw [ih (by omega)]
    have : i ≠ p := by omega
    simp only [this, ne_eq, not_false_eq_true, true_and]
theorem u_uX_un {σ : Cn} {p : Nat} {q : Int32} : ∀ i : Nat, p < i → u_under σ q i = u_uX σ p q i + (if σ 2 p 3 = 3 ∧ σ 2 p 13 = q then 1 else 0) := by
  intro i
  induction i with
  | zero => intro h; omega
  | succ i ih =>
    intro hi
    unfold u_uX u_under
    by_cases e : i = p
    · subst e
      rw [u_uX_le i (Nat.le_refl _), if_neg (fun z : i ≠ i ∧ _ => z.1 rfl)]
      split
      · rfl
      · rw [Int32.add_zero]
    · rw [ih (by omega)]
      simp only [e, ne_eq, not_false_eq_true, true_and]
      split <;> split <;> grind
/-- coming, but for p -/
def u_V (n : Nat → Nat) (σ : Cn) (p : Nat) : Prop := ∀ k : Nat, k < n 3 → σ 3 k 20 = u_uX σ p (nI k) (n 2)
theorem u_V_of {n : Nat → Nat} {σ : Cn} {p : Nat} (h : u_U n σ) (hp : p < n 2) (hd : σ 2 p 3 ≠ 3) : u_V n σ p := fun k hk => by
  rw [h k hk, u_uX_un (n 2) hp, if_neg (fun z => hd z.1), Int32.add_zero]
theorem u_V_to {n : Nat → Nat} {σ : Cn} {p : Nat} (h : u_V n σ p) (hp : p < n 2) (hd : σ 2 p 3 ≠ 3) : u_U n σ := fun k hk => by
  rw [h k hk, u_uX_un (n 2) hp, if_neg (fun z => hd z.1), Int32.add_zero]
