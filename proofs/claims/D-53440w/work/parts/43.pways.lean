/-! PURE: the reference lays its ways -/
set_option maxRecDepth 100000
section
variable {g : Nat → Nat} {M : Mem} {m : Nat} {A : Nat → Nat} {I : Nat → Nat → Int32}
/-- no roads: the first n places -/
def h_lw0 (I : Nat → Nat → Int32) (A : Nat → Nat) (n : Nat) : Nat → Nat → Int32 := fun c j => if c = A 8 ∧ j < n then 100000 else if c = A 9 ∧ j < n then (if j / 12 = j % 12 then 0 else 100000) else I c j
theorem h_lw0_0 : h_lw0 I A 0 = I := by
  funext c j
  unfold h_lw0
  rw [if_neg (by omega), if_neg (by omega)]
theorem h_lw0_1 {n : Nat} (h : A 8 ≠ A 9) : q_up (q_up (h_lw0 I A n) (A 8) n 100000) (A 9) n (if n / 12 = n % 12 then 0 else 100000) = h_lw0 I A (n + 1) := by
  funext c j
  unfold q_up h_lw0
  by_cases hj : j = n
  · subst hj
    by_cases e9 : c = A 9
    · subst e9
      simp [h.symm]
    · by_cases e8 : c = A 8
      · subst e8
        simp [h]
      · simp [e8, e9]
  · have e : (j < n + 1) ↔ j < n := by omega
    simp only [hj, and_false, if_false, e]
theorem q4_lw2 {Q : Mem → Prop} (hA : q_MA M m A) (hk : ∃ j48 : Nat, wp_X4_laysWays_b48 g Q j48 (q_ints M (h_lw0 I A 144)) m (nI 0)) : wp_X4_laysWays g (q_ints M I) m Q := by
  obtain ⟨a1, a2, a3⟩ := hA.2.1 8 (by unfold q_isar; omega)
  obtain ⟨b1, b2, b3⟩ := hA.2.1 9 (by unfold q_isar; omega)
  have hne : A 8 ≠ A 9 := fun e => by have := hA.2.2 8 9 (by unfold q_isar; omega) (by unfold q_isar; omega) e; omega
  have H : ∀ d i : Nat, i + d = 144 → wp_X4_laysWays_b2 g Q (d + 1) (q_ints M (h_lw0 I A i)) m (nI i) := by
    intro d
    induction d with
    | zero =>
      intro i hi
      have e : i = 144 := by omega
      subst e
      exact ⟨fun _ => hk, fun h => absurd ((pn_le (a := 144) (b := 144) (by omega) (by omega)).mpr (Nat.le_refl _)) h⟩
    | succ d ih =>
      intro i hi
      have hin8 : vp_in (nI i) (m_ln M (A 8)) := by rw [pn_in (by omega), a3]; show i < 144; omega
      have hin9 : vp_in (nI i) (m_ln M (A 9)) := by rw [pn_in (by omega), b3]; show i < 144; omega
      have ed : nI i / 12 = nI (i / 12) := pn_div (b := 12) (by omega) (by omega) (by omega)
      have em : nI i - nI i / 12 * 12 = nI (i % 12) := pn_mod (b := 12) (by omega) (by omega) (by omega)
      refine ⟨fun h => ?_, fun _ => ⟨hA.1, A 8, a1, a2, hin8, fun M7 h7 => ?_⟩⟩
      · have := (pn_le (a := 144) (b := i) (by omega) (by omega)).mp h
        omega
      · rw [pn_cl (by omega), q_piI] at h7
        subst h7
        have key := h_lw0_1 (I := I) (n := i) hne
        refine ⟨A 9, b1, ?_⟩
        rw [em, ed, pn_inj (by omega) (by omega)]
        refine ⟨fun c => ⟨b2, hin9, fun M17 h17 => ?_⟩, fun c => ⟨b2, hin9, fun M25 h25 => ?_⟩⟩
        · rw [if_neg c] at key
          rw [pn_cl (by omega), q_piI, key] at h17
          subst h17
          rw [show nI i + 1 = nI (i + 1) from pn_add i 1]
          exact ih (i + 1) (by omega)
        · rw [if_pos c] at key
          rw [pn_cl (by omega), q_piI, key] at h25
          subst h25
          rw [show nI i + 1 = nI (i + 1) from pn_add i 1]
          exact ih (i + 1) (by omega)
  refine ⟨145, ?_⟩
  have h9 := H 144 0 (by omega)
  rw [h_lw0_0] at h9
  exact h9
end
section
variable {g : Nat → Nat} {M : Mem} {m : Nat} {A : Nat → Nat} {I : Nat → Nat → Int32}
/-- the place k is brought nearer over c -/
def h_fl1 (I : Nat → Nat → Int32) (W c k : Nat) : Nat → Nat → Int32 := q_up I W k (if I W k ≤ I W (k / 12 * 12 + c) + I W (12 * c + k % 12) then I W k else I W (k / 12 * 12 + c) + I W (12 * c + k % 12))
def h_flk (I : Nat → Nat → Int32) (W c : Nat) : Nat → Nat → Nat → Int32
  | 0 => I
  | k + 1 => h_fl1 (h_flk I W c k) W c k
def h_fl (I : Nat → Nat → Int32) (W : Nat) : Nat → Nat → Nat → Int32
  | 0 => I
  | c + 1 => h_flk (h_fl I W c) W c 144
theorem q4_lw188 {Q : Mem → Prop} (hA : q_MA M m A) (hQ : Q (q_ints M (h_fl I (A 9) 12))) : ∃ j188 : Nat, wp_X4_laysWays_b188 g Q j188 (q_ints M I) m (nI 0) := by
  obtain ⟨b1, b2, b3⟩ := hA.2.1 9 (by unfold q_isar; omega)
  have b3 : m_ln M (A 9) = 144 := b3
  have H2 : ∀ (c : Nat), c < 12 → ∀ (k188 : Mem → Nat → Int32 → Prop), ∀ (J : Nat → Nat → Int32), k188 (q_ints M (h_flk J (A 9) c 144)) m (nI (c + 1)) → ∀ d i : Nat, i + d = 144 → wp_X4_laysWays_b196 g k188 Q (d + 1) (q_ints M (h_flk J (A 9) c i)) m (nI c) (nI i) := by
    intro c hc k188 J hK d
    induction d with
    | zero =>
      intro i hi
      have e : i = 144 := by omega
      subst e
      exact ⟨fun _ => by rw [show nI c + 1 = nI (c + 1) from pn_add c 1]; exact hK, fun h => absurd ((pn_le (a := 144) (b := 144) (by omega) (by omega)).mpr (Nat.le_refl _)) h⟩
    | succ d ih =>
      intro i hi
      have ed : nI i / 12 * 12 + nI c = nI (i / 12 * 12 + c) := by rw [show nI i / 12 = nI (i / 12) from pn_div (b := 12) (by omega) (by omega) (by omega), show nI (i / 12) * 12 = nI (i / 12 * 12) from pn_mul _ 12, pn_add]
      have em : 12 * nI c + (nI i - nI i / 12 * 12) = nI (12 * c + i % 12) := by rw [show nI i - nI i / 12 * 12 = nI (i % 12) from pn_mod (b := 12) (by omega) (by omega) (by omega), show 12 * nI c = nI (12 * c) from pn_mul 12 _, pn_add]
      have l1 : i / 12 * 12 + c < 144 := by omega
      have l2 : 12 * c + i % 12 < 144 := by omega
      have v1 : vp_in (nI (i / 12 * 12 + c)) (m_ln M (A 9)) := by rw [b3, pn_in (by omega)]; exact l1
      have v2 : vp_in (nI (12 * c + i % 12)) (m_ln M (A 9)) := by rw [b3, pn_in (by omega)]; exact l2
      have v3 : vp_in (nI i) (m_ln M (A 9)) := by rw [b3, pn_in (by omega)]; omega
      refine ⟨fun h => ?_, fun _ => ⟨hA.1, A 9, b1, b2, by rw [ed]; exact v1, A 9, b1, b2, by rw [em]; exact v2, A 9, b1, A 9, b1, b2, v3, ?_⟩⟩
      · have := (pn_le (a := 144) (b := i) (by omega) (by omega)).mp h
        omega
      · rw [ed, em, pn_cl (by omega), pn_cl (by omega), pn_cl (by omega), q_giI, q_giI, q_giI]
        have hs : h_flk J (A 9) c (i + 1) = h_fl1 (h_flk J (A 9) c i) (A 9) c i := rfl
        refine ⟨fun h => ⟨A 9, b1, b2, v3, b2, v3, fun M24 h24 => ?_⟩, fun h => ⟨b2, v3, fun M35 h35 => ?_⟩⟩
        · rw [q_piI] at h24
          subst h24
          have e9 := ih (i + 1) (by omega)
          rw [hs] at e9
          unfold h_fl1 at e9
          rw [if_pos h] at e9
          rw [show nI i + 1 = nI (i + 1) from pn_add i 1]
          exact e9
        · rw [q_piI] at h35
          subst h35
          have e9 := ih (i + 1) (by omega)
          rw [hs] at e9
          unfold h_fl1 at e9
          rw [if_neg h] at e9
          rw [show nI i + 1 = nI (i + 1) from pn_add i 1]
          exact e9
  have H : ∀ d c : Nat, c + d = 12 → wp_X4_laysWays_b188 g Q (d + 1) (q_ints M (h_fl I (A 9) c)) m (nI c) := by
    intro d
    induction d with
    | zero =>
      intro c hc
      have e : c = 12 := by omega
      subst e
      exact ⟨fun _ => hQ, fun h => absurd ((pn_le (a := 12) (b := 12) (by omega) (by omega)).mpr (Nat.le_refl _)) h⟩
    | succ d ih =>
      intro c hc
      refine ⟨fun h => ?_, fun _ => ⟨145, ?_⟩⟩
      · have := (pn_le (a := 12) (b := c) (by omega) (by omega)).mp h
        omega
      · exact H2 c (by omega) _ (h_fl I (A 9) c) (ih (c + 1) (by omega)) 144 0 (by omega)
  exact ⟨13, H 12 0 (by omega)⟩
end
