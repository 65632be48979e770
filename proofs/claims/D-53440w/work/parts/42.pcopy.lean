/-! PURE: the reference copies and records -/
set_option maxRecDepth 100000
section
variable {g : Nat → Nat} {M : Mem} {m : Nat} {A : Nat → Nat} {I : Nat → Nat → Int32}
/-- n ints of a from f on, into b from t on -/
def q_cp (I : Nat → Nat → Int32) (a f b t n : Nat) : Nat → Nat → Int32 := fun c j => if c = b ∧ t ≤ j ∧ j < t + n then I a (f + (j - t)) else I c j
theorem q_cp0 {a f b t : Nat} : q_cp I a f b t 0 = I := by
  funext c j
  unfold q_cp
  rw [if_neg (by omega)]
theorem q_cp1 {a f b t n : Nat} (h : a ≠ b) : q_up (q_cp I a f b t n) b (t + n) (q_cp I a f b t n a (f + n)) = q_cp I a f b t (n + 1) := by
  funext c j
  unfold q_up q_cp
  by_cases h1 : c = b ∧ j = t + n
  · rw [if_pos h1, if_neg (fun z => h z.1), if_pos ⟨h1.1, by omega, by omega⟩, h1.2]
    congr 2
    omega
  · rw [if_neg h1]
    by_cases h2 : c = b ∧ t ≤ j ∧ j < t + n
    · rw [if_pos h2, if_pos ⟨h2.1, h2.2.1, by omega⟩]
    · rw [if_neg h2, if_neg (fun z => h2 ⟨z.1, z.2.1, by have : j ≠ t + n := fun e => h1 ⟨z.1, e⟩; omega⟩)]
theorem q4_copies {a f b t : Nat} {Q : Mem → Prop} (ha : m_tg M a = 101) (hb : m_tg M b = 101) (hf : f + 810 ≤ m_ln M a) (ht : t + 810 ≤ m_ln M b) (hs : f < 1000000 ∧ t < 1000000) (hab : a ≠ b) (hQ : Q (q_ints M (q_cp I a f b t 810))) : wp_X4_copies g (q_ints M I) a (nI f) b (nI t) Q := by
  have H : ∀ d i : Nat, i + d = 810 → wp_X4_copies_b3 g Q (d + 1) (q_ints M (q_cp I a f b t i)) a (nI f) b (nI t) (nI i) := by
    intro d
    induction d with
    | zero =>
      intro i hi
      have e : i = 810 := by omega
      subst e
      exact ⟨fun _ => hQ, fun h => absurd ((pn_le (a := 810) (b := 810) (by omega) (by omega)).mpr (Nat.le_refl _)) h⟩
    | succ d ih =>
      intro i hi
      refine ⟨fun h => ?_, fun _ => ⟨ha, ?_, hb, ?_, fun M6 h6 => ?_⟩⟩
      · have := (pn_le (a := 810) (b := i) (by omega) (by omega)).mp h
        omega
      · rw [pn_add, pn_in (by omega)]
        show f + i < m_ln M a
        omega
      · rw [pn_add, pn_in (by omega)]
        show t + i < m_ln M b
        omega
      · rw [pn_add, pn_add, pn_cl (by omega), pn_cl (by omega), q_giI, q_piI, q_cp1 hab] at h6
        subst h6
        rw [show nI i + 1 = nI (i + 1) from pn_add i 1]
        exact ih (i + 1) (by omega)
  refine ⟨811, ?_⟩
  have h := H 810 0 (by omega)
  rw [q_cp0] at h
  exact h
/-- past moved down by one state -/
def q_sh (I : Nat → Nat → Int32) (P n : Nat) : Nat → Nat → Int32 := fun c j => if c = P ∧ j < n then I P (j + 810) else I c j
theorem q_sh0 {P : Nat} : q_sh I P 0 = I := by
  funext c j
  unfold q_sh
  rw [if_neg (by omega)]
theorem q_sh1 {P n : Nat} : q_up (q_sh I P n) P n (q_sh I P n P (n + 810)) = q_sh I P (n + 1) := by
  funext c j
  unfold q_up q_sh
  by_cases h1 : c = P ∧ j = n
  · rw [if_pos h1, if_neg (by omega), if_pos ⟨h1.1, by omega⟩, h1.2]
  · rw [if_neg h1]
    by_cases h2 : c = P ∧ j < n
    · rw [if_pos h2, if_pos ⟨h2.1, by omega⟩]
    · rw [if_neg h2, if_neg (fun z => h2 ⟨z.1, by have : j ≠ n := fun e => h1 ⟨z.1, e⟩; omega⟩)]
/-- the state recorded (p: how many are) -/
def h_rec (I : Nat → Nat → Int32) (m : Nat) (A : Nat → Nat) (p : Nat) : Nat → Nat → Int32 :=
  if p = 4 then q_up (q_cp (q_up (q_sh I (A 1) 2430) m 2 (nI 3)) (A 0) 0 (A 1) (3 * 810) 810) m 2 (nI 4) else q_up (q_cp I (A 0) 0 (A 1) (p * 810) 810) m 2 (nI (p + 1))
theorem q_mA (hA : q_MA M m A) {k : Nat} (hk : q_isar k) : m ≠ A k := fun e => by
  have h1 := hA.1
  have h2 := (hA.2.1 k hk).2.1
  rw [← e, h1] at h2
  cases h2
theorem q4_rec44 {p : Nat} {Q : Mem → Prop} (hA : q_MA M m A) (hp : p < 4) (hI : I m 2 = nI p) (hQ : Q (q_ints M (q_up (q_cp I (A 0) 0 (A 1) (p * 810) 810) m 2 (nI (p + 1))))) : wp_X4_records_b44 g (q_ints M I) m Q := by
  obtain ⟨a1, a2, a3⟩ := hA.2.1 0 (Or.inl rfl)
  obtain ⟨b1, b2, b3⟩ := hA.2.1 1 (Or.inr (Or.inl rfl))
  have hne : A 0 ≠ A 1 := fun e => by have := hA.2.2 0 1 (Or.inl rfl) (Or.inr (Or.inl rfl)) e; omega
  have hm1 := q_mA hA (k := 1) (Or.inr (Or.inl rfl))
  refine ⟨hA.1, A 0, a1, A 1, b1, ?_⟩
  rw [q_giI, hI, show (810 : Int32) = nI 810 from rfl, pn_mul]
  refine q4_copies (f := 0) (t := p * 810) a2 b2 (by rw [a3]; exact Nat.le_refl _) (by rw [b3]; show p * 810 + 810 ≤ 3240; omega) ⟨by omega, by omega⟩ hne (fun _ M9 h9 => ?_)
  have e : q_cp I (A 0) 0 (A 1) (p * 810) 810 m 2 = nI p := by
    unfold q_cp
    rw [if_neg (fun z => hm1 z.1), hI]
  rw [q_giI, e, show nI p + 1 = nI (p + 1) from pn_add p 1, q_piI] at h9
  subst h9
  exact hQ
theorem q4_records {p : Nat} {Q : Mem → Prop} (hA : q_MA M m A) (hp : p ≤ 4) (hI : I m 2 = nI p) (hQ : Q (q_ints M (h_rec I m A p))) : wp_X4_records g (q_ints M I) m Q := by
  obtain ⟨b1, b2, b3⟩ := hA.2.1 1 (Or.inr (Or.inl rfl))
  unfold h_rec at hQ
  refine ⟨hA.1, fun h => ?_, fun h => ?_⟩
  · have h4 : p ≠ 4 := fun e => h (by rw [q_giI, hI, e]; rfl)
    rw [if_neg h4] at hQ
    exact q4_rec44 hA (by omega) hI hQ
  · have h4 : p = 4 := by
      rw [q_giI, hI] at h
      exact (pn_inj (b := 4) (by omega) (by omega)).mp h
    rw [if_pos h4] at hQ
    have H : ∀ d i : Nat, i + d = 2430 → wp_X4_records_b10 g Q (d + 1) (q_ints M (q_sh I (A 1) i)) m (nI i) := by
      intro d
      induction d with
      | zero =>
        intro i hi
        have e : i = 2430 := by omega
        subst e
        refine ⟨fun _ => ⟨hA.1, fun M3 h3 => ?_⟩, fun h => absurd ((pn_le (a := 2430) (b := 2430) (by omega) (by omega)).mpr (Nat.le_refl _)) h⟩
        rw [q_piI] at h3
        subst h3
        exact q4_rec44 (p := 3) hA (by omega) (by unfold q_up; rw [if_pos ⟨rfl, rfl⟩]; rfl) hQ
      | succ d ih =>
        intro i hi
        refine ⟨fun h => ?_, fun _ => ⟨hA.1, A 1, b1, A 1, b1, b2, ?_, b2, ?_, fun M6 h6 => ?_⟩⟩
        · have := (pn_le (a := 2430) (b := i) (by omega) (by omega)).mp h
          omega
        · rw [show nI i + 810 = nI (i + 810) from pn_add i 810, pn_in (by omega)]
          show i + 810 < m_ln M (A 1)
          rw [b3]
          show i + 810 < 3240
          omega
        · rw [pn_in (by omega)]
          show i < m_ln M (A 1)
          rw [b3]
          show i < 3240
          omega
        · rw [show nI i + 810 = nI (i + 810) from pn_add i 810, pn_cl (by omega), pn_cl (by omega), q_giI, q_piI, q_sh1] at h6
          subst h6
          rw [show nI i + 1 = nI (i + 1) from pn_add i 1]
          exact ih (i + 1) (by omega)
    refine ⟨2431, ?_⟩
    have h9 := H 2430 0 (by omega)
    rw [q_sh0] at h9
    exact h9
end
