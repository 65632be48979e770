/-! PURE: the reference enters its roads -/
set_option maxRecDepth 100000
section
variable {g : Nat → Nat} {M : Mem} {m : Nat} {A : Nat → Nat} {I : Nat → Nat → Int32}
def h_rd1 (J : Nat → Nat → Int32) (A : Nat → Nat) (a b : Nat) (v : Int32) : Nat → Nat → Int32 := q_up (q_up (q_up (q_up J (A 8) (12 * a + b) v) (A 8) (12 * b + a) v) (A 9) (12 * a + b) v) (A 9) (12 * b + a) v
def h_rds (I : Nat → Nat → Int32) (A : Nat → Nat) : Nat → Nat → Nat → Int32
  | 0 => I
  | r + 1 => h_rd1 (h_rds I A r) A (I (A 0) (16 + 3 * r)).toNatClampNeg (I (A 0) (16 + 3 * r + 1)).toNatClampNeg (I (A 0) (16 + 3 * r + 2))
theorem q_upn {J : Nat → Nat → Int32} {a k c j : Nat} {v : Int32} (h : c ≠ a) : q_up J a k v c j = J c j := if_neg (fun z => h z.1)
theorem h_rd1_now {J : Nat → Nat → Int32} {a b c j : Nat} {v : Int32} (h8 : c ≠ A 8) (h9 : c ≠ A 9) : h_rd1 J A a b v c j = J c j := by
  unfold h_rd1
  rw [q_upn h9, q_upn h9, q_upn h8, q_upn h8]
theorem h_rds_now {c j : Nat} (h8 : c ≠ A 8) (h9 : c ≠ A 9) (r : Nat) : h_rds I A r c j = I c j := by
  induction r with
  | zero => rfl
  | succ r ih => exact (h_rd1_now h8 h9).trans ih
/-- the roads in the row of numbers stand well -/
def h_rok (I : Nat → Nat → Int32) (A : Nat → Nat) (n : Nat) : Prop := ∀ r : Nat, r < n → ∃ a b : Nat, a < 12 ∧ b < 12 ∧ I (A 0) (16 + 3 * r) = nI a ∧ I (A 0) (16 + 3 * r + 1) = nI b
theorem q4_lw48 {n : Nat} {Q : Mem → Prop} (hA : q_MA M m A) (hn : n ≤ 30) (hI : I (A 0) 5 = nI n) (hr : h_rok I A n) (hQ : ∃ j188 : Nat, wp_X4_laysWays_b188 g Q j188 (q_ints M (h_rds I A n)) m (nI 0)) : ∃ j48 : Nat, wp_X4_laysWays_b48 g Q j48 (q_ints M I) m (nI 0) := by
  obtain ⟨a1, a2, a3⟩ := hA.2.1 0 (Or.inl rfl)
  obtain ⟨b1, b2, b3⟩ := hA.2.1 8 (by unfold q_isar; omega)
  obtain ⟨c1, c2, c3⟩ := hA.2.1 9 (by unfold q_isar; omega)
  have a3 : m_ln M (A 0) = 810 := a3
  have b3 : m_ln M (A 8) = 144 := b3
  have c3 : m_ln M (A 9) = 144 := c3
  have n8 : A 0 ≠ A 8 := fun e => by have := hA.2.2 0 8 (by unfold q_isar; omega) (by unfold q_isar; omega) e; omega
  have n9 : A 0 ≠ A 9 := fun e => by have := hA.2.2 0 9 (by unfold q_isar; omega) (by unfold q_isar; omega) e; omega
  have H : ∀ d r : Nat, r + d = n → wp_X4_laysWays_b48 g Q (d + 1) (q_ints M (h_rds I A r)) m (nI r) := by
    intro d
    induction d with
    | zero =>
      intro r h
      have e : r = n := by omega
      subst e
      have v5 : vp_in 5 (m_ln M (A 0)) := by rw [a3]; exact (pn_in (a := 5) (by omega)).mpr (by omega)
      refine ⟨hA.1, A 0, a1, a2, v5, ?_⟩
      rw [q_giI, show Int32.toNatClampNeg 5 = 5 from pn_cl (a := 5) (by omega), h_rds_now n8 n9, hI]
      exact ⟨fun _ => hQ, fun h => absurd ((pn_le (by omega) (by omega)).mpr (Nat.le_refl _)) h⟩
    | succ d ih =>
      intro r h
      have v5 : vp_in 5 (m_ln M (A 0)) := by rw [a3]; exact (pn_in (a := 5) (by omega)).mpr (by omega)
      obtain ⟨a, b, ha, hb, ea, eb⟩ := hr r (by omega)
      have x0 : 16 + 3 * nI r = nI (16 + 3 * r) := by rw [show 3 * nI r = nI (3 * r) from pn_mul 3 r]; exact pn_add 16 _
      have x1 : nI (16 + 3 * r) + 1 = nI (16 + 3 * r + 1) := pn_add _ 1
      have x2 : nI (16 + 3 * r) + 2 = nI (16 + 3 * r + 2) := pn_add _ 2
      have y1 : 12 * nI a + nI b = nI (12 * a + b) := by rw [show 12 * nI a = nI (12 * a) from pn_mul 12 a]; exact pn_add _ _
      have y2 : 12 * nI b + nI a = nI (12 * b + a) := by rw [show 12 * nI b = nI (12 * b) from pn_mul 12 b]; exact pn_add _ _
      have w0 : ∀ i : Nat, i < 810 → vp_in (nI i) (m_ln M (A 0)) := fun i hi => by rw [a3, pn_in (by omega)]; exact hi
      have w8 : ∀ i : Nat, i < 144 → vp_in (nI i) (m_ln M (A 8)) := fun i hi => by rw [b3, pn_in (by omega)]; exact hi
      have w9 : ∀ i : Nat, i < 144 → vp_in (nI i) (m_ln M (A 9)) := fun i hi => by rw [c3, pn_in (by omega)]; exact hi
      have hnow : ∀ j : Nat, h_rds I A r (A 0) j = I (A 0) j := fun j => h_rds_now n8 n9 r
      refine ⟨hA.1, A 0, a1, a2, v5, ?_⟩
      rw [q_giI, show Int32.toNatClampNeg 5 = 5 from pn_cl (a := 5) (by omega), hnow, hI, x0, x1, x2]
      refine ⟨fun h => ?_, fun _ => ⟨A 0, a1, a2, w0 _ (by omega), A 0, a1, a2, w0 _ (by omega), A 8, b1, A 0, a1, a2, w0 _ (by omega), b2, ?_, fun M23 h23 => ?_⟩⟩
      · have := (pn_le (by omega) (by omega)).mp h
        omega
      · rw [q_giI, q_giI, pn_cl (by omega), pn_cl (by omega), hnow, hnow, ea, eb, y1]
        exact w8 _ (by omega)
      · have cl0 : (nI (16 + 3 * r)).toNatClampNeg = 16 + 3 * r := pn_cl (by omega)
        have cl1 : (nI (16 + 3 * r + 1)).toNatClampNeg = 16 + 3 * r + 1 := pn_cl (by omega)
        have cl2 : (nI (16 + 3 * r + 2)).toNatClampNeg = 16 + 3 * r + 2 := pn_cl (by omega)
        have z1 : (nI (12 * a + b)).toNatClampNeg = 12 * a + b := pn_cl (by omega)
        have z2 : (nI (12 * b + a)).toNatClampNeg = 12 * b + a := pn_cl (by omega)
        simp only [q_giI, cl0, cl1, cl2, hnow, ea, eb, y1, y2, z1, z2, q_piI] at h23 ⊢
        subst h23
        refine ⟨A 8, b1, A 0, a1, a2, w0 _ (by omega), b2, w8 _ (by omega), fun M40 h40 => ?_⟩
        simp only [q_giI, q_upn n8, q_upn n9, hnow, q_piI] at h40
        subst h40
        refine ⟨A 9, c1, A 0, a1, a2, w0 _ (by omega), c2, w9 _ (by omega), fun M59 h59 => ?_⟩
        simp only [q_giI, q_upn n8, q_upn n9, hnow, q_piI] at h59
        subst h59
        refine ⟨A 9, c1, A 0, a1, a2, w0 _ (by omega), c2, w9 _ (by omega), fun M80 h80 => ?_⟩
        simp only [q_giI, q_upn n8, q_upn n9, hnow, q_piI] at h80
        subst h80
        have e9 := ih (r + 1) (by omega)
        rw [show nI r + 1 = nI (r + 1) from pn_add r 1]
        unfold h_rds at e9
        rw [ea, eb, pn_cl (a := a) (by omega), pn_cl (a := b) (by omega)] at e9
        exact e9
  exact ⟨n + 1, H n 0 (by omega)⟩
end
section
variable {g : Nat → Nat} {M : Mem} {m : Nat} {A : Nat → Nat} {I : Nat → Nat → Int32}
/-- the ways laid anew (n roads) -/
def h_lays (I : Nat → Nat → Int32) (A : Nat → Nat) (n : Nat) : Nat → Nat → Int32 := h_fl (h_rds (h_lw0 I A 144) A n) (A 9) 12
theorem h_lw0_now {c j n : Nat} (h8 : c ≠ A 8) (h9 : c ≠ A 9) : h_lw0 I A n c j = I c j := by
  unfold h_lw0
  rw [if_neg (fun z => h8 z.1), if_neg (fun z => h9 z.1)]
theorem q4_laysWays {n : Nat} {Q : Mem → Prop} (hA : q_MA M m A) (hn : n ≤ 30) (hI : I (A 0) 5 = nI n) (hr : h_rok I A n) (hQ : Q (q_ints M (h_lays I A n))) : wp_X4_laysWays g (q_ints M I) m Q := by
  have n8 : A 0 ≠ A 8 := fun e => by have := hA.2.2 0 8 (by unfold q_isar; omega) (by unfold q_isar; omega) e; omega
  have n9 : A 0 ≠ A 9 := fun e => by have := hA.2.2 0 9 (by unfold q_isar; omega) (by unfold q_isar; omega) e; omega
  refine q4_lw2 hA (q4_lw48 (n := n) hA hn (by rw [h_lw0_now n8 n9]; exact hI) (fun r h => ?_) (q4_lw188 hA hQ))
  obtain ⟨a, b, h1, h2, h3, h4⟩ := hr r h
  exact ⟨a, b, h1, h2, by rw [h_lw0_now n8 n9]; exact h3, by rw [h_lw0_now n8 n9]; exact h4⟩
end
