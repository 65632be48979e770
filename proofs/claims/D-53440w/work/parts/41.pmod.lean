/-! PURE: the reference's memory in a normal form: its ints by S (section k: the array in field k; section 100: its own fields) -/
set_option maxRecDepth 100000
def q_ln (k : Nat) : Nat := match k with
  | 0 => 810
  | 1 => 3240
  | 3 => 810
  | 5 => 810
  | 6 => 60
  | 8 => 144
  | 9 => 144
  | 10 => 40
  | 12 => 60
  | _ => 0
def q_isar (k : Nat) : Prop := k = 0 ∨ k = 1 ∨ k = 3 ∨ k = 5 ∨ k = 6 ∨ k = 8 ∨ k = 9 ∨ k = 10 ∨ k = 12
/-- the model m with its arrays at A -/
def q_MA (M : Mem) (m : Nat) (A : Nat → Nat) : Prop := m_tg M m = 5 ∧ (∀ k : Nat, q_isar k → m_gr M m k = some (A k) ∧ m_tg M (A k) = 101 ∧ m_ln M (A k) = q_ln k) ∧ ∀ i j : Nat, q_isar i → q_isar j → A i = A j → i = j
/-- ints of cells replaced -/
def q_ints (M : Mem) (I : Nat → Nat → Int32) : Mem := (fun b => ((M.1 b).1, (M.1 b).2.1, I b, (M.1 b).2.2.2), M.2)
theorem q_ints_self {M : Mem} : q_ints M (m_gi M) = M := rfl
theorem q_tg {M : Mem} {I : Nat → Nat → Int32} {b : Nat} : m_tg (q_ints M I) b = m_tg M b := rfl
theorem q_lnI {M : Mem} {I : Nat → Nat → Int32} {b : Nat} : m_ln (q_ints M I) b = m_ln M b := rfl
theorem q_grI {M : Mem} {I : Nat → Nat → Int32} {b k : Nat} : m_gr (q_ints M I) b k = m_gr M b k := rfl
theorem q_giI {M : Mem} {I : Nat → Nat → Int32} {b k : Nat} : m_gi (q_ints M I) b k = I b k := rfl
theorem q_ncI {M : Mem} {I : Nat → Nat → Int32} : m_nc (q_ints M I) = m_nc M := rfl
theorem q_nsI {M : Mem} {I : Nat → Nat → Int32} : m_ns (q_ints M I) = m_ns M := rfl
def q_up (I : Nat → Nat → Int32) (a k : Nat) (v : Int32) : Nat → Nat → Int32 := fun b j => if b = a ∧ j = k then v else I b j
theorem q_piI {M : Mem} {I : Nat → Nat → Int32} {a k : Nat} {v : Int32} : m_pi (q_ints M I) a k v = q_ints M (q_up I a k v) := by
  unfold m_pi q_ints q_up
  dsimp only
  congr 1
  funext b
  by_cases h : b = a
  · rw [if_pos h]
    congr 3
    funext j
    subst h
    unfold upd
    by_cases hj : j = k
    · simp [hj]
    · simp [hj]
  · rw [if_neg h]
    congr 3
    funext j
    rw [if_neg (fun z => h z.1)]
theorem q_leI {M : Mem} {I J : Nat → Nat → Int32} : m_le (q_ints M I) (q_ints M J) := fun _ _ => ⟨rfl, rfl⟩
section
variable {g : Nat → Nat} {M : Mem} {m : Nat} {A : Nat → Nat} {I : Nat → Nat → Int32}
theorem q_ix (a b k w : Nat) : nI a + nI b * nI k + nI w = nI (a + b * k + w) := by rw [pn_mul, pn_add, pn_add]
theorem q4_of {a b k w : Nat} {n : Nat} {Q : Int32 → Mem → Prop} (hA : q_MA M m A) (hi : a + b * k + w < 810) (hQ : Q (I (A 0) (a + b * k + w)) (q_ints M I)) :
    m_tg (q_ints M I) m = 5 ∧ ∃ u2 : Nat, (m_gr (q_ints M I) m 0) = some u2 ∧ m_tg (q_ints M I) u2 = 101 ∧ vp_in (nI a + nI b * nI k + nI w) (m_ln (q_ints M I) u2) ∧ Q (m_gi (q_ints M I) u2 (Int32.toNatClampNeg (nI a + nI b * nI k + nI w))) (q_ints M I) := by
  obtain ⟨h1, h2, h3⟩ := hA.2.1 0 (Or.inl rfl)
  refine ⟨hA.1, A 0, h1, h2, ?_, ?_⟩
  · rw [q_ix, pn_in (by omega)]
    show _ < m_ln M (A 0)
    rw [h3]
    exact hi
  · rw [q_ix, pn_cl (by omega)]
    exact hQ
theorem q4_ofCall {k w : Nat} {Q : Int32 → Mem → Prop} (hA : q_MA M m A) (hi : 290 + 13 * k + w < 810) (hQ : Q (I (A 0) (290 + 13 * k + w)) (q_ints M I)) : wp_X4_ofCall g (q_ints M I) m (nI k) (nI w) Q := q4_of (n := 0) hA hi hQ
theorem q4_ofMember {k w : Nat} {Q : Int32 → Mem → Prop} (hA : q_MA M m A) (hi : 106 + 4 * k + w < 810) (hQ : Q (I (A 0) (106 + 4 * k + w)) (q_ints M I)) : wp_X4_ofMember g (q_ints M I) m (nI k) (nI w) Q := q4_of (n := 0) hA hi hQ
theorem q4_ofPatrol {k w : Nat} {Q : Int32 → Mem → Prop} (hA : q_MA M m A) (hi : 186 + 14 * k + w < 810) (hQ : Q (I (A 0) (186 + 14 * k + w)) (q_ints M I)) : wp_X4_ofPatrol g (q_ints M I) m (nI k) (nI w) Q := q4_of (n := 0) hA hi hQ
theorem q4_ofGarage {k w : Nat} {Q : Int32 → Mem → Prop} (hA : q_MA M m A) (hi : 270 + 4 * k + w < 810) (hQ : Q (I (A 0) (270 + 4 * k + w)) (q_ints M I)) : wp_X4_ofGarage g (q_ints M I) m (nI k) (nI w) Q := q4_of (n := 0) hA hi hQ
theorem q4_lay {a b k w : Nat} {v : Int32} {Q : Mem → Prop} (hA : q_MA M m A) (hi : a + b * k + w < 810) (hQ : Q (q_ints M (q_up I (A 0) (a + b * k + w) v))) :
    m_tg (q_ints M I) m = 5 ∧ ∃ u2 : Nat, (m_gr (q_ints M I) m 0) = some u2 ∧ m_tg (q_ints M I) u2 = 101 ∧ vp_in (nI a + nI b * nI k + nI w) (m_ln (q_ints M I) u2) ∧ ∀ M6 : Mem, M6 = (m_pi (q_ints M I) u2 (Int32.toNatClampNeg (nI a + nI b * nI k + nI w)) v) → Q M6 := by
  obtain ⟨h1, h2, h3⟩ := hA.2.1 0 (Or.inl rfl)
  refine ⟨hA.1, A 0, h1, h2, ?_, fun M6 h6 => ?_⟩
  · rw [q_ix, pn_in (by omega)]
    show _ < m_ln M (A 0)
    rw [h3]
    exact hi
  · rw [h6, q_ix, pn_cl (by omega), q_piI]
    exact hQ
theorem q4_laysCall {k w : Nat} {v : Int32} {Q : Mem → Prop} (hA : q_MA M m A) (hi : 290 + 13 * k + w < 810) (hQ : Q (q_ints M (q_up I (A 0) (290 + 13 * k + w) v))) : wp_X4_laysCall g (q_ints M I) m (nI k) (nI w) v Q := q4_lay hA hi hQ
theorem q4_laysPatrol {k w : Nat} {v : Int32} {Q : Mem → Prop} (hA : q_MA M m A) (hi : 186 + 14 * k + w < 810) (hQ : Q (q_ints M (q_up I (A 0) (186 + 14 * k + w) v))) : wp_X4_laysPatrol g (q_ints M I) m (nI k) (nI w) v Q := q4_lay hA hi hQ
end
