/-! PURE: ints that are small naturals -/
set_option maxRecDepth 100000
theorem pn_add (a b : Nat) : nI a + nI b = nI (a + b) := (Int32.ofNat_add a b).symm
theorem pn_mul (a b : Nat) : nI a * nI b = nI (a * b) := (Int32.ofNat_mul a b).symm
theorem pn_toInt {a : Nat} (h : a < 2147483648) : (nI a).toInt = (a : Int) := Int32.toInt_ofNat_of_lt (by omega)
theorem pn_cl {a : Nat} (h : a < 2147483648) : (nI a).toNatClampNeg = a := by
  unfold Int32.toNatClampNeg
  rw [pn_toInt h]
  rfl
theorem pn_lt {a b : Nat} (ha : a < 2147483648) (hb : b < 2147483648) : nI a < nI b ↔ a < b := by
  rw [Int32.lt_iff_toInt_lt, pn_toInt ha, pn_toInt hb]
  omega
theorem pn_le {a b : Nat} (ha : a < 2147483648) (hb : b < 2147483648) : nI a ≤ nI b ↔ a ≤ b := by
  rw [Int32.le_iff_toInt_le, pn_toInt ha, pn_toInt hb]
  omega
theorem pn_inj {a b : Nat} (ha : a < 2147483648) (hb : b < 2147483648) : nI a = nI b ↔ a = b := by
  rw [← Int32.toInt_inj, pn_toInt ha, pn_toInt hb]
  omega
theorem pn_sub {a b : Nat} (h : b ≤ a) : nI a - nI b = nI (a - b) := by
  have e : nI (a - b) + nI b = nI a := by rw [pn_add, Nat.sub_add_cancel h]
  rw [← e, Int32.add_sub_cancel]
theorem pn_nn {a : Nat} (h : a < 2147483648) : ¬ nI a < 0 := by
  rw [show (0 : Int32) = nI 0 from rfl, pn_lt h (by omega)]
  omega
theorem pn_in {a n : Nat} (h : a < 2147483648) : vp_in (nI a) n ↔ a < n := by
  unfold vp_in
  rw [pn_cl h]
  have := pn_nn h
  exact ⟨fun q => Nat.not_le.mp fun z => q (Or.inr z), fun q z => z.elim this (fun w => by omega)⟩
/-- an int in 0 .. n - 1 is a natural -/
theorem pn_of {x : Int32} {n : Nat} (hn : n < 2147483648) (h0 : 0 ≤ x) (h1 : x < nI n) : ∃ k : Nat, k < n ∧ x = nI k := by
  rw [Int32.le_iff_toInt_le] at h0
  rw [Int32.lt_iff_toInt_lt, pn_toInt hn] at h1
  have h0' : 0 ≤ x.toInt := h0
  refine ⟨x.toInt.toNat, by omega, ?_⟩
  rw [← Int32.toInt_inj, pn_toInt (by omega)]
  omega
theorem pn_div {a b : Nat} (ha : a < 2147483648) (hb : b < 2147483648) (h0 : 0 < b) : nI a / nI b = nI (a / b) := by
  rw [← Int32.toInt_inj, Int32.toInt_div, pn_toInt ha, pn_toInt hb, pn_toInt (Nat.lt_of_le_of_lt (Nat.div_le_self a b) ha)]
  have h : a / b < 2147483648 := Nat.lt_of_le_of_lt (Nat.div_le_self a b) ha
  rw [Int.tdiv_eq_ediv_of_nonneg (by omega), ← Int.natCast_ediv]
  generalize a / b = q at h
  exact Int.bmod_eq_of_le (by omega) (by omega)
theorem pn_mod {a b : Nat} (ha : a < 2147483648) (hb : b < 2147483648) (h0 : 0 < b) : nI a - nI a / nI b * nI b = nI (a % b) := by
  rw [pn_div ha hb h0, pn_mul, pn_sub (Nat.div_mul_le_self a b)]
  congr 1
  have := Nat.div_add_mod a b
  rw [Nat.mul_comm] at this
  omega
