/-! THE PLAIN LAW (owed) -/
theorem law_pure (g : Nat → Nat) (b L : Nat) (xs : Nat → Int32) (hL : L ≤ 96) : wp_L_law g (m_M0 g) b L xs := by
  sorry
