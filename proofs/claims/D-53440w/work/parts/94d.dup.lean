/-! PURE: the desk's state gets another content -/
set_option maxRecDepth 100000
def d_up (d : Dt) (σ : Cn) : Dt := ((σ, d.1.2), d.2)
/-- somewhere the desk lies -/
def d_CX (g : Nat → Nat) (M : Mem) (o : Nat → Nat × Nat × Nat) (x : Nat) (d : Dt) : Prop := ∃ (RR : Nat → Nat) (DD : Nat → Nat → Nat → Nat) (U : Nat → Prop) (y0 : Yt) (yh : Nat → Yt) (yk : Yt), d_C g M o x RR DD U y0 yh yk d
/-- room for one act; what it may use -/
def d_rm (M : Mem) : Prop := m_nc M + 12000 ≤ m_CM ∧ m_ns M + 100000 ≤ m_SM
def d_us (M M' : Mem) : Prop := m_nc M' ≤ m_nc M + 12000 ∧ m_ns M' ≤ m_ns M + 100000
/-- after an act of the component -/
def d_aft (g : Nat → Nat) (M : Mem) (o : Nat → Nat × Nat × Nat) (x : Nat) (M' : Mem) (o' : Nat → Nat × Nat × Nat) (d : Dt) : Prop := d_CX g M' o' x d ∧ c_same M o M' o' 3 ∧ d_us M M'
theorem d_us_rf {M : Mem} : d_us M M := ⟨Nat.le_add_right _ _, Nat.le_add_right _ _⟩
/-- an index, or not -/
def u_out (x : Int32) (N : Nat) : Prop := x < 0 ∨ nI N - 1 < x
theorem u_ix {x : Int32} {N : Nat} (h : ¬ u_out x N) (hN : N ≤ 1000) : ∃ k : Nat, k < N ∧ x = nI k := by
  unfold u_out at h
  rw [not_or] at h
  obtain ⟨h1, h2⟩ := h
  have h0 : N ≠ 0 := fun z => by
    subst z
    apply h2
    refine Int32.lt_of_lt_of_le ?_ (Int32.not_lt.mp h1)
    decide
  have e1 : nI N - 1 = nI (N - 1) := pn_sub (b := 1) (by omega)
  rw [e1] at h2
  refine pn_of (by omega) (Int32.not_lt.mp h1) ?_
  have h3 := Int32.not_lt.mp h2
  rw [Int32.le_iff_toInt_le, pn_toInt (by omega)] at h3
  rw [Int32.lt_iff_toInt_lt, pn_toInt (by omega)]
  omega
section
variable {g : Nat → Nat} {M : Mem} {o : Nat → Nat × Nat × Nat} {x : Nat} {RR : Nat → Nat} {DD : Nat → Nat → Nat → Nat} {U : Nat → Prop} {y0 : Yt} {yh : Nat → Yt} {yk : Yt} {d : Dt}
theorem w_in0 {x0 x1 x2 : Int32} {Q : Int32 → Mem → Prop} : wp_X0_inRange g M x0 x1 x2 Q = Q (if x0 < x1 ∨ x2 < x0 then 0 else 1) M := propext ⟨fun h => by
  by_cases h1 : x0 < x1
  · rw [if_pos (Or.inl h1)]
    exact h.1 h1
  · by_cases h2 : x2 < x0
    · rw [if_pos (Or.inr h2)]
      exact (h.2 h1).1 h2
    · rw [if_neg (fun z => z.elim h1 h2)]
      exact (h.2 h1).2 h2, fun h => ⟨fun h1 => by rw [if_pos (Or.inl h1)] at h; exact h, fun h1 => ⟨fun h2 => by rw [if_pos (Or.inr h2)] at h; exact h, fun h2 => by rw [if_neg (fun z => z.elim h1 h2)] at h; exact h⟩⟩⟩
theorem w_in4 {x0 x1 x2 : Int32} {Q : Int32 → Mem → Prop} : wp_X4_in g M x0 x1 x2 Q = Q (if x0 < x1 ∨ x2 < x0 then 0 else 1) M := w_in0 (g := g)
theorem d_Cup {σ : Cn} (hC : d_C g M o x RR DD U y0 yh yk d) (hS : u_Sv (σ, d.1.2)) (hD : u_Dk σ (d.1.2 5) = u_Dk d.1.1 (d.1.2 5)) : d_C g (c_cM M o y0.1 σ) o x RR DD U y0 yh yk (d_up d σ) ∧ c_same M o (c_cM M o y0.1 σ) o 3 := by
  obtain ⟨⟨b1, b2, b3, N, b4⟩, hroads, hcur, hhist, hkept, hdis, hx⟩ := id hC
  obtain ⟨c1, c2, c3, c4, c5, c6, c7⟩ := id hcur
  have same : ∀ q : Nat, q ≠ y0.1 → c_same M o (c_cM M o y0.1 σ) o q := fun q hq => by
    have := c_same_q (M := M) (o := o) (σ := d.1.1) (σ' := σ) hq
    rw [c2] at this
    exact this
  have hle : m_le M (c_cM M o y0.1 σ) := fun _ _ => ⟨rfl, rfl⟩
  refine ⟨⟨⟨b1, b2, b3, N, b4⟩, fun rr hrr => ?_, ⟨c_St_cM c1, c_cM_cM, c3, c4.trans hD.symm, hS, c6, c7⟩, fun i hi => d_hold_same (hhist i hi) (same _ (hdis.1 i hi)), fun a ha => d_hold_same (hkept a ha) (same _ ((hdis.2.2 (by rw [show d.2.2.1 = some a from ha]; exact fun z => by cases z)).1)), hdis, d_x_same hx b3 (same 2 (by omega))⟩, same 3 (by omega)⟩
  have hr := hroads rr hrr
  have := hr.1
  exact d_road_same hr hle (same rr (by omega)) (same (rr + 1) (by omega))
end
