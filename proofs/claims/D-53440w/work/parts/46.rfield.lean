/-! PURE: the reference's fields, as rewriting rules -/
set_option maxRecDepth 100000
/-- the memory where the row of numbers (at A 0) holds σ -/
def c_rM (M : Mem) (A : Nat → Nat) (I : Nat → Nat → Int32) (σ : Cn) : Mem := q_ints M (c_rE (A 0) σ I)
theorem pn_wr {f : Nat} (hf : Nat.ble f 1000 = true) : (nI f).toNatClampNeg = f := pn_cl (by have := Nat.le_of_ble_eq_true hf; omega)
section
variable {g : Nat → Nat} {M : Mem} {m : Nat} {A : Nat → Nat} {I : Nat → Nat → Int32} {σ σ' : Cn}
theorem rM_tg {b : Nat} : m_tg (c_rM M A I σ) b = m_tg M b := rfl
theorem rM_ln {b : Nat} : m_ln (c_rM M A I σ) b = m_ln M b := rfl
theorem rM_gr {b k : Nat} : m_gr (c_rM M A I σ) b k = m_gr M b k := rfl
theorem rM_nc : m_nc (c_rM M A I σ) = m_nc M := rfl
theorem rM_ns : m_ns (c_rM M A I σ) = m_ns M := rfl
theorem rM_gi0 {f : Nat} (h : Nat.blt f 16 = true) : m_gi (c_rM M A I σ) (A 0) f = σ 0 0 f := c_rE_at (c_dec0 (Nat.le_of_ble_eq_true h))
theorem rM_gi_ne {b f : Nat} (h : b ≠ A 0) : m_gi (c_rM M A I σ) b f = I b f := c_rE_ne h
theorem rM_pi0 {f : Nat} {v : Int32} (h : Nat.blt f 16 = true) : m_pi (c_rM M A I σ) (A 0) f v = c_rM M A I (c_up σ 0 0 f v) := by
  unfold c_rM
  rw [q_piI, c_rE_up (c_dec0 (Nat.le_of_ble_eq_true h))]
theorem rM_le {J : Nat → Nat → Int32} : m_le (c_rM M A I σ) (c_rM M A J σ') = True := eq_true (fun _ _ => ⟨rfl, rfl⟩)
theorem rM_gh {s k f : Nat} {v : Int32} (h : Nat.ble 20 f = true) : c_rM M A I (c_up σ s k f v) = c_rM M A I σ := by
  unfold c_rM
  rw [c_rE_gh h]
theorem rM_m (hA : q_MA M m A) : m_tg M m = 5 := hA.1
theorem rM_a (hA : q_MA M m A) : m_gr M m 0 = some (A 0) := (hA.2.1 0 (Or.inl rfl)).1
theorem rM_at (hA : q_MA M m A) : m_tg M (A 0) = 101 := (hA.2.1 0 (Or.inl rfl)).2.1
theorem rM_al (hA : q_MA M m A) : m_ln M (A 0) = 810 := (hA.2.1 0 (Or.inl rfl)).2.2
theorem pn_v16 {x : Int32} {n : Nat} (h : vp_in x 16) (hn : 16 ≤ n) : vp_in x n := fun z => h (z.elim Or.inl (fun w => Or.inr (Nat.le_trans hn w)))
theorem pn_ofin {x : Int32} {n : Nat} (hn : n < 2147483648) (h : vp_in x n) : ∃ k : Nat, k < n ∧ x = nI k := by
  have h1 : ¬ x < 0 := fun z => h (Or.inl z)
  have h2 : ¬ n ≤ x.toNatClampNeg := fun z => h (Or.inr z)
  refine pn_of hn (Int32.not_lt.mp h1) ?_
  rw [Int32.lt_iff_toInt_lt, pn_toInt hn]
  unfold Int32.toNatClampNeg at h2
  omega
/-- one read of the row, as a rule -/
theorem rM_of {s a b k n : Nat} {x : Int32} {Q : Int32 → Mem → Prop} (hA : q_MA M m A) (hn : n < 100) (hd : ∀ f : Nat, f < n → c_dec (a + b * k + f) = (s, k, f)) (hb : ∀ f : Nat, f < n → a + b * k + f < 810) (hx : vp_in x n) :
    (m_tg (c_rM M A I σ) m = 5 ∧ ∃ u2 : Nat, (m_gr (c_rM M A I σ) m 0) = some u2 ∧ m_tg (c_rM M A I σ) u2 = 101 ∧ vp_in (nI a + nI b * nI k + x) (m_ln (c_rM M A I σ) u2) ∧ Q (m_gi (c_rM M A I σ) u2 (Int32.toNatClampNeg (nI a + nI b * nI k + x))) (c_rM M A I σ)) = Q (σ s k x.toNatClampNeg) (c_rM M A I σ) := by
  obtain ⟨f, hf, rfl⟩ := pn_ofin (by omega) hx
  have h1 := hb f hf
  rw [pn_cl (a := f) (by omega), q_ix, pn_cl (by omega)]
  refine propext ⟨fun ⟨_, u, e, _, _, q⟩ => ?_, fun q => ⟨hA.1, A 0, (hA.2.1 0 (Or.inl rfl)).1, rM_at hA, ?_, ?_⟩⟩
  · have e1 : some (A 0) = some u := (rM_a hA).symm.trans e
    cases e1
    have e2 : m_gi (c_rM M A I σ) (A 0) (a + b * k + f) = σ s k f := c_rE_at (hd f hf)
    rw [e2] at q
    exact q
  · rw [pn_in (by omega)]
    show _ < m_ln M (A 0)
    rw [rM_al hA]
    exact h1
  · have e2 : m_gi (c_rM M A I σ) (A 0) (a + b * k + f) = σ s k f := c_rE_at (hd f hf)
    rw [e2]
    exact q
theorem rM_lay {s a b k n : Nat} {x v : Int32} {Q : Mem → Prop} (hA : q_MA M m A) (hn : n < 100) (hd : ∀ f : Nat, f < n → c_dec (a + b * k + f) = (s, k, f)) (hb : ∀ f : Nat, f < n → a + b * k + f < 810) (hx : vp_in x n) :
    (m_tg (c_rM M A I σ) m = 5 ∧ ∃ u2 : Nat, (m_gr (c_rM M A I σ) m 0) = some u2 ∧ m_tg (c_rM M A I σ) u2 = 101 ∧ vp_in (nI a + nI b * nI k + x) (m_ln (c_rM M A I σ) u2) ∧ ∀ M6 : Mem, M6 = (m_pi (c_rM M A I σ) u2 (Int32.toNatClampNeg (nI a + nI b * nI k + x)) v) → Q M6) = Q (c_rM M A I (c_up σ s k x.toNatClampNeg v)) := by
  obtain ⟨f, hf, rfl⟩ := pn_ofin (by omega) hx
  have h1 := hb f hf
  rw [pn_cl (a := f) (by omega), q_ix, pn_cl (by omega)]
  have e2 : m_pi (c_rM M A I σ) (A 0) (a + b * k + f) v = c_rM M A I (c_up σ s k f v) := by
    unfold c_rM
    rw [q_piI, c_rE_up (hd f hf)]
  refine propext ⟨fun ⟨_, u, e, _, _, q⟩ => ?_, fun q => ⟨hA.1, A 0, (hA.2.1 0 (Or.inl rfl)).1, rM_at hA, ?_, fun M6 h6 => ?_⟩⟩
  · have e1 : some (A 0) = some u := (rM_a hA).symm.trans e
    cases e1
    rw [e2] at q
    exact q _ rfl
  · rw [pn_in (by omega)]
    show _ < m_ln M (A 0)
    rw [rM_al hA]
    exact h1
  · rw [h6, e2]
    exact q
theorem rw_ofCall {k : Nat} {x : Int32} {Q : Int32 → Mem → Prop} (hA : q_MA M m A) (hk : k < 40) (hx : vp_in x 13) : wp_X4_ofCall g (c_rM M A I σ) m (nI k) x Q = Q (σ 4 k x.toNatClampNeg) (c_rM M A I σ) := rM_of (a := 290) (b := 13) hA (by omega) (fun _ hf => c_dec4 hk hf) (fun f hf => by omega) hx
theorem rw_ofMember {k : Nat} {x : Int32} {Q : Int32 → Mem → Prop} (hA : q_MA M m A) (hk : k < 20) (hx : vp_in x 4) : wp_X4_ofMember g (c_rM M A I σ) m (nI k) x Q = Q (σ 1 k x.toNatClampNeg) (c_rM M A I σ) := rM_of (a := 106) (b := 4) hA (by omega) (fun _ hf => c_dec1 hk hf) (fun f hf => by omega) hx
theorem rw_ofPatrol {k : Nat} {x : Int32} {Q : Int32 → Mem → Prop} (hA : q_MA M m A) (hk : k < 6) (hx : vp_in x 14) : wp_X4_ofPatrol g (c_rM M A I σ) m (nI k) x Q = Q (σ 2 k x.toNatClampNeg) (c_rM M A I σ) := rM_of (a := 186) (b := 14) hA (by omega) (fun _ hf => c_dec2 hk hf) (fun f hf => by omega) hx
theorem rw_ofGarage {k : Nat} {x : Int32} {Q : Int32 → Mem → Prop} (hA : q_MA M m A) (hk : k < 5) (hx : vp_in x 4) : wp_X4_ofGarage g (c_rM M A I σ) m (nI k) x Q = Q (σ 3 k x.toNatClampNeg) (c_rM M A I σ) := rM_of (a := 270) (b := 4) hA (by omega) (fun _ hf => c_dec3 hk hf) (fun f hf => by omega) hx
theorem rw_laysCall {k : Nat} {x v : Int32} {Q : Mem → Prop} (hA : q_MA M m A) (hk : k < 40) (hx : vp_in x 13) : wp_X4_laysCall g (c_rM M A I σ) m (nI k) x v Q = Q (c_rM M A I (c_up σ 4 k x.toNatClampNeg v)) := rM_lay (a := 290) (b := 13) hA (by omega) (fun _ hf => c_dec4 hk hf) (fun f hf => by omega) hx
theorem rw_laysPatrol {k : Nat} {x v : Int32} {Q : Mem → Prop} (hA : q_MA M m A) (hk : k < 6) (hx : vp_in x 14) : wp_X4_laysPatrol g (c_rM M A I σ) m (nI k) x v Q = Q (c_rM M A I (c_up σ 2 k x.toNatClampNeg v)) := rM_lay (a := 186) (b := 14) hA (by omega) (fun _ hf => c_dec2 hk hf) (fun f hf => by omega) hx
/-- garages and members are laid in the code itself -/
theorem rM_ix3 {k f : Nat} (hk : k < 5) (hf : f < 4) : vp_in (270 + 4 * nI k + nI f) 810 ∧ (270 + 4 * nI k + nI f).toNatClampNeg = 270 + 4 * k + f := by
  have e : 270 + 4 * nI k + nI f = nI (270 + 4 * k + f) := q_ix 270 4 k f
  rw [e, pn_cl (by omega)]
  exact ⟨(pn_in (by omega)).mpr (by omega), rfl⟩
theorem rM_ix1 {k f : Nat} (hk : k < 20) (hf : f < 4) : vp_in (106 + 4 * nI k + nI f) 810 ∧ (106 + 4 * nI k + nI f).toNatClampNeg = 106 + 4 * k + f := by
  have e : 106 + 4 * nI k + nI f = nI (106 + 4 * k + f) := q_ix 106 4 k f
  rw [e, pn_cl (by omega)]
  exact ⟨(pn_in (by omega)).mpr (by omega), rfl⟩
theorem rM_gi3 {k f : Nat} (hk : k < 5) (hf : f < 4) : m_gi (c_rM M A I σ) (A 0) (270 + 4 * k + f) = σ 3 k f := c_rE_at (c_dec3 hk hf)
theorem rM_pi3 {k f : Nat} {v : Int32} (hk : k < 5) (hf : f < 4) : m_pi (c_rM M A I σ) (A 0) (270 + 4 * k + f) v = c_rM M A I (c_up σ 3 k f v) := by
  unfold c_rM
  rw [q_piI, c_rE_up (c_dec3 hk hf)]
theorem rM_gi1 {k f : Nat} (hk : k < 20) (hf : f < 4) : m_gi (c_rM M A I σ) (A 0) (106 + 4 * k + f) = σ 1 k f := c_rE_at (c_dec1 hk hf)
theorem rM_pi1 {k f : Nat} {v : Int32} (hk : k < 20) (hf : f < 4) : m_pi (c_rM M A I σ) (A 0) (106 + 4 * k + f) v = c_rM M A I (c_up σ 1 k f v) := by
  unfold c_rM
  rw [q_piI, c_rE_up (c_dec1 hk hf)]
theorem rw_addsMember {k : Nat} {x v : Int32} {Q : Mem → Prop} (hA : q_MA M m A) (hk : k < 20) (hx : vp_in x 4) : wp_X4_addsMember g (c_rM M A I σ) m (nI k) x v Q = Q (c_rM M A I (c_up σ 1 k x.toNatClampNeg (σ 1 k x.toNatClampNeg + v))) := by
  obtain ⟨f, hf, rfl⟩ := pn_ofin (by omega) hx
  obtain ⟨e1, e2⟩ := rM_ix1 hk hf
  unfold wp_X4_addsMember
  rw [pn_cl (a := f) (by omega), e2]
  refine propext ⟨fun ⟨_, u, e, _, _, _, q⟩ => ?_, fun q => ⟨hA.1, A 0, rM_a hA, rM_at hA, ?_, ?_, fun M7 h7 => ?_⟩⟩
  · have e9 : some (A 0) = some u := (rM_a hA).symm.trans e
    cases e9
    have := q _ rfl
    rw [rM_gi1 hk hf, rM_pi1 hk hf] at this
    exact this
  · show vp_in _ (m_ln M (A 0))
    rw [rM_al hA]
    exact e1
  · show vp_in _ (m_ln M (A 0))
    rw [rM_al hA]
    exact e1
  · rw [h7, rM_gi1 hk hf, rM_pi1 hk hf]
    exact q
end
