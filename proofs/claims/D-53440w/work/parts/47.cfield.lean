/-! PURE: the component's states: how a memory holds a content, and its fields as rules (printed by cfield.py) -/
set_option maxRecDepth 100000
/-- which content a field holds: (place's section, field) -> (section, field) -/
def c_mp : Nat → Nat → Option (Nat × Nat)
  | 0, 6 => some (0, 1)
  | 0, 7 => some (0, 0)
  | 8, 0 => some (0, 2)
  | 8, 1 => some (0, 3)
  | 8, 2 => some (0, 4)
  | 1, 0 => some (1, 0)
  | 1, 1 => some (1, 20)
  | 1, 2 => some (1, 21)
  | 1, 3 => some (1, 22)
  | 1, 4 => some (1, 23)
  | 2, 0 => some (2, 22)
  | 2, 1 => some (2, 0)
  | 2, 2 => some (2, 1)
  | 2, 3 => some (2, 2)
  | 2, 4 => some (2, 4)
  | 2, 5 => some (2, 3)
  | 2, 6 => some (2, 5)
  | 2, 7 => some (2, 6)
  | 2, 8 => some (2, 20)
  | 2, 9 => some (2, 21)
  | 2, 10 => some (2, 7)
  | 2, 11 => some (2, 8)
  | 2, 12 => some (2, 9)
  | 2, 13 => some (2, 10)
  | 2, 14 => some (2, 11)
  | 3, 0 => some (3, 0)
  | 3, 1 => some (3, 1)
  | 3, 2 => some (3, 2)
  | 3, 3 => some (3, 20)
  | 3, 4 => some (3, 3)
  | 4, 0 => some (4, 22)
  | 4, 1 => some (4, 0)
  | 4, 2 => some (4, 2)
  | 4, 3 => some (4, 3)
  | 4, 4 => some (4, 4)
  | 4, 5 => some (4, 10)
  | 4, 6 => some (4, 1)
  | 4, 7 => some (4, 5)
  | 4, 8 => some (4, 6)
  | 4, 9 => some (4, 8)
  | 4, 10 => some (4, 20)
  | 4, 11 => some (4, 9)
  | 4, 12 => some (4, 11)
  | _, _ => none
def c_mv : Nat → Nat → Nat × Nat
  | 0, 1 => (0, 6)
  | 0, 0 => (0, 7)
  | 0, 2 => (8, 0)
  | 0, 3 => (8, 1)
  | 0, 4 => (8, 2)
  | 1, 0 => (1, 0)
  | 1, 20 => (1, 1)
  | 1, 21 => (1, 2)
  | 1, 22 => (1, 3)
  | 1, 23 => (1, 4)
  | 2, 22 => (2, 0)
  | 2, 0 => (2, 1)
  | 2, 1 => (2, 2)
  | 2, 2 => (2, 3)
  | 2, 4 => (2, 4)
  | 2, 3 => (2, 5)
  | 2, 5 => (2, 6)
  | 2, 6 => (2, 7)
  | 2, 20 => (2, 8)
  | 2, 21 => (2, 9)
  | 2, 7 => (2, 10)
  | 2, 8 => (2, 11)
  | 2, 9 => (2, 12)
  | 2, 10 => (2, 13)
  | 2, 11 => (2, 14)
  | 3, 0 => (3, 0)
  | 3, 1 => (3, 1)
  | 3, 2 => (3, 2)
  | 3, 20 => (3, 3)
  | 3, 3 => (3, 4)
  | 4, 22 => (4, 0)
  | 4, 0 => (4, 1)
  | 4, 2 => (4, 2)
  | 4, 3 => (4, 3)
  | 4, 4 => (4, 4)
  | 4, 10 => (4, 5)
  | 4, 1 => (4, 6)
  | 4, 5 => (4, 7)
  | 4, 6 => (4, 8)
  | 4, 8 => (4, 9)
  | 4, 20 => (4, 10)
  | 4, 9 => (4, 11)
  | 4, 11 => (4, 12)
  | _, _ => (99, 99)
theorem c_mp_inv {s j : Nat} {x : Nat × Nat} (h : c_mp s j = some x) : c_mv x.1 x.2 = (s, j) := by
  unfold c_mp at h
  split at h <;> first | (cases h; rfl) | cases h
/-- only the reference holds it -/
def c_gh (s f : Nat) : Bool := Nat.beq (c_mv s f).1 99
def c_keyC (s f : Nat) : Nat := (c_mv s f).1 / 99 * 1000 + f * 10 + s
theorem c_commC {σ : Cn} {s k f s' k' f' : Nat} {v w : Int32} (h : Nat.blt (c_keyC s' f') (c_keyC s f) = true) : c_up (c_up σ s k f v) s' k' f' w = c_up (c_up σ s' k' f' w) s k f (id v) := by
  rw [id_eq]
  funext a b c
  unfold c_up
  by_cases h1 : a = s' ∧ b = k' ∧ c = f'
  · by_cases h2 : a = s ∧ b = k ∧ c = f
    · exfalso
      have e1 : s' = s := h1.1.symm.trans h2.1
      have e2 : f' = f := h1.2.2.symm.trans h2.2.2
      rw [e1, e2] at h
      have := Nat.le_of_ble_eq_true h
      omega
    · rw [if_pos h1, if_neg h2, if_pos h1]
  · by_cases h2 : a = s ∧ b = k ∧ c = f
    · rw [if_neg h1, if_pos h2, if_pos h2]
    · rw [if_neg h1, if_neg h2, if_neg h2, if_neg h1]
def c_ix (s k : Nat) : Nat := if s = 8 then 0 else k
/-- the ints of region r hold σ -/
def c_enc (o : Nat → Nat × Nat × Nat) (r : Nat) (σ : Cn) (I : Nat → Nat → Int32) : Nat → Nat → Int32 := fun b j => if (o b).1 = r then (match c_mp (o b).2.1 j with | some x => σ x.1 (o b).2.2 x.2 | none => I b j) else I b j
/-- labels of state places: 0 State, 8 promises, 1 .. 4 what is in the lists, 6 lists, 7 the lists' arrays -/
def c_dom (n : Nat → Nat) (s k : Nat) : Prop := (s = 0 ∧ k = 0) ∨ (s = 8 ∧ k = 0) ∨ (1 ≤ s ∧ s ≤ 4 ∧ k < n s) ∨ (s = 6 ∧ 1 ≤ k ∧ k ≤ 4)
def c_tgs (s : Nat) : Nat := match s with
  | 0 => 2
  | 8 => 101
  | 1 => 6
  | 2 => 7
  | 3 => 8
  | 4 => 9
  | _ => 14
/-- a list's array -/
def c_arr (g : Nat → Nat) (M : Mem) (o : Nat → Nat × Nat × Nat) (r s n : Nat) (d : Nat) (e : Nat → Nat) : Prop := (n = 0 ∧ d = g 1) ∨ (o d = (r, 7, s) ∧ m_tg M d = 103 ∧ (0 < m_ln M d ∧ n ≤ m_ln M d) ∧ m_ln M d ≤ 10 + 2 * n ∧ ∀ k : Nat, k < n → m_gr M d k = some (e k))
def c_lst (g : Nat → Nat) (M : Mem) (o : Nat → Nat × Nat × Nat) (r s n : Nat) (a : Nat) (e : Nat → Nat) : Prop := m_gi M a 2 = nI n ∧ ∃ d : Nat, m_gr M a 1 = some d ∧ c_arr g M o r s n d e
/-- a State in region r (its objects at E, n of them in the lists, its roads at R) -/
def c_St (g : Nat → Nat) (M : Mem) (o : Nat → Nat × Nat × Nat) (r : Nat) (E : Nat → Nat → Nat) (n : Nat → Nat) (R : Nat) : Prop :=
  (∀ s k : Nat, c_dom n s k → o (E s k) = (r, s, k) ∧ m_tg M (E s k) = c_tgs s) ∧
  (m_gr M (E 0 0) 0 = some (E 6 1) ∧ m_gr M (E 0 0) 1 = some (E 6 2) ∧ m_gr M (E 0 0) 2 = some (E 6 3) ∧ m_gr M (E 0 0) 3 = some (E 6 4) ∧ m_gr M (E 0 0) 4 = some (E 8 0) ∧ m_gr M (E 0 0) 5 = some R ∧ m_ln M (E 8 0) = 3) ∧
  (∀ s : Nat, 1 ≤ s → s ≤ 4 → n s < 1000 ∧ c_lst g M o r s (n s) (E 6 s) (E s)) ∧
  (∀ b s k : Nat, o b = (r, s, k) → s ≤ 4 ∨ s = 8 → b = E s k ∧ c_dom n s k)
/-- the memory where state r holds σ -/
def c_cM (M : Mem) (o : Nat → Nat × Nat × Nat) (r : Nat) (σ : Cn) : Mem := q_ints M (c_enc o r σ (m_gi M))
section
variable {g : Nat → Nat} {M : Mem} {o : Nat → Nat × Nat × Nat} {r : Nat} {E : Nat → Nat → Nat} {n : Nat → Nat} {R : Nat} {σ σ' : Cn}
theorem cM_tg {b : Nat} : m_tg (c_cM M o r σ) b = m_tg M b := rfl
theorem cM_ln {b : Nat} : m_ln (c_cM M o r σ) b = m_ln M b := rfl
theorem cM_gr {b k : Nat} : m_gr (c_cM M o r σ) b k = m_gr M b k := rfl
theorem cM_nc : m_nc (c_cM M o r σ) = m_nc M := rfl
theorem cM_ns : m_ns (c_cM M o r σ) = m_ns M := rfl
theorem cM_le : m_le (c_cM M o r σ) (c_cM M o r σ') = True := eq_true (fun _ _ => ⟨rfl, rfl⟩)
theorem cM_gi {a j s k : Nat} {x : Nat × Nat} (ho : o a = (r, s, k)) (hj : c_mp s j = some x) : m_gi (c_cM M o r σ) a j = σ x.1 k x.2 := by
  show c_enc o r σ (m_gi M) a j = _
  unfold c_enc
  rw [ho]
  dsimp only
  rw [if_pos rfl, hj]
theorem cM_gi_no {a j s k : Nat} (ho : o a = (r, s, k)) (hj : c_mp s j = none) : m_gi (c_cM M o r σ) a j = m_gi M a j := by
  show c_enc o r σ (m_gi M) a j = _
  unfold c_enc
  rw [ho]
  dsimp only
  rw [if_pos rfl, hj]
theorem cM_gi_ne {a j : Nat} (h : (o a).1 ≠ r) : m_gi (c_cM M o r σ) a j = m_gi M a j := if_neg h
theorem cM_pi {a j s k : Nat} {x : Nat × Nat} {v : Int32} (ho : o a = (r, s, k)) (hu : ∀ b : Nat, o b = (r, s, k) → b = a) (hj : c_mp s j = some x) : m_pi (c_cM M o r σ) a j v = c_cM M o r (c_up σ x.1 k x.2 v) := by
  unfold c_cM
  rw [q_piI]
  congr 1
  funext b i
  unfold q_up c_enc
  by_cases hb : b = a ∧ i = j
  · rw [if_pos hb, hb.1, hb.2, ho]
    dsimp only
    rw [if_pos rfl, hj]
    dsimp only
    rw [c_rs]
  · rw [if_neg hb]
    by_cases hr : (o b).1 = r
    · rw [if_pos hr, if_pos hr]
      cases hm : c_mp (o b).2.1 i with
      | none => rfl
      | some y =>
        dsimp only
        refine (if_neg (fun z => hb ?_)).symm
        have e1 := c_mp_inv hm
        have e2 := c_mp_inv hj
        rw [z.1, z.2.2, e2] at e1
        have e3 : o b = (r, s, k) := by
          have h3 : s = (o b).2.1 := congrArg Prod.fst e1
          rw [h3, ← hr, ← z.2.1]
        exact ⟨hu b e3, (congrArg Prod.snd e1).symm⟩
    · rw [if_neg hr, if_neg hr]
theorem cM_gh {s k f : Nat} {v : Int32} (h : c_gh s f = true) : c_cM M o r (c_up σ s k f v) = c_cM M o r σ := by
  unfold c_cM
  congr 1
  funext b i
  unfold c_enc
  by_cases hr : (o b).1 = r
  · rw [if_pos hr, if_pos hr]
    cases hm : c_mp (o b).2.1 i with
    | none => rfl
    | some y =>
      dsimp only
      refine if_neg (fun z => ?_)
      have e1 := c_mp_inv hm
      unfold c_gh at h
      rw [← z.1, ← z.2.2, e1] at h
      have h9 : (o b).2.1 = 99 := Nat.eq_of_beq_eq_true h
      rw [h9] at hm
      unfold c_mp at hm
      split at hm <;> first | omega | cases hm
  · rw [if_neg hr, if_neg hr]
theorem St_o (h : c_St g M o r E n R) {s k : Nat} (hd : c_dom n s k) : o (E s k) = (r, s, k) := (h.1 s k hd).1
theorem St_u (h : c_St g M o r E n R) {s k b : Nat} (hs : s ≤ 4 ∨ s = 8) (hb : o b = (r, s, k)) : b = E s k := (h.2.2.2 b s k hb hs).1
theorem St_t (h : c_St g M o r E n R) {s k : Nat} (hd : c_dom n s k) : m_tg M (E s k) = c_tgs s := (h.1 s k hd).2
theorem d_0 : c_dom n 0 0 := Or.inl ⟨rfl, rfl⟩
theorem d_8 : c_dom n 8 0 := Or.inr (Or.inl ⟨rfl, rfl⟩)
theorem d_6 {k : Nat} (h1 : 1 ≤ k) (h2 : k ≤ 4) : c_dom n 6 k := Or.inr (Or.inr (Or.inr ⟨rfl, h1, h2⟩))
theorem d_k {s k : Nat} (h1 : 1 ≤ s) (h2 : s ≤ 4) (h : k < n s) : c_dom n s k := Or.inr (Or.inr (Or.inl ⟨h1, h2, h⟩))
theorem St_gl (h : c_St g M o r E n R) {s k : Nat} {Q : Option Nat → Mem → Prop} (h1 : 1 ≤ s) (h2 : s ≤ 4) (hk : k < n s) : wp_J2_get g (c_cM M o r σ) (E 6 s) (nI k) Q = Q (some (E s k)) (c_cM M o r σ) := by
  obtain ⟨hn, hz, d, hd, ha⟩ := h.2.2.1 s h1 h2
  have hz' : m_gi (c_cM M o r σ) (E 6 s) 2 = nI (n s) := by rw [cM_gi_no (St_o h (d_6 h1 h2)) (by rfl), hz]
  have ht : m_tg (c_cM M o r σ) (E 6 s) = 14 := St_t h (d_6 h1 h2)
  rcases ha with ⟨h0, _⟩ | ⟨_, htd, hl, _, he⟩
  · omega
  have htd' : m_tg (c_cM M o r σ) d = 103 := htd
  have hd' : m_gr (c_cM M o r σ) (E 6 s) 1 = some d := hd
  have hgk : m_gr (c_cM M o r σ) d k = some (E s k) := he k hk
  have c1 : ¬ nI k < 0 := pn_nn (by omega)
  have c2 : nI k < nI (n s) := (pn_lt (by omega) (by omega)).mpr hk
  have c3 : vp_in (nI k) (m_ln (c_cM M o r σ) d) := (pn_in (by omega)).mpr (Nat.lt_of_lt_of_le hk hl.2)
  refine propext ⟨fun q => ?_, fun q => ?_⟩
  · obtain ⟨_, q⟩ := q
    have q := (q.2 c1).1 (by rw [hz']; exact c2) m_le_rf m_le_rf
    obtain ⟨_, u, e, _, _, q⟩ := q
    have e' : some d = some u := hd'.symm.trans e
    cases e'
    have q := q _ rfl m_le_rf
    rw [pn_cl (by omega), hgk] at q
    exact q
  · refine q_get ht hd' htd' (Int32.not_lt.mp c1) (by rw [hz']; exact c2) c3 ?_
    rw [pn_cl (by omega), hgk]
    exact q
theorem St_sz (h : c_St g M o r E n R) {s : Nat} {Q : Int32 → Mem → Prop} (h1 : 1 ≤ s) (h2 : s ≤ 4) : wp_J2_size g (c_cM M o r σ) (E 6 s) Q = Q (nI (n s)) (c_cM M o r σ) := by
  have hz' : m_gi (c_cM M o r σ) (E 6 s) 2 = nI (n s) := by rw [cM_gi_no (St_o h (d_6 h1 h2)) (by rfl), (h.2.2.1 s h1 h2).2.1]
  unfold wp_J2_size
  rw [hz', show m_tg (c_cM M o r σ) (E 6 s) = 14 from St_t h (d_6 h1 h2)]
  exact propext ⟨fun q => q.2, fun q => ⟨rfl, q⟩⟩
theorem ct_0 (h : c_St g M o r E n R) : m_tg M (E 0 0) = 2 := St_t h d_0
theorem cg_0_6 (h : c_St g M o r E n R) : m_gi (c_cM M o r σ) (E 0 0) 6 = σ 0 0 1 := cM_gi (St_o h d_0) (x := (0, 1)) rfl
theorem cp_0_6 (h : c_St g M o r E n R) {v : Int32} : m_pi (c_cM M o r σ) (E 0 0) 6 v = c_cM M o r (c_up σ 0 0 1 v) := cM_pi (St_o h d_0) (fun _ hb => St_u h (by omega) hb) (x := (0, 1)) rfl
theorem cg_0_7 (h : c_St g M o r E n R) : m_gi (c_cM M o r σ) (E 0 0) 7 = σ 0 0 0 := cM_gi (St_o h d_0) (x := (0, 0)) rfl
theorem cp_0_7 (h : c_St g M o r E n R) {v : Int32} : m_pi (c_cM M o r σ) (E 0 0) 7 v = c_cM M o r (c_up σ 0 0 0 v) := cM_pi (St_o h d_0) (fun _ hb => St_u h (by omega) hb) (x := (0, 0)) rfl
theorem ct_8 (h : c_St g M o r E n R) : m_tg M (E 8 0) = 101 := St_t h d_8
theorem cg_8_0 (h : c_St g M o r E n R) : m_gi (c_cM M o r σ) (E 8 0) 0 = σ 0 0 2 := cM_gi (St_o h d_8) (x := (0, 2)) rfl
theorem cp_8_0 (h : c_St g M o r E n R) {v : Int32} : m_pi (c_cM M o r σ) (E 8 0) 0 v = c_cM M o r (c_up σ 0 0 2 v) := cM_pi (St_o h d_8) (fun _ hb => St_u h (by omega) hb) (x := (0, 2)) rfl
theorem cg_8_1 (h : c_St g M o r E n R) : m_gi (c_cM M o r σ) (E 8 0) 1 = σ 0 0 3 := cM_gi (St_o h d_8) (x := (0, 3)) rfl
theorem cp_8_1 (h : c_St g M o r E n R) {v : Int32} : m_pi (c_cM M o r σ) (E 8 0) 1 v = c_cM M o r (c_up σ 0 0 3 v) := cM_pi (St_o h d_8) (fun _ hb => St_u h (by omega) hb) (x := (0, 3)) rfl
theorem cg_8_2 (h : c_St g M o r E n R) : m_gi (c_cM M o r σ) (E 8 0) 2 = σ 0 0 4 := cM_gi (St_o h d_8) (x := (0, 4)) rfl
theorem cp_8_2 (h : c_St g M o r E n R) {v : Int32} : m_pi (c_cM M o r σ) (E 8 0) 2 v = c_cM M o r (c_up σ 0 0 4 v) := cM_pi (St_o h d_8) (fun _ hb => St_u h (by omega) hb) (x := (0, 4)) rfl
theorem ct_1 (h : c_St g M o r E n R) {k : Nat} (hk : k < n 1) : m_tg M (E 1 k) = 6 := St_t h (d_k (s := 1) (by omega) (by omega) hk)
theorem cg_1_0 (h : c_St g M o r E n R) {k : Nat} (hk : k < n 1) : m_gi (c_cM M o r σ) (E 1 k) 0 = σ 1 k 0 := cM_gi (St_o h (d_k (s := 1) (by omega) (by omega) hk)) (x := (1, 0)) rfl
theorem cp_1_0 (h : c_St g M o r E n R) {k : Nat} (hk : k < n 1) {v : Int32} : m_pi (c_cM M o r σ) (E 1 k) 0 v = c_cM M o r (c_up σ 1 k 0 v) := cM_pi (St_o h (d_k (s := 1) (by omega) (by omega) hk)) (fun _ hb => St_u h (by omega) hb) (x := (1, 0)) rfl
theorem cg_1_1 (h : c_St g M o r E n R) {k : Nat} (hk : k < n 1) : m_gi (c_cM M o r σ) (E 1 k) 1 = σ 1 k 20 := cM_gi (St_o h (d_k (s := 1) (by omega) (by omega) hk)) (x := (1, 20)) rfl
theorem cp_1_1 (h : c_St g M o r E n R) {k : Nat} (hk : k < n 1) {v : Int32} : m_pi (c_cM M o r σ) (E 1 k) 1 v = c_cM M o r (c_up σ 1 k 20 v) := cM_pi (St_o h (d_k (s := 1) (by omega) (by omega) hk)) (fun _ hb => St_u h (by omega) hb) (x := (1, 20)) rfl
theorem cg_1_2 (h : c_St g M o r E n R) {k : Nat} (hk : k < n 1) : m_gi (c_cM M o r σ) (E 1 k) 2 = σ 1 k 21 := cM_gi (St_o h (d_k (s := 1) (by omega) (by omega) hk)) (x := (1, 21)) rfl
theorem cp_1_2 (h : c_St g M o r E n R) {k : Nat} (hk : k < n 1) {v : Int32} : m_pi (c_cM M o r σ) (E 1 k) 2 v = c_cM M o r (c_up σ 1 k 21 v) := cM_pi (St_o h (d_k (s := 1) (by omega) (by omega) hk)) (fun _ hb => St_u h (by omega) hb) (x := (1, 21)) rfl
theorem cg_1_3 (h : c_St g M o r E n R) {k : Nat} (hk : k < n 1) : m_gi (c_cM M o r σ) (E 1 k) 3 = σ 1 k 22 := cM_gi (St_o h (d_k (s := 1) (by omega) (by omega) hk)) (x := (1, 22)) rfl
theorem cp_1_3 (h : c_St g M o r E n R) {k : Nat} (hk : k < n 1) {v : Int32} : m_pi (c_cM M o r σ) (E 1 k) 3 v = c_cM M o r (c_up σ 1 k 22 v) := cM_pi (St_o h (d_k (s := 1) (by omega) (by omega) hk)) (fun _ hb => St_u h (by omega) hb) (x := (1, 22)) rfl
theorem cg_1_4 (h : c_St g M o r E n R) {k : Nat} (hk : k < n 1) : m_gi (c_cM M o r σ) (E 1 k) 4 = σ 1 k 23 := cM_gi (St_o h (d_k (s := 1) (by omega) (by omega) hk)) (x := (1, 23)) rfl
theorem cp_1_4 (h : c_St g M o r E n R) {k : Nat} (hk : k < n 1) {v : Int32} : m_pi (c_cM M o r σ) (E 1 k) 4 v = c_cM M o r (c_up σ 1 k 23 v) := cM_pi (St_o h (d_k (s := 1) (by omega) (by omega) hk)) (fun _ hb => St_u h (by omega) hb) (x := (1, 23)) rfl
theorem ct_2 (h : c_St g M o r E n R) {k : Nat} (hk : k < n 2) : m_tg M (E 2 k) = 7 := St_t h (d_k (s := 2) (by omega) (by omega) hk)
theorem cg_2_0 (h : c_St g M o r E n R) {k : Nat} (hk : k < n 2) : m_gi (c_cM M o r σ) (E 2 k) 0 = σ 2 k 22 := cM_gi (St_o h (d_k (s := 2) (by omega) (by omega) hk)) (x := (2, 22)) rfl
theorem cp_2_0 (h : c_St g M o r E n R) {k : Nat} (hk : k < n 2) {v : Int32} : m_pi (c_cM M o r σ) (E 2 k) 0 v = c_cM M o r (c_up σ 2 k 22 v) := cM_pi (St_o h (d_k (s := 2) (by omega) (by omega) hk)) (fun _ hb => St_u h (by omega) hb) (x := (2, 22)) rfl
theorem cg_2_1 (h : c_St g M o r E n R) {k : Nat} (hk : k < n 2) : m_gi (c_cM M o r σ) (E 2 k) 1 = σ 2 k 0 := cM_gi (St_o h (d_k (s := 2) (by omega) (by omega) hk)) (x := (2, 0)) rfl
theorem cp_2_1 (h : c_St g M o r E n R) {k : Nat} (hk : k < n 2) {v : Int32} : m_pi (c_cM M o r σ) (E 2 k) 1 v = c_cM M o r (c_up σ 2 k 0 v) := cM_pi (St_o h (d_k (s := 2) (by omega) (by omega) hk)) (fun _ hb => St_u h (by omega) hb) (x := (2, 0)) rfl
theorem cg_2_2 (h : c_St g M o r E n R) {k : Nat} (hk : k < n 2) : m_gi (c_cM M o r σ) (E 2 k) 2 = σ 2 k 1 := cM_gi (St_o h (d_k (s := 2) (by omega) (by omega) hk)) (x := (2, 1)) rfl
theorem cp_2_2 (h : c_St g M o r E n R) {k : Nat} (hk : k < n 2) {v : Int32} : m_pi (c_cM M o r σ) (E 2 k) 2 v = c_cM M o r (c_up σ 2 k 1 v) := cM_pi (St_o h (d_k (s := 2) (by omega) (by omega) hk)) (fun _ hb => St_u h (by omega) hb) (x := (2, 1)) rfl
theorem cg_2_3 (h : c_St g M o r E n R) {k : Nat} (hk : k < n 2) : m_gi (c_cM M o r σ) (E 2 k) 3 = σ 2 k 2 := cM_gi (St_o h (d_k (s := 2) (by omega) (by omega) hk)) (x := (2, 2)) rfl
theorem cp_2_3 (h : c_St g M o r E n R) {k : Nat} (hk : k < n 2) {v : Int32} : m_pi (c_cM M o r σ) (E 2 k) 3 v = c_cM M o r (c_up σ 2 k 2 v) := cM_pi (St_o h (d_k (s := 2) (by omega) (by omega) hk)) (fun _ hb => St_u h (by omega) hb) (x := (2, 2)) rfl
theorem cg_2_4 (h : c_St g M o r E n R) {k : Nat} (hk : k < n 2) : m_gi (c_cM M o r σ) (E 2 k) 4 = σ 2 k 4 := cM_gi (St_o h (d_k (s := 2) (by omega) (by omega) hk)) (x := (2, 4)) rfl
theorem cp_2_4 (h : c_St g M o r E n R) {k : Nat} (hk : k < n 2) {v : Int32} : m_pi (c_cM M o r σ) (E 2 k) 4 v = c_cM M o r (c_up σ 2 k 4 v) := cM_pi (St_o h (d_k (s := 2) (by omega) (by omega) hk)) (fun _ hb => St_u h (by omega) hb) (x := (2, 4)) rfl
theorem cg_2_5 (h : c_St g M o r E n R) {k : Nat} (hk : k < n 2) : m_gi (c_cM M o r σ) (E 2 k) 5 = σ 2 k 3 := cM_gi (St_o h (d_k (s := 2) (by omega) (by omega) hk)) (x := (2, 3)) rfl
theorem cp_2_5 (h : c_St g M o r E n R) {k : Nat} (hk : k < n 2) {v : Int32} : m_pi (c_cM M o r σ) (E 2 k) 5 v = c_cM M o r (c_up σ 2 k 3 v) := cM_pi (St_o h (d_k (s := 2) (by omega) (by omega) hk)) (fun _ hb => St_u h (by omega) hb) (x := (2, 3)) rfl
theorem cg_2_6 (h : c_St g M o r E n R) {k : Nat} (hk : k < n 2) : m_gi (c_cM M o r σ) (E 2 k) 6 = σ 2 k 5 := cM_gi (St_o h (d_k (s := 2) (by omega) (by omega) hk)) (x := (2, 5)) rfl
theorem cp_2_6 (h : c_St g M o r E n R) {k : Nat} (hk : k < n 2) {v : Int32} : m_pi (c_cM M o r σ) (E 2 k) 6 v = c_cM M o r (c_up σ 2 k 5 v) := cM_pi (St_o h (d_k (s := 2) (by omega) (by omega) hk)) (fun _ hb => St_u h (by omega) hb) (x := (2, 5)) rfl
theorem cg_2_7 (h : c_St g M o r E n R) {k : Nat} (hk : k < n 2) : m_gi (c_cM M o r σ) (E 2 k) 7 = σ 2 k 6 := cM_gi (St_o h (d_k (s := 2) (by omega) (by omega) hk)) (x := (2, 6)) rfl
theorem cp_2_7 (h : c_St g M o r E n R) {k : Nat} (hk : k < n 2) {v : Int32} : m_pi (c_cM M o r σ) (E 2 k) 7 v = c_cM M o r (c_up σ 2 k 6 v) := cM_pi (St_o h (d_k (s := 2) (by omega) (by omega) hk)) (fun _ hb => St_u h (by omega) hb) (x := (2, 6)) rfl
theorem cg_2_8 (h : c_St g M o r E n R) {k : Nat} (hk : k < n 2) : m_gi (c_cM M o r σ) (E 2 k) 8 = σ 2 k 20 := cM_gi (St_o h (d_k (s := 2) (by omega) (by omega) hk)) (x := (2, 20)) rfl
theorem cp_2_8 (h : c_St g M o r E n R) {k : Nat} (hk : k < n 2) {v : Int32} : m_pi (c_cM M o r σ) (E 2 k) 8 v = c_cM M o r (c_up σ 2 k 20 v) := cM_pi (St_o h (d_k (s := 2) (by omega) (by omega) hk)) (fun _ hb => St_u h (by omega) hb) (x := (2, 20)) rfl
theorem cg_2_9 (h : c_St g M o r E n R) {k : Nat} (hk : k < n 2) : m_gi (c_cM M o r σ) (E 2 k) 9 = σ 2 k 21 := cM_gi (St_o h (d_k (s := 2) (by omega) (by omega) hk)) (x := (2, 21)) rfl
theorem cp_2_9 (h : c_St g M o r E n R) {k : Nat} (hk : k < n 2) {v : Int32} : m_pi (c_cM M o r σ) (E 2 k) 9 v = c_cM M o r (c_up σ 2 k 21 v) := cM_pi (St_o h (d_k (s := 2) (by omega) (by omega) hk)) (fun _ hb => St_u h (by omega) hb) (x := (2, 21)) rfl
theorem cg_2_10 (h : c_St g M o r E n R) {k : Nat} (hk : k < n 2) : m_gi (c_cM M o r σ) (E 2 k) 10 = σ 2 k 7 := cM_gi (St_o h (d_k (s := 2) (by omega) (by omega) hk)) (x := (2, 7)) rfl
theorem cp_2_10 (h : c_St g M o r E n R) {k : Nat} (hk : k < n 2) {v : Int32} : m_pi (c_cM M o r σ) (E 2 k) 10 v = c_cM M o r (c_up σ 2 k 7 v) := cM_pi (St_o h (d_k (s := 2) (by omega) (by omega) hk)) (fun _ hb => St_u h (by omega) hb) (x := (2, 7)) rfl
theorem cg_2_11 (h : c_St g M o r E n R) {k : Nat} (hk : k < n 2) : m_gi (c_cM M o r σ) (E 2 k) 11 = σ 2 k 8 := cM_gi (St_o h (d_k (s := 2) (by omega) (by omega) hk)) (x := (2, 8)) rfl
theorem cp_2_11 (h : c_St g M o r E n R) {k : Nat} (hk : k < n 2) {v : Int32} : m_pi (c_cM M o r σ) (E 2 k) 11 v = c_cM M o r (c_up σ 2 k 8 v) := cM_pi (St_o h (d_k (s := 2) (by omega) (by omega) hk)) (fun _ hb => St_u h (by omega) hb) (x := (2, 8)) rfl
theorem cg_2_12 (h : c_St g M o r E n R) {k : Nat} (hk : k < n 2) : m_gi (c_cM M o r σ) (E 2 k) 12 = σ 2 k 9 := cM_gi (St_o h (d_k (s := 2) (by omega) (by omega) hk)) (x := (2, 9)) rfl
theorem cp_2_12 (h : c_St g M o r E n R) {k : Nat} (hk : k < n 2) {v : Int32} : m_pi (c_cM M o r σ) (E 2 k) 12 v = c_cM M o r (c_up σ 2 k 9 v) := cM_pi (St_o h (d_k (s := 2) (by omega) (by omega) hk)) (fun _ hb => St_u h (by omega) hb) (x := (2, 9)) rfl
theorem cg_2_13 (h : c_St g M o r E n R) {k : Nat} (hk : k < n 2) : m_gi (c_cM M o r σ) (E 2 k) 13 = σ 2 k 10 := cM_gi (St_o h (d_k (s := 2) (by omega) (by omega) hk)) (x := (2, 10)) rfl
theorem cp_2_13 (h : c_St g M o r E n R) {k : Nat} (hk : k < n 2) {v : Int32} : m_pi (c_cM M o r σ) (E 2 k) 13 v = c_cM M o r (c_up σ 2 k 10 v) := cM_pi (St_o h (d_k (s := 2) (by omega) (by omega) hk)) (fun _ hb => St_u h (by omega) hb) (x := (2, 10)) rfl
theorem cg_2_14 (h : c_St g M o r E n R) {k : Nat} (hk : k < n 2) : m_gi (c_cM M o r σ) (E 2 k) 14 = σ 2 k 11 := cM_gi (St_o h (d_k (s := 2) (by omega) (by omega) hk)) (x := (2, 11)) rfl
theorem cp_2_14 (h : c_St g M o r E n R) {k : Nat} (hk : k < n 2) {v : Int32} : m_pi (c_cM M o r σ) (E 2 k) 14 v = c_cM M o r (c_up σ 2 k 11 v) := cM_pi (St_o h (d_k (s := 2) (by omega) (by omega) hk)) (fun _ hb => St_u h (by omega) hb) (x := (2, 11)) rfl
theorem ct_3 (h : c_St g M o r E n R) {k : Nat} (hk : k < n 3) : m_tg M (E 3 k) = 8 := St_t h (d_k (s := 3) (by omega) (by omega) hk)
theorem cg_3_0 (h : c_St g M o r E n R) {k : Nat} (hk : k < n 3) : m_gi (c_cM M o r σ) (E 3 k) 0 = σ 3 k 0 := cM_gi (St_o h (d_k (s := 3) (by omega) (by omega) hk)) (x := (3, 0)) rfl
theorem cp_3_0 (h : c_St g M o r E n R) {k : Nat} (hk : k < n 3) {v : Int32} : m_pi (c_cM M o r σ) (E 3 k) 0 v = c_cM M o r (c_up σ 3 k 0 v) := cM_pi (St_o h (d_k (s := 3) (by omega) (by omega) hk)) (fun _ hb => St_u h (by omega) hb) (x := (3, 0)) rfl
theorem cg_3_1 (h : c_St g M o r E n R) {k : Nat} (hk : k < n 3) : m_gi (c_cM M o r σ) (E 3 k) 1 = σ 3 k 1 := cM_gi (St_o h (d_k (s := 3) (by omega) (by omega) hk)) (x := (3, 1)) rfl
theorem cp_3_1 (h : c_St g M o r E n R) {k : Nat} (hk : k < n 3) {v : Int32} : m_pi (c_cM M o r σ) (E 3 k) 1 v = c_cM M o r (c_up σ 3 k 1 v) := cM_pi (St_o h (d_k (s := 3) (by omega) (by omega) hk)) (fun _ hb => St_u h (by omega) hb) (x := (3, 1)) rfl
theorem cg_3_2 (h : c_St g M o r E n R) {k : Nat} (hk : k < n 3) : m_gi (c_cM M o r σ) (E 3 k) 2 = σ 3 k 2 := cM_gi (St_o h (d_k (s := 3) (by omega) (by omega) hk)) (x := (3, 2)) rfl
theorem cp_3_2 (h : c_St g M o r E n R) {k : Nat} (hk : k < n 3) {v : Int32} : m_pi (c_cM M o r σ) (E 3 k) 2 v = c_cM M o r (c_up σ 3 k 2 v) := cM_pi (St_o h (d_k (s := 3) (by omega) (by omega) hk)) (fun _ hb => St_u h (by omega) hb) (x := (3, 2)) rfl
theorem cg_3_3 (h : c_St g M o r E n R) {k : Nat} (hk : k < n 3) : m_gi (c_cM M o r σ) (E 3 k) 3 = σ 3 k 20 := cM_gi (St_o h (d_k (s := 3) (by omega) (by omega) hk)) (x := (3, 20)) rfl
theorem cp_3_3 (h : c_St g M o r E n R) {k : Nat} (hk : k < n 3) {v : Int32} : m_pi (c_cM M o r σ) (E 3 k) 3 v = c_cM M o r (c_up σ 3 k 20 v) := cM_pi (St_o h (d_k (s := 3) (by omega) (by omega) hk)) (fun _ hb => St_u h (by omega) hb) (x := (3, 20)) rfl
theorem cg_3_4 (h : c_St g M o r E n R) {k : Nat} (hk : k < n 3) : m_gi (c_cM M o r σ) (E 3 k) 4 = σ 3 k 3 := cM_gi (St_o h (d_k (s := 3) (by omega) (by omega) hk)) (x := (3, 3)) rfl
theorem cp_3_4 (h : c_St g M o r E n R) {k : Nat} (hk : k < n 3) {v : Int32} : m_pi (c_cM M o r σ) (E 3 k) 4 v = c_cM M o r (c_up σ 3 k 3 v) := cM_pi (St_o h (d_k (s := 3) (by omega) (by omega) hk)) (fun _ hb => St_u h (by omega) hb) (x := (3, 3)) rfl
theorem ct_4 (h : c_St g M o r E n R) {k : Nat} (hk : k < n 4) : m_tg M (E 4 k) = 9 := St_t h (d_k (s := 4) (by omega) (by omega) hk)
theorem cg_4_0 (h : c_St g M o r E n R) {k : Nat} (hk : k < n 4) : m_gi (c_cM M o r σ) (E 4 k) 0 = σ 4 k 22 := cM_gi (St_o h (d_k (s := 4) (by omega) (by omega) hk)) (x := (4, 22)) rfl
theorem cp_4_0 (h : c_St g M o r E n R) {k : Nat} (hk : k < n 4) {v : Int32} : m_pi (c_cM M o r σ) (E 4 k) 0 v = c_cM M o r (c_up σ 4 k 22 v) := cM_pi (St_o h (d_k (s := 4) (by omega) (by omega) hk)) (fun _ hb => St_u h (by omega) hb) (x := (4, 22)) rfl
theorem cg_4_1 (h : c_St g M o r E n R) {k : Nat} (hk : k < n 4) : m_gi (c_cM M o r σ) (E 4 k) 1 = σ 4 k 0 := cM_gi (St_o h (d_k (s := 4) (by omega) (by omega) hk)) (x := (4, 0)) rfl
theorem cp_4_1 (h : c_St g M o r E n R) {k : Nat} (hk : k < n 4) {v : Int32} : m_pi (c_cM M o r σ) (E 4 k) 1 v = c_cM M o r (c_up σ 4 k 0 v) := cM_pi (St_o h (d_k (s := 4) (by omega) (by omega) hk)) (fun _ hb => St_u h (by omega) hb) (x := (4, 0)) rfl
theorem cg_4_2 (h : c_St g M o r E n R) {k : Nat} (hk : k < n 4) : m_gi (c_cM M o r σ) (E 4 k) 2 = σ 4 k 2 := cM_gi (St_o h (d_k (s := 4) (by omega) (by omega) hk)) (x := (4, 2)) rfl
theorem cp_4_2 (h : c_St g M o r E n R) {k : Nat} (hk : k < n 4) {v : Int32} : m_pi (c_cM M o r σ) (E 4 k) 2 v = c_cM M o r (c_up σ 4 k 2 v) := cM_pi (St_o h (d_k (s := 4) (by omega) (by omega) hk)) (fun _ hb => St_u h (by omega) hb) (x := (4, 2)) rfl
theorem cg_4_3 (h : c_St g M o r E n R) {k : Nat} (hk : k < n 4) : m_gi (c_cM M o r σ) (E 4 k) 3 = σ 4 k 3 := cM_gi (St_o h (d_k (s := 4) (by omega) (by omega) hk)) (x := (4, 3)) rfl
theorem cp_4_3 (h : c_St g M o r E n R) {k : Nat} (hk : k < n 4) {v : Int32} : m_pi (c_cM M o r σ) (E 4 k) 3 v = c_cM M o r (c_up σ 4 k 3 v) := cM_pi (St_o h (d_k (s := 4) (by omega) (by omega) hk)) (fun _ hb => St_u h (by omega) hb) (x := (4, 3)) rfl
theorem cg_4_4 (h : c_St g M o r E n R) {k : Nat} (hk : k < n 4) : m_gi (c_cM M o r σ) (E 4 k) 4 = σ 4 k 4 := cM_gi (St_o h (d_k (s := 4) (by omega) (by omega) hk)) (x := (4, 4)) rfl
theorem cp_4_4 (h : c_St g M o r E n R) {k : Nat} (hk : k < n 4) {v : Int32} : m_pi (c_cM M o r σ) (E 4 k) 4 v = c_cM M o r (c_up σ 4 k 4 v) := cM_pi (St_o h (d_k (s := 4) (by omega) (by omega) hk)) (fun _ hb => St_u h (by omega) hb) (x := (4, 4)) rfl
theorem cg_4_5 (h : c_St g M o r E n R) {k : Nat} (hk : k < n 4) : m_gi (c_cM M o r σ) (E 4 k) 5 = σ 4 k 10 := cM_gi (St_o h (d_k (s := 4) (by omega) (by omega) hk)) (x := (4, 10)) rfl
theorem cp_4_5 (h : c_St g M o r E n R) {k : Nat} (hk : k < n 4) {v : Int32} : m_pi (c_cM M o r σ) (E 4 k) 5 v = c_cM M o r (c_up σ 4 k 10 v) := cM_pi (St_o h (d_k (s := 4) (by omega) (by omega) hk)) (fun _ hb => St_u h (by omega) hb) (x := (4, 10)) rfl
theorem cg_4_6 (h : c_St g M o r E n R) {k : Nat} (hk : k < n 4) : m_gi (c_cM M o r σ) (E 4 k) 6 = σ 4 k 1 := cM_gi (St_o h (d_k (s := 4) (by omega) (by omega) hk)) (x := (4, 1)) rfl
theorem cp_4_6 (h : c_St g M o r E n R) {k : Nat} (hk : k < n 4) {v : Int32} : m_pi (c_cM M o r σ) (E 4 k) 6 v = c_cM M o r (c_up σ 4 k 1 v) := cM_pi (St_o h (d_k (s := 4) (by omega) (by omega) hk)) (fun _ hb => St_u h (by omega) hb) (x := (4, 1)) rfl
theorem cg_4_7 (h : c_St g M o r E n R) {k : Nat} (hk : k < n 4) : m_gi (c_cM M o r σ) (E 4 k) 7 = σ 4 k 5 := cM_gi (St_o h (d_k (s := 4) (by omega) (by omega) hk)) (x := (4, 5)) rfl
theorem cp_4_7 (h : c_St g M o r E n R) {k : Nat} (hk : k < n 4) {v : Int32} : m_pi (c_cM M o r σ) (E 4 k) 7 v = c_cM M o r (c_up σ 4 k 5 v) := cM_pi (St_o h (d_k (s := 4) (by omega) (by omega) hk)) (fun _ hb => St_u h (by omega) hb) (x := (4, 5)) rfl
theorem cg_4_8 (h : c_St g M o r E n R) {k : Nat} (hk : k < n 4) : m_gi (c_cM M o r σ) (E 4 k) 8 = σ 4 k 6 := cM_gi (St_o h (d_k (s := 4) (by omega) (by omega) hk)) (x := (4, 6)) rfl
theorem cp_4_8 (h : c_St g M o r E n R) {k : Nat} (hk : k < n 4) {v : Int32} : m_pi (c_cM M o r σ) (E 4 k) 8 v = c_cM M o r (c_up σ 4 k 6 v) := cM_pi (St_o h (d_k (s := 4) (by omega) (by omega) hk)) (fun _ hb => St_u h (by omega) hb) (x := (4, 6)) rfl
theorem cg_4_9 (h : c_St g M o r E n R) {k : Nat} (hk : k < n 4) : m_gi (c_cM M o r σ) (E 4 k) 9 = σ 4 k 8 := cM_gi (St_o h (d_k (s := 4) (by omega) (by omega) hk)) (x := (4, 8)) rfl
theorem cp_4_9 (h : c_St g M o r E n R) {k : Nat} (hk : k < n 4) {v : Int32} : m_pi (c_cM M o r σ) (E 4 k) 9 v = c_cM M o r (c_up σ 4 k 8 v) := cM_pi (St_o h (d_k (s := 4) (by omega) (by omega) hk)) (fun _ hb => St_u h (by omega) hb) (x := (4, 8)) rfl
theorem cg_4_10 (h : c_St g M o r E n R) {k : Nat} (hk : k < n 4) : m_gi (c_cM M o r σ) (E 4 k) 10 = σ 4 k 20 := cM_gi (St_o h (d_k (s := 4) (by omega) (by omega) hk)) (x := (4, 20)) rfl
theorem cp_4_10 (h : c_St g M o r E n R) {k : Nat} (hk : k < n 4) {v : Int32} : m_pi (c_cM M o r σ) (E 4 k) 10 v = c_cM M o r (c_up σ 4 k 20 v) := cM_pi (St_o h (d_k (s := 4) (by omega) (by omega) hk)) (fun _ hb => St_u h (by omega) hb) (x := (4, 20)) rfl
theorem cg_4_11 (h : c_St g M o r E n R) {k : Nat} (hk : k < n 4) : m_gi (c_cM M o r σ) (E 4 k) 11 = σ 4 k 9 := cM_gi (St_o h (d_k (s := 4) (by omega) (by omega) hk)) (x := (4, 9)) rfl
theorem cp_4_11 (h : c_St g M o r E n R) {k : Nat} (hk : k < n 4) {v : Int32} : m_pi (c_cM M o r σ) (E 4 k) 11 v = c_cM M o r (c_up σ 4 k 9 v) := cM_pi (St_o h (d_k (s := 4) (by omega) (by omega) hk)) (fun _ hb => St_u h (by omega) hb) (x := (4, 9)) rfl
theorem cg_4_12 (h : c_St g M o r E n R) {k : Nat} (hk : k < n 4) : m_gi (c_cM M o r σ) (E 4 k) 12 = σ 4 k 11 := cM_gi (St_o h (d_k (s := 4) (by omega) (by omega) hk)) (x := (4, 11)) rfl
theorem cp_4_12 (h : c_St g M o r E n R) {k : Nat} (hk : k < n 4) {v : Int32} : m_pi (c_cM M o r σ) (E 4 k) 12 v = c_cM M o r (c_up σ 4 k 11 v) := cM_pi (St_o h (d_k (s := 4) (by omega) (by omega) hk)) (fun _ hb => St_u h (by omega) hb) (x := (4, 11)) rfl
theorem cl_t1 (h : c_St g M o r E n R) : m_tg M (E 6 1) = 14 := St_t h (d_6 (by omega) (by omega))
theorem cl_r1 (h : c_St g M o r E n R) : m_gr M (E 0 0) 0 = some (E 6 1) := h.2.1.1
theorem cl_g1 (h : c_St g M o r E n R) {k : Nat} (hk : k < n 1) {Q : Option Nat → Mem → Prop} : wp_J2_get g (c_cM M o r σ) (E 6 1) (nI k) Q = Q (some (E 1 k)) (c_cM M o r σ) := St_gl h (by omega) (by omega) hk
theorem cl_s1 (h : c_St g M o r E n R) {Q : Int32 → Mem → Prop} : wp_J2_size g (c_cM M o r σ) (E 6 1) Q = Q (nI (n 1)) (c_cM M o r σ) := St_sz h (by omega) (by omega)
theorem cl_t2 (h : c_St g M o r E n R) : m_tg M (E 6 2) = 14 := St_t h (d_6 (by omega) (by omega))
theorem cl_r2 (h : c_St g M o r E n R) : m_gr M (E 0 0) 1 = some (E 6 2) := h.2.1.2.1
theorem cl_g2 (h : c_St g M o r E n R) {k : Nat} (hk : k < n 2) {Q : Option Nat → Mem → Prop} : wp_J2_get g (c_cM M o r σ) (E 6 2) (nI k) Q = Q (some (E 2 k)) (c_cM M o r σ) := St_gl h (by omega) (by omega) hk
theorem cl_s2 (h : c_St g M o r E n R) {Q : Int32 → Mem → Prop} : wp_J2_size g (c_cM M o r σ) (E 6 2) Q = Q (nI (n 2)) (c_cM M o r σ) := St_sz h (by omega) (by omega)
theorem cl_t3 (h : c_St g M o r E n R) : m_tg M (E 6 3) = 14 := St_t h (d_6 (by omega) (by omega))
theorem cl_r3 (h : c_St g M o r E n R) : m_gr M (E 0 0) 2 = some (E 6 3) := h.2.1.2.2.1
theorem cl_g3 (h : c_St g M o r E n R) {k : Nat} (hk : k < n 3) {Q : Option Nat → Mem → Prop} : wp_J2_get g (c_cM M o r σ) (E 6 3) (nI k) Q = Q (some (E 3 k)) (c_cM M o r σ) := St_gl h (by omega) (by omega) hk
theorem cl_s3 (h : c_St g M o r E n R) {Q : Int32 → Mem → Prop} : wp_J2_size g (c_cM M o r σ) (E 6 3) Q = Q (nI (n 3)) (c_cM M o r σ) := St_sz h (by omega) (by omega)
theorem cl_t4 (h : c_St g M o r E n R) : m_tg M (E 6 4) = 14 := St_t h (d_6 (by omega) (by omega))
theorem cl_r4 (h : c_St g M o r E n R) : m_gr M (E 0 0) 3 = some (E 6 4) := h.2.1.2.2.2.1
theorem cl_g4 (h : c_St g M o r E n R) {k : Nat} (hk : k < n 4) {Q : Option Nat → Mem → Prop} : wp_J2_get g (c_cM M o r σ) (E 6 4) (nI k) Q = Q (some (E 4 k)) (c_cM M o r σ) := St_gl h (by omega) (by omega) hk
theorem cl_s4 (h : c_St g M o r E n R) {Q : Int32 → Mem → Prop} : wp_J2_size g (c_cM M o r σ) (E 6 4) Q = Q (nI (n 4)) (c_cM M o r σ) := St_sz h (by omega) (by omega)
theorem cl_p (h : c_St g M o r E n R) : m_gr M (E 0 0) 4 = some (E 8 0) := h.2.1.2.2.2.2.1
theorem cl_R (h : c_St g M o r E n R) : m_gr M (E 0 0) 5 = some R := h.2.1.2.2.2.2.2.1
theorem cl_8n (h : c_St g M o r E n R) : m_ln M (E 8 0) = 3 := h.2.1.2.2.2.2.2.2
end
