/-! PURE: the component: a minute passes -/
set_option maxRecDepth 100000
/-- a transition with room k, s -/
def c_Tk (M : Mem) (o : Nat → Nat × Nat × Nat) (u : Nat) (M' : Mem) (o' : Nat → Nat × Nat × Nat) (u' r rr k s : Nat) : Prop := m_le M M' ∧ (∀ q : Nat, q ≠ r → q ≠ rr → q ≠ 0 → c_same M o M' o' q) ∧ m_nc M' + 60 * u' ≤ m_nc M + 60 * u + k ∧ m_ns M' + 300 * u' ≤ m_ns M + 300 * u + s
def c_no1 (o : Nat → Nat × Nat × Nat) : Prop := ∀ b : Nat, (o b).1 ≠ 1
section
variable {g : Nat → Nat} {M : Mem} {o : Nat → Nat × Nat × Nat} {r rr : Nat} {E : Nat → Nat → Nat} {n : Nat → Nat} {R : Nat} {σ σ' : Cn} {D W : Nat → Nat → Nat} {u : Nat}
theorem c_K_min {k0 : Nat} {v : Int32} (h : c_K g M o r E n R rr D W u) : m_pi (c_cM M o r σ) (E 0 0) 7 v = c_cM M o r (c_up σ 0 0 0 v) := cp_0_7 h.1
theorem c_cM_lab {o' : Nat → Nat × Nat × Nat} (h : ∀ b : Nat, (o b).1 = r ∨ (o' b).1 = r → o' b = o b) : c_cM M o' r σ = c_cM M o r σ := by
  unfold c_cM
  congr 1
  funext b j
  unfold c_enc
  by_cases hb : (o b).1 = r ∨ (o' b).1 = r
  · rw [h b hb]
  · rw [if_neg (fun z => hb (Or.inr z)), if_neg (fun z => hb (Or.inl z))]
/-- the row is gone through -/
theorem c_pass50 {Q : Int32 → Mem → Prop} {X : Mem} {o2 : Nat → Nat × Nat × Nat} {u2 a d len : Nat} {f : Nat → Nat} {cnt : Int32} (hobj : ∀ (M : Mem) (y : Nat), q_obj (m_tg M y) → m_asg M y "java/lang/Object") (hnode : ∀ (M : Mem) (y : Nat), m_tg M y = 18 → m_asg M y "java/util/HashMap$Node") (hK : c_K g X o2 r E n R rr D W u2) (hr1 : r ≠ 1) (hrr1 : rr ≠ 1) (hok : u_OK D W) (hlen : len ≤ 40) (hmin : ∀ k : Nat, k ≤ len → ¬ u_sendAll D W n σ f k 0 0 0 = -5) (hS : u_SA D W n σ f len) (hL : c_L g X a d len (fun i => some (E 4 (f i)))) (hoa : (o2 a).1 = 1) (hod : len ≠ 0 → (o2 d).1 = 1) (hroom : c_room X u2 60 300)
    (hQ : ∀ (M' : Mem) (o' : Nat → Nat × Nat × Nat) (u' : Nat), c_K g M' o' r E n R rr D W u' → c_T X o2 u2 M' o' u' r rr → Q cnt (c_cM M' o' r (c_up (u_sendAll D W n σ f len) 0 0 0 (u_sendAll D W n σ f len 0 0 0 + 1)))) :
    ∀ (dd k : Nat), k + dd = len → ∀ (M' : Mem) (o' : Nat → Nat × Nat × Nat) (u' : Nat), c_K g M' o' r E n R rr D W u' → c_T X o2 u2 M' o' u' r rr → wp_X1_passMinute_b50 g Q (dd + 1) (c_cM M' o' r (u_sendAll D W n σ f k)) (E 0 0) cnt (some a) (nI k) := by
  -- the row stays
  have keep : ∀ (M' : Mem) (o' : Nat → Nat × Nat × Nat) (u' : Nat) (τ : Cn), c_T X o2 u2 M' o' u' r rr → c_L g (c_cM M' o' r τ) a d len (fun i => some (E 4 (f i))) := by
    intro M' o' u' τ hT
    have h1 : c_same X o2 M' o' 1 := hT.2.1 1 (fun z => hr1 z.symm) (fun z => hrr1 z.symm) (by decide)
    have cell : ∀ b : Nat, (o2 b).1 = 1 → (c_cM M' o' r τ).1 b = X.1 b := fun b hb => by
      have h2 := h1 b (Or.inl hb)
      rw [← h2.1]
      unfold c_cM q_ints
      dsimp only
      have e9 : c_enc o' r τ (m_gi M') b = m_gi M' b := by
        funext j
        unfold c_enc
        rw [if_neg]
        rw [h2.2, hb]
        exact hr1.symm
      rw [e9]
      rfl
    by_cases h0 : len = 0
    · have ca := cell a hoa
      obtain ⟨k1, k2, k3, k4⟩ := hL
      refine ⟨(c_cell_tg ca).trans k1, (c_cell_gi ca).trans k2, (c_cell_gr ca).trans k3, ?_⟩
      rcases k4 with k4 | ⟨k4, k5, k6, k7⟩
      · exact Or.inl k4
      · have h9 : m_le X (c_cM M' o' r τ) := hT.1
        exact Or.inr ⟨m_le_tg h9 k4, by rw [m_le_ln h9 k4]; exact k5, by rw [m_le_ln h9 k4]; exact k6, fun k hk => by omega⟩
    · exact c_L_same hL (cell a hoa) (cell d (hod h0))
  intro dd
  induction dd with
  | zero =>
    intro k hk M' o' u' hK' hT
    have ek : k = len := by omega
    subst ek
    have hle : (nI k ≤ nI k) = True := eq_true ((pn_le (by omega) (by omega)).mpr (Nat.le_refl _))
    have hS' := hK'.1
    rw [wp_X1_passMinute_b50]
    refine ⟨a, rfl, (keep M' o' u' _ hT).1, c_L_size (keep M' o' u' _ hT) (fun _ => ⟨fun _ => ⟨show m_tg M' (E 0 0) = 2 from ct_0 hS', fun M10 h10 => ?_⟩, fun z => absurd ((pn_le (by omega) (by omega)).mpr (Nat.le_refl _)) z⟩)⟩
    rw [cg_0_7 hS', cp_0_7 hS'] at h10
    rw [h10]
    exact hQ M' o' u' hK' hT
  | succ dd ih =>
    intro k hk M' o' u' hK' hT
    obtain ⟨s1, s2, s3, s4⟩ := hS k (by omega)
    obtain ⟨t1, t2⟩ := s4 (by omega)
    have hS' := hK'.1
    have hmk := hmin k (by omega)
    rw [wp_X1_passMinute_b50]
    refine ⟨a, rfl, (keep M' o' u' _ hT).1, c_L_size (keep M' o' u' _ hT) (fun _ => ⟨fun z => ?_, fun _ => c_L_get (keep M' o' u' _ hT) (by omega) (by omega) (fun _ => ⟨E 4 (f k), rfl, show m_tg M' (E 4 (f k)) = 9 from ct_4 hS' t1, show m_tg M' (E 0 0) = 2 from ct_0 hS', ?_⟩)⟩)⟩
    · have := (pn_le (by omega) (by omega)).mp z
      omega
    · rw [pn_succ]
      exact c1_send hobj hnode hK' s1 hok t1 t2 hmk (c_room_T hroom hT) (fun M2 o3 u3 k1 k2 _ => ih (k + 1) (by omega) M2 o3 u3 k1 (c_T_tr hT k2))
theorem c1_passMinute {Q : Int32 → Mem → Prop} (hobj : ∀ (M : Mem) (y : Nat), q_obj (m_tg M y) → m_asg M y "java/lang/Object") (hnode : ∀ (M : Mem) (y : Nat), m_tg M y = 18 → m_asg M y "java/util/HashMap$Node") (hK : c_K g M o r E n R rr D W u) (h1 : c_no1 o) (hr1 : r ≠ 1) (hrr1 : rr ≠ 1) (hok : u_OK D W) (hG : u_GA D W n σ) (hS : u_SA D W n (u_goAll D W n σ (n 2)).1 (u_row (u_goAll D W n σ (n 2)).1 (n 4)).2 (u_row (u_goAll D W n σ (n 2)).1 (n 4)).1) (hmin1 : ∀ p : Nat, p ≤ n 2 → ¬ (u_goAll D W n σ p).1 0 0 0 = -5) (hmin2 : ∀ k : Nat, k ≤ (u_row (u_goAll D W n σ (n 2)).1 (n 4)).1 → ¬ u_sendAll D W n (u_goAll D W n σ (n 2)).1 (u_row (u_goAll D W n σ (n 2)).1 (n 4)).2 k 0 0 0 = -5) (hroom : c_room M u 70 1400)
    (hQ : ∀ (M' : Mem) (o' : Nat → Nat × Nat × Nat) (u' : Nat), c_K g M' o' r E n R rr D W u' → c_no1 o' → c_Tk M o u M' o' u' r rr 6 132 → Q (u_goAll D W n σ (n 2)).2 (c_cM M' o' r (u_pass D W n σ))) : wp_X1_passMinute g (c_cM M o r σ) (E 0 0) Q := by
  -- behind the patrols
  have fin : ∀ (M1 : Mem) (o1 : Nat → Nat × Nat × Nat) (u1 : Nat), c_K g M1 o1 r E n R rr D W u1 → c_T M o u M1 o1 u1 r rr → wp_X1_passMinute_b4 g Q 1 (c_cM M1 o1 r (u_goAll D W n σ (n 2)).1) (E 0 0) (u_goAll D W n σ (n 2)).2 (nI (n 2)) := by
    intro M1 o1 u1 hK1 hT1
    obtain ⟨hr, hu, hb⟩ := hG (n 2) (Nat.le_refl _)
    have l2 := hr.1.2.2.2.2.2.2.2.1
    have l4 := hr.1.2.2.2.2.2.2.2.2.2
    unfold u_pass u_sent at hQ
    revert hQ hS hmin2 hr hu hb
    generalize (u_goAll D W n σ (n 2)).1 = τ
    generalize (u_goAll D W n σ (n 2)).2 = cnt
    intro hS hmin2 hQ hr hu hb
    obtain ⟨hS1, hD1, hne, hr0, hrr0, hLb1, hg11⟩ := id hK1
    have hlen := (u_row_lt (σ := τ) (n 4)).1
    have no1 : c_no1 o1 := fun b hb => h1 b (by
      have := (hT1.2.1 1 (fun z => hr1 z.symm) (fun z => hrr1 z.symm) (by decide) b (Or.inr hb)).2
      rw [← this]
      exact hb)
    rw [wp_X1_passMinute_b4]
    have hSf := hS1
    refine ⟨show m_tg M1 (E 0 0) = 2 from ct_0 hS1, E 6 2, (show m_gr M1 (E 0 0) 1 = some (E 6 2) from cl_r2 hS1), show m_tg M1 (E 6 2) = 14 from cl_t2 hS1, ?_⟩
    rw [cl_s2 hS1]
    refine fun _ => ⟨fun _ => ?_, fun z => absurd ((pn_le (by omega) (by omega)).mpr (Nat.le_refl _)) z⟩
    have hrm := hroom.1
    have hrm2 := hroom.2
    have t1 := hT1.2.2.1
    have t2 := hT1.2.2.2
    refine c1_waiting hobj hS1 hr0 hLb1 hr ⟨by omega, by omega⟩ (fun X a d hX _ => ⟨(u_row τ (n 4)).1 + 1, ?_⟩)
    obtain ⟨x1, x2, x3, x4, x5, x6, x7, x8⟩ := hX
    have oa0 : (o1 a).1 = 0 := Classical.byContradiction (fun z => hLb1 a z x3)
    -- labels for the row
    generalize ho2 : (if (u_row τ (n 4)).1 = 0 then c_lab o1 a (1, 0, 0) else c_lab (c_lab o1 a (1, 0, 0)) d (1, 1, 0)) = o2
    have hdl : (u_row τ (n 4)).1 ≠ 0 → m_tg (c_cM M1 o1 r τ) d = 0 ∧ m_tg X d = 103 := fun h => by
      rcases x5.2.2.2 with ⟨k, _⟩ | ⟨k, _⟩
      · exact absurd k h
      · refine ⟨?_, k⟩
        rcases x4 with h | h
        · exact h
        · exfalso
          rw [h, x2.1] at k
          cases k
    have o2e : ∀ b : Nat, m_tg M1 b ≠ 0 → o2 b = o1 b := fun b hb => by
      have hba : b ≠ a := fun z => hb (by rw [z]; exact x3)
      rw [← ho2]
      by_cases h : (u_row τ (n 4)).1 = 0
      · rw [if_pos h]
        unfold c_lab
        rw [if_neg hba]
      · rw [if_neg h]
        unfold c_lab
        rw [if_neg (fun z => hb (by rw [z]; exact (hdl h).1)), if_neg hba]
    have o2n : ∀ b : Nat, m_tg M1 b = 0 → (o2 b).1 = 0 ∨ (o2 b).1 = 1 := fun b hb => by
      have ob : (o1 b).1 = 0 := Classical.byContradiction (fun z => hLb1 b z hb)
      rw [← ho2]
      by_cases h : (u_row τ (n 4)).1 = 0
      · rw [if_pos h]
        unfold c_lab
        split
        · exact Or.inr rfl
        · exact Or.inl ob
      · rw [if_neg h]
        unfold c_lab
        split
        · exact Or.inr rfl
        · split
          · exact Or.inr rfl
          · exact Or.inl ob
    have hoa : (o2 a).1 = 1 := by
      rw [← ho2]
      by_cases h : (u_row τ (n 4)).1 = 0
      · rw [if_pos h]
        unfold c_lab
        rw [if_pos rfl]
      · rw [if_neg h]
        unfold c_lab
        split
        · rfl
        · rw [if_pos rfl]
    have hod : (u_row τ (n 4)).1 ≠ 0 → (o2 d).1 = 1 := fun h => by
      rw [← ho2, if_neg h]
      unfold c_lab
      rw [if_pos rfl]
    have same2 : ∀ q : Nat, q ≠ 0 → q ≠ 1 → c_same (c_cM M1 o1 r τ) o1 X o2 q := fun q hq0 hq1 b hb => by
      have hb0 : m_tg M1 b ≠ 0 := by
        rcases hb with hb | hb
        · exact hLb1 b (by rw [hb]; exact hq0)
        · intro z
          rcases o2n b z with h | h
          · exact hq0 (hb.symm.trans h)
          · exact hq1 (hb.symm.trans h)
      exact ⟨x1.2 b hb0, o2e b hb0⟩
    have sr := same2 r hr0 hr1
    have eX : c_cM X o2 r τ = X := c_cM_eq2 sr
    have hK2 : c_K g X o2 r E n R rr D W u1 := ⟨c_St_same (c_St_cM (σ := τ) hS1) sr, c_Rd_same (c_Rd_cM (σ := τ) hD1 hne) x1.1 (same2 rr hrr0 hrr1), hne, hr0, hrr0, fun b hb => by
      by_cases hb0 : m_tg M1 b = 0
      · by_cases hba : b = a
        · rw [hba, x5.1]
          decide
        · rw [← ho2] at hb
          have ob : (o1 b).1 = 0 := Classical.byContradiction (fun z => hLb1 b z hb0)
          by_cases h : (u_row τ (n 4)).1 = 0
          · rw [if_pos h] at hb
            unfold c_lab at hb
            rw [if_neg hba] at hb
            exact absurd ob hb
          · rw [if_neg h] at hb
            unfold c_lab at hb
            by_cases hbd : b = d
            · rw [hbd, (hdl h).2]
              decide
            · rw [if_neg hbd, if_neg hba] at hb
              exact absurd ob hb
      · rw [(x1.1 b hb0).1]
        exact hb0, x2⟩
    have hcap : (c_cap (u_row τ (n 4)).1).2.1 ≤ 5 ∧ (c_cap (u_row τ (n 4)).1).2.2 ≤ 129 := by
      have H : ∀ k : Fin 41, (c_cap k.val).2.1 ≤ 5 ∧ (c_cap k.val).2.2 ≤ 129 := by decide +kernel
      exact H ⟨(u_row τ (n 4)).1, by omega⟩
    have nx1 : m_nc X ≤ m_nc M1 + 6 := by
      have h9 : m_nc (c_cM M1 o1 r τ) = m_nc M1 := rfl
      omega
    have nx2 : m_ns X ≤ m_ns M1 + 132 := by
      have h9 : m_ns (c_cM M1 o1 r τ) = m_ns M1 := rfl
      omega
    have h50 := c_pass50 (Q := Q) (σ := τ) (cnt := cnt) hobj hnode hK2 hr1 hrr1 hok (by omega) hmin2 hS x5 hoa hod ⟨by omega, by omega⟩ (fun M3 o3 u3 hK3 hT3 => by
      -- the row's labels go
      have drop : ∀ b : Nat, (o3 b).1 ≠ 1 → (if (o3 b).1 = 1 then ((0, 0, 0) : Nat × Nat × Nat) else o3 b) = o3 b := fun b hb => if_neg hb
      have drop1 : ∀ b : Nat, ((if (o3 b).1 = 1 then ((0, 0, 0) : Nat × Nat × Nat) else o3 b)).1 ≠ 1 := fun b => by
        by_cases h : (o3 b).1 = 1
        · rw [if_pos h]
          decide
        · rw [if_neg h]
          exact h
      have same3 : ∀ q : Nat, q ≠ 0 → q ≠ 1 → c_same M3 o3 M3 (fun b => if (o3 b).1 = 1 then ((0, 0, 0) : Nat × Nat × Nat) else o3 b) q := fun q hq0 hq1 b hb => ⟨rfl, by
        by_cases h : (o3 b).1 = 1
        · exfalso
          rcases hb with hb | hb
          · exact hq1 (hb.symm.trans h)
          · dsimp only at hb
            rw [if_pos h] at hb
            exact hq0 hb.symm
        · exact if_neg h⟩
      have eM : ∀ τ' : Cn, c_cM M3 (fun b => if (o3 b).1 = 1 then ((0, 0, 0) : Nat × Nat × Nat) else o3 b) r τ' = c_cM M3 o3 r τ' := fun τ' => by
        exact c_cM_lab (fun b hb => (same3 r hr0 hr1 b hb).2)
      rw [← eM]
      refine hQ M3 _ u3 ⟨c_St_same hK3.1 (same3 r hr0 hr1), c_Rd_same hK3.2.1 m_le_rf (same3 rr hrr0 hrr1), hne, hr0, hrr0, fun b hb => hK3.2.2.2.2.2.1 b (fun z => hb ?_), hK3.2.2.2.2.2.2⟩ drop1 ⟨m_le_tr hT1.1 (m_le_tr x1.1 hT3.1), fun q hq1 hq2 hq3 => ?_, ?_, ?_⟩
      · by_cases h : (o3 b).1 = 1
        · dsimp only
          rw [if_pos h]
        · dsimp only
          rw [if_neg h]
          exact z
      · by_cases hq : q = 1
        · intro b hb
          exfalso
          rcases hb with hb | hb
          · exact h1 b (hb.trans hq)
          · exact drop1 b (hb.trans hq)
        · exact c_same_tr (hT1.2.1 q hq1 hq2 hq3) (c_same_tr (c_same_cM2 hq1 (same2 q hq3 hq)) (c_same_tr (hT3.2.1 q hq1 hq2 hq3) (same3 q hq3 hq)))
      · have := hT3.2.2.1
        omega
      · have := hT3.2.2.2
        omega) (u_row τ (n 4)).1 0 (by omega) X o2 u1 hK2 c_T_rf
    rw [show u_sendAll D W n τ (u_row τ (n 4)).2 0 = τ from rfl, eX] at h50
    exact h50
  have H : ∀ (dd p : Nat), p + dd = n 2 → ∀ (M1 : Mem) (o1 : Nat → Nat × Nat × Nat) (u1 : Nat), c_K g M1 o1 r E n R rr D W u1 → c_T M o u M1 o1 u1 r rr → wp_X1_passMinute_b4 g Q (dd + 1) (c_cM M1 o1 r (u_goAll D W n σ p).1) (E 0 0) (u_goAll D W n σ p).2 (nI p) := by
    intro dd
    induction dd with
    | zero =>
      intro p hp M1 o1 u1 hK1 hT1
      have e : p = n 2 := by omega
      subst e
      exact fin M1 o1 u1 hK1 hT1
    | succ dd ih =>
      intro p hp M1 o1 u1 hK1 hT1
      obtain ⟨hr, hu, hb⟩ := hG p (by omega)
      have l2 := hr.1.2.2.2.2.2.2.2.1
      have hS1 := hK1.1
      have hp2 : p < n 2 := by omega
      have hmp := hmin1 p (by omega)
      rw [wp_X1_passMinute_b4]
      refine ⟨show m_tg M1 (E 0 0) = 2 from ct_0 hS1, E 6 2, (show m_gr M1 (E 0 0) 1 = some (E 6 2) from cl_r2 hS1), show m_tg M1 (E 6 2) = 14 from cl_t2 hS1, ?_⟩
      rw [cl_s2 hS1]
      refine fun _ => ⟨fun z => ?_, fun _ => ⟨E 6 2, (show m_gr M1 (E 0 0) 1 = some (E 6 2) from cl_r2 hS1), show m_tg M1 (E 6 2) = 14 from cl_t2 hS1, ?_⟩⟩
      · have := (pn_le (by omega) (by omega)).mp z
        omega
      · rw [cl_g2 hS1 hp2]
        refine fun _ => ⟨E 2 p, rfl, show m_tg M1 (E 2 p) = 7 from ct_2 hS1 hp2, ?_⟩
        rw [pn_succ]
        have hrm := c_room_T (k := 70) (s := 1400) hroom hT1
        exact c1_goOn hobj hnode hK1 hr hb hok hp2 hmp ⟨by have := hrm.1; omega, by have := hrm.2; omega⟩ (fun M2 o2 u2 k1 k2 _ => ih (p + 1) (by omega) M2 o2 u2 k1 (c_T_tr hT1 k2))
  exact ⟨n 2 + 1, H (n 2) 0 (by omega) M o u hK c_T_rf⟩
end
