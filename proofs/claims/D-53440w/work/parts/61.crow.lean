/-! PURE: the component's row of calls that wait -/
set_option maxRecDepth 100000
/-- cells that were there stay -/
def c_nw (X X' : Mem) : Prop := m_le X X' ∧ ∀ b : Nat, m_tg X b ≠ 0 → X'.1 b = X.1 b
theorem c_nw_rf {X : Mem} : c_nw X X := ⟨m_le_rf, fun _ _ => rfl⟩
/-- room of a list of n that was built from nothing: its array, cells, slots -/
def c_cap (n : Nat) : Nat × Nat × Nat := if n = 0 then (0, 0, 0) else if n ≤ 10 then (10, 1, 10) else if n ≤ 15 then (15, 2, 25) else if n ≤ 22 then (22, 3, 47) else if n ≤ 33 then (33, 4, 80) else if n ≤ 49 then (49, 5, 129) else if n ≤ 73 then (73, 6, 202) else if n ≤ 109 then (109, 7, 311) else (163, 8, 474)
theorem c_cap_lo {n : Nat} (h : n < (c_cap n).1) (hn : n < 150) : c_cap (n + 1) = c_cap n := by
  unfold c_cap at h ⊢
  by_cases h0 : n = 0
  · subst h0
    simp at h
  · rw [if_neg h0] at h ⊢
    rw [if_neg (by omega)]
    repeat' first
      | (split at h <;> first | (rename_i z; rw [if_pos (by dsimp only at h; omega), if_pos z]) | (rename_i z; rw [if_neg (by omega), if_neg z]))
theorem c_cap_hi {n : Nat} (h : n = (c_cap n).1) (hn : n < 150) : c_cap (n + 1) = (c_nc n, (c_cap n).2.1 + 1, (c_cap n).2.2 + c_nc n) := by
  have H : ∀ k : Fin 150, k.val = (c_cap k.val).1 → c_cap (k.val + 1) = (c_nc k.val, (c_cap k.val).2.1 + 1, (c_cap k.val).2.2 + c_nc k.val) := by decide +kernel
  exact H ⟨n, hn⟩ h
theorem c_cap_le {n : Nat} (hn : n ≤ 150) : (c_cap n).2.1 ≤ 8 ∧ (c_cap n).2.2 ≤ 474 := by
  have H : ∀ k : Fin 151, (c_cap k.val).2.1 ≤ 8 ∧ (c_cap k.val).2.2 ≤ 474 := by decide +kernel
  exact H ⟨n, by omega⟩
theorem c_cap_ge {n : Nat} (hn : n ≤ 150) : n ≤ (c_cap n).1 := by
  have H : ∀ k : Fin 151, k.val ≤ (c_cap k.val).1 := by decide +kernel
  exact H ⟨n, by omega⟩
section
variable {g : Nat → Nat} {M : Mem} {o : Nat → Nat × Nat × Nat} {r : Nat} {E : Nat → Nat → Nat} {n : Nat → Nat} {R : Nat} {σ σ' : Cn}
theorem c8_isWaiting {c : Nat} {Q : Int32 → Mem → Prop} (hS : c_St g M o r E n R) (hc : c < n 4) (hQ : Q (u_b (u_waits σ c)) (c_cM M o r σ)) : wp_X8_isWaiting g (c_cM M o r σ) (E 4 c) Q := by
  simp (decide := true) only [wp_X8_isWaiting, hc, cM_tg, cM_gr, cM_ln, cM_le, c_rn, c_rs, ct_0 hS, cg_0_6 hS, cp_0_6 hS, cg_0_7 hS, cp_0_7 hS, ct_8 hS, cg_8_0 hS, cp_8_0 hS, cg_8_1 hS, cp_8_1 hS, cg_8_2 hS, cp_8_2 hS, ct_1 hS, cg_1_0 hS, cp_1_0 hS, cg_1_1 hS, cp_1_1 hS, cg_1_2 hS, cp_1_2 hS, cg_1_3 hS, cp_1_3 hS, cg_1_4 hS, cp_1_4 hS, ct_2 hS, cg_2_0 hS, cp_2_0 hS, cg_2_1 hS, cp_2_1 hS, cg_2_2 hS, cp_2_2 hS, cg_2_3 hS, cp_2_3 hS, cg_2_4 hS, cp_2_4 hS, cg_2_5 hS, cp_2_5 hS, cg_2_6 hS, cp_2_6 hS, cg_2_7 hS, cp_2_7 hS, cg_2_8 hS, cp_2_8 hS, cg_2_9 hS, cp_2_9 hS, cg_2_10 hS, cp_2_10 hS, cg_2_11 hS, cp_2_11 hS, cg_2_12 hS, cp_2_12 hS, cg_2_13 hS, cp_2_13 hS, cg_2_14 hS, cp_2_14 hS, ct_3 hS, cg_3_0 hS, cp_3_0 hS, cg_3_1 hS, cp_3_1 hS, cg_3_2 hS, cp_3_2 hS, cg_3_3 hS, cp_3_3 hS, cg_3_4 hS, cp_3_4 hS, ct_4 hS, cg_4_0 hS, cp_4_0 hS, cg_4_1 hS, cp_4_1 hS, cg_4_2 hS, cp_4_2 hS, cg_4_3 hS, cp_4_3 hS, cg_4_4 hS, cp_4_4 hS, cg_4_5 hS, cp_4_5 hS, cg_4_6 hS, cp_4_6 hS, cg_4_7 hS, cp_4_7 hS, cg_4_8 hS, cp_4_8 hS, cg_4_9 hS, cp_4_9 hS, cg_4_10 hS, cp_4_10 hS, cg_4_11 hS, cp_4_11 hS, cg_4_12 hS, cp_4_12 hS, cl_t1 hS, cl_r1 hS, cl_g1 hS, cl_s1 hS, cl_t2 hS, cl_r2 hS, cl_g2 hS, cl_s2 hS, cl_t3 hS, cl_r3 hS, cl_g3 hS, cl_s3 hS, cl_t4 hS, cl_r4 hS, cl_g4 hS, cl_s4 hS, cl_p hS, cl_R hS, cl_8n hS, true_and, and_true, forall_const, Option.some.injEq, exists_eq_left', forall_eq, true_implies, cl_0, cl_1, cl_2, cl_3, cl_4, cl_5, cl_6, cl_7, cl_8, cl_9, cl_10, cl_11, cl_12, cl_13, cl_14, cl_15, cl_16, vi_0_3, vi_1_3, vi_2_3]
  unfold u_waits at hQ
  refine ⟨fun h => ?_, fun h => ⟨fun h2 => ?_, fun h2 => ⟨fun h3 => ?_, fun h3 => ?_⟩⟩⟩
  · rw [decide_eq_true (Or.inl h)] at hQ
    exact hQ
  · rw [decide_eq_false (fun z => z.elim h (fun y => h2 y.1))] at hQ
    exact hQ
  · rw [decide_eq_false (fun z => z.elim h (fun y => h3 y.2))] at hQ
    exact hQ
  · rw [decide_eq_true (Or.inr ⟨h2, h3⟩)] at hQ
    exact hQ
theorem c1_isAhead {c d k l : Nat} {Q : Int32 → Mem → Prop} (hS : c_St g M o r E n R) (hc : c < n 4) (hd : d < n 4) (e1 : σ 4 c 0 = nI k) (e2 : σ 4 d 0 = nI l) (hk : k < n 1) (hl : l < n 1) (hn1 : n 1 ≤ 20) (hn4 : n 4 ≤ 40) (e3 : σ 4 c 22 = nI c) (e4 : σ 4 d 22 = nI d) (hQ : Q (u_b (u_ahead σ c d)) (c_cM M o r σ)) : wp_X1_isAhead g (c_cM M o r σ) (E 0 0) (E 4 c) (E 4 d) Q := by
  simp (decide := true) only [wp_X1_isAhead, wp_X8_rest, hc, hd, hk, hl, e1, e2, e3, e4, cM_tg, cM_gr, cM_ln, cM_le, c_rn, c_rs, ct_0 hS, cg_0_6 hS, cp_0_6 hS, cg_0_7 hS, cp_0_7 hS, ct_8 hS, cg_8_0 hS, cp_8_0 hS, cg_8_1 hS, cp_8_1 hS, cg_8_2 hS, cp_8_2 hS, ct_1 hS, cg_1_0 hS, cp_1_0 hS, cg_1_1 hS, cp_1_1 hS, cg_1_2 hS, cp_1_2 hS, cg_1_3 hS, cp_1_3 hS, cg_1_4 hS, cp_1_4 hS, ct_2 hS, cg_2_0 hS, cp_2_0 hS, cg_2_1 hS, cp_2_1 hS, cg_2_2 hS, cp_2_2 hS, cg_2_3 hS, cp_2_3 hS, cg_2_4 hS, cp_2_4 hS, cg_2_5 hS, cp_2_5 hS, cg_2_6 hS, cp_2_6 hS, cg_2_7 hS, cp_2_7 hS, cg_2_8 hS, cp_2_8 hS, cg_2_9 hS, cp_2_9 hS, cg_2_10 hS, cp_2_10 hS, cg_2_11 hS, cp_2_11 hS, cg_2_12 hS, cp_2_12 hS, cg_2_13 hS, cp_2_13 hS, cg_2_14 hS, cp_2_14 hS, ct_3 hS, cg_3_0 hS, cp_3_0 hS, cg_3_1 hS, cp_3_1 hS, cg_3_2 hS, cp_3_2 hS, cg_3_3 hS, cp_3_3 hS, cg_3_4 hS, cp_3_4 hS, ct_4 hS, cg_4_0 hS, cp_4_0 hS, cg_4_1 hS, cp_4_1 hS, cg_4_2 hS, cp_4_2 hS, cg_4_3 hS, cp_4_3 hS, cg_4_4 hS, cp_4_4 hS, cg_4_5 hS, cp_4_5 hS, cg_4_6 hS, cp_4_6 hS, cg_4_7 hS, cp_4_7 hS, cg_4_8 hS, cp_4_8 hS, cg_4_9 hS, cp_4_9 hS, cg_4_10 hS, cp_4_10 hS, cg_4_11 hS, cp_4_11 hS, cg_4_12 hS, cp_4_12 hS, cl_t1 hS, cl_r1 hS, cl_g1 hS, cl_s1 hS, cl_t2 hS, cl_r2 hS, cl_g2 hS, cl_s2 hS, cl_t3 hS, cl_r3 hS, cl_g3 hS, cl_s3 hS, cl_t4 hS, cl_r4 hS, cl_g4 hS, cl_s4 hS, cl_p hS, cl_R hS, cl_8n hS, true_and, and_true, forall_const, Option.some.injEq, exists_eq_left', forall_eq, true_implies, cl_0, cl_1, cl_2, cl_3, cl_4, cl_5, cl_6, cl_7, cl_8, cl_9, cl_10, cl_11, cl_12, cl_13, cl_14, cl_15, cl_16, vi_0_3, vi_1_3, vi_2_3, pn_lee (show d ≤ 1000000 by omega) (show c ≤ 1000000 by omega)]
  unfold u_ahead u_rest at hQ
  rw [u_w_of e1 (by omega), u_w_of e2 (by omega)] at hQ
  refine ⟨fun h => ⟨fun h2 => ⟨fun h3 => ?_, fun h3 => ?_⟩, fun h2 => ⟨fun h3 => ?_, fun h3 => ?_⟩⟩, fun h => ⟨fun h2 => ?_, fun h2 => ?_⟩⟩
  · rw [if_pos h, if_pos h2, decide_eq_false (by omega)] at hQ
    exact hQ
  · rw [if_pos h, if_pos h2, decide_eq_true (by omega)] at hQ
    exact hQ
  · rw [if_pos h, if_neg h2, decide_eq_false (Int32.not_lt.mpr h3)] at hQ
    exact hQ
  · rw [if_pos h, if_neg h2, decide_eq_true (Int32.not_le.mp h3)] at hQ
    exact hQ
  · rw [if_neg h, decide_eq_false (Int32.not_lt.mpr h2)] at hQ
    exact hQ
  · rw [if_neg h, decide_eq_true (Int32.not_le.mp h2)] at hQ
    exact hQ
theorem u_pl_le {σ : Cn} {c : Nat} {f : Nat → Nat} : ∀ k : Nat, u_pl σ c f k ≤ k := by
  intro k
  induction k with
  | zero => exact Nat.le_refl _
  | succ k ih =>
    unfold u_pl
    split
    · omega
    · exact Nat.le_refl _
/-- what holds while the row is laid: k calls so far -/
def c_RW (g : Nat → Nat) (X0 X : Mem) (E : Nat → Nat → Nat) (a d k : Nat) (f : Nat → Nat) : Prop := c_nw X0 X ∧ c_g1 g X ∧ m_tg X0 a = 0 ∧ (m_tg X0 d = 0 ∨ d = g 1) ∧ c_L g X a d k (fun i => some (E 4 (f i))) ∧ m_ln X d = (c_cap k).1 ∧ m_nc X ≤ m_nc X0 + 1 + (c_cap k).2.1 ∧ m_ns X ≤ m_ns X0 + 3 + (c_cap k).2.2
theorem c_nw_fr {X0 X X' : Mem} {a d c s : Nat} (h : c_nw X0 X) (hf : c_fr X X' a d c s) (ha : m_tg X0 a = 0) (hd : m_tg X0 d = 0) : c_nw X0 X' :=
  ⟨m_le_tr h.1 hf.1, fun b hb => (hf.2.1 b (fun z => hb (by rw [z]; exact ha)) (fun z => hb (by rw [z]; exact hd))).trans (h.2 b hb)⟩
theorem c1_waiting {Q : Option Nat → Mem → Prop} (hobj : ∀ (M : Mem) (y : Nat), q_obj (m_tg M y) → m_asg M y "java/lang/Object") (hS : c_St g M o r E n R) (hr0 : r ≠ 0) (hLb : ∀ b : Nat, (o b).1 ≠ 0 → m_tg M b ≠ 0) (hr : u_R n σ) (hroom : m_nc M + 10 ≤ m_CM ∧ m_ns M + 1000 ≤ m_SM)
    (hQ : ∀ (X : Mem) (a d : Nat), c_RW g (c_cM M o r σ) X E a d (u_row σ (n 4)).1 (u_row σ (n 4)).2 → Q (some a) X) : wp_X1_waiting g (c_cM M o r σ) (E 0 0) Q := by
  have l1 := hr.1.2.2.2.2.2.2.1
  have l4 := hr.1.2.2.2.2.2.2.2.2.2
  have hcal := hr.2.2.2.2
  -- a later memory has the same form
  have form : ∀ X : Mem, c_nw (c_cM M o r σ) X → c_cM X o r σ = X ∧ c_St g X o r E n R := fun X hX => by
    have hs : ∀ b : Nat, (o b).1 = r → X.1 b = (c_cM M o r σ).1 b := fun b hb => hX.2 b (hLb b (by rw [hb]; exact hr0))
    refine ⟨c_cM_eq hs, c_St_same (c_St_cM (σ := σ) hS) (fun b hb => ⟨hs b ?_, rfl⟩)⟩
    rcases hb with hb | hb <;> exact hb
  have hobE : ∀ X : Mem, c_nw (c_cM M o r σ) X → ∀ c : Nat, c < n 4 → q_obj (m_tg X (E 4 c)) := fun X hX c hc => by
    rw [ct_4 (form X hX).2 hc]
    exact Or.inr (Or.inr (Or.inr (Or.inr (Or.inl rfl))))
  -- the place of a call in the row
  have ins : ∀ (c : Nat), c < n 4 → ∀ (f : Nat → Nat) (len : Nat), len ≤ c → (∀ j : Nat, j < len → f j < c) → ∀ (k10 : Mem → Nat → Nat → Int32 → Prop) (a d : Nat) (X : Mem), c_RW g (c_cM M o r σ) X E a d len f →
      (∀ (X' : Mem) (d' : Nat), c_RW g (c_cM M o r σ) X' E a d' (len + 1) (u_ins f (u_pl σ c f len) c) → k10 X' (E 0 0) a (nI (c + 1))) →
      ∀ k : Nat, k ≤ len → u_pl σ c f len = u_pl σ c f k → wp_X1_waiting_b55 g k10 Q (k + 1) X (E 0 0) a (nI c) (E 4 c) (nI k) := by
    intro c hc f len hlc hf k10 a d X hX hk10
    obtain ⟨x1, x2, x3, x4, x5, x6, x7, x8⟩ := hX
    have hcl := c_cap_le (n := len) (by omega)
    -- b87
    have fin : ∀ k : Nat, k ≤ len → u_pl σ c f len = k → wp_X1_waiting_b87 g k10 X (E 0 0) a (nI c) (E 4 c) (nI k) Q := by
      intro k hk hpl
      refine ⟨x5.1, ?_⟩
      refine q_add3 hobj x2 x5 (by omega) hk ⟨by have : m_nc (c_cM M o r σ) = m_nc M := rfl; omega, by have : m_ns (c_cM M o r σ) = m_ns M := rfl; omega⟩ (fun j hj y hy => ?_) (fun y hy => ?_) (fun X' d' kc hkc hL hfr _ => ?_)
      · cases hy
        exact hobE X x1 _ (by have := hf j hj; omega)
      · cases hy
        exact hobE X x1 _ hc
      · rw [pn_succ]
        refine hk10 X' d' ?_
        have hd0 : m_tg (c_cM M o r σ) d' = 0 := by
          rcases hkc with ⟨_, e1, e2, _⟩ | ⟨_, e1, _⟩
          · rw [e1]
            rcases x4 with h | h
            · exact h
            · exfalso
              rw [h, x2.1] at e2
              cases e2
          · apply Classical.byContradiction
            intro z
            have := c_cell_tg (x1.2 d' z)
            rw [e1] at this
            exact z this.symm
        refine ⟨c_nw_fr x1 hfr x3 hd0, c_g1_le x2 hfr.1, x3, Or.inl hd0, c_L_cg hL (fun i hi => ?_), ?_, ?_, ?_⟩
        · unfold c_ei u_ins
          rw [hpl]
          by_cases z1 : i < k
          · rw [if_pos z1, if_pos z1]
          · rw [if_neg z1, if_neg z1]
            by_cases z2 : i = k
            · rw [if_pos z2, if_pos z2]
            · rw [if_neg z2, if_neg z2]
        · rcases hkc with ⟨_, _, _, e3, e4⟩ | ⟨_, _, e3, e4⟩
          · rw [e4, x6, c_cap_lo (by rw [← x6]; exact e3) (by omega)]
          · rw [e4, c_cap_hi (by rw [← x6]; exact e3) (by omega)]
        · have h1 := hfr.2.2.1
          rcases hkc with ⟨e0, _, _, e3, e4⟩ | ⟨e0, _, e3, e4⟩
          · rw [c_cap_lo (by rw [← x6]; exact e3) (by omega)]
            omega
          · rw [c_cap_hi (by rw [← x6]; exact e3) (by omega)]
            dsimp only
            omega
        · have h1 := hfr.2.2.2
          rcases hkc with ⟨e0, _, _, e3, e4⟩ | ⟨e0, _, e3, e4⟩
          · rw [c_cap_lo (by rw [← x6]; exact e3) (by omega)]
            rw [e0, Nat.zero_mul] at h1
            omega
          · rw [c_cap_hi (by rw [← x6]; exact e3) (by omega)]
            rw [e0, Nat.one_mul] at h1
            dsimp only
            omega
    intro k
    induction k with
    | zero =>
      intro hk hpl
      exact ⟨fun _ => fin 0 hk hpl, fun h => absurd (by decide) h⟩
    | succ k ih =>
      intro hk hpl
      have hk0 : ¬ nI (k + 1) ≤ 0 := fun z => by
        have := (pn_le (b := 0) (by omega) (by omega)).mp z
        omega
      have hk1 : nI (k + 1) - 1 = nI k := pn_sub (b := 1) (by omega)
      have hk2 : nI (k + 1) + (-1) = nI k := by
        rw [← pn_succ, Int32.add_assoc, show (1 : Int32) + (-1) = 0 from rfl, Int32.add_zero]
      refine ⟨fun z => absurd z hk0, fun _ => ⟨x5.1, ?_⟩⟩
      rw [hk1]
      have hfk := hf k (by omega)
      obtain ⟨c1, _, ⟨kc, hkc, ekc⟩, _⟩ := hcal c hc
      obtain ⟨d1, _, ⟨kd, hkd, ekd⟩, _⟩ := hcal (f k) (by omega)
      obtain ⟨fm, fS⟩ := form X x1
      refine c_L_get x5 (by omega) (by omega) (fun _ => ⟨E 4 (f k), rfl, ct_4 fS (by omega), ct_0 fS, ?_⟩)
      have hah := c1_isAhead (g := g) (M := X) (o := o) (r := r) (σ := σ) (Q := fun (r13 : Int32) (M11 : Mem) => m_le X M11 → ((r13 = 0 → wp_X1_waiting_b87 g k10 M11 (E 0 0) a (nI c) (E 4 c) (nI (k + 1)) Q) ∧ (¬ r13 = 0 → wp_X1_waiting_b55 g k10 Q (k + 1) M11 (E 0 0) a (nI c) (E 4 c) (nI (k + 1) + (-1))))) fS hc (show f k < n 4 by omega) ekc ekd hkc hkd l1 l4 c1 d1 (fun _ => by
        rw [fm, hk2]
        have hp : u_pl σ c f (k + 1) = if u_ahead σ c (f k) = true then u_pl σ c f k else k + 1 := rfl
        cases ha : u_ahead σ c (f k) with
        | false =>
          rw [ha, if_neg (by decide)] at hp
          exact ⟨fun _ => fin (k + 1) hk (hpl.trans hp), fun z => absurd rfl z⟩
        | true =>
          rw [ha, if_pos rfl] at hp
          exact ⟨fun z => absurd z (by decide), fun _ => ih (by omega) (hpl.trans hp)⟩)
      rw [fm] at hah
      exact hah
  have H : ∀ (dd c : Nat), c + dd = n 4 → ∀ (X : Mem) (a d : Nat), c_RW g (c_cM M o r σ) X E a d (u_row σ c).1 (u_row σ c).2 → wp_X1_waiting_b10 g Q (dd + 1) X (E 0 0) a (nI c) := by
    intro dd
    induction dd with
    | zero =>
      intro c hc X a d hX
      have e : c = n 4 := by omega
      subst e
      obtain ⟨fm, fS⟩ := form X hX.1
      rw [← fm, wp_X1_waiting_b10]
      simp (decide := true) only [cM_tg, cM_gr, cM_ln, cM_le, c_rn, c_rs, ct_0 fS, cg_0_6 fS, cp_0_6 fS, cg_0_7 fS, cp_0_7 fS, ct_8 fS, cg_8_0 fS, cp_8_0 fS, cg_8_1 fS, cp_8_1 fS, cg_8_2 fS, cp_8_2 fS, ct_1 fS, cg_1_0 fS, cp_1_0 fS, cg_1_1 fS, cp_1_1 fS, cg_1_2 fS, cp_1_2 fS, cg_1_3 fS, cp_1_3 fS, cg_1_4 fS, cp_1_4 fS, ct_2 fS, cg_2_0 fS, cp_2_0 fS, cg_2_1 fS, cp_2_1 fS, cg_2_2 fS, cp_2_2 fS, cg_2_3 fS, cp_2_3 fS, cg_2_4 fS, cp_2_4 fS, cg_2_5 fS, cp_2_5 fS, cg_2_6 fS, cp_2_6 fS, cg_2_7 fS, cp_2_7 fS, cg_2_8 fS, cp_2_8 fS, cg_2_9 fS, cp_2_9 fS, cg_2_10 fS, cp_2_10 fS, cg_2_11 fS, cp_2_11 fS, cg_2_12 fS, cp_2_12 fS, cg_2_13 fS, cp_2_13 fS, cg_2_14 fS, cp_2_14 fS, ct_3 fS, cg_3_0 fS, cp_3_0 fS, cg_3_1 fS, cp_3_1 fS, cg_3_2 fS, cp_3_2 fS, cg_3_3 fS, cp_3_3 fS, cg_3_4 fS, cp_3_4 fS, ct_4 fS, cg_4_0 fS, cp_4_0 fS, cg_4_1 fS, cp_4_1 fS, cg_4_2 fS, cp_4_2 fS, cg_4_3 fS, cp_4_3 fS, cg_4_4 fS, cp_4_4 fS, cg_4_5 fS, cp_4_5 fS, cg_4_6 fS, cp_4_6 fS, cg_4_7 fS, cp_4_7 fS, cg_4_8 fS, cp_4_8 fS, cg_4_9 fS, cp_4_9 fS, cg_4_10 fS, cp_4_10 fS, cg_4_11 fS, cp_4_11 fS, cg_4_12 fS, cp_4_12 fS, cl_t1 fS, cl_r1 fS, cl_g1 fS, cl_s1 fS, cl_t2 fS, cl_r2 fS, cl_g2 fS, cl_s2 fS, cl_t3 fS, cl_r3 fS, cl_g3 fS, cl_s3 fS, cl_t4 fS, cl_r4 fS, cl_g4 fS, cl_s4 fS, cl_p fS, cl_R fS, cl_8n fS, true_and, and_true, forall_const, Option.some.injEq, exists_eq_left', forall_eq, true_implies, cl_0, cl_1, cl_2, cl_3, cl_4, cl_5, cl_6, cl_7, cl_8, cl_9, cl_10, cl_11, cl_12, cl_13, cl_14, cl_15, cl_16, vi_0_3, vi_1_3, vi_2_3]
      refine ⟨fun _ => ?_, fun z => absurd ((pn_le (by omega) (by omega)).mpr (Nat.le_refl _)) z⟩
      rw [fm]
      exact hQ X a d hX
    | succ dd ih =>
      intro c hc X a d hX
      obtain ⟨fm, fS⟩ := form X hX.1
      have hc4 : c < n 4 := by omega
      have ihX := ih (c + 1) (by omega) X a d
      have hins := ins c hc4 (u_row σ c).2 (u_row σ c).1 (u_row_lt c).1 (u_row_lt c).2 (wp_X1_waiting_b10 g Q (dd + 1)) a d X hX
      have hsz := hX.2.2.2.2.1
      rw [← fm, wp_X1_waiting_b10]
      simp (decide := true) only [hc4, cM_tg, cM_gr, cM_ln, cM_le, c_rn, c_rs, ct_0 fS, cg_0_6 fS, cp_0_6 fS, cg_0_7 fS, cp_0_7 fS, ct_8 fS, cg_8_0 fS, cp_8_0 fS, cg_8_1 fS, cp_8_1 fS, cg_8_2 fS, cp_8_2 fS, ct_1 fS, cg_1_0 fS, cp_1_0 fS, cg_1_1 fS, cp_1_1 fS, cg_1_2 fS, cp_1_2 fS, cg_1_3 fS, cp_1_3 fS, cg_1_4 fS, cp_1_4 fS, ct_2 fS, cg_2_0 fS, cp_2_0 fS, cg_2_1 fS, cp_2_1 fS, cg_2_2 fS, cp_2_2 fS, cg_2_3 fS, cp_2_3 fS, cg_2_4 fS, cp_2_4 fS, cg_2_5 fS, cp_2_5 fS, cg_2_6 fS, cp_2_6 fS, cg_2_7 fS, cp_2_7 fS, cg_2_8 fS, cp_2_8 fS, cg_2_9 fS, cp_2_9 fS, cg_2_10 fS, cp_2_10 fS, cg_2_11 fS, cp_2_11 fS, cg_2_12 fS, cp_2_12 fS, cg_2_13 fS, cp_2_13 fS, cg_2_14 fS, cp_2_14 fS, ct_3 fS, cg_3_0 fS, cp_3_0 fS, cg_3_1 fS, cp_3_1 fS, cg_3_2 fS, cp_3_2 fS, cg_3_3 fS, cp_3_3 fS, cg_3_4 fS, cp_3_4 fS, ct_4 fS, cg_4_0 fS, cp_4_0 fS, cg_4_1 fS, cp_4_1 fS, cg_4_2 fS, cp_4_2 fS, cg_4_3 fS, cp_4_3 fS, cg_4_4 fS, cp_4_4 fS, cg_4_5 fS, cp_4_5 fS, cg_4_6 fS, cp_4_6 fS, cg_4_7 fS, cp_4_7 fS, cg_4_8 fS, cp_4_8 fS, cg_4_9 fS, cp_4_9 fS, cg_4_10 fS, cp_4_10 fS, cg_4_11 fS, cp_4_11 fS, cg_4_12 fS, cp_4_12 fS, cl_t1 fS, cl_r1 fS, cl_g1 fS, cl_s1 fS, cl_t2 fS, cl_r2 fS, cl_g2 fS, cl_s2 fS, cl_t3 fS, cl_r3 fS, cl_g3 fS, cl_s3 fS, cl_t4 fS, cl_r4 fS, cl_g4 fS, cl_s4 fS, cl_p fS, cl_R fS, cl_8n fS, true_and, and_true, forall_const, Option.some.injEq, exists_eq_left', forall_eq, true_implies, cl_0, cl_1, cl_2, cl_3, cl_4, cl_5, cl_6, cl_7, cl_8, cl_9, cl_10, cl_11, cl_12, cl_13, cl_14, cl_15, cl_16, vi_0_3, vi_1_3, vi_2_3]
      refine ⟨fun z => ?_, fun _ => ?_⟩
      · have := (pn_le (by omega) (by omega)).mp z
        omega
      · refine c8_isWaiting fS hc4 (fun _ => ?_)
        rw [fm]
        cases hw : u_waits σ c with
        | false =>
          refine ⟨fun z => absurd rfl z, fun _ => ?_⟩
          rw [pn_succ]
          refine ihX ?_
          unfold u_row
          rw [hw, if_neg (by decide)]
          exact hX
        | true =>
          refine ⟨fun _ => ⟨hsz.1, c_L_size hsz (fun _ => ⟨(u_row σ c).1 + 1, ?_⟩)⟩, fun z => absurd z (by decide)⟩
          refine hins (fun X' d' hX' => ih (c + 1) (by omega) X' a d' ?_) (u_row σ c).1 (Nat.le_refl _) rfl
          unfold u_row
          rw [hw, if_pos rfl]
          exact hX'
  refine ⟨⟨by have : m_nc (c_cM M o r σ) = m_nc M := rfl; omega, by have : m_ns (c_cM M o r σ) = m_ns M := rfl; omega⟩, fun u2 hu M4 h4 => ?_⟩
  have t4 : m_tg M4 u2 = 14 := by rw [h4, m_tg_al, if_pos rfl]
  refine q_init t4 (by rw [h4, m_gi_al, if_pos rfl]) (fun hg1 M' hM' hL hfr _ => ⟨n 4 + 1, H (n 4) 0 (by omega) M' u2 (g 1) ?_⟩)
  have hnw4 : c_nw (c_cM M o r σ) M4 := by
    rw [h4]
    refine ⟨m_le_al hu, fun b hb => ?_⟩
    unfold m_al
    dsimp only
    rw [if_neg (fun z => hb (by rw [z]; exact hu))]
  refine ⟨c_nw_fr hnw4 hfr hu hu, c_g1_le hg1 hfr.1, hu, Or.inr rfl, c_L_cg hL (fun k hk => absurd hk (Nat.not_lt_zero _)), ?_, ?_, ?_⟩
  · rw [(c_g1_le hg1 hfr.1).2]
    rfl
  · have := hfr.2.2.1
    rw [h4] at this
    exact this
  · have := hfr.2.2.2
    rw [h4] at this
    exact this
end
