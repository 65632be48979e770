/-! PURE: a State is copied, whole -/
set_option maxRecDepth 100000
/-- what a copy of a State leaves behind: in region q -/
def c_CO (g : Nat → Nat) (M : Mem) (o : Nat → Nat × Nat × Nat) (q : Nat) (n : Nat → Nat) (R : Nat) (σ : Cn) (X : Mem) (o' : Nat → Nat × Nat × Nat) (E' : Nat → Nat → Nat) : Prop := c_St g X o' q E' n R ∧ c_cM X o' q σ = X ∧ c_nw M X ∧ (∀ b : Nat, m_tg M b ≠ 0 → o' b = o b) ∧ (∀ b : Nat, m_tg M b = 0 → (o' b).1 = 0 ∨ (o' b).1 = q) ∧ c_Lb X o' ∧ c_g1 g X ∧ m_nc X ≤ m_nc M + 150 ∧ m_ns X ≤ m_ns M + 7900
section
variable {g : Nat → Nat} {M : Mem} {o : Nat → Nat × Nat × Nat} {r q : Nat} {E0 : Nat → Nat → Nat} {n : Nat → Nat} {R : Nat} {σ : Cn}
theorem c1_copy {Q : Option Nat → Mem → Prop} (hobj : ∀ (M : Mem) (y : Nat), q_obj (m_tg M y) → m_asg M y "java/lang/Object") (hM : c_cM M o r σ = M) (hS : c_St g M o r E0 n R) (hr0 : r ≠ 0) (hLb : c_Lb M o) (hn : n 1 ≤ 20 ∧ n 2 ≤ 6 ∧ n 3 ≤ 5 ∧ n 4 ≤ 40) (hb2 : ∀ k : Nat, k < n 2 → σ 2 k 2 = 0 ∨ σ 2 k 2 = 1) (hb4 : ∀ k : Nat, k < n 4 → σ 4 k 10 = 0 ∨ σ 4 k 10 = 1) (hfree : ∀ b : Nat, (o b).1 ≠ q) (hroom : m_nc M + 160 ≤ m_CM ∧ m_ns M + 8000 ≤ m_SM)
    (hQ : ∀ (X : Mem) (o' : Nat → Nat × Nat × Nat) (E' : Nat → Nat → Nat), c_CO g M o q n R σ X o' E' → Q (some (E' 0 0)) X) : wp_X1_copy g M (E0 0 0) Q := by
  refine ⟨⟨by omega, by omega⟩, fun S hSz M4 e4 => ?_⟩
  have nw4 : c_nw M M4 := ⟨fun b hb => by
    have hne : b ≠ S := fun z => hb (by rw [z]; exact hSz)
    have e : M4.1 b = M.1 b := by rw [e4, u_al_ne hne]
    exact ⟨c_cell_tg e, c_cell_ln e⟩, fun b hb => by rw [e4, u_al_ne (fun z => hb (by rw [z]; exact hSz))]⟩
  refine c1_init (Xa := M) (E := fun _ _ => 0) (V := fun s k j => m_gi M (E0 s k) j) nw4 (by rw [e4, m_tg_al, if_pos rfl]) hSz ⟨by rw [e4, m_nc_al]; omega, by rw [e4, m_ns_al]; omega⟩ hroom (fun X0 P L hC0 _ _ _ _ => ?_)
  -- the four loops
  have fin : ∀ (X : Mem) (d cnt : Nat → Nat) (E : Nat → Nat → Nat), c_CP g M X S P L d cnt E (fun s k j => m_gi M (E0 s k) j) → cnt 1 = n 1 → cnt 2 = n 2 → cnt 3 = n 3 → cnt 4 = n 4 → ∃ u11 : Nat, (m_gr X (E0 0 0) 4) = some u11 ∧ m_tg X S = 2 ∧ ∃ u14 : Nat, (m_gr X S 4) = some u14 ∧ m_tg X u11 = 101 ∧ m_tg X u14 = 101 ∧ m_cpin X u11 u14 0 0 3 ∧ ∀ M19 : Mem, M19 = (m_ci X u11 (Int32.toNatClampNeg 0) u14 (Int32.toNatClampNeg 0) (Int32.toNatClampNeg 3)) → ∃ u27 : Nat, (m_gr M19 (E0 0 0) 5) = some u27 ∧ ∀ M29 : Mem, M29 = (m_pr M19 S 5 (some u27)) → ∀ M37 : Mem, M37 = (m_pi M29 S 6 (m_gi M29 (E0 0 0) 6)) → ∀ M45 : Mem, M45 = (m_pi M37 S 7 (m_gi M37 (E0 0 0) 7)) → Q (some S) M45 := by
    intro X d cnt E hC c1 c2 c3 c4
    obtain ⟨k1, k2⟩ := u_keep hM hS hr0 hLb hC.1
    obtain ⟨h1, h2, h3, h4, h5, h6, h7, h8, h9, h10⟩ := id hC
    have nS : E0 0 0 ≠ S := fun z => by have := ct_0 hS; rw [z, hSz] at this; cases this
    have n8 : E0 8 0 ≠ P := fun z => by have := ct_8 hS; rw [z, h4.2.1] at this; cases this
    have nSP : S ≠ P := fun z => by have := h3.1; rw [z, h4.1] at this; cases this
    have n0P : E0 0 0 ≠ P := fun z => by have := ct_0 k2; rw [z, h4.1] at this; cases this
    refine ⟨E0 8 0, cl_p k2, h3.1, P, h5.2.2.2.2, ct_8 k2, h4.1, ?_, fun M19 e19 => ⟨R, ?_, fun M29 e29 M37 e37 M45 e45 => ?_⟩⟩
    · unfold m_cpin
      rw [cl_8n k2, h4.2.2]
      decide
    · rw [e19, m_gr_ci]
      exact cl_R k2
    · have cells : ∀ b : Nat, b ≠ S → b ≠ P → M45.1 b = X.1 b := fun b q1 q2 => by
        rw [e45, u_pi_ne q1, e37, u_pi_ne q1, e29, u_pr_ne q1, e19]
        exact if_neg q2
      have g37 : ∀ j : Nat, m_gi M37 (E0 0 0) j = m_gi X (E0 0 0) j := fun j => by rw [e37, m_gi_pi, if_neg (fun z => nS z.1), e29, m_gi_pr, e19, m_gi_ci, if_neg (fun z => n0P z.1)]
      have g29 : ∀ j : Nat, m_gi M29 (E0 0 0) j = m_gi X (E0 0 0) j := fun j => by rw [e29, m_gi_pr, e19, m_gi_ci, if_neg (fun z => n0P z.1)]
      have hC' : c_CP g M M45 S P L d cnt E (fun s k j => m_gi M (E0 s k) j) := by
        refine c_CP_SP hC cells ?_ ?_ ?_ ?_ (fun j hj => ?_) ⟨?_, ?_⟩
        · rw [e45, m_tg_pi, e37, m_tg_pi, e29, m_tg_pr, e19, m_tg_ci]; exact h3.1
        · rw [e45, m_tg_pi, e37, m_tg_pi, e29, m_tg_pr, e19, m_tg_ci]; exact h4.1
        · rw [e45, m_ln_pi, e37, m_ln_pi, e29, m_ln_pr, e19, m_ln_ci]
        · rw [e45, m_ln_pi, e37, m_ln_pi, e29, m_ln_pr, e19, m_ln_ci]; exact h4.2.2
        · rw [e45, m_gr_pi, e37, m_gr_pi, e29, m_gr_pr, if_neg (by omega), e19, m_gr_ci]
        · rw [e45, e37, e29, e19]; rfl
        · rw [e45, e37, e29, e19]; rfl
      have gP : ∀ k : Nat, k < 3 → m_gi M45 P k = m_gi X (E0 8 0) k := fun k hk => by
        rw [e45, m_gi_pi, if_neg (fun z => nSP z.1.symm), e37, m_gi_pi, if_neg (fun z => nSP z.1.symm), e29, m_gi_pr, e19, m_gi_ci, if_pos ⟨rfl, Nat.zero_le _, by show k < 0 + 3; omega⟩]
        show m_gi X (E0 8 0) (0 + (k - 0)) = _
        rw [Nat.zero_add]
        rfl
      have hcn : ∀ s : Nat, 1 ≤ s → s ≤ 4 → cnt s = n s := fun s q1 q2 => by
        have : s = 1 ∨ s = 2 ∨ s = 3 ∨ s = 4 := by omega
        rcases this with z | z | z | z <;> subst z <;> assumption
      have gR : m_gr M45 S 5 = some R := by rw [e45, m_gr_pi, e37, m_gr_pi, e29, m_gr_pr, if_pos ⟨rfl, rfl⟩]
      have g6 : m_gi M45 S 6 = σ 0 0 1 := by
        rw [e45, m_gi_pi, if_neg (by omega), e37, m_gi_pi, if_pos ⟨rfl, rfl⟩, g29]
        exact u_gi k1 (St_o k2 d_0) (x := (0, 1)) rfl
      have g7 : m_gi M45 S 7 = σ 0 0 0 := by
        rw [e45, m_gi_pi, if_pos ⟨rfl, rfl⟩, g37]
        exact u_gi k1 (St_o k2 d_0) (x := (0, 0)) rfl
      have gP0 : m_gi M45 P 0 = σ 0 0 2 := by
        rw [gP 0 (by omega)]
        exact u_gi k1 (St_o k2 d_8) (x := (0, 2)) rfl
      have gP1 : m_gi M45 P 1 = σ 0 0 3 := by
        rw [gP 1 (by omega)]
        exact u_gi k1 (St_o k2 d_8) (x := (0, 3)) rfl
      have gP2 : m_gi M45 P 2 = σ 0 0 4 := by
        rw [gP 2 (by omega)]
        exact u_gi k1 (St_o k2 d_8) (x := (0, 4)) rfl
      obtain ⟨y1, y2, y3, y4, y5⟩ := c_labS_ok (o := o) (r := q) (σ := σ) (R := R) hC' (fun s q1 q2 => by rw [hcn s q1 q2]; exact (hS.2.2.1 s q1 q2).1) hfree hLb gR (fun s k j q1 q2 hk x hx => u_gi hM (St_o hS (d_k q1 q2 (by rw [← hcn s q1 q2]; exact hk))) hx) g6 g7 ⟨gP0, gP1, gP2⟩
      · have ecn : c_St g M45 (c_labS g o q S P L d cnt E) q (c_newE S P L E) n R := by
          obtain ⟨z1, z2, z3, z4⟩ := y1
          have hdm : ∀ s k : Nat, c_dom n s k ↔ c_dom cnt s k := fun s k => by
            unfold c_dom
            constructor
            · rintro (h | h | ⟨a, b, c⟩ | h)
              · exact Or.inl h
              · exact Or.inr (Or.inl h)
              · exact Or.inr (Or.inr (Or.inl ⟨a, b, by rw [hcn s a b]; exact c⟩))
              · exact Or.inr (Or.inr (Or.inr h))
            · rintro (h | h | ⟨a, b, c⟩ | h)
              · exact Or.inl h
              · exact Or.inr (Or.inl h)
              · exact Or.inr (Or.inr (Or.inl ⟨a, b, by rw [← hcn s a b]; exact c⟩))
              · exact Or.inr (Or.inr (Or.inr h))
          exact ⟨fun s k hd => z1 s k ((hdm s k).mp hd), z2, fun s q1 q2 => by rw [← hcn s q1 q2]; exact z3 s q1 q2, fun b s k hb hs => ⟨(z4 b s k hb hs).1, (hdm s k).mpr (z4 b s k hb hs).2⟩⟩
        have h9' := hC'.2.2.2.2.2.2.2.2.1
        have h10' := hC'.2.2.2.2.2.2.2.2.2
        exact hQ M45 _ (c_newE S P L E) ⟨ecn, y2, hC'.1, y3, y4, y5, hC'.2.1, by omega, by omega⟩
  have one : ∀ cnt : Nat → Nat, cnt 1 ≤ n 1 → cnt 2 ≤ n 2 → cnt 3 ≤ n 3 → cnt 4 ≤ n 4 → ∀ t : Nat, 1 ≤ t → t ≤ 4 → cnt t ≤ n t := fun cnt a b c d t q1 q2 => by
    have : t = 1 ∨ t = 2 ∨ t = 3 ∨ t = 4 := by omega
    rcases this with z | z | z | z <;> subst z <;> assumption
  have l1 := c_cp_loop (s := 1) (S := S) (P := P) (L := L) (cnt0 := fun _ => 0) (COPY := fun X a Q => wp_X5_copy g X a Q) (EXIT := fun X => ∃ j57 : Nat, wp_X1_copy_b57 g Q j57 X (E0 0 0) S 0) (B := fun m X x => wp_X1_copy_b10 g Q m X (E0 0 0) S x) hobj hM hS hr0 hLb (by omega) (by omega) hn hroom
    (fun X k Q' q1 q2 hk hf hq => q_copy1 (ct_1 q2 hk) hf hq) (fun m X x h => h) (fun X d cnt E hC hc hcn => ?_) (n 1) X0 _ _ _ hC0 ⟨one _ (Nat.zero_le _) (Nat.zero_le _) (Nat.zero_le _) (Nat.zero_le _), fun _ _ => rfl⟩ (by omega)
  · exact ⟨_, l1⟩
  · have l2 := c_cp_loop (s := 2) (S := S) (P := P) (L := L) (cnt0 := cnt) (COPY := fun X a Q => wp_X6_copy g X a Q) (EXIT := fun X => ∃ j104 : Nat, wp_X1_copy_b104 g Q j104 X (E0 0 0) S 0) (B := fun m X x => wp_X1_copy_b57 g Q m X (E0 0 0) S x) hobj hM hS hr0 hLb (by omega) (by omega) hn hroom
      (fun X k Q' q1 q2 hk hf hq => q_copy2 (ct_2 q2 hk) hf (by rw [u_gi q1 (St_o q2 (d_k (s := 2) (by omega) (by omega) hk)) (x := (2, 2)) rfl]; exact hb2 k hk) hq) (fun m X x h => h) (fun X2 d2 cnt2 E2 hC2 hc2 hcn2 => ?_) (n 2) X _ _ _ hC ⟨hc.1, fun _ _ => rfl⟩ (by have z : cnt 2 = 0 := hc.2 2 (by omega); omega)
    · have e := hc.2 2 (by omega)
      rw [e] at l2
      exact ⟨_, l2⟩
    · have l3 := c_cp_loop (s := 3) (S := S) (P := P) (L := L) (cnt0 := cnt2) (COPY := fun X a Q => wp_X7_copy g X a Q) (EXIT := fun X => ∃ j151 : Nat, wp_X1_copy_b151 g Q j151 X (E0 0 0) S 0) (B := fun m X x => wp_X1_copy_b104 g Q m X (E0 0 0) S x) hobj hM hS hr0 hLb (by omega) (by omega) hn hroom
        (fun X k Q' q1 q2 hk hf hq => q_copy3 (ct_3 q2 hk) hf hq) (fun m X x h => h) (fun X3 d3 cnt3 E3 hC3 hc3 hcn3 => ?_) (n 3) X2 _ _ _ hC2 ⟨hc2.1, fun _ _ => rfl⟩ (by have z : cnt 3 = 0 := hc.2 3 (by omega); have := hc2.2 3 (by omega); omega)
      · have e := hc.2 3 (by omega)
        have e2 := hc2.2 3 (by omega)
        rw [e2, e] at l3
        exact ⟨_, l3⟩
      · have l4 := c_cp_loop (s := 4) (S := S) (P := P) (L := L) (cnt0 := cnt3) (COPY := fun X a Q => wp_X8_copy g X a Q) (EXIT := fun X => ∃ u11 : Nat, (m_gr X (E0 0 0) 4) = some u11 ∧ m_tg X S = 2 ∧ ∃ u14 : Nat, (m_gr X S 4) = some u14 ∧ m_tg X u11 = 101 ∧ m_tg X u14 = 101 ∧ m_cpin X u11 u14 0 0 3 ∧ ∀ M19 : Mem, M19 = (m_ci X u11 (Int32.toNatClampNeg 0) u14 (Int32.toNatClampNeg 0) (Int32.toNatClampNeg 3)) → ∃ u27 : Nat, (m_gr M19 (E0 0 0) 5) = some u27 ∧ ∀ M29 : Mem, M29 = (m_pr M19 S 5 (some u27)) → ∀ M37 : Mem, M37 = (m_pi M29 S 6 (m_gi M29 (E0 0 0) 6)) → ∀ M45 : Mem, M45 = (m_pi M37 S 7 (m_gi M37 (E0 0 0) 7)) → Q (some S) M45) (B := fun m X x => wp_X1_copy_b151 g Q m X (E0 0 0) S x) hobj hM hS hr0 hLb (by omega) (by omega) hn hroom
          (fun X k Q' q1 q2 hk hf hq => q_copy4 (ct_4 q2 hk) hf (by rw [u_gi q1 (St_o q2 (d_k (s := 4) (by omega) (by omega) hk)) (x := (4, 10)) rfl]; exact hb4 k hk) hq) (fun m X x h => h) (fun X4 d4 cnt4 E4 hC4 hc4 hcn4 => ?_) (n 4) X3 _ _ _ hC3 ⟨hc3.1, fun _ _ => rfl⟩ (by have z : cnt 4 = 0 := hc.2 4 (by omega); have := hc2.2 4 (by omega); have := hc3.2 4 (by omega); omega)
        · have e := hc.2 4 (by omega)
          have e2 := hc2.2 4 (by omega)
          have e3 := hc3.2 4 (by omega)
          rw [e3, e2, e] at l4
          exact ⟨_, l4⟩
        · refine fin X4 d4 cnt4 E4 hC4 ?_ ?_ ?_ hcn4
          · rw [hc4.2 1 (by omega), hc3.2 1 (by omega), hc2.2 1 (by omega)]; exact hcn
          · rw [hc4.2 2 (by omega), hc3.2 2 (by omega)]; exact hcn2
          · rw [hc4.2 3 (by omega)]; exact hcn3
end
