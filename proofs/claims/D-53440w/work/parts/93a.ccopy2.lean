/-! PURE: a State is copied: loops -/
set_option maxRecDepth 100000
section
variable {g : Nat → Nat} {M : Mem} {o : Nat → Nat × Nat × Nat} {r : Nat} {E : Nat → Nat → Nat} {n : Nat → Nat} {R : Nat} {σ : Cn}
theorem u_gl (hM : c_cM M o r σ = M) (h : c_St g M o r E n R) {s k : Nat} {Q : Option Nat → Mem → Prop} (h1 : 1 ≤ s) (h2 : s ≤ 4) (hk : k < n s) : wp_J2_get g M (E 6 s) (nI k) Q = Q (some (E s k)) M := by
  have := St_gl (σ := σ) (Q := Q) h h1 h2 hk
  rw [hM] at this
  exact this
theorem u_sz (hM : c_cM M o r σ = M) (h : c_St g M o r E n R) {s : Nat} {Q : Int32 → Mem → Prop} (h1 : 1 ≤ s) (h2 : s ≤ 4) : wp_J2_size g M (E 6 s) Q = Q (nI (n s)) M := by
  have := St_sz (σ := σ) (Q := Q) h h1 h2
  rw [hM] at this
  exact this
theorem u_gi (hM : c_cM M o r σ = M) {a j s k : Nat} {x : Nat × Nat} (ho : o a = (r, s, k)) (hj : c_mp s j = some x) : m_gi M a j = σ x.1 k x.2 := by
  have := cM_gi (M := M) (σ := σ) ho hj
  rw [hM] at this
  exact this
theorem u_lr (h : c_St g M o r E n R) {s : Nat} (h1 : 1 ≤ s) (h2 : s ≤ 4) : m_gr M (E 0 0) (s - 1) = some (E 6 s) := by
  have : s = 1 ∨ s = 2 ∨ s = 3 ∨ s = 4 := by omega
  rcases this with z | z | z | z <;> subst z
  · exact cl_r1 h
  · exact cl_r2 h
  · exact cl_r3 h
  · exact cl_r4 h
/-- later memories hold it too -/
theorem u_keep {X : Mem} (hM : c_cM M o r σ = M) (h : c_St g M o r E n R) (hr0 : r ≠ 0) (hLb : c_Lb M o) (hX : c_nw M X) : c_cM X o r σ = X ∧ c_St g X o r E n R := by
  have hs : ∀ b : Nat, (o b).1 = r → X.1 b = M.1 b := fun b hb => hX.2 b (hLb b (by rw [hb]; exact hr0))
  refine ⟨c_cM_eq (fun b hb => by rw [hs b hb, hM]), c_St_same h (fun b hb => ⟨hs b ?_, rfl⟩)⟩
  rcases hb with hb | hb <;> exact hb
end
/-- the loops' form -/
def c_cpS (g : Nat → Nat) (i T : Nat) (COPY : Mem → Nat → (Option Nat → Mem → Prop) → Prop) (EXIT : Mem → Prop) (REST : Mem → Int32 → Prop) (M : Mem) (la0 la1 : Nat) (lx2 : Int32) : Prop := m_tg M la0 = 2 ∧ ∃ u2 : Nat, (m_gr M la0 i) = some u2 ∧ m_tg M u2 = 14 ∧ wp_J2_size g M u2 (fun (r7 : Int32) (M5 : Mem) => m_le M M5 → ((r7 ≤ lx2 → EXIT M5) ∧ (¬ r7 ≤ lx2 → m_tg M5 la1 = 2 ∧ ∃ u12 : Nat, (m_gr M5 la1 i) = some u12 ∧ ∃ u14 : Nat, (m_gr M5 la0 i) = some u14 ∧ m_tg M5 u14 = 14 ∧ wp_J2_get g M5 u14 lx2 (fun (r19 : Option Nat) (M17 : Mem) => m_le M5 M17 → ∃ u24 : Nat, r19 = some u24 ∧ m_tg M17 u24 = T ∧ COPY M17 u24 (fun (r29 : Option Nat) (M27 : Mem) => m_le M17 M27 → m_tg M27 u12 = 14 ∧ wp_J2_add g M27 u12 r29 (fun (r38 : Int32) (M36 : Mem) => m_le M27 M36 → REST M36 (lx2 + 1)))))))
section
variable {g : Nat → Nat} {M : Mem} {o : Nat → Nat × Nat × Nat} {r : Nat} {E0 : Nat → Nat → Nat} {n : Nat → Nat} {R : Nat} {σ : Cn}
def c_cnts (n cnt cnt0 : Nat → Nat) (s : Nat) : Prop := (∀ t : Nat, 1 ≤ t → t ≤ 4 → cnt t ≤ n t) ∧ ∀ t : Nat, t ≠ s → cnt t = cnt0 t
theorem c_cp_loop {s S P : Nat} {L cnt0 : Nat → Nat} {COPY : Mem → Nat → (Option Nat → Mem → Prop) → Prop} {EXIT : Mem → Prop} {B : Nat → Mem → Int32 → Prop} (hobj : ∀ (M : Mem) (y : Nat), q_obj (m_tg M y) → m_asg M y "java/lang/Object") (hM : c_cM M o r σ = M) (hS : c_St g M o r E0 n R) (hr0 : r ≠ 0) (hLb : c_Lb M o) (hs1 : 1 ≤ s) (hs4 : s ≤ 4) (hn : n 1 ≤ 20 ∧ n 2 ≤ 6 ∧ n 3 ≤ 5 ∧ n 4 ≤ 40) (hroom : m_nc M + 160 ≤ m_CM ∧ m_ns M + 8000 ≤ m_SM)
    (hcopy : ∀ (X : Mem) (k : Nat) (Q : Option Nat → Mem → Prop), c_cM X o r σ = X → c_St g X o r E0 n R → k < n s → m_fits X (c_nf s) → (∀ (u : Nat) (M' : Mem), c_cpd X M' (E0 s k) u s → Q (some u) M') → COPY X (E0 s k) Q)
    (hB : ∀ (m : Nat) (X : Mem) (x : Int32), c_cpS g (s - 1) (c_tgs s) COPY EXIT (B m) X (E0 0 0) S x → B (m + 1) X x)
    (hexit : ∀ (X : Mem) (d cnt : Nat → Nat) (E : Nat → Nat → Nat), c_CP g M X S P L d cnt E (fun s k j => m_gi M (E0 s k) j) → c_cnts n cnt cnt0 s → cnt s = n s → EXIT X) :
    ∀ (m : Nat) (X : Mem) (d cnt : Nat → Nat) (E : Nat → Nat → Nat), c_CP g M X S P L d cnt E (fun s k j => m_gi M (E0 s k) j) → c_cnts n cnt cnt0 s → cnt s + m = n s → B (m + 1) X (nI (cnt s)) := by
  have hns : n s ≤ 40 := by
    have : s = 1 ∨ s = 2 ∨ s = 3 ∨ s = 4 := by omega
    rcases this with z | z | z | z <;> subst z <;> omega
  intro m
  induction m with
  | zero =>
    intro X d cnt E hC hc hm
    obtain ⟨k1, k2⟩ := u_keep hM hS hr0 hLb hC.1
    refine hB 0 X _ ⟨ct_0 k2, E0 6 s, u_lr k2 hs1 hs4, St_t k2 (d_6 hs1 hs4), ?_⟩
    rw [u_sz k1 k2 hs1 hs4]
    refine fun _ => ⟨fun _ => hexit X d cnt E hC hc (by omega), fun z => absurd ?_ z⟩
    rw [pn_le (by omega) (by omega)]
    omega
  | succ m ih =>
    intro X d cnt E hC hc hm
    obtain ⟨k1, k2⟩ := u_keep hM hS hr0 hLb hC.1
    refine hB (m + 1) X _ ⟨ct_0 k2, E0 6 s, u_lr k2 hs1 hs4, St_t k2 (d_6 hs1 hs4), ?_⟩
    rw [u_sz k1 k2 hs1 hs4]
    have hlt : cnt s < n s := by omega
    obtain ⟨h1, h2, h3, h4, h5, h6, h7, h8, h9, h10⟩ := id hC
    have hLr : m_gr X S (s - 1) = some (L s) := by
      have : s = 1 ∨ s = 2 ∨ s = 3 ∨ s = 4 := by omega
      rcases this with z | z | z | z <;> subst z
      · exact h5.1
      · exact h5.2.1
      · exact h5.2.2.1
      · exact h5.2.2.2.1
    have hcs : cnt 1 + cnt 2 + cnt 3 + cnt 4 ≤ 70 := by
      have a1 := hc.1 1 (by omega) (by omega)
      have a2 := hc.1 2 (by omega) (by omega)
      have a3 := hc.1 3 (by omega) (by omega)
      have a4 := hc.1 4 (by omega) (by omega)
      have : s = 1 ∨ s = 2 ∨ s = 3 ∨ s = 4 := by omega
      rcases this with z | z | z | z <;> subst z <;> omega
    have hnf : c_nf s ≤ 15 := by
      have : s = 1 ∨ s = 2 ∨ s = 3 ∨ s = 4 := by omega
      rcases this with h | h | h | h <;> subst h <;> decide
    refine fun _ => ⟨fun z => absurd ((pn_le (by omega) (by omega)).mp z) (by omega), fun _ => ⟨h3.1, L s, hLr, E0 6 s, u_lr k2 hs1 hs4, St_t k2 (d_6 hs1 hs4), ?_⟩⟩
    rw [u_gl k1 k2 hs1 hs4 hlt]
    refine fun _ => ⟨E0 s (cnt s), rfl, St_t k2 (d_k hs1 hs4 hlt), hcopy X (cnt s) _ k1 k2 hlt ⟨by omega, by omega⟩ (fun u X1 hu _ => ?_)⟩
    obtain ⟨c1, c2, c3, c4, c5, c6⟩ := id hu
    have old : ∀ b : Nat, m_tg X b ≠ 0 → X1.1 b = X.1 b := fun b hb => c4 b (fun z => hb (by rw [z]; exact c1))
    obtain ⟨w1, w2, w3⟩ := h6 s hs1 hs4
    have oL := old (L s) (by rw [w2.1]; decide)
    have od := old (d s) (by rcases c_L_tag w2 h2 with z | z <;> rw [z] <;> decide)
    have og := old (g 1) (by rw [h2.1]; decide)
    refine ⟨(c_cell_tg oL).trans w2.1, ?_⟩
    have el : ∀ b t : Nat, 1 ≤ t → t ≤ 4 → m_tg X1 b = c_tgs t → q_obj (m_tg X1 b) := fun b t q1 q2 q3 => by
      rw [q3, c_tgs_el q1 q2]
      unfold q_obj
      omega
    refine q_add hobj ⟨(c_cell_tg og).trans h2.1, (c_cell_ln og).trans h2.2⟩ (c_L_same w2 oL od) (by omega) ⟨by omega, by omega⟩ (fun k hk y hy => ?_) (fun y hy => ?_) (fun X2 d' kc hkc hL2 hf _ => ?_)
    · cases hy
      have := (h8 s k hs1 hs4 hk).1
      refine el _ s hs1 hs4 ((c_cell_tg (old _ ?_)).trans this)
      rw [this, c_tgs_el hs1 hs4]
      omega
    · cases hy
      exact el _ s hs1 hs4 c2
    · rw [pn_succ]
      have hd : (d' = d s ∧ m_tg X1 (d s) = 103) ∨ m_tg X1 d' = 0 := by
        rcases hkc with ⟨_, e1, e2, _⟩ | ⟨_, e1, _⟩
        · exact Or.inl ⟨e1, e2⟩
        · exact Or.inr e1
      have hk1 : kc ≤ 1 := by rcases hkc with ⟨e, _⟩ | ⟨e, _⟩ <;> omega
      have hC2 := c_CP_step hC hs1 hs4 (by omega) hu (fun j hj => ?_) hL2 hd hk1 hf
      · have := ih X2 _ _ _ hC2 ⟨fun t q1 q2 => ?_, fun t q1 => ?_⟩ (by rw [u_at_eq]; omega)
        · rw [u_at_eq] at this
          exact this
        · by_cases e : t = s
          · subst e
            rw [u_at_eq]
            omega
          · rw [u_at_ne e]
            exact hc.1 t q1 q2
        · rw [u_at_ne q1]
          exact hc.2 t q1
      · have hz : m_tg M (E0 s (cnt s)) ≠ 0 := by
          rw [St_t hS (d_k hs1 hs4 hlt), c_tgs_el hs1 hs4]
          omega
        exact c_cell_gi (hC.1.2 _ hz)
end
