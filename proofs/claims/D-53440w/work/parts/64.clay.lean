/-! PURE: the component lays a way -/
set_option maxRecDepth 100000
theorem u_un_set {f f' : Nat → Option Nat} {k w : Nat} (hf : f k = none) (h1 : f' k = some w) (h2 : ∀ j : Nat, j ≠ k → f' j = f j) : ∀ n : Nat, k < n → u_un f' n + 1 = u_un f n := by
  have h0 : ∀ n : Nat, n ≤ k → u_un f' n = u_un f n := by
    intro n
    induction n with
    | zero => intro _; rfl
    | succ n ih =>
      intro hn
      unfold u_un
      rw [ih (by omega), h2 n (by omega)]
  intro n
  induction n with
  | zero => intro h; omega
  | succ n ih =>
    intro hn
    unfold u_un
    by_cases e : n = k
    · subst e
      rw [h0 n (Nat.le_refl _), h1, hf]
      exact rfl
    · rw [h2 n e]
      have := ih (by omega)
      omega
theorem u_un_le {f : Nat → Option Nat} : ∀ n : Nat, u_un f n ≤ n := by
  intro n
  induction n with
  | zero => exact Nat.le_refl _
  | succ n ih =>
    unfold u_un
    split <;> omega
/-- labels: what is labelled is there -/
def c_Lb (M : Mem) (o : Nat → Nat × Nat × Nat) : Prop := ∀ b : Nat, (o b).1 ≠ 0 → m_tg M b ≠ 0
def c_lab (o : Nat → Nat × Nat × Nat) (a : Nat) (x : Nat × Nat × Nat) : Nat → Nat × Nat × Nat := fun b => if b = a then x else o b
/-- while a way is laid: i areas so far -/
def c_LW (g : Nat → Nat) (X0 X : Mem) (a d s h T i : Nat) (f : Nat → Nat) : Prop :=
  c_nw X0 X ∧ c_g1 g X ∧ m_tg X0 a = 0 ∧ m_tg X0 s = 0 ∧ m_tg X0 h = 0 ∧ m_tg X0 T = 0 ∧ (m_tg X0 d = 0 ∨ d = g 1) ∧ (∃ e : Nat → Option Nat, c_L g X a d i e ∧ ∀ k : Nat, k < i → ∃ x : Nat, e k = some x ∧ m_tg X x = 150 ∧ m_ub g x = nI (f k)) ∧ c_HS X s h T i f ∧ m_ln X d = (c_cap i).1 ∧ m_nc X ≤ m_nc X0 + 3 + (c_cap i).2.1 + 2 * i + (if i = 0 then 0 else 1) ∧ m_ns X ≤ m_ns X0 + 12 + (c_cap i).2.2 + 5 * i + (if i = 0 then 0 else 16)
section
variable {g : Nat → Nat} {M : Mem} {o : Nat → Nat × Nat × Nat} {rr R u : Nat} {D W : Nat → Nat → Nat}
theorem u_P_mono {a t L : Nat} (hs : ∀ i : Nat, i < L → u_it D W t a i ≠ t ∧ u_it D W t a i < 12 ∧ D (u_it D W t a i) (u_it D W t a (i + 1)) ≤ 60 ∧ u_it D W t a (i + 1) ≠ a ∧ u_it D W t a (i + 1) < 12 ∧ D (u_it D W t a i) (u_it D W t a (i + 1)) + W (u_it D W t a (i + 1)) t = W (u_it D W t a i) t ∧ 1 ≤ D (u_it D W t a i) (u_it D W t a (i + 1))) : ∀ (k i : Nat), i + k + 1 ≤ L → W (u_it D W t a (i + k + 1)) t < W (u_it D W t a i) t := by
  intro k
  induction k with
  | zero =>
    intro i hi
    have := (hs i (by omega)).2.2.2.2.2
    show W (u_it D W t a (i + 1)) t < _
    omega
  | succ k ih =>
    intro i hi
    have h1 := ih i (by omega)
    have h2 := (hs (i + k + 1) (by omega)).2.2.2.2.2
    show W (u_it D W t a (i + k + 1 + 1)) t < _
    omega
theorem c_HS_same {M M' : Mem} {s h T k : Nat} {f : Nat → Nat} (hS : c_HS M s h T k f) (hs : M'.1 s = M.1 s) (hh : M'.1 h = M.1 h) (hT : m_tg M T = 104 → M'.1 T = M.1 T) : c_HS M' s h T k f := by
  obtain ⟨h1, h2, h3, h4, h5⟩ := hS
  refine ⟨(c_cell_tg hs).trans h1, (c_cell_gr hs).trans h2, (c_cell_tg hh).trans h3, (c_cell_gi hh).trans h4, ?_⟩
  rcases h5 with ⟨k0, k1, k2⟩ | ⟨k1, k2, k3, k4, k5⟩
  · exact Or.inl ⟨k0, (c_cell_gr hh).trans k1, (c_cell_gi hh).trans k2⟩
  · exact Or.inr ⟨(c_cell_gr hh).trans k1, (c_cell_tg (hT k2)).trans k2, (c_cell_ln (hT k2)).trans k3, (c_cell_gi hh).trans k4, fun v hv hn => (c_cell_gr (hT k2)).trans (k5 v hv hn)⟩
theorem c_HS_fe {M : Mem} {s h T k : Nat} {f : Nat → Nat} (hS : c_HS M s h T (k + 1) (c_fe f k (f k))) : c_HS M s h T (k + 1) f := by
  have e : c_fe f k (f k) = f := by
    funext i
    unfold c_fe
    split
    · rename_i z
      rw [z]
    · rfl
  rw [e] at hS
  exact hS
theorem c_lay_step {i n : Nat} {t : Int32} {f : Nat → Nat} {Q : Option Nat → Mem → Prop} {X0 X : Mem} {la ls lh d T : Nat} (hobj : ∀ (M : Mem) (y : Nat), q_obj (m_tg M y) → m_asg M y "java/lang/Object") (hnode : ∀ (M : Mem) (y : Nat), m_tg M y = 18 → m_asg M y "java/util/HashMap$Node") (hi : i ≤ 11) (hf : f i < 12) (hnew : ∀ j : Nat, j < i → f j ≠ f i) (hroom : m_nc X0 + 60 ≤ m_CM ∧ m_ns X0 + 300 ≤ m_SM) (hX : c_LW g X0 X la d ls lh T i f)
    (hK : ∀ (X' : Mem) (d' T' : Nat), c_LW g X0 X' la d' ls lh T' (i + 1) f → ((¬ nI (f i) = t → m_tg X' R = 3 ∧ wp_X2_next g X' R (nI (f i)) t (fun (r35 : Int32) (M33 : Mem) => m_le X' M33 → wp_X2_lay_b35 g Q n M33 R t la ls r35)) ∧ (nI (f i) = t → wp_X2_lay_b35 g Q n X' R t la ls (-5)))) : wp_X2_lay_b35 g Q (n + 1) X R t la ls (nI (f i)) := by
  obtain ⟨x1, x2, x3, x4, x5, x6, x7, ⟨e, x8, x9⟩, x10, x11, x12, x13⟩ := hX
  have hcap := c_cap_le (n := i) (by omega)
  have hci : (if i = 0 then 0 else 1) ≤ 1 := by split <;> omega
  have hcj : (if i = 0 then 0 else 16) ≤ 16 := by split <;> omega
  have hck : (if i = 0 then 1 else 0) ≤ 1 := by split <;> omega
  have hcl : (if i = 0 then 16 else 0) ≤ 16 := by split <;> omega
  have cap5 : (c_cap i).2.1 ≤ 2 ∧ (c_cap i).2.2 ≤ 25 := by
    have H : ∀ k : Fin 12, (c_cap k.val).2.1 ≤ 2 ∧ (c_cap k.val).2.2 ≤ 25 := by decide +kernel
    exact H ⟨i, by omega⟩
  have hm5 : ¬ nI (f i) = -5 := by rw [u_og_ne (by omega)]; exact id
  refine ⟨fun z => absurd z hm5, fun _ => ⟨⟨by omega, by omega⟩, fun u3 hu M5 h5 => ?_⟩⟩
  have cu : ∀ b : Nat, m_tg X b ≠ 0 → b ≠ u3 := fun b hb z => hb (by rw [z]; exact hu)
  have c5 : ∀ b : Nat, m_tg X b ≠ 0 → M5.1 b = X.1 b := fun b hb => by
    rw [h5]
    unfold m_al
    dsimp only
    rw [if_neg (cu b hb)]
  refine ⟨by rw [h5, m_tg_al, if_pos rfl], fun M9 h9 hle59 => ?_⟩
  have c9 : ∀ b : Nat, m_tg X b ≠ 0 → M9.1 b = X.1 b := fun b hb => by
    rw [h9]
    unfold m_pi
    dsimp only
    rw [if_neg (cu b hb)]
    exact c5 b hb
  have hle9 : m_le X M9 := fun b hb => ⟨c_cell_tg (c9 b hb), c_cell_ln (c9 b hb)⟩
  have hS9 : c_HS M9 ls lh T i f := c_HS_same x10 (c9 ls (by rw [x10.1]; decide)) (c9 lh (by rw [x10.2.2.1]; decide)) (fun z => c9 T (by rw [z]; decide))
  have n9 : m_nc M9 = m_nc X + 1 ∧ m_ns M9 = m_ns X + 1 := by rw [h9, h5]; exact ⟨rfl, rfl⟩
  have nw9 : c_nw X0 M9 := ⟨m_le_tr x1.1 hle9, fun b hb => (c9 b (by rw [(x1.1 b hb).1]; exact hb)).trans (x1.2 b hb)⟩
  refine ⟨hS9.1, q_setadd hnode hS9 (by rw [h9, m_tg_pi, h5, m_tg_al, if_pos rfl]) (by rw [h9, m_gi_pi, if_pos ⟨rfl, rfl⟩]) hf hi hnew ⟨by omega, by omega⟩ (fun M13 T' hT' hS13 hle13 fr13 nc13 ns13 _ => ⟨fun z => absurd z (by decide), fun _ => ?_⟩)⟩
  have hlaX : m_tg X la = 14 := x8.1
  have hT0 : m_tg X0 T' = 0 := by
    rcases hT' with ⟨z, _⟩ | z
    · rw [z]; exact x6
    · apply Classical.byContradiction
      intro y
      have := c_cell_tg (nw9.2 T' y)
      rw [z] at this
      exact y this.symm
  have tT' : m_tg M13 T' = 104 := by
    obtain ⟨_, _, _, _, k5⟩ := hS13
    rcases k5 with ⟨k0, _⟩ | ⟨_, k, _⟩
    · omega
    · exact k
  have nw13 : c_nw X0 M13 := ⟨m_le_tr nw9.1 hle13, fun b hb => by
    have hb9 : m_tg M9 b ≠ 0 := by rw [(nw9.1 b hb).1]; exact hb
    rw [fr13 b (fun z => hb (by rw [z]; exact x5)) (fun z => hb (by rw [z]; exact hT0)) hb9]
    exact nw9.2 b hb⟩
  have g13 : c_g1 g M13 := c_g1_le x2 (m_le_tr hle9 hle13)
  have keep13 : ∀ b : Nat, m_tg X b = 14 ∨ m_tg X b = 103 → M13.1 b = X.1 b := fun b hb => by
    have hb0 : m_tg X b ≠ 0 := by omega
    have e9 := c_cell_tg (c9 b hb0)
    rw [fr13 b (fun z => by rw [z, x10.2.2.1] at hb; omega) (fun z => by
      have := (hle13 b (by rw [e9]; exact hb0)).1
      rw [z, tT', ← z, e9] at this
      omega) (by rw [e9]; exact hb0)]
    exact c9 b hb0
  have hL13 : c_L g M13 la d i e := by
    have ka := keep13 la (Or.inl hlaX)
    rcases id x8 with ⟨k1, k2, k3, k4⟩
    refine ⟨(c_cell_tg ka).trans k1, (c_cell_gi ka).trans k2, (c_cell_gr ka).trans k3, ?_⟩
    rcases k4 with k4 | ⟨k4, k5, k6, k7⟩
    · exact Or.inl k4
    · have kd := keep13 d (Or.inr k4)
      exact Or.inr ⟨(c_cell_tg kd).trans k4, by rw [c_cell_ln kd]; exact k5, by rw [c_cell_ln kd]; exact k6, fun k hk => (c_cell_gr kd).trans (k7 k hk)⟩
  have ld13 : m_ln M13 d = (c_cap i).1 := by
    have k : m_ln M13 d = m_ln X d := by
      rcases x8.2.2.2 with ⟨_, k4⟩ | ⟨k4, _⟩
      · rw [k4, g13.2, x2.2]
      · exact c_cell_ln (keep13 d (Or.inr k4))
    rw [k, x11]
  refine q_valueOf (fun z => ?_) (fun z => ?_) (fun x hx hxv _ => ⟨hL13.1, ?_⟩)
  · have := Int32.lt_iff_toInt_lt.mp z
    rw [pn_toInt (by omega)] at this
    have h2 : (-128 : Int32).toInt = -128 := by decide
    omega
  · have := (pn_lt (a := 127) (by omega) (by omega)).mp z
    omega
  · refine q_add hobj g13 hL13 (by omega) ⟨by omega, by omega⟩ (fun k hk y hy => ?_) (fun y hy => ?_) (fun M25 d' kc hkc hL25 hfr25 _ => ?_)
    · obtain ⟨x', e1, e2, _⟩ := x9 k hk
      rw [e1] at hy
      cases hy
      have := m_le_tg (m_le_tr hle9 hle13) e2
      rw [this]
      exact Or.inr (Or.inr (Or.inr (Or.inr (Or.inr (Or.inr rfl)))))
    · cases hy
      rw [hx]
      exact Or.inr (Or.inr (Or.inr (Or.inr (Or.inr (Or.inr rfl)))))
    · have hd0 : m_tg X0 d' = 0 := by
        rcases hkc with ⟨_, e1, e2, _⟩ | ⟨_, e1, _⟩
        · rw [e1]
          rcases x7 with h | h
          · exact h
          · exfalso
            rw [h, g13.1] at e2
            cases e2
        · apply Classical.byContradiction
          intro z
          have := c_cell_tg (nw13.2 d' z)
          rw [e1] at this
          exact z this.symm
      have td' : ∀ b : Nat, m_tg M13 b = 20 ∨ m_tg M13 b = 16 ∨ m_tg M13 b = 104 → M25.1 b = M13.1 b := fun b hb => hfr25.2.1 b (fun z => by rw [z, hL13.1] at hb; omega) (fun z => by
        rcases hkc with ⟨_, e1, e2, _⟩ | ⟨_, e1, _⟩
        · rw [z, e1, e2] at hb
          omega
        · rw [z, e1] at hb
          omega)
      refine hK M25 d' T' ⟨c_nw_fr nw13 hfr25 x3 hd0, c_g1_le g13 hfr25.1, x3, x4, x5, hT0, Or.inl hd0, ⟨_, hL25, fun k hk => ?_⟩, c_HS_fe (c_HS_same hS13 (td' ls (Or.inl hS13.1)) (td' lh (Or.inr (Or.inl hS13.2.2.1))) (fun z => td' T' (Or.inr (Or.inr z)))), ?_, ?_, ?_⟩
      · unfold c_e
        by_cases hk2 : k = i
        · rw [if_pos hk2, hk2]
          exact ⟨x, rfl, m_le_tg hfr25.1 hx, hxv⟩
        · rw [if_neg hk2]
          obtain ⟨x', e1, e2, e3⟩ := x9 k (by omega)
          exact ⟨x', e1, m_le_tg hfr25.1 (m_le_tg (m_le_tr hle9 hle13) e2), e3⟩
      · rcases hkc with ⟨_, _, _, e3, e4⟩ | ⟨_, _, e3, e4⟩
        · rw [e4, ld13, c_cap_lo (by rw [← ld13]; exact e3) (by omega)]
        · rw [e4, c_cap_hi (by rw [← ld13]; exact e3) (by omega)]
      · have h1 := hfr25.2.2.1
        rw [if_neg (show ¬ i + 1 = 0 by omega)]
        rcases hkc with ⟨e0, _, _, e3, e4⟩ | ⟨e0, _, e3, e4⟩
        · rw [c_cap_lo (by rw [← ld13]; exact e3) (by omega)]
          by_cases hi0 : i = 0
          · rw [if_pos hi0] at nc13 x12
            omega
          · rw [if_neg hi0] at nc13 x12
            omega
        · rw [c_cap_hi (by rw [← ld13]; exact e3) (by omega)]
          dsimp only
          by_cases hi0 : i = 0
          · rw [if_pos hi0] at nc13 x12
            omega
          · rw [if_neg hi0] at nc13 x12
            omega
      · have h1 := hfr25.2.2.2
        rw [if_neg (show ¬ i + 1 = 0 by omega)]
        rcases hkc with ⟨e0, _, _, e3, e4⟩ | ⟨e0, _, e3, e4⟩
        · rw [c_cap_lo (by rw [← ld13]; exact e3) (by omega)]
          rw [e0, Nat.zero_mul] at h1
          by_cases hi0 : i = 0
          · rw [if_pos hi0] at ns13 x13
            omega
          · rw [if_neg hi0] at ns13 x13
            omega
        · rw [c_cap_hi (by rw [← ld13]; exact e3) (by omega)]
          rw [e0, Nat.one_mul] at h1
          dsimp only
          by_cases hi0 : i = 0
          · rw [if_pos hi0] at ns13 x13
            omega
          · rw [if_neg hi0] at ns13 x13
            omega
end
section
variable {g : Nat → Nat} {M : Mem} {o : Nat → Nat × Nat × Nat} {rr R u : Nat} {D W : Nat → Nat → Nat}
theorem c_nw_same {X0 X : Mem} {q : Nat} (hLb : c_Lb X0 o) (hq : q ≠ 0) (h : c_nw X0 X) : c_same X0 o X o q := fun b hb => ⟨h.2 b (hLb b (by rcases hb with hb | hb <;> rw [hb] <;> exact hq)), rfl⟩
theorem c_lay_loop {a t L : Nat} {Q : Option Nat → Mem → Prop} {X0 : Mem} {la ls lh : Nat} (hobj : ∀ (M : Mem) (y : Nat), q_obj (m_tg M y) → m_asg M y "java/lang/Object") (hnode : ∀ (M : Mem) (y : Nat), m_tg M y = 18 → m_asg M y "java/util/HashMap$Node") (hD : c_Rd g X0 o rr R D W u) (hrr : rr ≠ 0) (hLb : c_Lb X0 o) (hb : ∀ a b : Nat, a < 12 → b < 12 → D a b ≤ 100000 ∧ W a b ≤ 100000) (hD0 : ∀ a : Nat, a < 12 → D a a = 100000) (ha : a < 12) (ht : t < 12) (hW : W a t < 100000) (hL11 : L ≤ 11) (hLt : u_it D W t a L = t)
    (hs : ∀ i : Nat, i < L → u_it D W t a i ≠ t ∧ u_it D W t a i < 12 ∧ D (u_it D W t a i) (u_it D W t a (i + 1)) ≤ 60 ∧ u_it D W t a (i + 1) ≠ a ∧ u_it D W t a (i + 1) < 12 ∧ D (u_it D W t a i) (u_it D W t a (i + 1)) + W (u_it D W t a (i + 1)) t = W (u_it D W t a i) t ∧ 1 ≤ D (u_it D W t a i) (u_it D W t a (i + 1)))
    (hroom : m_nc X0 + 60 ≤ m_CM ∧ m_ns X0 + 300 ≤ m_SM)
    (hQ : ∀ (X : Mem) (d T : Nat), c_LW g X0 X la d ls lh T (L + 1) (u_it D W t a) → Q (some la) X) :
    ∀ (dd i : Nat), i + dd = L → ∀ (X : Mem) (d T : Nat), c_LW g X0 X la d ls lh T i (u_it D W t a) → wp_X2_lay_b35 g Q (dd + 2) X R (nI t) la ls (nI (u_it D W t a i)) := by
  have mono := u_P_mono hs
  have hWi : ∀ i : Nat, i ≤ L → u_it D W t a i < 12 ∧ W (u_it D W t a i) t < 100000 := by
    intro i hi
    cases i with
    | zero => exact ⟨ha, hW⟩
    | succ i =>
      refine ⟨(hs i (by omega)).2.2.2.2.1, ?_⟩
      have := mono i 0 (by omega)
      rw [Nat.zero_add] at this
      have : W (u_it D W t a 0) t = W a t := rfl
      omega
  have hnew : ∀ i : Nat, i ≤ L → ∀ j : Nat, j < i → u_it D W t a j ≠ u_it D W t a i := by
    intro i hi j hj e
    have := mono (i - j - 1) j (by omega)
    rw [show j + (i - j - 1) + 1 = i by omega, e] at this
    omega
  intro dd
  induction dd with
  | zero =>
    intro i hi X d T hX
    have hiL : i = L := by omega
    have hwi := hWi i (by omega)
    refine c_lay_step (R := R) hobj hnode (by omega) hwi.1 (hnew i (by omega)) hroom hX (fun X' d' T' hX' => ⟨fun z => absurd (by rw [hiL, hLt]) z, fun _ => ⟨fun _ => ?_, fun z => absurd rfl z⟩⟩)
    rw [hiL] at hX'
    exact hQ X' d' T' hX'
  | succ dd ih =>
    intro i hi X d T hX
    have hwi := hWi i (by omega)
    obtain ⟨s1, s2, s3, s4, s5, s6, s7⟩ := hs i (by omega)
    have hit : (nI (u_it D W t a i) = nI t) = (u_it D W t a i = t) := pn_eqe (by omega) (by omega)
    refine c_lay_step (R := R) hobj hnode (by omega) hwi.1 (hnew i (by omega)) hroom hX (fun X' d' T' hX' => ⟨fun _ => ?_, fun z => absurd (by rw [hit] at z; exact z) s1⟩)
    have hD' := c_Rd_same (o' := o) hD hX'.1.1 (c_nw_same hLb hrr hX'.1)
    exact ⟨hD'.2.1, c2_next hD' s2 ht (hD0 _ s2) hb rfl s5 s3 s6 hwi.2 (fun _ => ih (i + 1) (by omega) X' d' T' hX')⟩
end
