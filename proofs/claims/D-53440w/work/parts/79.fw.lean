/-! PURE: roads, and how far it is -/
set_option maxRecDepth 100000
/-- roads: each is between two areas, 1 to 60 minutes -/
def u_Dk (σ : Cn) : Nat → Nat → Nat → Nat
  | 0 => fun _ _ => 100000
  | r + 1 => fun a b => if (a = u_w σ 5 r 0 ∧ b = u_w σ 5 r 1) ∨ (a = u_w σ 5 r 1 ∧ b = u_w σ 5 r 0) then u_w σ 5 r 2 else u_Dk σ r a b
def u_W0 (D : Nat → Nat → Nat) (a b : Nat) : Nat := if a = b then 0 else D a b
def u_Wk (D : Nat → Nat → Nat) : Nat → Nat → Nat → Nat
  | 0 => u_W0 D
  | c + 1 => fun a b => min (u_Wk D c a b) (u_Wk D c a c + u_Wk D c c b)
/-- a road -/
def u_rd (σ : Cn) (r : Nat) : Prop := ∃ a b l : Nat, a < 12 ∧ b < 12 ∧ a ≠ b ∧ 1 ≤ l ∧ l ≤ 60 ∧ σ 5 r 0 = nI a ∧ σ 5 r 1 = nI b ∧ σ 5 r 2 = nI l
def u_Rds (σ : Cn) (N : Nat) : Prop := ∀ r : Nat, r < N → u_rd σ r ∧ u_Dk σ r (u_w σ 5 r 0) (u_w σ 5 r 1) = 100000
/-- what D is -/
def u_Dok (D : Nat → Nat → Nat) : Prop := ∀ a b : Nat, a < 12 → b < 12 → D a b = D b a ∧ (D a b = 100000 ∨ (1 ≤ D a b ∧ D a b ≤ 60)) ∧ D a a = 100000
theorem u_rd_w {σ : Cn} {r : Nat} (h : u_rd σ r) : u_w σ 5 r 0 < 12 ∧ u_w σ 5 r 1 < 12 ∧ u_w σ 5 r 0 ≠ u_w σ 5 r 1 ∧ 1 ≤ u_w σ 5 r 2 ∧ u_w σ 5 r 2 ≤ 60 ∧ σ 5 r 0 = nI (u_w σ 5 r 0) ∧ σ 5 r 1 = nI (u_w σ 5 r 1) ∧ σ 5 r 2 = nI (u_w σ 5 r 2) := by
  obtain ⟨a, b, l, h1, h2, h3, h4, h5, e1, e2, e3⟩ := h
  rw [u_w_of e1 (by omega), u_w_of e2 (by omega), u_w_of e3 (by omega)]
  exact ⟨h1, h2, h3, h4, h5, e1, e2, e3⟩
theorem u_Dk_ok {σ : Cn} : ∀ N : Nat, (∀ r : Nat, r < N → u_rd σ r) → u_Dok (u_Dk σ N) := by
  intro N
  induction N with
  | zero => intro _ a b _ _; exact ⟨rfl, Or.inl rfl, rfl⟩
  | succ N ih =>
    intro h a b ha hb
    obtain ⟨h1, h2, h3, h4, h5, _⟩ := u_rd_w (h N (by omega))
    obtain ⟨k1, k2, k3⟩ := ih (fun r hr => h r (by omega)) a b ha hb
    unfold u_Dk
    refine ⟨?_, ?_, ?_⟩
    · by_cases c1 : (a = u_w σ 5 N 0 ∧ b = u_w σ 5 N 1) ∨ (a = u_w σ 5 N 1 ∧ b = u_w σ 5 N 0)
      · rw [if_pos c1, if_pos (by omega)]
      · rw [if_neg c1, if_neg (by omega)]
        exact k1
    · split
      · exact Or.inr ⟨h4, h5⟩
      · exact k2
    · rw [if_neg (by omega)]
      exact k3
/-- at stage c of the nearest loops -/
def u_S (D W : Nat → Nat → Nat) (c : Nat) : Prop := (∀ a b : Nat, a < 12 → b < 12 → W a b ≤ 100000 ∧ W a a = 0 ∧ (a ≠ b → 1 ≤ W a b ∧ W a b ≤ D a b)) ∧ (∀ a b k : Nat, a < 12 → b < 12 → k < c → k < 12 → W a b ≤ W a k + W k b) ∧ ∀ a b : Nat, a < 12 → b < 12 → a ≠ b → W a b < 100000 → ∃ k : Nat, k < 12 ∧ (k < c ∨ k = b) ∧ D a k < 100000 ∧ D a k + W k b = W a b
theorem u_S0 {D : Nat → Nat → Nat} (hD : u_Dok D) : u_S D (u_W0 D) 0 := by
  refine ⟨fun a b ha hb => ⟨?_, if_pos rfl, fun h => ?_⟩, fun a b k _ _ hk => absurd hk (Nat.not_lt_zero _), fun a b ha hb h hl => ⟨b, hb, Or.inr rfl, ?_, ?_⟩⟩
  · unfold u_W0
    split
    · omega
    · have := (hD a b ha hb).2.1
      omega
  · unfold u_W0
    rw [if_neg h]
    have := (hD a b ha hb).2.1
    omega
  · unfold u_W0 at hl
    rw [if_neg h] at hl
    exact hl
  · unfold u_W0
    rw [if_pos rfl, if_neg h]
    rfl
theorem u_S1 {D W : Nat → Nat → Nat} {c : Nat} (hD : u_Dok D) (hc : c < 12) (h : u_S D W c) : u_S D (fun a b => min (W a b) (W a c + W c b)) (c + 1) := by
  obtain ⟨h1, h2, h3⟩ := h
  have hT : ∀ a b k : Nat, a < 12 → b < 12 → k < c + 1 → k < 12 → min (W a b) (W a c + W c b) ≤ min (W a k) (W a c + W c k) + min (W k b) (W k c + W c b) := by
    intro a b k ha hb hk hk12
    have cc := (h1 c c hc hc).2.1
    by_cases e : k = c
    · subst e
      rw [cc]
      omega
    · have t1 := h2 a b k ha hb (by omega) hk12
      have t2 := h2 c b k hc hb (by omega) hk12
      have t3 := h2 a c k ha hc (by omega) hk12
      omega
  refine ⟨fun a b ha hb => ⟨?_, ?_, fun hab => ⟨?_, ?_⟩⟩, hT, fun a b ha hb hab hl => ?_⟩
  · dsimp only
    have := (h1 a b ha hb).1
    omega
  · dsimp only
    have := (h1 a b ha hb).2.1
    omega
  · dsimp only
    have := ((h1 a b ha hb).2.2 hab).1
    by_cases hac : a = c
    · subst hac
      have := (h1 a a ha ha).2.1
      omega
    · have := ((h1 a c ha hc).2.2 hac).1
      omega
  · dsimp only
    have := ((h1 a b ha hb).2.2 hab).2
    omega
  · dsimp only at hl ⊢
    by_cases hlt : W a c + W c b < W a b
    · have hac : a ≠ c := fun z => by
        subst z
        have := (h1 a a ha ha).2.1
        omega
      have hac2 : W a c < 100000 := by have := (h1 a b ha hb).1; omega
      obtain ⟨k, hk12, hk, hDk, he⟩ := h3 a c ha hc hac hac2
      have hkc : k < c + 1 := by omega
      refine ⟨k, hk12, Or.inl hkc, hDk, ?_⟩
      have t := hT a b k ha hb hkc hk12
      have hl1 : min (W a k) (W a c + W c k) ≤ D a k := by
        by_cases hak : a = k
        · subst hak
          have := (h1 a a ha ha).2.1
          omega
        · have := ((h1 a k ha hk12).2.2 hak).2
          omega
      omega
    · have hlt2 : W a b < 100000 := by omega
      obtain ⟨k, hk12, hk, hDk, he⟩ := h3 a b ha hb hab hlt2
      have hl1 : min (W a k) (W a c + W c k) ≤ D a k := by
        by_cases hak : a = k
        · subst hak
          have := (h1 a a ha ha).2.1
          omega
        · have := ((h1 a k ha hk12).2.2 hak).2
          omega
      rcases hk with hk | hk
      · refine ⟨k, hk12, Or.inl (by omega), hDk, ?_⟩
        have t := hT a b k ha hb (by omega) hk12
        omega
      · subst hk
        refine ⟨k, hk12, Or.inr rfl, hDk, ?_⟩
        have kk := (h1 k k hb hb).2.1
        omega
theorem u_Sk {D : Nat → Nat → Nat} (hD : u_Dok D) : ∀ c : Nat, c ≤ 12 → u_S D (u_Wk D c) c := by
  intro c
  induction c with
  | zero => intro _; exact u_S0 hD
  | succ c ih => intro hc; exact u_S1 hD (by omega) (ih (by omega))
/-- how many areas are nearer to b -/
def u_rk (W : Nat → Nat → Nat) (b v : Nat) : Nat → Nat
  | 0 => 0
  | k + 1 => u_rk W b v k + (if W k b < v then 1 else 0)
theorem u_rk_le {W : Nat → Nat → Nat} {b v : Nat} : ∀ k : Nat, u_rk W b v k ≤ k := by
  intro k
  induction k with
  | zero => exact Nat.le_refl _
  | succ k ih => unfold u_rk; split <;> omega
theorem u_rk_mono {W : Nat → Nat → Nat} {b v w : Nat} (h : v ≤ w) : ∀ k : Nat, u_rk W b v k ≤ u_rk W b w k := by
  intro k
  induction k with
  | zero => exact Nat.le_refl _
  | succ k ih =>
    unfold u_rk
    by_cases h1 : W k b < v
    · rw [if_pos h1, if_pos (by omega)]
      omega
    · rw [if_neg h1]
      omega
theorem u_rk_lt {W : Nat → Nat → Nat} {b v w i : Nat} (h : v ≤ w) (h1 : ¬ W i b < v) (h2 : W i b < w) : ∀ k : Nat, i < k → u_rk W b v k < u_rk W b w k := by
  intro k
  induction k with
  | zero => intro hk; omega
  | succ k ih =>
    intro hk
    unfold u_rk
    by_cases e : k = i
    · subst e
      rw [if_neg h1, if_pos h2]
      have := u_rk_mono (W := W) (b := b) h k
      omega
    · have := ih (by omega)
      by_cases h3 : W k b < v
      · rw [if_pos h3, if_pos (by omega)]
        omega
      · rw [if_neg h3]
        split <;> omega
/-- what is finite is small -/
theorem u_S_small {D W : Nat → Nat → Nat} {c : Nat} (hD : u_Dok D) (h : u_S D W c) {b : Nat} (hb : b < 12) : ∀ (N a : Nat), a < 12 → W a b < 100000 → u_rk W b (W a b) 12 ≤ N → W a b ≤ 60 * N := by
  intro N
  induction N with
  | zero =>
    intro a ha hW hr
    by_cases hab : a = b
    · subst hab
      rw [(h.1 a a ha ha).2.1]
      omega
    · obtain ⟨k, hk12, hk, hDk, he⟩ := h.2.2 a b ha hb hab hW
      have hDs := (hD a k ha hk12).2.1
      have := u_rk_lt (W := W) (b := b) (i := k) (v := 0) (w := W a b) (by omega) (by omega) (by omega) 12 hk12
      omega
  | succ N ih =>
    intro a ha hW hr
    by_cases hab : a = b
    · subst hab
      rw [(h.1 a a ha ha).2.1]
      omega
    · obtain ⟨k, hk12, hk, hDk, he⟩ := h.2.2 a b ha hb hab hW
      have hDs := (hD a k ha hk12).2.1
      have hlt := u_rk_lt (W := W) (b := b) (i := k) (v := W k b) (w := W a b) (by omega) (by omega) (by omega) 12 hk12
      have := ih k hk12 (by omega) (by omega)
      omega
theorem u_S_720 {D W : Nat → Nat → Nat} {c : Nat} (hD : u_Dok D) (h : u_S D W c) {a b : Nat} (ha : a < 12) (hb : b < 12) (hW : W a b < 100000) : W a b ≤ 720 := u_S_small hD h hb 12 a ha hW (u_rk_le 12)
/-- the next area, where there is a way -/
theorem u_nx_ok {D W : Nat → Nat → Nat} (hD : u_Dok D) (h : u_S D W 12) {a t : Nat} (ha : a < 12) (ht : t < 12) (hat : a ≠ t) (hW : W a t < 100000) : u_nx D W a t < 12 ∧ 1 ≤ D a (u_nx D W a t) ∧ D a (u_nx D W a t) ≤ 60 ∧ D a (u_nx D W a t) + W (u_nx D W a t) t = W a t := by
  obtain ⟨k, hk12, _, hDk, he⟩ := h.2.2 a t ha ht hat hW
  have key : ∀ (d x : Nat), x ≤ k → k < x + d → ∃ y : Nat, u_first (fun a' => decide (D a a' < 100000 ∧ D a a' + W a' t = W a t)) t x d = y ∧ y < x + d ∧ D a y < 100000 ∧ D a y + W y t = W a t := by
    intro d
    induction d with
    | zero => intro x h1 h2; omega
    | succ d ih =>
      intro x h1 h2
      unfold u_first
      by_cases hx : decide (D a x < 100000 ∧ D a x + W x t = W a t) = true
      · rw [if_pos hx]
        have := of_decide_eq_true hx
        exact ⟨x, rfl, by omega, this.1, this.2⟩
      · rw [if_neg hx]
        by_cases e : x = k
        · subst e
          exact absurd (decide_eq_true ⟨hDk, he⟩) hx
        · obtain ⟨y, e1, e2, e3, e4⟩ := ih (x + 1) (by omega) (by omega)
          exact ⟨y, e1, by omega, e3, e4⟩
  obtain ⟨y, e1, e2, e3, e4⟩ := key 12 0 (Nat.zero_le _) (by omega)
  have hn : u_nx D W a t = y := e1
  rw [hn]
  have := (hD a y ha (by omega)).2.1
  exact ⟨by omega, by omega, by omega, e4⟩
theorem u_it_sh {D W : Nat → Nat → Nat} {t a : Nat} : ∀ i : Nat, u_it D W t a (i + 1) = u_it D W t (u_nx D W a t) i := by
  intro i
  induction i with
  | zero => rfl
  | succ i ih =>
    show u_nx D W (u_it D W t a (i + 1)) t = u_nx D W (u_it D W t (u_nx D W a t) i) t
    rw [ih]
theorem u_walk {D W : Nat → Nat → Nat} (hD : u_Dok D) (h : u_S D W 12) {t : Nat} (ht : t < 12) : ∀ (N a : Nat), a < 12 → W a t < 100000 → u_rk W t (W a t) 12 ≤ N → ∃ L : Nat, L ≤ N ∧ u_it D W t a L = t ∧ ∀ i : Nat, i < L → u_it D W t a i ≠ t ∧ u_it D W t a i < 12 ∧ W (u_it D W t a i) t ≤ W a t ∧ u_it D W t a (i + 1) < 12 ∧ D (u_it D W t a i) (u_it D W t a (i + 1)) ≤ 60 ∧ 1 ≤ D (u_it D W t a i) (u_it D W t a (i + 1)) ∧ D (u_it D W t a i) (u_it D W t a (i + 1)) + W (u_it D W t a (i + 1)) t = W (u_it D W t a i) t := by
  intro N
  induction N with
  | zero =>
    intro a ha hW hr
    by_cases hat : a = t
    · exact ⟨0, Nat.le_refl _, hat, fun i hi => absurd hi (Nat.not_lt_zero _)⟩
    · exfalso
      have hWp := ((h.1 a t ha ht).2.2 hat).1
      have tt := (h.1 t t ht ht).2.1
      have := u_rk_lt (W := W) (b := t) (i := t) (v := 0) (w := W a t) (by omega) (by omega) (by omega) 12 ht
      omega
  | succ N ih =>
    intro a ha hW hr
    by_cases hat : a = t
    · exact ⟨0, Nat.zero_le _, hat, fun i hi => absurd hi (Nat.not_lt_zero _)⟩
    · obtain ⟨n1, n2, n3, n4⟩ := u_nx_ok hD h ha ht hat hW
      have hlt := u_rk_lt (W := W) (b := t) (i := u_nx D W a t) (v := W (u_nx D W a t) t) (w := W a t) (by omega) (by omega) (by omega) 12 n1
      obtain ⟨L, hL, hLt, hs⟩ := ih (u_nx D W a t) n1 (by omega) (by omega)
      refine ⟨L + 1, by omega, by rw [u_it_sh]; exact hLt, fun i hi => ?_⟩
      cases i with
      | zero =>
        have e1 : u_it D W t a (0 + 1) = u_nx D W a t := rfl
        have e0 : u_it D W t a 0 = a := rfl
        rw [e1, e0]
        exact ⟨hat, ha, Nat.le_refl _, n1, n3, n2, n4⟩
      | succ i =>
        rw [u_it_sh, u_it_sh]
        obtain ⟨s1, s2, s3, s4, s5, s6, s7⟩ := hs i (by omega)
        exact ⟨s1, s2, by omega, s4, s5, s6, s7⟩
theorem u_OK_of {D W : Nat → Nat → Nat} (hD : u_Dok D) (h : u_S D W 12) : u_OK D W := by
  refine ⟨fun a b ha hb => ⟨?_, (h.1 a b ha hb).1⟩, fun a ha => (hD a a ha ha).2.2, fun a t ha ht hW => ?_⟩
  · have := (hD a b ha hb).2.1
    omega
  · have hrk : u_rk W t (W a t) 12 ≤ 11 := by
      have h1 := u_rk_lt (W := W) (b := t) (i := a) (v := W a t) (w := W a t + 1) (by omega) (by omega) (by omega) 12 ha
      have h2 := u_rk_le (W := W) (b := t) (v := W a t + 1) 12
      omega
    obtain ⟨L, hL, hLt, hs⟩ := u_walk hD h ht 11 a ha hW hrk
    refine ⟨L, u_first_eq (Nat.zero_le _) (by omega) (fun j _ hj => decide_eq_false (hs j hj).1) (decide_eq_true hLt), hL, hLt, fun i hi => ?_⟩
    obtain ⟨s1, s2, s3, s4, s5, s6, s7⟩ := hs i hi
    refine ⟨s1, s2, s5, fun z => ?_, s4, s7, s6⟩
    rw [z] at s6 s7
    omega
