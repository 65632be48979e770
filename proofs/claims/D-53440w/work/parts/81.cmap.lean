/-! PURE: a LinkedHashMap from pairs of areas to minutes: what it holds, get -/
set_option maxRecDepth 100000
theorem pn_hash2 {v : Nat} (h : v < 144) : (nI v) ^^^ ((Int32.toUInt32 (nI v) >>> (Int32.toUInt32 16 &&& Int32.toUInt32 31)).toInt32) = nI v := by
  have H : ∀ k : Fin 144, (nI k.val) ^^^ ((Int32.toUInt32 (nI k.val) >>> (Int32.toUInt32 16 &&& Int32.toUInt32 31)).toInt32) = nI k.val := by decide +kernel
  exact H ⟨v, h⟩
def l_cap (c : Nat) : Prop := c = 16 ∨ c = 32 ∨ c = 64
theorem pn_mask {c v : Nat} (hc : l_cap c) (h : v < 144) : (nI c - 1) &&& nI v = nI (v % c) := by
  have H1 : ∀ k : Fin 144, (nI 16 - 1) &&& nI k.val = nI (k.val % 16) := by decide +kernel
  have H2 : ∀ k : Fin 144, (nI 32 - 1) &&& nI k.val = nI (k.val % 32) := by decide +kernel
  have H3 : ∀ k : Fin 144, (nI 64 - 1) &&& nI k.val = nI (k.val % 64) := by decide +kernel
  rcases hc with rfl | rfl | rfl
  · exact H1 ⟨v, h⟩
  · exact H2 ⟨v, h⟩
  · exact H3 ⟨v, h⟩
/-- a pair of areas as a number -/
def l_hv (h : Nat) : Prop := h / 12 < h % 12 ∧ h < 144
/-- a chain of nodes, from r on -/
def l_ch (M : Mem) (nd : Nat → Nat) : Option Nat → List Nat → Prop
  | r, [] => r = none
  | r, h :: t => r = some (nd h) ∧ l_ch M nd (m_gr M (nd h) 3) t
/-- a node for the pair h, with minutes v -/
def l_nd (g : Nat → Nat) (M : Mem) (P : Nat → Prop) (nd : Nat → Nat) (V : Nat → Nat) (h : Nat) : Prop := P (nd h) ∧ m_tg M (nd h) = 19 ∧ m_gi M (nd h) 0 = nI h ∧ (∃ k : Nat, m_gr M (nd h) 1 = some k ∧ P k ∧ m_tg M k = 4 ∧ m_gi M k 0 = nI (h / 12) ∧ m_gi M k 1 = nI (h % 12)) ∧ ∃ x : Nat, m_gr M (nd h) 2 = some x ∧ m_tg M x = 150 ∧ m_ub g x = nI (V h)
/-- what the buckets hold -/
def l_B (g : Nat → Nat) (M : Mem) (P : Nat → Prop) (cap : Nat) (B : Nat → List Nat) (nd V : Nat → Nat) : Prop := (∀ i h : Nat, h ∈ B i → i < cap ∧ h % cap = i ∧ l_hv h ∧ l_nd g M P nd V h) ∧ (∀ i : Nat, (B i).Nodup) ∧ ∀ i j h k : Nat, h ∈ B i → k ∈ B j → nd h = nd k → h = k
/-- the map at H -/
def l_M (g : Nat → Nat) (M : Mem) (P : Nat → Prop) (H T cap cnt : Nat) (B : Nat → List Nat) (nd V : Nat → Nat) : Prop :=
  P H ∧ m_tg M H = 17 ∧ m_gi M H 10 = 0 ∧ m_gi M H 11 = 0 ∧ m_gi M H 4 = nI cnt ∧ (∀ t : Nat, m_gr M H 9 = some t → P t ∧ m_tg M t = 19) ∧ l_B g M P cap B nd V ∧
  ((cap = 0 ∧ cnt = 0 ∧ m_gr M H 2 = none ∧ m_gi M H 6 = 0) ∨ (l_cap cap ∧ m_gr M H 2 = some T ∧ P T ∧ m_tg M T = 104 ∧ m_ln M T = cap ∧ m_gi M H 6 = nI (cap * 3 / 4) ∧ cnt ≤ cap * 3 / 4 ∧ ∀ i : Nat, i < cap → l_ch M nd (m_gr M T i) (B i)))
/-- the pair is in the map -/
def l_in (B : Nat → List Nat) (cap h : Nat) : Prop := h ∈ B (h % cap)
theorem l_ch_same {M M' : Mem} {nd : Nat → Nat} : ∀ {l : List Nat} {r : Option Nat}, l_ch M nd r l → (∀ h : Nat, h ∈ l → m_gr M' (nd h) 3 = m_gr M (nd h) 3) → l_ch M' nd r l := by
  intro l
  induction l with
  | nil => intro r h _; exact h
  | cons a t ih =>
    intro r h he
    exact ⟨h.1, by rw [he a List.mem_cons_self]; exact ih h.2 (fun x hx => he x (List.mem_cons_of_mem _ hx))⟩
theorem l_nd_same {g : Nat → Nat} {M M' : Mem} {P P' : Nat → Prop} {nd V : Nat → Nat} {h : Nat} (hn : l_nd g M P nd V h) (hl : m_le M M') (hP : ∀ b : Nat, P b → P' b) (hc : ∀ b : Nat, P b → M'.1 b = M.1 b) : l_nd g M' P' nd V h := by
  obtain ⟨a1, a2, a3, ⟨k, b1, b2, b3, b4, b5⟩, x, c1, c2, c3⟩ := hn
  have e := hc _ a1
  have ek := hc _ b2
  exact ⟨hP _ a1, (c_cell_tg e).trans a2, (c_cell_gi e).trans a3, ⟨k, (c_cell_gr e).trans b1, hP _ b2, (c_cell_tg ek).trans b3, (c_cell_gi ek).trans b4, (c_cell_gi ek).trans b5⟩, x, (c_cell_gr e).trans c1, m_le_tg hl c2, c3⟩
theorem l_M_same {g : Nat → Nat} {M M' : Mem} {P P' : Nat → Prop} {H T cap cnt : Nat} {B : Nat → List Nat} {nd V : Nat → Nat} (h : l_M g M P H T cap cnt B nd V) (hl : m_le M M') (hP : ∀ b : Nat, P b → P' b) (hc : ∀ b : Nat, P b → M'.1 b = M.1 b) : l_M g M' P' H T cap cnt B nd V := by
  obtain ⟨a1, a2, a3, a4, a5, a6, ⟨b1, b2, b3⟩, a8⟩ := h
  have e := hc _ a1
  refine ⟨hP _ a1, (c_cell_tg e).trans a2, (c_cell_gi e).trans a3, (c_cell_gi e).trans a4, (c_cell_gi e).trans a5, fun t ht => ?_, ⟨fun i x hx => ?_, b2, b3⟩, ?_⟩
  · rw [c_cell_gr e] at ht
    obtain ⟨k1, k2⟩ := a6 t ht
    exact ⟨hP _ k1, (c_cell_tg (hc _ k1)).trans k2⟩
  · obtain ⟨k1, k2, k3, k4⟩ := b1 i x hx
    exact ⟨k1, k2, k3, l_nd_same k4 hl hP hc⟩
  · rcases a8 with ⟨k1, k2, k3, k4⟩ | ⟨k1, k2, k3, k4, k5, k6, k7, k8⟩
    · exact Or.inl ⟨k1, k2, (c_cell_gr e).trans k3, (c_cell_gi e).trans k4⟩
    · have eT := hc _ k3
      refine Or.inr ⟨k1, (c_cell_gr e).trans k2, hP _ k3, (c_cell_tg eT).trans k4, (c_cell_ln eT).trans k5, (c_cell_gi e).trans k6, k7, fun i hi => ?_⟩
      rw [c_cell_gr eT]
      exact l_ch_same (k8 i hi) (fun x hx => c_cell_gr (hc _ (b1 i x hx).2.2.2.1))
section
variable {g : Nat → Nat} {M : Mem} {P : Nat → Prop} {H T cap cnt k lo hi : Nat} {B : Nat → List Nat} {nd V : Nat → Nat}
/-- the key is asked whether it is a node's -/
theorem l_eq {kn : Nat} {h : Nat} {Q : Int32 → Mem → Prop} (hk : m_tg M k = 4) (k0 : m_gi M k 0 = nI lo) (k1 : m_gi M k 1 = nI hi) (hkn : m_tg M kn = 4) (n0 : m_gi M kn 0 = nI (h / 12)) (n1 : m_gi M kn 1 = nI (h % 12)) (hl : lo < 12) (hh : hi < 12) (hh2 : h = 12 * lo + hi) (hQ : Q 1 M) : wp_X3_equals g M k kn Q := by
  have e1 : h / 12 = lo := by omega
  have e2 : h % 12 = hi := by omega
  rw [e1] at n0
  rw [e2] at n1
  refine ⟨hkn, hk, fun z => absurd (by rw [k0, n0]) z, fun _ => ⟨fun z => absurd (by rw [k1, n1]) z, fun _ => hQ⟩⟩
theorem l_get99 {Q : Option Nat → Mem → Prop} (hk : m_tg M k = 4) (k0 : m_gi M k 0 = nI lo) (k1 : m_gi M k 1 = nI hi) (hl : lo < 12) (hh : hi < 12) (hno : ∀ l : List Nat, (∀ x : Nat, x ∈ l → l_hv x ∧ l_nd g M P nd V x) → (12 * lo + hi ∈ l → Q (some (nd (12 * lo + hi))) M) → (12 * lo + hi ∉ l → Q none M) → True) :
    ∀ (l : List Nat) (a : Nat), (∀ x : Nat, x ∈ a :: l → l_hv x ∧ l_nd g M P nd V x) → l_ch M nd (m_gr M (nd a) 3) l → (12 * lo + hi ∈ a :: l → Q (some (nd (12 * lo + hi))) M) → (12 * lo + hi ∉ a :: l → Q none M) → wp_J8_getNodeL_b99 g Q (l.length + 1) M k (nd a) (nI (12 * lo + hi)) := by
  intro l
  induction l with
  | nil =>
    intro a hx hch hy hn
    obtain ⟨av, a1, a2, a3, ⟨kn, b1, b2, b3, b4, b5⟩, _⟩ := hx a List.mem_cons_self
    refine ⟨a2, fun z => ⟨a2, fun r2 h2 => ⟨fun _ => hn ?_, fun u4 h4 => ?_⟩⟩, fun z r3 h3 => ⟨fun _ => ?_, fun _ => ⟨kn, h3.trans b1, hk, ?_⟩⟩⟩
    · intro hm
      rw [List.mem_singleton] at hm
      apply z
      rw [a3, hm]
    · rw [h2, show m_gr M (nd a) 3 = none from hch] at h4
      cases h4
    · rw [a3] at z
      have e : a = 12 * lo + hi := (pn_inj (by have := av.2; omega) (by omega)).mp z
      rw [e]
      exact hy (by rw [e]; exact List.mem_cons_self)
    · rw [a3] at z
      have e : a = 12 * lo + hi := (pn_inj (by have := av.2; omega) (by omega)).mp z
      refine l_eq hk k0 k1 b3 b4 b5 hl hh e (fun _ => ⟨fun w => absurd w (by decide), fun _ => ?_⟩)
      rw [e]
      exact hy (by rw [e]; exact List.mem_cons_self)
  | cons b l ih =>
    intro a hx hch hy hn
    obtain ⟨av, a1, a2, a3, ⟨kn, b1, b2, b3, b4, b5⟩, _⟩ := hx a List.mem_cons_self
    refine ⟨a2, fun z => ⟨a2, fun r2 h2 => ⟨fun w => ?_, fun u4 h4 => ?_⟩⟩, fun z r3 h3 => ⟨fun _ => ?_, fun _ => ⟨kn, h3.trans b1, hk, ?_⟩⟩⟩
    · rw [h2, hch.1] at w
      cases w
    · rw [h2, hch.1] at h4
      cases h4
      have hne : 12 * lo + hi ≠ a := fun e => z (by rw [a3, e])
      exact ih b (fun x hxx => hx x (List.mem_cons_of_mem _ hxx)) hch.2 (fun w => hy (List.mem_cons_of_mem _ w)) (fun w => hn (fun y => by
        rcases List.mem_cons.mp y with y | y
        · exact hne y
        · exact w y))
    · rw [a3] at z
      have e : a = 12 * lo + hi := (pn_inj (by have := av.2; omega) (by omega)).mp z
      rw [e]
      exact hy (by rw [e]; exact List.mem_cons_self)
    · rw [a3] at z
      have e : a = 12 * lo + hi := (pn_inj (by have := av.2; omega) (by omega)).mp z
      refine l_eq hk k0 k1 b3 b4 b5 hl hh e (fun _ => ⟨fun w => absurd w (by decide), fun _ => ?_⟩)
      rw [e]
      exact hy (by rw [e]; exact List.mem_cons_self)
theorem l_get {Q : Option Nat → Mem → Prop} (hM : l_M g M P H T cap cnt B nd V) (hk : m_tg M k = 4) (k0 : m_gi M k 0 = nI lo) (k1 : m_gi M k 1 = nI hi) (hl : lo < 12) (hh : hi < 12) (hy : ∀ x : Nat, l_in B cap (12 * lo + hi) → m_tg M x = 150 → m_ub g x = nI (V (12 * lo + hi)) → Q (some x) M) (hn : ¬ l_in B cap (12 * lo + hi) → Q none M) : wp_J9_getL g M H k Q := by
  obtain ⟨m1, m2, m3, m4, m5, m6, ⟨b1, b2, b3⟩, m8⟩ := hM
  have hh144 : 12 * lo + hi < 144 := by omega
  have h12 : 12 * nI lo + nI hi = nI (12 * lo + hi) := q12
  -- what getNode's answer leads to
  have ans : ∀ r : Option Nat, (r = none ∧ ¬ l_in B cap (12 * lo + hi) ∨ r = some (nd (12 * lo + hi)) ∧ l_in B cap (12 * lo + hi)) → ((r = none → Q none M) ∧ (∀ u6 : Nat, r = some u6 → (((m_gi M H 10) = 0 → m_tg M u6 = 19 ∧ ∀ r10 : Option Nat, r10 = (m_gr M u6 2) → Q r10 M) ∧ (¬ (m_gi M H 10) = 0 → wp_J9_afterNodeAccessL g M H u6 (fun (M12 : Mem) => m_le M M12 → m_tg M12 u6 = 19 ∧ ∀ r16 : Option Nat, r16 = (m_gr M12 u6 2) → Q r16 M12))))) := by
    rintro r (⟨rfl, h⟩ | ⟨rfl, h⟩)
    · exact ⟨fun _ => hn h, fun u6 h6 => by cases h6⟩
    · refine ⟨fun z => (by cases z), fun u6 h6 => ?_⟩
      cases h6
      obtain ⟨_, _, _, a1, a2, a3, _, x, c1, c2, c3⟩ := b1 _ _ h
      refine ⟨fun _ => ⟨a2, fun r10 h10 => ?_⟩, fun z => absurd m3 z⟩
      rw [h10, c1]
      exact hy x h c2 c3
  refine ⟨m2, m2, fun r2 h2 => ⟨fun hnone _ => ans none (Or.inl ⟨rfl, ?_⟩), fun u4 h4 => ?_⟩⟩
  · intro hin
    have := (b1 _ _ hin).1
    rcases m8 with ⟨z, _⟩ | ⟨_, z, _⟩
    · omega
    · rw [h2, z] at hnone
      cases hnone
  · rcases m8 with ⟨_, _, z, _⟩ | ⟨hcap, hT, PT, tT, lT, hth, hcnt, hch⟩
    · rw [h2, z] at h4
      cases h4
    · have eT : T = u4 := by
        rw [h2, hT] at h4
        cases h4
        rfl
      subst eT
      have hc0 : 0 < cap ∧ cap ≤ 64 := by rcases hcap with rfl | rfl | rfl <;> decide
      rw [lT]
      refine ⟨Or.inl (by omega), fun z => ?_, fun _ => ⟨hk, hk, fun _ _ => ?_⟩⟩
      · have := (pn_le (b := 0) (by omega) (by omega)).mp z
        omega
      · rw [k0, k1, h12, pn_hash2 hh144, pn_mask hcap hh144]
        have hi' : (12 * lo + hi) % cap < cap := Nat.mod_lt _ hc0.1
        refine ⟨tT, by rw [lT]; exact (pn_in (by omega)).mpr hi', fun r14 h14 => ?_⟩
        rw [pn_cl (by omega)] at h14
        have hc := hch _ hi'
        rw [← h14] at hc
        have hin : l_in B cap (12 * lo + hi) ↔ 12 * lo + hi ∈ B ((12 * lo + hi) % cap) := Iff.rfl
        have hall : ∀ x : Nat, x ∈ B ((12 * lo + hi) % cap) → l_hv x ∧ l_nd g M P nd V x := fun x hx => ⟨(b1 _ x hx).2.2.1, (b1 _ x hx).2.2.2⟩
        cases hl' : B ((12 * lo + hi) % cap) with
        | nil =>
          rw [hl'] at hc hin
          have hc' : r14 = none := hc
          refine ⟨fun _ _ => ans none (Or.inl ⟨rfl, fun z => by rw [hin] at z; cases z⟩), fun u16 h16 => by rw [hc'] at h16; cases h16⟩
        | cons a l =>
          rw [hl'] at hc hin hall
          obtain ⟨c1, c2⟩ := hc
          refine ⟨fun z => (by rw [c1] at z; cases z), fun u16 h16 => ?_⟩
          rw [c1] at h16
          cases h16
          obtain ⟨av, a1, a2, a3, ⟨kn, d1, d2, d3, d4, d5⟩, _⟩ := hall a List.mem_cons_self
          refine ⟨a2, fun z => ⟨a2, fun r2 h2' => ⟨fun w _ => ans none (Or.inl ⟨rfl, fun y => ?_⟩), fun u4 h4' => ?_⟩⟩, fun z r20 h20 => ⟨fun _ _ => ?_, fun _ => ⟨kn, h20.trans d1, hk, ?_⟩⟩⟩
          · rw [hin] at y
            cases l with
            | nil =>
              rw [List.mem_singleton] at y
              exact z (by rw [a3, y])
            | cons b l =>
              rw [h2', c2.1] at w
              cases w
          · cases l with
            | nil =>
              rw [h2', show m_gr M (nd a) 3 = none from c2] at h4'
              cases h4'
            | cons b l =>
              rw [h2', c2.1] at h4'
              cases h4'
              have hne : 12 * lo + hi ≠ a := fun e => z (by rw [a3, e])
              refine ⟨l.length + 1, l_get99 (P := P) (V := V) hk k0 k1 hl hh (fun _ _ _ _ => trivial) l b (fun x hx => hall x (List.mem_cons_of_mem _ hx)) c2.2 (fun w _ => ans _ (Or.inr ⟨rfl, ?_⟩)) (fun w _ => ans none (Or.inl ⟨rfl, fun y => ?_⟩))⟩
              · rw [hin]
                exact List.mem_cons_of_mem _ w
              · rw [hin] at y
                rcases List.mem_cons.mp y with y | y
                · exact hne y
                · exact w y
          · rw [a3] at z
            have e : a = 12 * lo + hi := (pn_inj (by have := av.2; omega) (by omega)).mp z
            exact ans _ (Or.inr ⟨by rw [e], by rw [hin, e]; exact List.mem_cons_self⟩)
          · rw [a3] at z
            have e : a = 12 * lo + hi := (pn_inj (by have := av.2; omega) (by omega)).mp z
            refine l_eq hk k0 k1 d3 d4 d5 hl hh e (fun _ => ⟨fun w => absurd w (by decide), fun _ _ => ?_⟩)
            exact ans _ (Or.inr ⟨by rw [e], by rw [hin, e]; exact List.mem_cons_self⟩)
end
