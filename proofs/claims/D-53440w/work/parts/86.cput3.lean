/-! PURE: a LinkedHashMap: put of a new pair -/
set_option maxRecDepth 100000
theorem l_sub_len : ∀ {l m : List Nat}, l.Nodup → (∀ x : Nat, x ∈ l → x ∈ m) → l.length ≤ m.length := by
  intro l
  induction l with
  | nil => intro m _ _; exact Nat.zero_le _
  | cons a l ih =>
    intro m hd hs
    have ha := hs a List.mem_cons_self
    have h1 := ih (m := m.erase a) (List.nodup_cons.mp hd).2 (fun x hx => by
      have hxa : x ≠ a := fun e => (List.nodup_cons.mp hd).1 (by rw [← e]; exact hx)
      exact (List.mem_erase_of_ne hxa).mpr (hs x (List.mem_cons_of_mem _ hx)))
    have h2 := List.length_erase_of_mem ha
    have h3 : 0 < m.length := List.length_pos_of_mem ha
    show l.length + 1 ≤ m.length
    omega
theorem l_len6 {cap i : Nat} {l : List Nat} (hc : l_cap cap) (hi : i < cap) (hd : l.Nodup) (hl : ∀ x : Nat, x ∈ l → l_hv x ∧ x % cap = i) : l.length ≤ 6 := by
  have hsub : ∀ x : Nat, x ∈ l → x ∈ (List.range 144).filter (fun y => decide (y / 12 < y % 12 ∧ y % cap = i)) := fun x hx => by
    obtain ⟨h1, h2⟩ := hl x hx
    exact List.mem_filter.mpr ⟨List.mem_range.mpr h1.2, decide_eq_true ⟨h1.1, h2⟩⟩
  have h1 := l_sub_len hd hsub
  have H1 : ∀ k : Fin 16, ((List.range 144).filter (fun y => decide (y / 12 < y % 12 ∧ y % 16 = k.val))).length ≤ 6 := by decide +kernel
  have H2 : ∀ k : Fin 32, ((List.range 144).filter (fun y => decide (y / 12 < y % 12 ∧ y % 32 = k.val))).length ≤ 6 := by decide +kernel
  have H3 : ∀ k : Fin 64, ((List.range 144).filter (fun y => decide (y / 12 < y % 12 ∧ y % 64 = k.val))).length ≤ 6 := by decide +kernel
  rcases hc with rfl | rfl | rfl
  · exact Nat.le_trans h1 (H1 ⟨i, hi⟩)
  · exact Nat.le_trans h1 (H2 ⟨i, hi⟩)
  · exact Nat.le_trans h1 (H3 ⟨i, hi⟩)
theorem l_ch_snoc {M Z : Mem} {nd nd' : Nat → Nat} {h u z : Nat} (hu : nd' h = u) (hn : m_gr Z u 3 = none) (hz : m_gr Z (nd z) 3 = some u) : ∀ {l : List Nat} {r : Option Nat}, l_ch M nd r l → l.getLast? = some z → l.Nodup → (∀ y : Nat, y ∈ l → y ≠ z → m_gr Z (nd y) 3 = m_gr M (nd y) 3) → (∀ y : Nat, y ∈ l → nd' y = nd y) → l_ch Z nd' r (l ++ [h]) := by
  intro l
  induction l with
  | nil => intro r _ h; cases h
  | cons a l ih =>
    intro r hc hg hd hs he
    refine ⟨by rw [he a List.mem_cons_self]; exact hc.1, ?_⟩
    rw [he a List.mem_cons_self]
    cases l with
    | nil =>
      have e : a = z := by
        rw [List.getLast?_singleton] at hg
        cases hg
        rfl
      subst e
      rw [hz]
      exact ⟨by rw [hu], by rw [hu]; exact hn⟩
    | cons b l =>
      rw [List.getLast?_cons_cons] at hg
      have hz2 := List.mem_of_getLast? hg
      have haz : a ≠ z := fun e => (List.nodup_cons.mp hd).1 (by rw [e]; exact hz2)
      rw [hs a List.mem_cons_self haz]
      exact ih hc.2 hg (List.nodup_cons.mp hd).2 (fun y hy => hs y (List.mem_cons_of_mem _ hy)) (fun y hy => he y (List.mem_cons_of_mem _ hy))
theorem l_ch_cg {M Z : Mem} {nd nd' : Nat → Nat} : ∀ {l : List Nat} {r : Option Nat}, l_ch M nd r l → (∀ y : Nat, y ∈ l → m_gr Z (nd y) 3 = m_gr M (nd y) 3 ∧ nd' y = nd y) → l_ch Z nd' r l := by
  intro l
  induction l with
  | nil => intro r h _; exact h
  | cons a l ih =>
    intro r h he
    obtain ⟨e1, e2⟩ := he a List.mem_cons_self
    refine ⟨by rw [e2]; exact h.1, ?_⟩
    rw [e2, e1]
    exact ih h.2 (fun y hy => he y (List.mem_cons_of_mem _ hy))
def l_ndu (nd : Nat → Nat) (h u : Nat) : Nat → Nat := fun y => if y = h then u else nd y
def l_Bu (B : Nat → List Nat) (i h : Nat) : Nat → List Nat := fun j => if j = i then B i ++ [h] else B j
section
variable {g : Nat → Nat} {P : Nat → Prop} {H T cap cnt : Nat} {B : Nat → List Nat} {nd V : Nat → Nat}
/-- the new node in its place -/
theorem l_place {M M' Z : Mem} {h k x u v pb pf : Nat} (hM : l_M0 g M P H T cap cnt B nd V) (hh : l_hv h) (hnew : h ∉ B (h % cap)) (Pu : P u) (Pk : P k) (kt : m_tg M k = 4) (k0 : m_gi M k 0 = nI (h / 12)) (k1 : m_gi M k 1 = nI (h % 12)) (xt : m_tg M x = 150) (xv : m_ub g x = nI v)
    (u0 : m_tg M u = 0) (n1 : ∀ b : Nat, m_tg M' b = if b = u then 19 else m_tg M b) (n2 : ∀ b : Nat, m_ln M' b = if b = u then 0 else m_ln M b) (n3 : ∀ b f : Nat, b ≠ u → m_gi M' b f = m_gi M b f) (n4 : m_gi M' u 0 = nI h) (n5 : m_gr M' u 1 = some k) (n6 : m_gr M' u 2 = some x) (n7 : m_gr M' u 3 = none) (n8 : m_gr M' H 9 = some u) (n9 : ∀ b f : Nat, b ≠ u → f ≠ 5 → ¬ (b = H ∧ (f = 8 ∨ f = 9)) → m_gr M' b f = m_gr M b f) (n10 : ∀ b : Nat, m_tg M b ≠ 19 → b ≠ u → ∀ f : Nat, ¬ (b = H ∧ (f = 8 ∨ f = 9)) → m_gr M' b f = m_gr M b f)
    (hZ : Z = m_pr M' pb pf (some u)) (hp : (B (h % cap) = [] ∧ pb = T ∧ pf = h % cap) ∨ ∃ z : Nat, (B (h % cap)).getLast? = some z ∧ pb = nd z ∧ pf = 3) : l_M0 g Z P H T cap cnt (l_Bu B (h % cap) h) (l_ndu nd h u) (fun y => if y = h then v else V y) := by
  obtain ⟨m1, m2, m3, m4, m5, m6, ⟨b1, b2, b3⟩, m8, m9, m10, m11, m12, m13, m14⟩ := hM
  have hi : h % cap < cap := Nat.mod_lt _ (by rcases m8 with rfl | rfl | rfl <;> decide)
  have huH : H ≠ u := fun z => by rw [← z, m2] at u0; cases u0
  have huT : T ≠ u := fun z => by rw [← z, m11] at u0; cases u0
  have hHT : H ≠ T := fun z => by rw [z, m11] at m2; cases m2
  have hnu : ∀ i y : Nat, y ∈ B i → nd y ≠ u := fun i y hy z => by
    have := (b1 i y hy).2.2.2.2.1
    rw [z, u0] at this
    cases this
  have hnH : ∀ i y : Nat, y ∈ B i → nd y ≠ H := fun i y hy z => by
    have := (b1 i y hy).2.2.2.2.1
    rw [z, m2] at this
    cases this
  have hnT : ∀ i y : Nat, y ∈ B i → nd y ≠ T := fun i y hy z => by
    have := (b1 i y hy).2.2.2.2.1
    rw [z, m11] at this
    cases this
  have hyh : ∀ i y : Nat, y ∈ B i → y ≠ h := fun i y hy z => by
    subst z
    have := (b1 i y hy).2.1
    rw [← this] at hy
    exact hnew hy
  have tgZ : ∀ b : Nat, m_tg Z b = if b = u then 19 else m_tg M b := fun b => by rw [hZ, m_tg_pr, n1]
  have lnZ : ∀ b : Nat, m_ln Z b = if b = u then 0 else m_ln M b := fun b => by rw [hZ, m_ln_pr, n2]
  have giZ : ∀ b f : Nat, b ≠ u → m_gi Z b f = m_gi M b f := fun b f hb => by rw [hZ, m_gi_pr, n3 b f hb]
  have grZ : ∀ b f : Nat, m_gr Z b f = if b = pb ∧ f = pf then some u else m_gr M' b f := fun b f => by rw [hZ, m_gr_pr]
  -- the place is no field of H, and of a node only its link
  have pH : ∀ f : Nat, ¬ (H = pb ∧ f = pf) := fun f z => by
    rcases hp with ⟨_, e, _⟩ | ⟨y, hy, e, _⟩
    · exact hHT (z.1.trans e)
    · exact hnH _ y (List.mem_of_getLast? hy) (e.symm.trans z.1.symm)
  have pu : ∀ f : Nat, ¬ (u = pb ∧ f = pf) := fun f z => by
    rcases hp with ⟨_, e, _⟩ | ⟨y, hy, e, _⟩
    · exact huT (z.1.trans e).symm
    · exact hnu _ y (List.mem_of_getLast? hy) (e.symm.trans z.1.symm)
  have p3 : ∀ i y f : Nat, y ∈ B i → f ≠ 3 → ¬ (nd y = pb ∧ f = pf) := fun i y f hy hf z => by
    rcases hp with ⟨_, e, _⟩ | ⟨_, _, _, e⟩
    · exact hnT i y hy (z.1.trans e)
    · exact hf (z.2.trans e)
  have ndZ : ∀ i y : Nat, y ∈ B i → l_nd g Z P (l_ndu nd h u) (fun y => if y = h then v else V y) y := fun i y hy => by
    obtain ⟨a1, a2, a3, ⟨k', c1, c2, c3, c4, c5⟩, x', d1, d2, d3⟩ := (b1 i y hy).2.2.2
    have ey : l_ndu nd h u y = nd y := if_neg (hyh i y hy)
    have ku : k' ≠ u := fun z => by rw [z, u0] at c3; cases c3
    have xu : x' ≠ u := fun z => by rw [z, u0] at d2; cases d2
    unfold l_nd
    rw [ey]
    dsimp only
    rw [if_neg (hyh i y hy)]
    exact ⟨a1, by rw [tgZ, if_neg (hnu i y hy), a2], by rw [giZ _ _ (hnu i y hy), a3], ⟨k', by rw [grZ, if_neg (p3 i y 1 hy (by decide)), n9 _ _ (hnu i y hy) (by decide) (fun z => hnH i y hy z.1), c1], c2, by rw [tgZ, if_neg ku, c3], by rw [giZ _ _ ku, c4], by rw [giZ _ _ ku, c5]⟩, x', by rw [grZ, if_neg (p3 i y 2 hy (by decide)), n9 _ _ (hnu i y hy) (by decide) (fun z => hnH i y hy z.1), d1], by rw [tgZ, if_neg xu, d2], d3⟩
  have ndh : l_nd g Z P (l_ndu nd h u) (fun y => if y = h then v else V y) h := by
    have eh : l_ndu nd h u h = u := if_pos rfl
    have ku : k ≠ u := fun z => by rw [z, u0] at kt; cases kt
    have xu : x ≠ u := fun z => by rw [z, u0] at xt; cases xt
    unfold l_nd
    rw [eh]
    dsimp only
    rw [if_pos rfl]
    exact ⟨Pu, by rw [tgZ, if_pos rfl], by rw [hZ, m_gi_pr, n4], ⟨k, by rw [grZ, if_neg (pu 1), n5], Pk, by rw [tgZ, if_neg ku, kt], by rw [giZ _ _ ku, k0], by rw [giZ _ _ ku, k1]⟩, x, by rw [grZ, if_neg (pu 2), n6], by rw [tgZ, if_neg xu, xt], xv⟩
  have memB : ∀ i y : Nat, y ∈ l_Bu B (h % cap) h i → y ∈ B i ∨ (i = h % cap ∧ y = h) := fun i y hy => by
    unfold l_Bu at hy
    by_cases e : i = h % cap
    · rw [if_pos e] at hy
      rcases List.mem_append.mp hy with z | z
      · exact Or.inl (by rw [e]; exact z)
      · exact Or.inr ⟨e, List.mem_singleton.mp z⟩
    · rw [if_neg e] at hy
      exact Or.inl hy
  refine ⟨m1, by rw [tgZ, if_neg huH, m2], by rw [giZ _ _ huH, m3], by rw [giZ _ _ huH, m4], by rw [giZ _ _ huH, m5], fun t ht => ?_, ⟨fun i y hy => ?_, fun i => ?_, fun i j y y' hy hy' he => ?_⟩, m8, ?_, m10, by rw [tgZ, if_neg huT, m11], by rw [lnZ, if_neg huT, m12], by rw [giZ _ _ huH, m13], fun i hic => ?_⟩
  · rw [grZ, if_neg (pH 9), n8] at ht
    cases ht
    exact ⟨Pu, by rw [tgZ, if_pos rfl]⟩
  · rcases memB i y hy with z | ⟨e1, e2⟩
    · obtain ⟨k1', k2, k3, _⟩ := b1 i y z
      exact ⟨k1', k2, k3, ndZ i y z⟩
    · subst e2
      exact ⟨by rw [e1]; exact hi, e1.symm, hh, ndh⟩
  · unfold l_Bu
    split
    · exact List.nodup_append.mpr ⟨b2 _, List.nodup_cons.mpr ⟨List.not_mem_nil, List.nodup_nil⟩, fun a ha b hb e => by
        rw [List.mem_singleton.mp hb] at e
        rw [e] at ha
        exact hnew ha⟩
    · exact b2 i
  · rcases memB i y hy with z | ⟨e1, e2⟩
    · rcases memB j y' hy' with z' | ⟨e1', e2'⟩
      · unfold l_ndu at he
        rw [if_neg (hyh i y z), if_neg (hyh j y' z')] at he
        exact b3 i j y y' z z' he
      · exfalso
        unfold l_ndu at he
        rw [if_neg (hyh i y z), if_pos e2'] at he
        exact hnu i y z he
    · rcases memB j y' hy' with z' | ⟨e1', e2'⟩
      · exfalso
        unfold l_ndu at he
        rw [if_pos e2, if_neg (hyh j y' z')] at he
        exact hnu j y' z' he.symm
      · rw [e2, e2']
  · rw [grZ, if_neg (pH 2), n9 H 2 huH (by decide) (fun z => by omega), m9]
  · have hc := m14 i hic
    have lk : ∀ j y : Nat, y ∈ B j → ¬ (nd y = pb ∧ 3 = pf) → m_gr Z (nd y) 3 = m_gr M (nd y) 3 := fun j y hy hn => by rw [grZ, if_neg hn, n9 _ _ (hnu j y hy) (by decide) (fun z => hnH j y hy z.1)]
    have eT : ∀ f : Nat, ¬ (T = pb ∧ f = pf) → m_gr Z T f = m_gr M T f := fun f hn => by rw [grZ, if_neg hn, n10 T (by rw [m11]; decide) huT f (fun z => hHT z.1.symm)]
    unfold l_Bu
    by_cases e : i = h % cap
    · rw [if_pos e]
      subst e
      rcases hp with ⟨e0, e1, e2⟩ | ⟨z, hz, e1, e2⟩
      · rw [e0, grZ, if_pos ⟨e1.symm, e2.symm⟩]
        exact ⟨by unfold l_ndu; rw [if_pos rfl], by
          show m_gr Z (l_ndu nd h u h) 3 = none
          unfold l_ndu
          rw [if_pos rfl, grZ, if_neg (pu 3), n7]⟩
      · have hzm := List.mem_of_getLast? hz
        rw [eT _ (fun y => hnT _ z hzm (e1.symm.trans y.1.symm))]
        refine l_ch_snoc (nd' := l_ndu nd h u) (h := h) (u := u) (if_pos rfl) (by rw [grZ, if_neg (pu 3), n7]) (by rw [grZ, if_pos ⟨e1.symm, e2.symm⟩]) hc hz (b2 _) (fun y hy hyz => lk _ y hy (fun w => hyz (b3 _ _ y z hy hzm (w.1.trans e1)))) (fun y hy => if_neg (hyh _ y hy))
    · rw [if_neg e]
      have hTn : ¬ (T = pb ∧ i = pf) := fun y => by
        rcases hp with ⟨_, e1, e2⟩ | ⟨z, hz, e1, _⟩
        · exact e (y.2.trans e2)
        · exact hnT _ z (List.mem_of_getLast? hz) (e1.symm.trans y.1.symm)
      rw [eT _ hTn]
      refine l_ch_cg hc (fun y hy => ⟨lk i y hy (fun w => ?_), if_neg (hyh i y hy)⟩)
      rcases hp with ⟨_, e1, _⟩ | ⟨z, hz, e1, _⟩
      · exact hnT i y hy (w.1.trans e1)
      · have hzm := List.mem_of_getLast? hz
        have := b3 i _ y z hy hzm (w.1.trans e1)
        subst this
        exact e ((b1 i y hy).2.1.symm.trans (b1 _ y hzm).2.1)
end
section
variable {g : Nat → Nat} {P : Nat → Prop} {H T cap cnt : Nat} {B : Nat → List Nat} {nd V : Nat → Nat}
/-- what put leads to -/
def l_PQ (g : Nat → Nat) (M : Mem) (P : Nat → Prop) (H cap cnt h v : Nat) (B : Nat → List Nat) (V : Nat → Nat) (Q : Option Nat → Mem → Prop) : Prop := ∀ (M' : Mem) (T' cap' : Nat) (B' : Nat → List Nat) (nd' V' : Nat → Nat), l_M g M' P H T' cap' (cnt + 1) B' nd' V' → (∀ y : Nat, l_in B' cap' y ↔ l_in B cap y ∨ y = h) → (∀ y : Nat, V' y = if y = h then v else V y) → m_le M M' → (∀ b : Nat, m_tg M b ≠ 0 → ¬ P b → M'.1 b = M.1 b) → m_nc M' ≤ m_nc M + 3 → m_ns M' ≤ m_ns M + 90 → Q none M'
theorem l_put29 {M : Mem} {Q : Option Nat → Mem → Prop} {h k x v : Nat} (hnode : ∀ (M : Mem) (y : Nat), m_tg M y = 19 → m_asg M y "java/util/HashMap$Node") (hM : l_M0 g M P H T cap cnt B nd V) (hc : cnt ≤ cap * 3 / 4) (hc40 : cnt ≤ 40) (hP : ∀ b : Nat, m_tg M b = 0 → P b) (hh : l_hv h) (hnew : ¬ l_in B cap h) (Pk : P k) (kt : m_tg M k = 4) (k0 : m_gi M k 0 = nI (h / 12)) (k1 : m_gi M k 1 = nI (h % 12)) (xt : m_tg M x = 150) (xv : m_ub g x = nI v) (hroom : m_nc M + 2 ≤ m_CM ∧ m_ns M + 70 ≤ m_SM)
    (hQ : ∀ (M' : Mem) (T' cap' : Nat) (B' : Nat → List Nat) (nd' V' : Nat → Nat), l_M g M' P H T' cap' (cnt + 1) B' nd' V' → (∀ y : Nat, l_in B' cap' y ↔ l_in B cap y ∨ y = h) → (∀ y : Nat, V' y = if y = h then v else V y) → m_le M M' → (∀ b : Nat, m_tg M b ≠ 0 → ¬ P b → M'.1 b = M.1 b) → m_nc M' ≤ m_nc M + 2 → m_ns M' ≤ m_ns M + 70 → Q none M') : wp_J8_putValL_b29 g M H (nI h) k x 0 1 (some T) (nI cap) Q := by
  obtain ⟨m1, m2, m3, m4, m5, m6, ⟨b1, b2, b3⟩, m8, m9, m10, m11, m12, m13, m14⟩ := id hM
  have hc64 : 16 ≤ cap ∧ cap ≤ 64 := by rcases m8 with rfl | rfl | rfl <;> decide
  have hi : h % cap < cap := Nat.mod_lt _ (by omega)
  have hnew' : h ∉ B (h % cap) := hnew
  -- behind the new node
  have fin : ∀ (pb pf : Nat), ((B (h % cap) = [] ∧ pb = T ∧ pf = h % cap) ∨ ∃ z : Nat, (B (h % cap)).getLast? = some z ∧ pb = nd z ∧ pf = 3) → ∀ (u : Nat) (M' : Mem), m_tg M u = 0 → (∀ b : Nat, m_tg M' b = if b = u then 19 else m_tg M b) → (∀ b : Nat, m_ln M' b = if b = u then 0 else m_ln M b) → (∀ b f : Nat, b ≠ u → m_gi M' b f = m_gi M b f) → m_gi M' u 0 = nI h → m_gr M' u 1 = some k → m_gr M' u 2 = some x → m_gr M' u 3 = none → m_gr M' H 9 = some u → (∀ b f : Nat, b ≠ u → f ≠ 5 → ¬ (b = H ∧ (f = 8 ∨ f = 9)) → m_gr M' b f = m_gr M b f) → (∀ b : Nat, m_tg M b ≠ 19 → b ≠ u → ∀ f : Nat, ¬ (b = H ∧ (f = 8 ∨ f = 9)) → m_gr M' b f = m_gr M b f) → (∀ b : Nat, b ≠ u → b ≠ H → (∀ t : Nat, m_gr M H 9 = some t → b ≠ t) → M'.1 b = M.1 b) → m_nc M' = m_nc M + 1 → m_ns M' = m_ns M + 6 → ∀ Z : Mem, Z = m_pr M' pb pf (some u) → wp_J8_putValL_b259 g Z H 1 Q := by
    intro pb pf hp u M' u0 n1 n2 n3 n4 n5 n6 n7 n8 n9 n10 n11 n12 n13 Z hZ
    have hpl := l_place (v := v) hM hh hnew' (hP u u0) Pk kt k0 k1 xt xv u0 n1 n2 n3 n4 n5 n6 n7 n8 n9 n10 hZ hp
    have hle : m_le M Z := fun b hb => by
      have hbu : b ≠ u := fun z => hb (by rw [z]; exact u0)
      rw [hZ, m_tg_pr, m_ln_pr, n1, n2, if_neg hbu, if_neg hbu]
      exact ⟨rfl, rfl⟩
    have nZ : m_nc Z = m_nc M + 1 ∧ m_ns Z = m_ns M + 6 := by rw [hZ]; exact ⟨n12, n13⟩
    have hPz : ∀ b : Nat, m_tg Z b = 0 → P b := fun b hb => hP b (Classical.byContradiction (fun z => z ((hle b z).1.symm.trans hb)))
    have Ppb : P pb := by
      rcases hp with ⟨_, e, _⟩ | ⟨z, hz, e, _⟩
      · rw [e]
        exact m10
      · rw [e]
        exact (b1 _ z (List.mem_of_getLast? hz)).2.2.2.1
    refine l_after hnode hpl hc hc40 hPz ⟨by omega, by omega⟩ (fun M2 T2 cap2 B2 q1 q2 q3 q4 q5 q6 => hQ M2 T2 cap2 B2 _ _ q1 (fun y => (q2 y).trans ?_) (fun y => rfl) (m_le_tr hle q3) (fun b hb hbP => ?_) (by omega) (by omega))
    · unfold l_in l_Bu
      by_cases e : y % cap = h % cap
      · rw [if_pos e, List.mem_append, List.mem_singleton, e]
      · rw [if_neg e]
        exact ⟨Or.inl, fun z => z.elim id (fun w => absurd (by rw [w]) e)⟩
    · rw [q4 b hbP, hZ]
      have hbu : b ≠ u := fun z => hb (by rw [z]; exact u0)
      have hbH : b ≠ H := fun z => hbP (by rw [z]; exact m1)
      unfold m_pr
      dsimp only
      rw [if_neg (fun z => hbP (by rw [z]; exact Ppb))]
      exact n11 b hbu hbH (fun t ht z => hbP (by rw [z]; exact (m6 t ht).1))
  unfold wp_J8_putValL_b29
  rw [pn_mask m8 hh.2, pn_cl (show h % cap < 2147483648 by omega)]
  have vin : vp_in (nI (h % cap)) cap := (pn_in (by omega)).mpr hi
  refine ⟨T, rfl, m11, by rw [m12]; exact vin, fun r5 h5 => ⟨fun hn => ⟨m2, ?_⟩, fun u7 h7 => ?_⟩⟩
  · have hB : B (h % cap) = [] := by
      have := l_ch_hd (m14 _ hi)
      cases hb : B (h % cap) with
      | nil => rfl
      | cons a t => rw [hb] at this; rw [h5, this] at hn; cases hn
    refine l_new m2 m4 (fun t ht => (m6 t ht).2) ⟨by omega, by omega⟩ (fun u M' u0 n1 n2 n3 n4 n5 n6 n7 n8 n9 n10 n11 n12 n13 _ => ⟨?_, fun y hy => ?_, fun Z hZ => fin T (h % cap) (Or.inl ⟨hB, rfl, rfl⟩) u M' u0 n1 n2 n3 n4 n5 n6 n7 n8 n9 n10 n11 n12 n13 Z hZ⟩)
    · have hTu : T ≠ u := fun z => by rw [← z, m11] at u0; cases u0
      rw [n2, if_neg hTu, m12]
      exact vin
    · cases hy
      exact hnode M' u (by rw [n1, if_pos rfl])
  · cases hb : B (h % cap) with
    | nil =>
      have := l_ch_hd (m14 _ hi)
      rw [hb] at this
      rw [h5, this] at h7
      cases h7
    | cons a t =>
      have hch := m14 _ hi
      rw [hb] at hch
      have ea : nd a = u7 := by
        rw [h5, hch.1] at h7
        cases h7
        rfl
      subst ea
      have hlen : (a :: t).length ≤ 6 := by
        rw [← hb]
        exact l_len6 m8 hi (b2 _) (fun y hy => ⟨(b1 _ y hy).2.2.1, (b1 _ y hy).2.1⟩)
      have nodeh : ∀ y : Nat, y ∈ a :: t → m_tg M (nd y) = 19 ∧ ¬ m_gi M (nd y) 0 = nI h := fun y hy => by
        rw [← hb] at hy
        obtain ⟨_, e2, e3, _, e5, e6, _⟩ := b1 _ y hy
        refine ⟨e5, fun z => ?_⟩
        rw [e6] at z
        have := (pn_inj (by have := e3.2; omega) (by have := hh.2; omega)).mp z
        rw [this] at hy
        exact hnew' hy
      -- to the end of the chain
      have loop : ∀ (s : List Nat) (b c : Nat), (∃ pre : List Nat, a :: t = pre ++ b :: s) → l_ch M nd (m_gr M (nd b) 3) s → c + s.length ≤ 6 → wp_J8_putValL_b134 g Q (s.length + 1) M H (nI h) k x 0 1 (some T) (nd b) (nI c) := by
        intro s
        induction s with
        | nil =>
          intro b c hpre hcs hcl
          obtain ⟨pre, hpre⟩ := hpre
          have hbm : b ∈ a :: t := by rw [hpre]; exact List.mem_append_right _ List.mem_cons_self
          have hlast : (B (h % cap)).getLast? = some b := by
            rw [hb, hpre, List.getLast?_append]
            rfl
          refine ⟨(nodeh b hbm).1, fun r2 h2 => ⟨fun _ => ⟨m2, ?_⟩, fun u4 h4 => ?_⟩⟩
          · refine l_new m2 m4 (fun t ht => (m6 t ht).2) ⟨by omega, by omega⟩ (fun u M' u0 n1 n2 n3 n4 n5 n6 n7 n8 n9 n10 n11 n12 n13 _ => fun M28 h28 => ⟨fun _ => ⟨fun _ => ?_, fun u1 hu1 => by cases hu1⟩, fun z => absurd ((pn_lt (b := 7) (by omega) (by omega)).mpr (by have : c + 0 ≤ 6 := hcl; omega)) z⟩)
            exact fin (nd b) 3 (Or.inr ⟨b, hlast, rfl, rfl⟩) u M' u0 n1 n2 n3 n4 n5 n6 n7 n8 n9 n10 n11 n12 n13 M28 h28
          · rw [h2, show m_gr M (nd b) 3 = none from hcs] at h4
            cases h4
        | cons y s ih =>
          intro b c hpre hcs hcl
          obtain ⟨pre, hpre⟩ := hpre
          have hbm : b ∈ a :: t := by rw [hpre]; exact List.mem_append_right _ List.mem_cons_self
          have hym : y ∈ a :: t := by rw [hpre]; exact List.mem_append_right _ (List.mem_cons_of_mem _ List.mem_cons_self)
          refine ⟨(nodeh b hbm).1, fun r2 h2 => ⟨fun z => ?_, fun u4 h4 => ?_⟩⟩
          · rw [h2, hcs.1] at z
            cases z
          · rw [h2, hcs.1] at h4
            cases h4
            refine ⟨(nodeh y hym).1, fun _ => ?_, fun z => absurd z (nodeh y hym).2⟩
            rw [pn_succ]
            exact ih y (c + 1) ⟨pre ++ [b], by rw [hpre, List.append_assoc]; rfl⟩ hcs.2 (by have : c + (s.length + 1) ≤ 6 := hcl; omega)
      have ham := nodeh a List.mem_cons_self
      refine ⟨ham.1, fun _ => ⟨ham.1, t.length + 1, loop t a 0 ⟨[], rfl⟩ hch.2 (by have : t.length + 1 ≤ 6 := hlen; omega)⟩, fun z => absurd z ham.2⟩
/-- a new pair is put in -/
theorem l_put {M : Mem} {Q : Option Nat → Mem → Prop} {k x v lo hi : Nat} (hnode : ∀ (M : Mem) (y : Nat), m_tg M y = 19 → m_asg M y "java/util/HashMap$Node") (hM : l_M g M P H T cap cnt B nd V) (hc40 : cnt ≤ 40) (hP : ∀ b : Nat, m_tg M b = 0 → P b) (hlh : lo < hi) (hh12 : hi < 12) (hnew : ¬ l_in B cap (12 * lo + hi)) (Pk : P k) (kt : m_tg M k = 4) (k0 : m_gi M k 0 = nI lo) (k1 : m_gi M k 1 = nI hi) (xt : m_tg M x = 150) (xv : m_ub g x = nI v) (hroom : m_nc M + 3 ≤ m_CM ∧ m_ns M + 90 ≤ m_SM) (hQ : l_PQ g M P H cap cnt (12 * lo + hi) v B V Q) : wp_J8_putL g M H k x Q := by
  have h12 : 12 * nI lo + nI hi = nI (12 * lo + hi) := q12
  have ed : (12 * lo + hi) / 12 = lo := by omega
  have em : (12 * lo + hi) % 12 = hi := by omega
  have hh : l_hv (12 * lo + hi) := ⟨by rw [ed, em]; exact hlh, by omega⟩
  obtain ⟨m1, m2, m3, m4, m5, m6, m7, m8⟩ := hM
  refine ⟨kt, kt, fun _ _ => ⟨m2, m2, fun r2 h2 => ⟨fun hn => ?_, fun u4 h4 => ?_⟩⟩⟩
  · rw [k0, k1, h12, pn_hash2 hh.2]
    rcases m8 with ⟨c0, cn0, hnone, hth⟩ | ⟨_, hT, _⟩
    · refine ⟨m2, m2, fun r2' h2' => ⟨fun _ => ⟨m2, fun _ => ⟨fun _ => ?_, fun z => absurd (by rw [hth]; decide) z⟩, fun z => absurd (by decide) z⟩, fun u4 h4 => by rw [h2', hnone] at h4; cases h4⟩⟩
      refine ⟨fun _ => ⟨m2, fun M3 h3 => ⟨by decide, ⟨?_, ?_⟩, fun T' hT' M11 h11 M16 h16 => ⟨fun _ _ => ⟨T', rfl, ?_, ?_⟩, fun u z => by cases z⟩⟩⟩, fun z => absurd z (by decide)⟩
      · rw [h3]
        show m_nc M + 1 ≤ m_CM
        omega
      · rw [h3]
        show m_ns M + 16 ≤ m_SM
        omega
      · left
        rw [h16, m_tg_pr, h11, m_tg_al, if_pos rfl]
        omega
      · have hT0 : m_tg M T' = 0 := by rw [h3, m_tg_pi] at hT'; exact hT'
        have hHT : H ≠ T' := fun z => by rw [← z, m2] at hT0; cases hT0
        have c16 : Int32.toNatClampNeg 16 = 16 := rfl
        rw [c16] at h11
        have tg16 : ∀ b : Nat, m_tg M16 b = if b = T' then 104 else m_tg M b := fun b => by rw [h16, m_tg_pr, h11, m_tg_al, h3, m_tg_pi]
        have ln16 : ∀ b : Nat, m_ln M16 b = if b = T' then 16 else m_ln M b := fun b => by rw [h16, m_ln_pr, h11, m_ln_al, h3, m_ln_pi]
        have gi16 : ∀ b f : Nat, m_gi M16 b f = if b = T' then 0 else if b = H ∧ f = 6 then 12 else m_gi M b f := fun b f => by rw [h16, m_gi_pr, h11, m_gi_al, h3, m_gi_pi]
        have gr16 : ∀ b f : Nat, m_gr M16 b f = if b = H ∧ f = 2 then some T' else if b = T' then none else m_gr M b f := fun b f => by rw [h16, m_gr_pr, h11, m_gr_al, h3, m_gr_pi]
        have ce16 : ∀ b : Nat, b ≠ H → b ≠ T' → M16.1 b = M.1 b := fun b b1 b2 => by
          rw [h16, h11, h3]
          unfold m_pr m_al m_pi
          dsimp only
          rw [if_neg b1, if_neg b2, if_neg b1]
        have hBn : ∀ i : Nat, B i = [] := fun i => by
          cases hb : B i with
          | nil => rfl
          | cons a t =>
            have := (m7.1 i a (by rw [hb]; exact List.mem_cons_self)).1
            omega
        have le16 : m_le M M16 := fun b hb => by
          have hbT : b ≠ T' := fun z => hb (by rw [z]; exact hT0)
          rw [tg16, ln16, if_neg hbT, if_neg hbT]
          exact ⟨rfl, rfl⟩
        have n16 : m_nc M16 = m_nc M + 1 ∧ m_ns M16 = m_ns M + 16 := by rw [h16, h11, h3]; exact ⟨rfl, rfl⟩
        have kT : k ≠ T' := fun z => by rw [z, hT0] at kt; cases kt
        have kH : k ≠ H := fun z => by rw [z, m2] at kt; cases kt
        have xT : x ≠ T' := fun z => by rw [z, hT0] at xt; cases xt
        rw [ln16, if_pos rfl]
        subst cn0
        refine l_put29 (g := g) (P := P) (T := T') (cap := 16) (cnt := 0) (B := B) (nd := nd) (V := V) (v := v) hnode ⟨m1, by rw [tg16, if_neg hHT, m2], by rw [gi16, if_neg hHT, if_neg (by omega), m3], by rw [gi16, if_neg hHT, if_neg (by omega), m4], by rw [gi16, if_neg hHT, if_neg (by omega), m5], fun t ht => ?_, ⟨fun i y hy => (by rw [hBn] at hy; cases hy), fun i => (by rw [hBn]; exact List.nodup_nil), fun i j y y' hy => (by rw [hBn] at hy; cases hy)⟩, Or.inl rfl, by rw [gr16, if_pos ⟨rfl, rfl⟩], hP T' hT0, by rw [tg16, if_pos rfl], by rw [ln16, if_pos rfl], by rw [gi16, if_neg hHT, if_pos ⟨rfl, rfl⟩]; rfl, fun i hi => ?_⟩ (by omega) (by omega) (fun b hb => hP b ?_) hh (fun z => by unfold l_in at z; rw [hBn] at z; cases z) Pk (by rw [tg16, if_neg kT, kt]) (by rw [gi16, if_neg kT, if_neg (fun z => kH z.1), k0, ed]) (by rw [gi16, if_neg kT, if_neg (fun z => kH z.1), k1, em]) (by rw [tg16, if_neg xT, xt]) xv ⟨by omega, by omega⟩ (fun M' T2 cap2 B2 nd2 V2 q1 q2 q3 q4 q5 q6 q7 _ => hQ M' T2 cap2 B2 nd2 V2 q1 (fun y => (q2 y).trans ?_) q3 (m_le_tr le16 q4) (fun b hb hbP => ?_) (by omega) (by omega))
        · rw [gr16, if_neg (by omega), if_neg hHT] at ht
          obtain ⟨k1', k2'⟩ := m6 t ht
          have htT : t ≠ T' := fun z => by rw [z, hT0] at k2'; cases k2'
          exact ⟨k1', by rw [tg16, if_neg htT, k2']⟩
        · rw [hBn, gr16, if_neg (fun z => hHT z.1.symm), if_pos rfl]
          rfl
        · apply Classical.byContradiction
          intro z
          exact z ((le16 b z).1.symm.trans hb)
        · unfold l_in
          rw [hBn, hBn]
        · rw [q5 b (by rw [(le16 b hb).1]; exact hb) hbP]
          exact ce16 b (fun z => hbP (by rw [z]; exact m1)) (fun z => hb (by rw [z]; exact hT0))
    · rw [h2, hT] at hn
      cases hn
  · rw [k0, k1, h12, pn_hash2 hh.2]
    rcases m8 with ⟨_, _, hnone, _⟩ | ⟨hcap, hT, PT, tT, lT, hth, hcnt, hch⟩
    · rw [h2, hnone] at h4
      cases h4
    · have e4 : T = u4 := by
        rw [h2, hT] at h4
        cases h4
        rfl
      subst e4
      have hc64 : 16 ≤ cap ∧ cap ≤ 64 := by rcases hcap with rfl | rfl | rfl <;> decide
      rw [lT]
      refine ⟨Or.inl (by omega), fun _ => ?_, fun z => ?_⟩
      · exact l_put29 (g := g) (v := v) hnode ⟨m1, m2, m3, m4, m5, m6, m7, hcap, hT, PT, tT, lT, hth, hch⟩ hcnt hc40 hP hh hnew Pk kt (by rw [k0, ed]) (by rw [k1, em]) xt xv ⟨by omega, by omega⟩ (fun M' T2 cap2 B2 nd2 V2 q1 q2 q3 q4 q5 q6 q7 _ => hQ M' T2 cap2 B2 nd2 V2 q1 q2 q3 q4 q5 (by omega) (by omega))
      · rw [show (nI cap = 0) = (cap = 0) from pn_eqe (b := 0) (by omega) (by omega)] at z
        omega
end
