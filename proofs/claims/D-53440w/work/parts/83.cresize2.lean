/-! PURE: a LinkedHashMap's table is doubled: all buckets -/
set_option maxRecDepth 100000
theorem l_ch_hd {M : Mem} {nd : Nat → Nat} {r : Option Nat} {s : List Nat} (h : l_ch M nd r s) : r = l_hd nd s := by
  cases s with
  | nil => exact h
  | cons a s => exact h.1
/-- behind j buckets -/
def l_RS (X1 X : Mem) (nd : Nat → Nat) (B : Nat → List Nat) (T T' cap j : Nat) : Prop :=
  (∀ b : Nat, m_tg X b = m_tg X1 b ∧ m_ln X b = m_ln X1 b) ∧ (∀ b f : Nat, m_gi X b f = m_gi X1 b f) ∧ m_nc X = m_nc X1 ∧ m_ns X = m_ns X1 ∧
  (∀ b : Nat, b ≠ T → b ≠ T' → (∀ i h : Nat, h ∈ B i → b ≠ nd h) → X.1 b = X1.1 b) ∧ (∀ i h f : Nat, h ∈ B i → f ≠ 3 → m_gr X (nd h) f = m_gr X1 (nd h) f) ∧
  (∀ i : Nat, j ≤ i → i < cap → m_gr X T i = m_gr X1 T i ∧ l_ch X nd (m_gr X T i) (B i) ∧ m_gr X T' i = none ∧ m_gr X T' (i + cap) = none) ∧
  ∀ i : Nat, i < j → l_ch X nd (m_gr X T' i) ((B i).filter (fun h => h % (2 * cap) = i)) ∧ l_ch X nd (m_gr X T' (i + cap)) ((B i).filter (fun h => h % (2 * cap) = i + cap))
section
variable {g : Nat → Nat} {nd V : Nat → Nat} {P : Nat → Prop} {B : Nat → List Nat}
theorem l_RS_step {X1 X X' : Mem} {T T' cap j : Nat} (hS : l_RS X1 X nd B T T' cap j) (hj : j < cap) (hTT : T ≠ T') (hnT : ∀ i h : Nat, h ∈ B i → nd h ≠ T ∧ nd h ≠ T') (hinj : ∀ i k h x : Nat, h ∈ B i → x ∈ B k → nd h = nd x → h = x) (hmod : ∀ i h : Nat, h ∈ B i → h % cap = i)
    (htl : ∀ b : Nat, m_tg X' b = m_tg X b ∧ m_ln X' b = m_ln X b) (hgi : ∀ b f : Nat, m_gi X' b f = m_gi X b f) (hnc : m_nc X' = m_nc X ∧ m_ns X' = m_ns X) (hcell : ∀ b : Nat, b ≠ T → b ≠ T' → (∀ h : Nat, h ∈ B j → b ≠ nd h) → X'.1 b = X.1 b) (hgr : ∀ b f : Nat, ¬ (b = T' ∧ (f = j ∨ f = j + cap)) → ¬ (b = T ∧ f = j) → ¬ (f = 3 ∧ ∃ h : Nat, h ∈ B j ∧ b = nd h) → m_gr X' b f = m_gr X b f)
    (hlo : l_ch X' nd (m_gr X' T' j) ((B j).filter (fun h => h % (2 * cap) = j))) (hhi : l_ch X' nd (m_gr X' T' (j + cap)) ((B j).filter (fun h => h % (2 * cap) = j + cap))) : l_RS X1 X' nd B T T' cap (j + 1) := by
  obtain ⟨s1, s2, s3, s4, s5, s6, s7, s8⟩ := hS
  have other : ∀ i h : Nat, i ≠ j → h ∈ B i → m_gr X' (nd h) 3 = m_gr X (nd h) 3 := fun i h hij hh => hgr _ _ (fun z => (hnT i h hh).2 z.1) (fun z => (hnT i h hh).1 z.1) (fun z => by
    obtain ⟨x, hx, e⟩ := z.2
    have := hinj i j h x hh hx e
    have h1 := hmod i h hh
    have h2 := hmod j x hx
    rw [this] at h1
    exact hij (h1.symm.trans h2))
  refine ⟨fun b => ⟨(htl b).1.trans (s1 b).1, (htl b).2.trans (s1 b).2⟩, fun b f => (hgi b f).trans (s2 b f), hnc.1.trans s3, hnc.2.trans s4, fun b h1 h2 h3 => (hcell b h1 h2 (fun h hh => h3 j h hh)).trans (s5 b h1 h2 h3), fun i h f hh hf => (hgr _ _ (fun z => (hnT i h hh).2 z.1) (fun z => (hnT i h hh).1 z.1) (fun z => hf z.1)).trans (s6 i h f hh hf), fun i hi hic => ?_, fun i hi => ?_⟩
  · obtain ⟨k1, k2, k3, k4⟩ := s7 i (by omega) hic
    have eT : m_gr X' T i = m_gr X T i := hgr _ _ (fun z => hTT z.1) (fun z => by omega) (fun z => by
      obtain ⟨x, hx, e⟩ := z.2
      exact (hnT j x hx).1 e.symm)
    have eT' : ∀ y : Nat, y ≠ j → y ≠ j + cap → m_gr X' T' y = m_gr X T' y := fun y h1 h2 => hgr _ _ (fun z => z.2.elim h1 h2) (fun z => hTT z.1.symm) (fun z => by
      obtain ⟨x, hx, e⟩ := z.2
      exact (hnT j x hx).2 e.symm)
    refine ⟨eT.trans k1, ?_, (eT' i (by omega) (by omega)).trans k3, (eT' (i + cap) (by omega) (by omega)).trans k4⟩
    rw [eT]
    exact l_ch_same k2 (fun h hh => other i h (by omega) hh)
  · by_cases e : i = j
    · subst e
      exact ⟨hlo, hhi⟩
    · obtain ⟨k1, k2⟩ := s8 i (by omega)
      have eT' : ∀ y : Nat, y ≠ j → y ≠ j + cap → m_gr X' T' y = m_gr X T' y := fun y h1 h2 => hgr _ _ (fun z => z.2.elim h1 h2) (fun z => hTT z.1.symm) (fun z => by
        obtain ⟨x, hx, e⟩ := z.2
        exact (hnT j x hx).2 e.symm)
      rw [eT' i (by omega) (by omega), eT' (i + cap) (by omega) (by omega)]
      exact ⟨l_ch_same k1 (fun h hh => other i h e (List.mem_filter.mp hh).1), l_ch_same k2 (fun h hh => other i h e (List.mem_filter.mp hh).1)⟩
theorem l_buckets {Q : Option Nat → Mem → Prop} {X1 : Mem} {H T T' cap : Nat} (hnode : ∀ (M : Mem) (y : Nat), m_tg M y = 19 → m_asg M y "java/util/HashMap$Node") (hcap : cap = 16 ∨ cap = 32) (hT : m_tg X1 T = 104) (hTl : m_ln X1 T = cap) (hT' : m_tg X1 T' = 104) (hl' : m_ln X1 T' = 2 * cap) (hTT : T ≠ T') (htg : ∀ i x : Nat, x ∈ B i → m_tg X1 (nd x) = 19 ∧ m_gi X1 (nd x) 0 = nI x ∧ x < 144 ∧ x % cap = i) (hinj : ∀ i k h x : Nat, h ∈ B i → x ∈ B k → nd h = nd x → h = x) (hndu : ∀ i : Nat, (B i).Nodup)
    (hQ : ∀ X : Mem, l_RS X1 X nd B T T' cap cap → Q (some T') X) : ∀ (dd j : Nat), j + dd = cap → ∀ X : Mem, l_RS X1 X nd B T T' cap j → wp_J8_resizeL_b151 g Q (dd + 1) X H T (nI cap) (nI (2 * cap)) T' (nI j) := by
  have hc64 : cap ≤ 64 := by rcases hcap with rfl | rfl <;> decide
  have hnT : ∀ i h : Nat, h ∈ B i → nd h ≠ T ∧ nd h ≠ T' := by
    intro i h hh
    refine ⟨fun z => ?_, fun z => ?_⟩
    · have := (htg i h hh).1
      rw [z, hT] at this
      cases this
    · have := (htg i h hh).1
      rw [z, hT'] at this
      cases this
  have hmod : ∀ i h : Nat, h ∈ B i → h % cap = i := fun i h hh => (htg i h hh).2.2.2
  intro dd
  induction dd with
  | zero =>
    intro j hj X hS
    have e : j = cap := by omega
    subst e
    exact ⟨fun _ => hQ X hS, fun z => absurd ((pn_le (by omega) (by omega)).mpr (Nat.le_refl _)) z⟩
  | succ dd ih =>
    intro j hj X hS
    have hjc : j < cap := by omega
    obtain ⟨s1, s2, s3, s4, s5, s6, s7, s8⟩ := id hS
    obtain ⟨k1, k2, k3, k4⟩ := s7 j (Nat.le_refl _) hjc
    have hcl : (nI j).toNatClampNeg = j := pn_cl (by omega)
    have vj : vp_in (nI j) (m_ln X T) := by rw [(s1 T).2, hTl]; exact (pn_in (by omega)).mpr hjc
    have hhd := l_ch_hd k2
    refine ⟨fun z => ?_, fun _ => ⟨(s1 T).1.trans hT, vj, fun r4 h4 => ⟨fun hn => ?_, fun u6 hu => ⟨vj, fun M9 h9 => ?_⟩⟩⟩⟩
    · have := (pn_le (by omega) (by omega)).mp z
      omega
    · rw [hcl] at h4
      rw [pn_succ]
      have hBj : B j = [] := by
        cases hb : B j with
        | nil => rfl
        | cons a t => rw [hb] at hhd; rw [h4, hhd] at hn; cases hn
      refine ih (j + 1) (by omega) X (l_RS_step hS hjc hTT hnT hinj hmod (fun _ => ⟨rfl, rfl⟩) (fun _ _ => rfl) ⟨rfl, rfl⟩ (fun _ _ _ _ => rfl) (fun _ _ _ _ _ => rfl) ?_ ?_)
      · rw [hBj, k3]
        rfl
      · rw [hBj, k4]
        rfl
    · rw [hcl] at h4 h9
      cases hb : B j with
      | nil => rw [hb] at hhd; rw [h4, hhd] at hu; cases hu
      | cons a t =>
        rw [hb] at hhd k2
        have eu : nd a = u6 := by
          rw [h4, hhd] at hu
          cases hu
          rfl
        subst eu
        have haB : a ∈ B j := by rw [hb]; exact List.mem_cons_self
        have hm2 : a % (2 * cap) < 2 * cap := Nat.mod_lt _ (by omega)
        obtain ⟨a1, a2, a3, a4⟩ := htg j a haB
        have g9 : ∀ b f : Nat, m_gr M9 b f = if b = T ∧ f = j then none else m_gr X b f := fun b f => by rw [h9, m_gr_pr]
        have tl9 : ∀ b : Nat, m_tg M9 b = m_tg X b ∧ m_ln M9 b = m_ln X b := fun b => by rw [h9]; exact ⟨m_tg_pr, m_ln_pr⟩
        have gi9 : ∀ b f : Nat, m_gi M9 b f = m_gi X b f := fun b f => by rw [h9, m_gi_pr]
        have cell9 : ∀ b : Nat, b ≠ T → M9.1 b = X.1 b := fun b hbT => by
          rw [h9]
          unfold m_pr
          dsimp only
          rw [if_neg hbT]
        have nn : ∀ h : Nat, h ∈ B j → m_gr M9 (nd h) 3 = m_gr X (nd h) 3 := fun h hh => by rw [g9, if_neg (fun z => (hnT j h hh).1 z.1)]
        have ch9 : l_ch M9 nd (m_gr M9 (nd a) 3) t := by
          rw [nn a haB]
          refine l_ch_same k2.2 (fun h hh => nn h (by rw [hb]; exact List.mem_cons_of_mem _ hh))
        refine ⟨(tl9 _).1.trans ((s1 _).1.trans a1), fun r14 h14 => ⟨fun hn => ⟨(tl9 _).1.trans ((s1 _).1.trans hT'), ?_, fun y hy => ?_, fun M20 h20 => ?_⟩, fun u16 hu16 => ?_⟩⟩
        · rw [gi9, s2, a2, Int32.and_comm, pn_mask (c := 2 * cap) (by rcases hcap with rfl | rfl; exact Or.inr (Or.inl rfl); exact Or.inr (Or.inr rfl)) a3, (tl9 _).2, (s1 _).2, hl']
          exact (pn_in (by omega)).mpr (Nat.mod_lt _ (by omega))
        · cases hy
          refine hnode _ _ ((tl9 _).1.trans ((s1 _).1.trans a1))
        · rw [gi9, s2, a2, Int32.and_comm, pn_mask (c := 2 * cap) (by rcases hcap with rfl | rfl; exact Or.inr (Or.inl rfl); exact Or.inr (Or.inr rfl)) a3, pn_cl (by omega)] at h20
          have ht : t = [] := by
            have h9' := l_ch_hd ch9
            cases t with
            | nil => rfl
            | cons b t => rw [h14, h9'] at hn; cases hn
          have g20 : ∀ b f : Nat, m_gr M20 b f = if b = T' ∧ f = a % (2 * cap) then some (nd a) else if b = T ∧ f = j then none else m_gr X b f := fun b f => by rw [h20, m_gr_pr, g9]
          have ha2 : a % (2 * cap) = j ∨ a % (2 * cap) = j + cap := by rcases hcap with rfl | rfl <;> omega
          have nxa : m_gr M20 (nd a) 3 = none := by
            rw [g20, if_neg (fun z => (hnT j a haB).2 z.1), if_neg (fun z => (hnT j a haB).1 z.1), ← nn a haB, ← h14]
            exact hn
          rw [pn_succ]
          refine ih (j + 1) (by omega) M20 (l_RS_step hS hjc hTT hnT hinj hmod (fun b => ?_) (fun b f => ?_) ⟨?_, ?_⟩ (fun b b1 b2 _ => ?_) (fun b f c1 c2 _ => ?_) ?_ ?_)
          · rw [h20, m_tg_pr, m_ln_pr]
            exact tl9 b
          · rw [h20, m_gi_pr]
            exact gi9 b f
          · rw [h20, h9]
            rfl
          · rw [h20, h9]
            rfl
          · rw [h20]
            unfold m_pr
            dsimp only
            rw [if_neg b2]
            exact cell9 b b1
          · rw [g20, if_neg (fun z => c1 ⟨z.1, by rw [z.2]; exact ha2⟩), if_neg c2]
          · rw [hb, ht]
            by_cases e : a % (2 * cap) = j
            · rw [show List.filter (fun h => decide (h % (2 * cap) = j)) [a] = [a] from List.filter_cons_of_pos (decide_eq_true e), g20, if_pos ⟨rfl, e.symm⟩]
              exact ⟨rfl, nxa⟩
            · rw [show List.filter (fun h => decide (h % (2 * cap) = j)) [a] = [] from List.filter_cons_of_neg (fun z => e (of_decide_eq_true z)), g20, if_neg (fun z => e z.2.symm), if_neg (fun z => hTT z.1.symm), k3]
              rfl
          · rw [hb, ht]
            by_cases e : a % (2 * cap) = j + cap
            · rw [show List.filter (fun h => decide (h % (2 * cap) = j + cap)) [a] = [a] from List.filter_cons_of_pos (decide_eq_true e), g20, if_pos ⟨rfl, e.symm⟩]
              exact ⟨rfl, nxa⟩
            · rw [show List.filter (fun h => decide (h % (2 * cap) = j + cap)) [a] = [] from List.filter_cons_of_neg (fun z => e (of_decide_eq_true z)), g20, if_neg (fun z => e z.2.symm), if_neg (fun z => hTT z.1.symm), k4]
              rfl
        · have hsub : ∀ x : Nat, x ∈ a :: t → x ∈ B j := fun x hx => by rw [hb]; exact hx
          have hsp := l_split (g := g) (nd := nd) (Q := Q) (k151 := wp_J8_resizeL_b151 g Q (dd + 1)) (X0 := M9) (H := H) (T := T) (T' := T') (j := j) (cap := cap) (l := a :: t) hnode ((tl9 _).1.trans ((s1 _).1.trans hT')) ((tl9 _).2.trans ((s1 _).2.trans hl')) hjc hcap (fun x hx => by
            obtain ⟨y1, y2, y3, y4⟩ := htg j x (hsub x hx)
            exact ⟨(tl9 _).1.trans ((s1 _).1.trans y1), by rw [gi9, s2]; exact y2, y3, y4⟩) (fun x y hx hy => hinj j j x y (hsub x hx) (hsub y hy)) (by rw [← hb]; exact hndu j) (by rw [g9, if_neg (fun z => hTT z.1.symm)]; exact k3) (by rw [g9, if_neg (fun z => hTT z.1.symm)]; exact k4) (fun X' hf c1 c2 => ?_) t [] a M9 rfl l_fr_rf (by rw [g9, if_neg (fun z => hTT z.1.symm)]; exact k3) (by rw [g9, if_neg (fun z => hTT z.1.symm)]; exact k4) ⟨rfl, ch9⟩ trivial trivial
          · exact ⟨t.length + 1, hsp⟩
          · refine ih (j + 1) (by omega) X' (l_RS_step hS hjc hTT hnT hinj hmod (fun b => ⟨(hf.1 b).1.trans (tl9 b).1, (hf.1 b).2.trans (tl9 b).2⟩) (fun b f => (hf.2.1 b f).trans (gi9 b f)) ⟨?_, ?_⟩ (fun b b1 b2 b3 => ?_) (fun b f d1 d2 d3 => ?_) ?_ ?_)
            · rw [hf.2.2.2.2.1, h9]
              rfl
            · rw [hf.2.2.2.2.2, h9]
              rfl
            · rw [hf.2.2.2.1 b b2 (fun h hh => b3 h (hsub h hh))]
              exact cell9 b b1
            · rw [hf.2.2.1 b f d1 (fun z => d3 ⟨z.1, by
                obtain ⟨h, hh, e⟩ := z.2
                exact ⟨h, hsub h hh, e⟩⟩), g9, if_neg d2]
            · rw [hb]
              exact c1
            · rw [hb]
              exact c2
end
