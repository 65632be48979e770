/-! PURE: frames: what other cells do to a state, to roads -/
set_option maxRecDepth 100000
/-- cells of region r stay -/
def c_same (M : Mem) (o : Nat → Nat × Nat × Nat) (M' : Mem) (o' : Nat → Nat × Nat × Nat) (r : Nat) : Prop := ∀ b : Nat, (o b).1 = r ∨ (o' b).1 = r → M'.1 b = M.1 b ∧ o' b = o b
theorem c_same_rf {M : Mem} {o : Nat → Nat × Nat × Nat} {r : Nat} : c_same M o M o r := fun _ _ => ⟨rfl, rfl⟩
theorem c_same_tr {M1 M2 M3 : Mem} {o1 o2 o3 : Nat → Nat × Nat × Nat} {r : Nat} (h1 : c_same M1 o1 M2 o2 r) (h2 : c_same M2 o2 M3 o3 r) : c_same M1 o1 M3 o3 r := by
  intro b hb
  have h12 : (o2 b).1 = r ∨ (o3 b).1 = r := by
    rcases hb with hb | hb
    · left
      rw [(h1 b (Or.inl hb)).2]
      exact hb
    · exact Or.inr hb
  have e2 := h2 b h12
  have h11 : (o1 b).1 = r ∨ (o2 b).1 = r := by
    right
    rcases h12 with h | h
    · exact h
    · rw [← e2.2]
      exact h
  have e1 := h1 b h11
  exact ⟨e2.1.trans e1.1, e2.2.trans e1.2⟩
theorem c_cell_tg {M M' : Mem} {b : Nat} (h : M'.1 b = M.1 b) : m_tg M' b = m_tg M b := by unfold m_tg; rw [h]
theorem c_cell_ln {M M' : Mem} {b : Nat} (h : M'.1 b = M.1 b) : m_ln M' b = m_ln M b := by unfold m_ln; rw [h]
theorem c_cell_gr {M M' : Mem} {b k : Nat} (h : M'.1 b = M.1 b) : m_gr M' b k = m_gr M b k := by unfold m_gr; rw [h]
theorem c_cell_gi {M M' : Mem} {b k : Nat} (h : M'.1 b = M.1 b) : m_gi M' b k = m_gi M b k := by unfold m_gi; rw [h]
section
variable {g : Nat → Nat} {M M' : Mem} {o o' : Nat → Nat × Nat × Nat} {r : Nat} {E : Nat → Nat → Nat} {n : Nat → Nat} {R : Nat} {σ σ' : Cn}
theorem c_St_same (h : c_St g M o r E n R) (hs : c_same M o M' o' r) : c_St g M' o' r E n R := by
  obtain ⟨h1, ⟨a1, a2, a3, a4, a5, a6, a7⟩, h3, h4⟩ := h
  have ho : ∀ b s k : Nat, o b = (r, s, k) → M'.1 b = M.1 b ∧ o' b = o b := fun b s k hb => hs b (Or.inl (by rw [hb]))
  have e0 := (ho _ _ _ (h1 0 0 d_0).1).1
  have e8 := (ho _ _ _ (h1 8 0 d_8).1).1
  refine ⟨fun s k hd => ?_, ⟨?_, ?_, ?_, ?_, ?_, ?_, ?_⟩, fun s hs1 hs2 => ?_, fun b s k hb hsk => ?_⟩
  · have e := ho _ _ _ (h1 s k hd).1
    exact ⟨e.2.trans (h1 s k hd).1, (c_cell_tg e.1).trans (h1 s k hd).2⟩
  · rw [c_cell_gr e0, a1]
  · rw [c_cell_gr e0, a2]
  · rw [c_cell_gr e0, a3]
  · rw [c_cell_gr e0, a4]
  · rw [c_cell_gr e0, a5]
  · rw [c_cell_gr e0, a6]
  · rw [c_cell_ln e8, a7]
  · obtain ⟨b1, b2, d, b3, b4⟩ := h3 s hs1 hs2
    have e := (ho _ _ _ (h1 6 s (d_6 hs1 hs2)).1).1
    refine ⟨b1, by rw [c_cell_gi e, b2], d, by rw [c_cell_gr e, b3], ?_⟩
    rcases b4 with b4 | ⟨c1, c2, c3, c4, c5⟩
    · exact Or.inl b4
    · have ed := ho _ _ _ c1
      refine Or.inr ⟨ed.2.trans c1, (c_cell_tg ed.1).trans c2, by rw [c_cell_ln ed.1]; exact c3, by rw [c_cell_ln ed.1]; exact c4, fun k hk => by rw [c_cell_gr ed.1]; exact c5 k hk⟩
  · have e := hs b (Or.inr (by rw [hb]))
    rw [e.2] at hb
    exact h4 b s k hb hsk
/-- a memory whose region r holds σ is of the form c_cM -/
theorem c_cM_eq {X : Mem} (hs : ∀ b : Nat, (o b).1 = r → X.1 b = (c_cM M o r σ).1 b) : c_cM X o r σ = X := by
  unfold c_cM q_ints
  refine Prod.ext (funext fun b => ?_) rfl
  dsimp only
  have e : c_enc o r σ (m_gi X) b = m_gi X b := by
    funext j
    unfold c_enc
    by_cases hr : (o b).1 = r
    · rw [if_pos hr]
      have hx : m_gi X b j = c_enc o r σ (m_gi M) b j := by
        rw [c_cell_gi (hs b hr)]
        rfl
      rw [hx]
      unfold c_enc
      rw [if_pos hr]
      cases hm : c_mp (o b).2.1 j with
      | some y => rfl
      | none => rfl
    · rw [if_neg hr]
  rw [e]
  rfl
theorem c_same_cM : c_same M o (c_cM M o r σ) o r → True := fun _ => trivial
/-- the form c_cM, laid anew over a memory with the same region r -/
theorem c_St_cM (h : c_St g M o r E n R) : c_St g (c_cM M o r σ) o r E n R := by
  obtain ⟨h1, h2, h3, h4⟩ := h
  refine ⟨h1, h2, fun s hs1 hs2 => ?_, h4⟩
  obtain ⟨b1, b2, d, b3, b4⟩ := h3 s hs1 hs2
  exact ⟨b1, by rw [cM_gi_no (h1 6 s (d_6 hs1 hs2)).1 (by rfl)]; exact b2, d, b3, b4⟩
theorem c_cM_cM : c_cM (c_cM M o r σ) o r σ' = c_cM M o r σ' := by
  unfold c_cM
  refine Prod.ext (funext fun b => ?_) rfl
  unfold q_ints
  dsimp only
  congr 3
  funext j
  unfold c_enc m_gi
  dsimp only
  by_cases hr : (o b).1 = r
  · rw [if_pos hr, if_pos hr, if_pos hr]
    cases c_mp (o b).2.1 j <;> rfl
  · rw [if_neg hr, if_neg hr, if_neg hr]
/-- region q is another one: σ is not seen there -/
theorem c_same_q {q : Nat} (hq : q ≠ r) : c_same (c_cM M o r σ) o (c_cM M o r σ') o q := by
  intro b hb
  have hb : (o b).1 ≠ r := by
    rcases hb with hb | hb <;> rw [hb] <;> exact hq
  refine ⟨?_, rfl⟩
  unfold c_cM q_ints
  dsimp only
  have e : c_enc o r σ' (m_gi M) b = c_enc o r σ (m_gi M) b := by
    funext j
    unfold c_enc
    rw [if_neg hb, if_neg hb]
  rw [e]
theorem c_sq_same {rr s d : Nat} {W : Nat → Nat → Nat} (h : c_sq M o rr s d W) (hs : c_same M o M' o' rr) : c_sq M' o' rr s d W := by
  obtain ⟨a1, a2, a3, a4⟩ := h
  have e := hs d (Or.inl (by rw [a1]))
  refine ⟨e.2.trans a1, (c_cell_tg e.1).trans a2, (c_cell_ln e.1).trans a3, fun a ha => ?_⟩
  obtain ⟨w, b1, b2, b3, b4, b5⟩ := a4 a ha
  have ew := hs w (Or.inl (by rw [b2]))
  exact ⟨w, by rw [c_cell_gr e.1]; exact b1, ew.2.trans b2, (c_cell_tg ew.1).trans b3, (c_cell_ln ew.1).trans b4, fun b hb => by rw [c_cell_gi ew.1]; exact b5 b hb⟩
theorem c_wl_same {rr i w cnt : Nat} {f : Nat → Nat} (h : c_wl g M o rr i w cnt f) (hl : m_le M M') (hs : M'.1 w = M.1 w ∧ o' w = o w) (hd : ∀ d : Nat, o d = (rr, 8, i) → M'.1 d = M.1 d ∧ o' d = o d) : c_wl g M' o' rr i w cnt f := by
  obtain ⟨a1, a2, a3, a4, d, a5, a6⟩ := h
  refine ⟨hs.2.trans a1, (c_cell_tg hs.1).trans a2, (c_cell_gi hs.1).trans a3, a4, d, (c_cell_gr hs.1).trans a5, ?_⟩
  rcases a6 with a6 | ⟨b1, b2, b3, b4⟩
  · exact Or.inl a6
  · have e := hd d b1
    refine Or.inr ⟨e.2.trans b1, (c_cell_tg e.1).trans b2, by rw [c_cell_ln e.1]; exact b3, fun k hk => ?_⟩
    obtain ⟨x, c1, c2, c3⟩ := b4 k hk
    exact ⟨x, (c_cell_gr e.1).trans c1, m_le_tg hl c2, c3⟩
theorem c_Rd_same {rr u : Nat} {D W : Nat → Nat → Nat} (h : c_Rd g M o rr R D W u) (hl : m_le M M') (hs : c_same M o M' o' rr) : c_Rd g M' o' rr R D W u := by
  obtain ⟨a1, a2, ⟨d1, a3, a4⟩, ⟨d2, a5, a6⟩, l, d, a7, ⟨b1, b2, b3, b4, b5, b6, b7, b8, b9⟩, a9⟩ := h
  have e := hs R (Or.inl (by rw [a1]))
  have el := hs l (Or.inl (by rw [b1]))
  have ed := hs d (Or.inl (by rw [b5]))
  refine ⟨e.2.trans a1, (c_cell_tg e.1).trans a2, ⟨d1, by rw [c_cell_gr e.1]; exact a3, c_sq_same a4 hs⟩, ⟨d2, by rw [c_cell_gr e.1]; exact a5, c_sq_same a6 hs⟩, l, d, by rw [c_cell_gr e.1]; exact a7, ⟨el.2.trans b1, (c_cell_tg el.1).trans b2, (c_cell_gi el.1).trans b3, (c_cell_gr el.1).trans b4, ed.2.trans b5, (c_cell_tg ed.1).trans b6, by rw [c_cell_ln ed.1]; exact b7, by rw [c_cell_ln ed.1]; exact b8, fun a t ha ht w hw => ?_⟩, ?_⟩
  · rw [c_cell_gr ed.1] at hw
    have hwl := b9 a t ha ht w hw
    exact c_wl_same hwl hl (hs w (Or.inl (by rw [hwl.1]))) (fun d' hd' => hs d' (Or.inl (by rw [hd'])))
  · rw [← a9]
    congr 1
    funext k
    exact c_cell_gr ed.1
theorem c_L_get {a d k : Nat} {e : Nat → Option Nat} {cnt : Nat} {Q : Option Nat → Mem → Prop} (h : c_L g M a d cnt e) (hk : k < cnt) (hc : cnt < 1000) (hQ : Q (e k) M) : wp_J2_get g M a (nI k) Q := by
  obtain ⟨h1, h2, h3, h4⟩ := h
  rcases h4 with ⟨h0, _⟩ | ⟨c1, c2, c3, c4⟩
  · omega
  · refine q_get h1 h3 c1 (Int32.not_lt.mp (pn_nn (by omega))) (by rw [h2]; exact (pn_lt (by omega) (by omega)).mpr hk) ((pn_in (by omega)).mpr (by omega)) ?_
    rw [pn_cl (by omega), c4 k hk]
    exact hQ
theorem c_L_size {a d : Nat} {e : Nat → Option Nat} {cnt : Nat} {Q : Int32 → Mem → Prop} (h : c_L g M a d cnt e) (hQ : Q (nI cnt) M) : wp_J2_size g M a Q := q_size h.1 (by rw [h.2.1]; exact hQ)
theorem c_L_cg {a d : Nat} {e e' : Nat → Option Nat} {cnt : Nat} (h : c_L g M a d cnt e) (he : ∀ k : Nat, k < cnt → e k = e' k) : c_L g M a d cnt e' := by
  obtain ⟨h1, h2, h3, h4⟩ := h
  refine ⟨h1, h2, h3, ?_⟩
  rcases h4 with h4 | ⟨c1, c2, c3, c4⟩
  · exact Or.inl h4
  · exact Or.inr ⟨c1, c2, c3, fun k hk => (c4 k hk).trans (he k hk)⟩
theorem c_L_same {a d : Nat} {e : Nat → Option Nat} {cnt : Nat} (h : c_L g M a d cnt e) (ha : M'.1 a = M.1 a) (hd : M'.1 d = M.1 d) : c_L g M' a d cnt e := by
  obtain ⟨h1, h2, h3, h4⟩ := h
  refine ⟨(c_cell_tg ha).trans h1, (c_cell_gi ha).trans h2, (c_cell_gr ha).trans h3, ?_⟩
  rcases h4 with h4 | ⟨c1, c2, c3, c4⟩
  · exact Or.inl h4
  · exact Or.inr ⟨(c_cell_tg hd).trans c1, by rw [c_cell_ln hd]; exact c2, by rw [c_cell_ln hd]; exact c3, fun k hk => (c_cell_gr hd).trans (c4 k hk)⟩
end
