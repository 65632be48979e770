/-! PURE: the desk, whole: what is held, and where -/
set_option maxRecDepth 100000
/-- a content with its counts -/
abbrev Cs : Type := Cn × (Nat → Nat)
/-- where a state lies: region, objects, region of its roads -/
abbrev Yt : Type := Nat × (Nat → Nat → Nat) × Nat
/-- what a desk is: the state, the history, the snapshot, the text -/
abbrev Dt : Type := Cs × (Nat × (Nat → Cs)) × Option Cs × (Nat × (Nat → Int32))
def u_Sv (a : Cs) : Prop := u_I a.2 a.1 ∧ u_Rds a.1 (a.2 5) ∧ u_V4 a.1
def d_hold (g : Nat → Nat) (M : Mem) (o : Nat → Nat × Nat × Nat) (RR : Nat → Nat) (DD : Nat → Nat → Nat → Nat) (U : Nat → Prop) (y : Yt) (a : Cs) : Prop := c_St g M o y.1 y.2.1 a.2 (RR y.2.2) ∧ c_cM M o y.1 a.1 = M ∧ U y.2.2 ∧ DD y.2.2 = u_Dk a.1 (a.2 5) ∧ u_Sv a ∧ y.1 % 3 = 0 ∧ 6 ≤ y.1
def d_road (g : Nat → Nat) (M : Mem) (o : Nat → Nat × Nat × Nat) (RR : Nat → Nat) (DD : Nat → Nat → Nat → Nat) (rr : Nat) : Prop := rr % 3 = 1 ∧ 4 ≤ rr ∧ (∃ u : Nat, u ≤ 144 ∧ c_Rd g M o rr (RR rr) (DD rr) (u_Wk (DD rr) 12) u) ∧ c_Mp g M o (rr + 1) (RR rr) (DD rr) ∧ u_Dok (DD rr)
def d_lab (g : Nat → Nat) (M : Mem) (o : Nat → Nat × Nat × Nat) : Prop := c_Lb M o ∧ c_no1 o ∧ c_g1 g M ∧ ∃ N : Nat, ∀ b : Nat, (o b).1 < N
def d_dis (y0 : Yt) (yh : Nat → Yt) (yk : Yt) (d : Dt) : Prop := (∀ i : Nat, i < d.2.1.1 → (yh i).1 ≠ y0.1) ∧ (∀ i j : Nat, i < d.2.1.1 → j < d.2.1.1 → i ≠ j → (yh i).1 ≠ (yh j).1) ∧ (d.2.2.1 ≠ none → yk.1 ≠ y0.1 ∧ ∀ i : Nat, i < d.2.1.1 → (yh i).1 ≠ yk.1)
/-- the text: in bytes or in pairs of them -/
def d_tb (M : Mem) (o : Nat → Nat × Nat × Nat) (b L : Nat) (tx : Nat → Int32) : Prop := o b = (2, 3, 0) ∧ m_tg M b = 15 ∧ m_gi M b 3 = nI L ∧ L ≤ 60 ∧ (∀ k : Nat, k < L → ∃ c : Nat, c < 65536 ∧ tx k = nI c) ∧ ∃ v : Nat, m_gr M b 0 = some v ∧ o v = (2, 4, 0) ∧ m_tg M v = 102 ∧ m_ln M v ≤ 2000 ∧ (∀ i : Nat, ∃ y : Int8, m_gi M v i = y.toInt32) ∧
  ((m_gi M b 1 = 0 ∧ L ≤ m_ln M v ∧ ∀ k : Nat, k < L → (m_gi M v k) &&& 255 = tx k) ∨ (m_gi M b 1 = 1 ∧ 2 * L ≤ m_ln M v ∧ ∀ k : Nat, k < L → ∃ c : Nat, tx k = nI c ∧ (m_gi M v (2 * k)) &&& 255 = nI (c % 256) ∧ (m_gi M v (2 * k + 1)) &&& 255 = nI (c / 256)))
def d_x (g : Nat → Nat) (M : Mem) (o : Nat → Nat × Nat × Nat) (x : Nat) (y0 : Yt) (yh : Nat → Yt) (yk : Yt) (d : Dt) : Prop := o x = (2, 0, 0) ∧ m_tg M x = 1 ∧ m_gr M x 0 = some (y0.2.1 0 0) ∧ m_gr M x 1 = d.2.2.1.map (fun _ => yk.2.1 0 0) ∧
  (∃ l dl : Nat, m_gr M x 2 = some l ∧ o l = (2, 1, 0) ∧ c_L g M l dl d.2.1.1 (fun i => some ((yh i).2.1 0 0)) ∧ (dl = g 1 ∨ (o dl = (2, 2, 0) ∧ m_ln M dl = 10))) ∧ d.2.1.1 ≤ 4 ∧ ∃ b : Nat, m_gr M x 3 = some b ∧ d_tb M o b d.2.2.2.1 d.2.2.2.2
def d_C (g : Nat → Nat) (M : Mem) (o : Nat → Nat × Nat × Nat) (x : Nat) (RR : Nat → Nat) (DD : Nat → Nat → Nat → Nat) (U : Nat → Prop) (y0 : Yt) (yh : Nat → Yt) (yk : Yt) (d : Dt) : Prop :=
  d_lab g M o ∧ (∀ rr : Nat, U rr → d_road g M o RR DD rr) ∧ d_hold g M o RR DD U y0 d.1 ∧ (∀ i : Nat, i < d.2.1.1 → d_hold g M o RR DD U (yh i) (d.2.1.2 i)) ∧ (∀ a : Cs, d.2.2.1 = some a → d_hold g M o RR DD U yk a) ∧ d_dis y0 yh yk d ∧ d_x g M o x y0 yh yk d
section
variable {g : Nat → Nat} {M M' : Mem} {o o' : Nat → Nat × Nat × Nat} {x : Nat} {RR : Nat → Nat} {DD : Nat → Nat → Nat → Nat} {U : Nat → Prop} {y0 : Yt} {yh : Nat → Yt} {yk : Yt} {d : Dt}
theorem d_cM_same {r : Nat} {σ : Cn} (h : c_cM M o r σ = M) (hs : c_same M o M' o' r) : c_cM M' o' r σ = M' := by
  have := c_cM_eq2 (M := M) (σ := σ) (X := M') (o := o) (o' := o') (r := r) (by rw [h]; exact hs)
  rw [c_cM_lab (o := o) (o' := o') (fun b hb => (hs b hb).2)]
  rw [← this]
  rw [c_cM_lab (o := o) (o' := o') (fun b hb => (hs b hb).2), c_cM_cM]
theorem d_hold_same {y : Yt} {a : Cs} (h : d_hold g M o RR DD U y a) (hs : c_same M o M' o' y.1) : d_hold g M' o' RR DD U y a :=
  ⟨c_St_same h.1 hs, d_cM_same h.2.1 hs, h.2.2.1, h.2.2.2.1, h.2.2.2.2⟩
theorem c_Mp_same {rm R : Nat} {D : Nat → Nat → Nat} (h : c_Mp g M o rm R D) (hl : m_le M M') (hs : c_same M o M' o' rm) (hR : M'.1 R = M.1 R) : c_Mp g M' o' rm R D := by
  obtain ⟨H, h1, h2⟩ := h
  exact ⟨H, (c_cell_gr hR).trans h1, c_Mh_same h2 hl (fun b hb => by rw [(hs b (Or.inl hb)).2]; exact hb) (fun b hb => (hs b (Or.inl hb)).1)⟩
theorem d_road_same {rr : Nat} (h : d_road g M o RR DD rr) (hl : m_le M M') (hs : c_same M o M' o' rr) (hs' : c_same M o M' o' (rr + 1)) : d_road g M' o' RR DD rr := by
  obtain ⟨h1, h2, ⟨u, h3, h4⟩, h5, h6⟩ := h
  exact ⟨h1, h2, ⟨u, h3, c_Rd_same h4 hl hs⟩, c_Mp_same h5 hl hs' (hs _ (Or.inl (by rw [h4.1]))).1, h6⟩
theorem d_tb_same {b L : Nat} {tx : Nat → Int32} (h : d_tb M o b L tx) (eb : M'.1 b = M.1 b ∧ o' b = o b) (hs : ∀ c : Nat, m_gr M b 0 = some c → o c = (2, 4, 0) → m_tg M c = 102 → M'.1 c = M.1 c ∧ o' c = o c) : d_tb M' o' b L tx := by
  obtain ⟨h1, h2, h3, h4, h5, v, h6, h7, h8, h9, h10, h11⟩ := h
  have ev := hs v h6 h7 h8
  refine ⟨eb.2.trans h1, (c_cell_tg eb.1).trans h2, (c_cell_gi eb.1).trans h3, h4, h5, v, (c_cell_gr eb.1).trans h6, ev.2.trans h7, (c_cell_tg ev.1).trans h8, by rw [c_cell_ln ev.1]; exact h9, fun i => ?_, ?_⟩
  · rw [c_cell_gi ev.1]
    exact h10 i
  · rcases h11 with ⟨a, b', c⟩ | ⟨a, b', c⟩
    · exact Or.inl ⟨(c_cell_gi eb.1).trans a, by rw [c_cell_ln ev.1]; exact b', fun k hk => by rw [c_cell_gi ev.1]; exact c k hk⟩
    · exact Or.inr ⟨(c_cell_gi eb.1).trans a, by rw [c_cell_ln ev.1]; exact b', fun k hk => by rw [c_cell_gi ev.1, c_cell_gi ev.1]; exact c k hk⟩
theorem d_x_same (h : d_x g M o x y0 yh yk d) (hg : c_g1 g M) (hs : c_same M o M' o' 2) : d_x g M' o' x y0 yh yk d := by
  obtain ⟨h1, h2, h3, h4, ⟨l, dl, h5, h6, h7, h8⟩, h9, b, h10, h11⟩ := h
  have ex := hs x (Or.inl (by rw [h1]))
  have el := hs l (Or.inl (by rw [h6]))
  have hL : c_L g M' l dl d.2.1.1 (fun i => some ((yh i).2.1 0 0)) ∧ (dl = g 1 ∨ (o' dl = (2, 2, 0) ∧ m_ln M' dl = 10)) := by
    rcases h8 with z | z
    · obtain ⟨q1, q2, q3, q4⟩ := h7
      refine ⟨⟨(c_cell_tg el.1).trans q1, (c_cell_gi el.1).trans q2, (c_cell_gr el.1).trans q3, Or.inl ?_⟩, Or.inl z⟩
      rcases q4 with q4 | ⟨q4, _⟩
      · exact q4
      · rw [z, hg.1] at q4
        cases q4
    · have := hs dl (Or.inl (by rw [z.1]))
      exact ⟨c_L_same h7 el.1 this.1, Or.inr ⟨this.2.trans z.1, (c_cell_ln this.1).trans z.2⟩⟩
  exact ⟨ex.2.trans h1, (c_cell_tg ex.1).trans h2, (c_cell_gr ex.1).trans h3, (c_cell_gr ex.1).trans h4, ⟨l, dl, (c_cell_gr ex.1).trans h5, el.2.trans h6, hL⟩, h9, b, (c_cell_gr ex.1).trans h10, d_tb_same h11 (hs b (Or.inl (by rw [h11.1]))) (fun c _ hc _ => hs c (Or.inl (by rw [hc])))⟩
end
