/-! PURE: Roads are made, whole -/
set_option maxRecDepth 100000
theorem u_np_none {D : Nat → Nat → Nat} (h : ∀ a b : Nat, a < 12 → b < 12 → D a b = 100000) : ∀ k : Nat, k ≤ 144 → u_np D k = 0 := by
  intro k
  induction k with
  | zero => intro _; rfl
  | succ k ih =>
    intro hk
    have e2 : u_np D (k + 1) = u_np D k + (if k / 12 < k % 12 ∧ D (k / 12) (k % 12) < 100000 then 1 else 0) := rfl
    rw [e2, ih (by omega), if_neg (fun z => by rw [h _ _ (by omega) (by omega)] at z; omega)]
/-- the labels of new Roads -/
noncomputable def c_labR (Xa X : Mem) (o : Nat → Nat × Nat × Nat) (rr rm R dD dF l d : Nat) : Nat → Nat × Nat × Nat := fun b =>
  if b = R then (rr, 0, 0) else if b = dD then (rr, 3, 0) else if b = dF then (rr, 4, 0) else if b = l then (rr, 5, 0) else if b = d then (rr, 6, 0)
  else if dD < b ∧ b ≤ dD + 12 then (rr, 1, b - dD - 1) else if dF < b ∧ b ≤ dF + 12 then (rr, 2, b - dF - 1)
  else if m_tg Xa b = 0 ∧ (m_tg X b = 17 ∨ m_tg X b = 104 ∨ m_tg X b = 19 ∨ m_tg X b = 4) then (rm, 0, 0) else o b
/-- the map of Roads R in region rm -/
def c_Mp (g : Nat → Nat) (M : Mem) (o : Nat → Nat × Nat × Nat) (rm R : Nat) (D : Nat → Nat → Nat) : Prop := ∃ H : Nat, m_gr M R 0 = some H ∧ c_Mh g M (fun b => (o b).1 = rm) H D 144
section
variable {g : Nat → Nat} {Xa Xb X X' : Mem} {R H dD dF l d k : Nat} {D Db F : Nat → Nat → Nat} {P2 : Nat → Prop} {o : Nat → Nat × Nat × Nat} {rr rm : Nat}
theorem c_labR_old (hC : c_BS g Xa X R H dD dF l) (hd : m_tg Xa d = 0) {b : Nat} (hb : m_tg Xa b ≠ 0) : c_labR Xa X o rr rm R dD dF l d b = o b := by
  obtain ⟨_, _, _, _, _, _, _, _, _, ⟨f1, f2, f3⟩, _⟩ := hC
  unfold c_labR
  rw [if_neg (fun z => hb (by rw [z]; exact f1)), if_neg (fun z => hb (by rw [z]; exact (f3 0 (by omega)).1)), if_neg (fun z => hb (by rw [z]; exact (f3 0 (by omega)).2)), if_neg (fun z => hb (by rw [z]; exact f2)), if_neg (fun z => hb (by rw [z]; exact hd)), if_neg (fun z => hb (by
    have := (f3 (b - dD) (by omega)).1
    rw [show dD + (b - dD) = b by omega] at this
    exact this)), if_neg (fun z => hb (by
    have := (f3 (b - dF) (by omega)).2
    rw [show dF + (b - dF) = b by omega] at this
    exact this)), if_neg (fun z => hb z.1)]
/-- with labels, the Roads are Roads -/
theorem c_labR_ok (hC : c_KC g Xa X R H dD dF l d P2 D F) (hg : d ≠ g 1) (hLb : c_Lb Xa o) : c_Rd g X (c_labR Xa X o rr rm R dD dF l d) rr R D F 144 ∧ c_Mp g X (c_labR Xa X o rr rm R dD dF l d) rm R D ∧ (∀ b : Nat, m_tg Xa b ≠ 0 → c_labR Xa X o rr rm R dD dF l d b = o b) ∧ (∀ b : Nat, m_tg Xa b = 0 → (c_labR Xa X o rr rm R dD dF l d b).1 = 0 ∨ (c_labR Xa X o rr rm R dD dF l d b).1 = rr ∨ (c_labR Xa X o rr rm R dD dF l d b).1 = rm) ∧ c_Lb X (c_labR Xa X o rr rm R dD dF l d) := by
  obtain ⟨hS, hL, hd0, hcap, hM, hP2, hints⟩ := hC
  obtain ⟨b1, b2, b3, b4, b5, b6, b7, b8, b9, b10, b11⟩ := id hS
  have hda : m_tg Xa d = 0 := hd0.resolve_right hg
  have td : m_tg X d = 103 ∧ 144 ≤ m_ln X d ∧ ∀ j : Nat, j < 144 → m_gr X d j = none := by
    rcases hL.2.2.2 with ⟨q, _⟩ | ⟨q1, q2, _, q3⟩
    · omega
    · exact ⟨q1, q2.2, q3⟩
  have tl := hL.1
  have rowD : ∀ a : Nat, a < 12 → m_tg X (dD + 1 + a) = 101 := fun a ha => (b8.2.2 a ha).2.1
  have rowF : ∀ a : Nat, a < 12 → m_tg X (dF + 1 + a) = 101 := fun a ha => (b9.2.2 a ha).2.1
  have ne : ∀ {x y s t : Nat}, m_tg X x = s → m_tg X y = t → s ≠ t → x ≠ y := fun h1 h2 h3 z => h3 (by rw [← h1, ← h2, z])
  have nDF : dD ≠ dF := fun z => b11 0 0 (by omega) (by omega) (by omega)
  have oR : c_labR Xa X o rr rm R dD dF l d R = (rr, 0, 0) := if_pos rfl
  have oD : c_labR Xa X o rr rm R dD dF l d dD = (rr, 3, 0) := by
    unfold c_labR
    rw [if_neg (ne b8.1 b3 (by decide)), if_pos rfl]
  have oF : c_labR Xa X o rr rm R dD dF l d dF = (rr, 4, 0) := by
    unfold c_labR
    rw [if_neg (ne b9.1 b3 (by decide)), if_neg nDF.symm, if_pos rfl]
  have ol : c_labR Xa X o rr rm R dD dF l d l = (rr, 5, 0) := by
    unfold c_labR
    rw [if_neg (ne tl b3 (by decide)), if_neg (ne tl b8.1 (by decide)), if_neg (ne tl b9.1 (by decide)), if_pos rfl]
  have od : c_labR Xa X o rr rm R dD dF l d d = (rr, 6, 0) := by
    unfold c_labR
    rw [if_neg (ne td.1 b3 (by decide)), if_neg (ne td.1 b8.1 (by decide)), if_neg (ne td.1 b9.1 (by decide)), if_neg (ne td.1 tl (by decide)), if_pos rfl]
  have orD : ∀ a : Nat, a < 12 → c_labR Xa X o rr rm R dD dF l d (dD + 1 + a) = (rr, 1, a) := fun a ha => by
    unfold c_labR
    rw [if_neg (ne (rowD a ha) b3 (by decide)), if_neg (ne (rowD a ha) b8.1 (by decide)), if_neg (ne (rowD a ha) b9.1 (by decide)), if_neg (ne (rowD a ha) tl (by decide)), if_neg (ne (rowD a ha) td.1 (by decide)), if_pos (by omega)]
    congr 2
    omega
  have orF : ∀ a : Nat, a < 12 → c_labR Xa X o rr rm R dD dF l d (dF + 1 + a) = (rr, 2, a) := fun a ha => by
    unfold c_labR
    have hno : ¬ (dD < dF + 1 + a ∧ dF + 1 + a ≤ dD + 12) := fun z => b11 (dF + 1 + a - dD) (1 + a) (by omega) (by omega) (by omega)
    rw [if_neg (ne (rowF a ha) b3 (by decide)), if_neg (ne (rowF a ha) b8.1 (by decide)), if_neg (ne (rowF a ha) b9.1 (by decide)), if_neg (ne (rowF a ha) tl (by decide)), if_neg (ne (rowF a ha) td.1 (by decide)), if_neg hno, if_pos (by omega)]
    congr 2
    omega
  have omap : ∀ b : Nat, P2 b → (c_labR Xa X o rr rm R dD dF l d b).1 = rm := fun b hb => by
    obtain ⟨q1, q2⟩ := hP2 b hb
    unfold c_labR
    rw [if_neg (fun z => by rw [z, b3] at q2; omega), if_neg (fun z => by rw [z, b8.1] at q2; omega), if_neg (fun z => by rw [z, b9.1] at q2; omega), if_neg (fun z => by rw [z, tl] at q2; omega), if_neg (fun z => by rw [z, td.1] at q2; omega), if_neg (fun z => by
      have := rowD (b - dD - 1) (by omega)
      rw [show dD + 1 + (b - dD - 1) = b by omega] at this
      omega), if_neg (fun z => by
      have := rowF (b - dF - 1) (by omega)
      rw [show dF + 1 + (b - dF - 1) = b by omega] at this
      omega), if_pos ⟨q1, q2⟩]
  refine ⟨⟨oR, b3, ⟨dD, b5, oD, b8.1, b8.2.1, fun a ha => ⟨dD + 1 + a, (b8.2.2 a ha).1, orD a ha, rowD a ha, (b8.2.2 a ha).2.2, fun b hb => (hints a b ha hb).1⟩⟩, ⟨dF, b6, oF, b9.1, b9.2.1, fun a ha => ⟨dF + 1 + a, (b9.2.2 a ha).1, orF a ha, rowF a ha, (b9.2.2 a ha).2.2, fun b hb => (hints a b ha hb).2⟩⟩, l, d, b7, ⟨ol, tl, hL.2.1, hL.2.2.1, od, td.1, td.2.1, by rw [hcap]; decide, fun a t ha ht w hw => ?_⟩, ?_⟩, ⟨H, b4, c_Mh_same hM m_le_rf omap (fun _ _ => rfl)⟩, fun b hb => c_labR_old hS hda hb, fun b hb => ?_, fun b hb => ?_⟩
  · rw [td.2.2 (12 * a + t) (by omega)] at hw
    cases hw
  · have gen : ∀ k : Nat, k ≤ 144 → u_un (m_gr X d) k = k := by
      intro k
      induction k with
      | zero => intro _; rfl
      | succ k ih =>
        intro hk
        unfold u_un
        rw [ih (by omega), td.2.2 k (by omega)]
    exact gen 144 (by omega)
  · have h0 : (o b).1 = 0 := Classical.byContradiction (fun z => hLb b z hb)
    unfold c_labR
    repeat' first
      | split
      | exact Or.inl h0
      | exact Or.inr (Or.inl rfl)
      | exact Or.inr (Or.inr rfl)
  · by_cases ha : m_tg Xa b = 0
    · unfold c_labR at hb
      have h0 : (o b).1 = 0 := Classical.byContradiction (fun z => hLb b z ha)
      split at hb
      · rename_i z
        rw [z, b3]; decide
      · split at hb
        · rename_i z
          rw [z, b8.1]; decide
        · split at hb
          · rename_i z
            rw [z, b9.1]; decide
          · split at hb
            · rename_i z
              rw [z, tl]; decide
            · split at hb
              · rename_i z
                rw [z, td.1]; decide
              · split at hb
                · rename_i z
                  have := rowD (b - dD - 1) (by omega)
                  rw [show dD + 1 + (b - dD - 1) = b by omega] at this
                  rw [this]; decide
                · split at hb
                  · rename_i z
                    have := rowF (b - dF - 1) (by omega)
                    rw [show dF + 1 + (b - dF - 1) = b by omega] at this
                    rw [this]; decide
                  · split at hb
                    · rename_i z
                      omega
                    · exact absurd h0 hb
    · rw [(b1.1 b ha).1]
      exact ha
theorem c_BS_down (h : c_BS g Xb X R H dD dF l) (hd : ∀ b : Nat, m_tg Xa b ≠ 0 → Xa.1 b = Xb.1 b) : c_BS g Xa X R H dD dF l := by
  obtain ⟨b1, b2, b3, b4, b5, b6, b7, b8, b9, ⟨f1, f2, f3⟩, b11⟩ := h
  have z0 : ∀ b : Nat, m_tg Xb b = 0 → m_tg Xa b = 0 := fun b hb => Classical.byContradiction (fun z => z ((c_cell_tg (hd b z)).trans hb))
  have nz : ∀ b : Nat, m_tg Xa b ≠ 0 → m_tg Xb b ≠ 0 := fun b hb z => hb (z0 b z)
  refine ⟨⟨fun b hb => ?_, fun b hb => (b1.2 b (nz b hb)).trans (hd b hb).symm⟩, b2, b3, b4, b5, b6, b7, b8, b9, ⟨z0 _ f1, z0 _ f2, fun j hj => ⟨z0 _ (f3 j hj).1, z0 _ (f3 j hj).2⟩⟩, b11⟩
  have := b1.1 b (nz b hb)
  rw [this.1, this.2, c_cell_tg (hd b hb), c_cell_ln (hd b hb)]
  exact ⟨rfl, rfl⟩
theorem c_KA_down {h : Nat} (hA : c_KA g Xb X R H dD dF l D h) (hd : ∀ b : Nat, m_tg Xa b ≠ 0 → Xa.1 b = Xb.1 b) : c_KA g Xa X R H dD dF l D h :=
  ⟨c_BS_down hA.1 hd, hA.2.1, c_Mh_same hA.2.2 m_le_rf (fun b hb => ⟨Classical.byContradiction (fun z => z ((c_cell_tg (hd b z)).trans hb.1)), hb.2⟩) (fun _ _ => rfl)⟩
/-- what the new Roads are -/
def c_NR (g : Nat → Nat) (Xa X : Mem) (o : Nat → Nat × Nat × Nat) (rr rm R : Nat) (D : Nat → Nat → Nat) (o' : Nat → Nat × Nat × Nat) : Prop := c_Rd g X o' rr R D (u_Wk D 12) 144 ∧ c_Mp g X o' rm R D ∧ (∀ b : Nat, m_tg Xa b ≠ 0 → o' b = o b) ∧ (∀ b : Nat, m_tg Xa b = 0 → (o' b).1 = 0 ∨ (o' b).1 = rr ∨ (o' b).1 = rm) ∧ c_Lb X o' ∧ c_nw Xa X ∧ c_g1 g X
/-- behind the map -/
theorem c2_init127 {Q : Mem → Prop} (hobj : ∀ (M : Mem) (y : Nat), q_obj (m_tg M y) → m_asg M y "java/lang/Object") (hA : c_KA g Xa X R H dD dF l D 144) (hD : u_Dok D) (hLb : c_Lb Xa o) (hroom : m_nc X + 200 ≤ m_CM ∧ m_ns X + 1500 ≤ m_SM)
    (hQ : ∀ (X' : Mem) (o' : Nat → Nat × Nat × Nat), c_NR g Xa X' o rr rm R D o' → m_nc X' ≤ m_nc X + 152 → m_ns X' ≤ m_ns X + 762 → Q X') : ∃ j127 : Nat, wp_X2_init_b127 g Q j127 X R 0 := by
  have htag := c_Mh_tag hA.2.2
  refine c2_begins (d := g 1) hobj ⟨hA.1, hA.2.1, Or.inr rfl, ?_, htag, fun b hb => ⟨hb.1.1, hb.2⟩, fun a b _ _ h => absurd h (Nat.not_lt_zero _)⟩ hD hroom (fun X1 d' q1 q2 q3 q4 => c2_near hD q1 (fun X2 p1 p2 p3 p4 => ?_))
  · rw [hA.1.2.1.2]
    rfl
  · have hdg : d' ≠ g 1 := fun z => by
      rcases p1.2.1.2.2.2 with ⟨q, _⟩ | ⟨q, _⟩
      · omega
      · have := p1.1.2.1.1
        rw [← z, q] at this
        cases this
    obtain ⟨y1, y2, y3, y4, y5⟩ := c_labR_ok (rr := rr) (rm := rm) p1 hdg hLb
    exact hQ X2 _ ⟨y1, y2, y3, y4, y5, p1.1.1, p1.1.2.1⟩ (by omega) (by omega)
/-- the first Roads, without a road -/
theorem c2_init0 {X0 : Mem} {x3 : Int32} {Q : Mem → Prop} (hobj : ∀ (M : Mem) (y : Nat), q_obj (m_tg M y) → m_asg M y "java/lang/Object") (hnw : c_nw Xa X0) (hR : m_tg X0 R = 3) (hRb : m_tg Xa R = 0) (hLb : c_Lb Xa o) (hroom : m_nc X0 + 300 ≤ m_CM ∧ m_ns X0 + 3000 ≤ m_SM)
    (hQ : ∀ (X' : Mem) (o' : Nat → Nat × Nat × Nat), c_NR g Xa X' o rr rm R (fun _ _ => 100000) o' → m_nc X' ≤ m_nc X0 + 180 → m_ns X' ≤ m_ns X0 + 1100 → Q X') : wp_X2_init g X0 R none none x3 Q := by
  refine c2_cells hnw hR hRb ⟨by omega, by omega⟩ (fun X H dD dF l q1 q2 q3 q4 q5 q6 q7 => ⟨fun _ => ⟨fun _ => ?_, fun u1 hu => by cases hu⟩, fun u hu => by cases hu⟩)
  obtain ⟨T, cap, B, nd, V, a, b⟩ := q5 (fun _ _ => 100000)
  have e0 : u_np (fun _ _ => 100000) 144 = u_np (fun _ _ => 100000) 0 := u_np_none (fun _ _ _ _ => rfl) 144 (by omega)
  refine c2_init127 (D := fun _ _ => 100000) (o := o) hobj ⟨q1, q4, T, cap, B, nd, V, by rw [e0]; exact a, fun y hy => ⟨?_, fun hin => ?_⟩⟩ (fun _ _ _ _ => ⟨rfl, Or.inl rfl, rfl⟩) hLb ⟨by omega, by omega⟩ (fun X' o' p1 p2 p3 => hQ X' o' p1 (by omega) (by omega))
  · rw [(b y hy).1]
    exact ⟨fun z => absurd z.1 (Nat.not_lt_zero _), fun z => absurd (show (100000:Nat) < 100000 from z.2) (Nat.lt_irrefl _)⟩
  · have := ((b y hy).1.mp hin).1
    exact absurd this (Nat.not_lt_zero _)
/-- one road more -/
theorem c2_init1 {X0 : Mem} {x3 : Int32} {Rb key lo hi v : Nat} {Q : Mem → Prop} (hobj : ∀ (M : Mem) (y : Nat), q_obj (m_tg M y) → m_asg M y "java/lang/Object") (hnode : ∀ (M : Mem) (y : Nat), m_tg M y = 19 → m_asg M y "java/util/HashMap$Node") (hnw : c_nw Xa X0) (hR : m_tg X0 R = 3) (hRa : m_tg Xa R = 0) (hLb : c_Lb Xa o) (hkey : m_tg X0 key = 4 ∧ m_tg Xa key = 0 ∧ m_gi X0 key 0 = nI lo ∧ m_gi X0 key 1 = nI hi) (hlh : lo < hi) (hh12 : hi < 12) (hx3 : x3 = nI v) (hv1 : 1 ≤ v) (hv : v ≤ 60) (hRB : c_RB g Xa Rb Db) (hDb : u_Dok Db) (hnew : Db lo hi = 100000) (hcnt : u_np Db 144 ≤ 29)
    (hD : u_Dok D) (hDD : ∀ a b : Nat, a < b → b < 12 → D a b = if a = lo ∧ b = hi then v else Db a b) (hnp : u_np D 144 = u_np Db 144 + 1) (hroom : m_nc X0 + 900 ≤ m_CM ∧ m_ns X0 + 16500 ≤ m_SM)
    (hQ : ∀ (X' : Mem) (o' : Nat → Nat × Nat × Nat), c_NR g Xa X' o rr rm R D o' → m_nc X' ≤ m_nc X0 + 760 → m_ns X' ≤ m_ns X0 + 14500 → Q X') : wp_X2_init g X0 R (some Rb) (some key) x3 Q := by
  obtain ⟨k1, k2, k3, k4⟩ := hkey
  have kR : key ≠ R := fun z => by rw [z, hR] at k1; cases k1
  -- all that is there but R
  generalize hXb : ((fun b => if b = R then (0, 0, fun _ => 0, fun _ => none) else X0.1 b, X0.2) : Mem) = Xb
  have cb : ∀ b : Nat, b ≠ R → Xb.1 b = X0.1 b := fun b hb => by
    rw [← hXb]
    exact if_neg hb
  have cR : m_tg Xb R = 0 := by
    rw [← hXb]
    unfold m_tg
    dsimp only
    rw [if_pos rfl]
  have nwb : c_nw Xb X0 := ⟨fun b hb => by
    have hbR : b ≠ R := fun z => hb (by rw [z]; exact cR)
    exact ⟨(c_cell_tg (cb b hbR)).symm, (c_cell_ln (cb b hbR)).symm⟩, fun b hb => (cb b (fun z => hb (by rw [z]; exact cR))).symm⟩
  have hab : ∀ b : Nat, m_tg Xa b ≠ 0 → Xa.1 b = Xb.1 b := fun b hb => by
    rw [cb b (fun z => hb (by rw [z]; exact hRa))]
    exact (hnw.2 b hb).symm
  have hRBb : c_RB g Xb Rb Db := by
    obtain ⟨r1, Hb, Pb, r2, r3, r4, r5⟩ := hRB
    have hle : m_le Xa Xb := fun b hb => ⟨(c_cell_tg (hab b hb)).symm, (c_cell_ln (hab b hb)).symm⟩
    have eR := hab Rb (by rw [r1]; decide)
    exact ⟨(c_cell_tg eR).symm.trans r1, Hb, Pb, (c_cell_gr eR).symm.trans r2, fun b hb => by rw [← c_cell_tg (hab b (r3 b hb))]; exact r3 b hb, c_Mh_same r4 hle (fun _ h => h) (fun b hb => (hab b (r3 b hb)).symm), r5⟩
  refine c2_cells nwb hR cR ⟨by omega, by omega⟩ (fun X H dD dF l q1 q2 q3 q4 q5 q6 q7 => ⟨fun z => (by cases z), fun u75 hu => ?_⟩)
  cases hu
  refine c2_keeps hnode ⟨q1, q4, q5 Db⟩ hRBb hDb ⟨by omega, by omega⟩ (fun X5 p1 p2 p3 p4 => ⟨fun z => (by cases z), fun u1 hu1 => ⟨p1.1.2.2.1, H, p1.1.2.2.2.1, ?_⟩⟩)
  cases hu1
  have hkb : m_tg Xb key ≠ 0 := by rw [c_cell_tg (cb key kR), k1]; decide
  have ck : X5.1 key = X0.1 key := (p1.1.1.2 key hkb).trans (cb key kR)
  have pA := c_KA_down p1 hab
  have hkS : ¬ c_S R dD dF l key := (q3 key kR (by rw [k1]; decide)).2
  have e1 : (12 * lo + hi) / 12 = lo := by omega
  have e2 : (12 * lo + hi) % 12 = hi := by omega
  refine q_valueOf (fun z => ?_) (fun z => ?_) (fun x hx hxv _ => ⟨x, rfl, (c_Mh_H pA.2.2).2.1, ?_⟩)
  · rw [hx3] at z
    have := Int32.lt_iff_toInt_lt.mp z
    rw [pn_toInt (by omega)] at this
    have h2 : (-128 : Int32).toInt = -128 := by decide
    omega
  · rw [hx3] at z
    have := (pn_lt (a := 127) (by omega) (by omega)).mp z
    omega
  · refine c_Mput (D' := D) (h' := 144) (v := v) hnode pA (by omega) hlh hh12 ⟨k2, hkS⟩ ((c_cell_tg ck).trans k1) ((c_cell_gi ck).trans k3) ((c_cell_gi ck).trans k4) hx (by rw [hxv, hx3]) ⟨by omega, by omega⟩ (fun z => by omega) hnp (fun y hy => ?_) (by rw [hDD lo hi hlh hh12, if_pos ⟨rfl, rfl⟩]) (fun X6 s1 s2 s3 s4 _ => c2_init127 (o := o) hobj s1 hD hLb ⟨by omega, by omega⟩ (fun X' o' t1 t2 t3 => hQ X' o' t1 (by omega) (by omega)))
    have hDy := hDD (y / 12) (y % 12) hy.1 (by omega)
    by_cases e : y = 12 * lo + hi
    · rw [e, e1, e2, hDD lo hi hlh hh12, if_pos ⟨rfl, rfl⟩]
      refine ⟨⟨fun _ => Or.inr rfl, fun _ => ⟨by omega, by omega⟩⟩, fun _ z => by omega⟩
    · have hne : ¬ (y / 12 = lo ∧ y % 12 = hi) := fun z => e (by omega)
      rw [hDy, if_neg hne]
      exact ⟨⟨fun z => Or.inl z, fun z => z.elim id (fun w => absurd w e)⟩, fun _ _ => rfl⟩
end
