/-! PURE: a LinkedHashMap: put -/
set_option maxRecDepth 100000
/-- the map with a table, whatever its size says -/
def l_M0 (g : Nat → Nat) (M : Mem) (P : Nat → Prop) (H T cap cnt : Nat) (B : Nat → List Nat) (nd V : Nat → Nat) : Prop :=
  P H ∧ m_tg M H = 17 ∧ m_gi M H 10 = 0 ∧ m_gi M H 11 = 0 ∧ m_gi M H 4 = nI cnt ∧ (∀ t : Nat, m_gr M H 9 = some t → P t ∧ m_tg M t = 19) ∧ l_B g M P cap B nd V ∧ l_cap cap ∧ m_gr M H 2 = some T ∧ P T ∧ m_tg M T = 104 ∧ m_ln M T = cap ∧ m_gi M H 6 = nI (cap * 3 / 4) ∧ ∀ i : Nat, i < cap → l_ch M nd (m_gr M T i) (B i)
section
variable {g : Nat → Nat} {P : Nat → Prop} {H T cap cnt : Nat} {B : Nat → List Nat} {nd V : Nat → Nat}
theorem l_292 {M : Mem} {Q : Option Nat → Mem → Prop} (hH : m_tg M H = 17) (hQ : Q none M) : wp_J8_putValL_b292 g M H 1 Q :=
  ⟨hH, fun z => absurd z (by decide), fun _ => ⟨hH, fun r3 _ => ⟨fun _ _ => hQ, fun u5 _ _ => ⟨fun _ _ => hQ, fun z => absurd rfl z⟩⟩⟩⟩
theorem l_after {Z : Mem} {Q : Option Nat → Mem → Prop} (hnode : ∀ (M : Mem) (y : Nat), m_tg M y = 19 → m_asg M y "java/util/HashMap$Node") (hM : l_M0 g Z P H T cap cnt B nd V) (hc : cnt ≤ cap * 3 / 4) (hc40 : cnt ≤ 40) (hP : ∀ b : Nat, m_tg Z b = 0 → P b) (hroom : m_nc Z + 1 ≤ m_CM ∧ m_ns Z + 64 ≤ m_SM)
    (hQ : ∀ (M' : Mem) (T' cap' : Nat) (B' : Nat → List Nat), l_M g M' P H T' cap' (cnt + 1) B' nd V → (∀ y : Nat, l_in B' cap' y ↔ l_in B cap y) → m_le Z M' → (∀ b : Nat, ¬ P b → M'.1 b = Z.1 b) → m_nc M' ≤ m_nc Z + 1 → m_ns M' ≤ m_ns Z + 64 → Q none M') : wp_J8_putValL_b259 g Z H 1 Q := by
  obtain ⟨m1, m2, m3, m4, m5, m6, ⟨b1, b2, b3⟩, m8, m9, m10, m11, m12, m13, m14⟩ := hM
  have hHT : H ≠ T := fun z => by rw [z, m11] at m2; cases m2
  have hHn : ∀ i h : Nat, h ∈ B i → nd h ≠ H := fun i h hh z => by
    have := (b1 i h hh).2.2.2.2.1
    rw [z, m2] at this
    cases this
  refine ⟨m2, fun M2 h2 M6 h6 => ?_⟩
  have g4 : m_gi M2 H 4 = nI cnt := by rw [h2, m_gi_pi, if_neg (by omega), m5]
  rw [g4, pn_succ] at h6 ⊢
  have tg6 : ∀ b : Nat, m_tg M6 b = m_tg Z b := fun b => by rw [h6, m_tg_pi, h2, m_tg_pi]
  have ln6 : ∀ b : Nat, m_ln M6 b = m_ln Z b := fun b => by rw [h6, m_ln_pi, h2, m_ln_pi]
  have gr6 : ∀ b f : Nat, m_gr M6 b f = m_gr Z b f := fun b f => by rw [h6, m_gr_pi, h2, m_gr_pi]
  have gi6 : ∀ b f : Nat, ¬ (b = H ∧ (f = 4 ∨ f = 5)) → m_gi M6 b f = m_gi Z b f := fun b f hb => by rw [h6, m_gi_pi, if_neg (fun z => hb ⟨z.1, Or.inl z.2⟩), h2, m_gi_pi, if_neg (fun z => hb ⟨z.1, Or.inr z.2⟩)]
  have gi64 : m_gi M6 H 4 = nI (cnt + 1) := by rw [h6, m_gi_pi, if_pos ⟨rfl, rfl⟩]
  have ce6 : ∀ b : Nat, b ≠ H → M6.1 b = Z.1 b := fun b hb => by
    rw [h6, h2]
    unfold m_pi
    dsimp only
    rw [if_neg hb, if_neg hb]
  have le6 : m_le Z M6 := fun b _ => ⟨tg6 b, ln6 b⟩
  have n6 : m_nc M6 = m_nc Z ∧ m_ns M6 = m_ns Z := by rw [h6, h2]; exact ⟨rfl, rfl⟩
  have nd6 : ∀ i h : Nat, h ∈ B i → l_nd g M6 P nd V h := fun i h hh => by
    obtain ⟨a1, a2, a3, ⟨k, c1, c2, c3, c4, c5⟩, x, d1, d2, d3⟩ := (b1 i h hh).2.2.2
    have hkH : k ≠ H := fun z => by rw [z, m2] at c3; cases c3
    exact ⟨a1, (tg6 _).trans a2, (gi6 _ _ (fun z => hHn i h hh z.1)).trans a3, ⟨k, (gr6 _ _).trans c1, c2, (tg6 _).trans c3, (gi6 _ _ (fun z => hkH z.1)).trans c4, (gi6 _ _ (fun z => hkH z.1)).trans c5⟩, x, (gr6 _ _).trans d1, (tg6 _).trans d2, d3⟩
  have th6 : m_gi M6 H 6 = nI (cap * 3 / 4) := (gi6 _ _ (fun z => by omega)).trans m13
  have hc64 : 16 ≤ cap ∧ cap ≤ 64 := by rcases m8 with rfl | rfl | rfl <;> decide
  have ch6 : ∀ i : Nat, i < cap → l_ch M6 nd (m_gr M6 T i) (B i) := fun i hi => by
    rw [gr6]
    exact l_ch_same (m14 i hi) (fun h hh => gr6 _ _)
  rw [th6]
  refine ⟨fun hle => ?_, fun hgt => ?_⟩
  · have hle' := (pn_le (by omega) (by omega)).mp hle
    refine l_292 ((tg6 H).trans m2) (hQ M6 T cap B ⟨m1, (tg6 H).trans m2, (gi6 _ _ (fun z => by omega)).trans m3, (gi6 _ _ (fun z => by omega)).trans m4, gi64, fun t ht => ?_, ⟨fun i h hh => ⟨(b1 i h hh).1, (b1 i h hh).2.1, (b1 i h hh).2.2.1, nd6 i h hh⟩, b2, b3⟩, Or.inr ⟨m8, (gr6 _ _).trans m9, m10, (tg6 T).trans m11, (ln6 T).trans m12, th6, hle', ch6⟩⟩ (fun y => Iff.rfl) le6 (fun b hb => ce6 b (fun z => hb (by rw [z]; exact m1))) (by omega) (by omega))
    rw [gr6] at ht
    obtain ⟨k1, k2⟩ := m6 t ht
    exact ⟨k1, (tg6 t).trans k2⟩
  · have hgt' : cap * 3 / 4 < cnt + 1 := Nat.not_le.mp (fun z => hgt ((pn_le (by omega) (by omega)).mpr z))
    have hcap : cap = 16 ∨ cap = 32 := by
      rcases m8 with h | h | h
      · exact Or.inl h
      · exact Or.inr h
      · subst h
        omega
    refine l_resize2 (B := B) (nd := nd) hnode hcap ((tg6 H).trans m2) ((gr6 _ _).trans m9) ((tg6 T).trans m11) ((ln6 T).trans m12) th6 (fun i x hx => ?_) b3 b2 ch6 ⟨by omega, by omega⟩ (fun X' T' t0 t1 t2 t3 t4 t5 t6 t7 t8 t9 t10 t11 t12 _ => ?_)
    · obtain ⟨k1, k2, k3, k4⟩ := b1 i x hx
      exact ⟨(nd6 i x hx).2.1, (nd6 i x hx).2.2.1, k3.2, k2⟩
    · have PT' : P T' := hP T' (by rw [← tg6]; exact t0)
      have hHT' : H ≠ T' := fun z => by rw [← z, tg6, m2] at t0; cases t0
      have hX : m_tg X' H = 17 := (t6 H (by rw [tg6, m2]; decide)).1.trans ((tg6 H).trans m2)
      have nT' : ∀ b : Nat, m_tg M6 b ≠ 0 → b ≠ T' := fun b hb z => hb (by rw [z]; exact t0)
      have ndX : ∀ i h : Nat, h ∈ B i → l_nd g X' P nd V h := fun i h hh => by
        obtain ⟨a1, a2, a3, ⟨k, c1, c2, c3, c4, c5⟩, x, d1, d2, d3⟩ := nd6 i h hh
        have kH : k ≠ H := fun z => by rw [z, tg6, m2] at c3; cases c3
        exact ⟨a1, (t6 _ (by rw [a2]; decide)).1.trans a2, (t9 _ _ (nT' _ (by rw [a2]; decide)) (fun z => hHn i h hh z.1)).trans a3, ⟨k, (t8 i h 1 hh (by decide)).trans c1, c2, (t6 _ (by rw [c3]; decide)).1.trans c3, (t9 _ _ (nT' _ (by rw [c3]; decide)) (fun z => kH z.1)).trans c4, (t9 _ _ (nT' _ (by rw [c3]; decide)) (fun z => kH z.1)).trans c5⟩, x, (t8 i h 2 hh (by decide)).trans d1, (t6 _ (by rw [d2]; decide)).1.trans d2, d3⟩
      have hin : ∀ y : Nat, y ∈ l_B2 B cap (y % (2 * cap)) ↔ y ∈ B (y % cap) := fun y => by
        unfold l_B2
        rw [List.mem_filter]
        have e : y % (2 * cap) % cap = y % cap := Nat.mod_mul_left_mod y 2 cap
        rw [e]
        exact ⟨fun z => z.1, fun z => ⟨z, decide_eq_true rfl⟩⟩
      refine l_292 hX (hQ X' T' (2 * cap) (l_B2 B cap) ⟨m1, hX, (t9 _ _ hHT' (fun z => by omega)).trans ((gi6 _ _ (fun z => by omega)).trans m3), (t9 _ _ hHT' (fun z => by omega)).trans ((gi6 _ _ (fun z => by omega)).trans m4), (t9 _ _ hHT' (fun z => by omega)).trans gi64, fun t ht => ?_, ⟨fun i h hh => ?_, fun i => (b2 _).filter _, fun i j h k hh hk => b3 _ _ h k (List.mem_filter.mp hh).1 (List.mem_filter.mp hk).1⟩, Or.inr ⟨by rcases hcap with rfl | rfl; exact Or.inr (Or.inl rfl); exact Or.inr (Or.inr rfl), t3, PT', t1, t2, t4, by omega, t5⟩⟩ hin (m_le_tr le6 t6) (fun b hb => ?_) (by omega) (by omega))
      · rw [t10 9 (by decide), gr6] at ht
        obtain ⟨k1, k2⟩ := m6 t ht
        exact ⟨k1, (t6 t (by rw [tg6, k2]; decide)).1.trans ((tg6 t).trans k2)⟩
      · obtain ⟨h1, h2'⟩ := List.mem_filter.mp hh
        have h3 := of_decide_eq_true h2'
        refine ⟨by rw [← h3]; exact Nat.mod_lt _ (by omega), h3, (b1 _ h h1).2.2.1, ndX _ h h1⟩
      · rw [t7 b (fun z => hb (by rw [z]; exact m1)) (fun z => hb (by rw [z]; exact m10)) (fun z => hb (by rw [z]; exact PT')) (fun i h hh z => hb (by rw [z]; exact (b1 i h hh).2.2.2.1))]
        exact ce6 b (fun z => hb (by rw [z]; exact m1))
/-- a node is made and linked at the end -/
theorem l_new {M : Mem} {K : Option Nat → Mem → Prop} {h k x : Nat} (hH : m_tg M H = 17) (h11 : m_gi M H 11 = 0) (htl : ∀ t : Nat, m_gr M H 9 = some t → m_tg M t = 19) (hroom : m_nc M + 1 ≤ m_CM ∧ m_ns M + 6 ≤ m_SM)
    (hK : ∀ (u : Nat) (M' : Mem), m_tg M u = 0 → (∀ b : Nat, m_tg M' b = if b = u then 19 else m_tg M b) → (∀ b : Nat, m_ln M' b = if b = u then 0 else m_ln M b) → (∀ b f : Nat, b ≠ u → m_gi M' b f = m_gi M b f) → m_gi M' u 0 = nI h → m_gr M' u 1 = some k → m_gr M' u 2 = some x → m_gr M' u 3 = none → m_gr M' H 9 = some u → (∀ b f : Nat, b ≠ u → f ≠ 5 → ¬ (b = H ∧ (f = 8 ∨ f = 9)) → m_gr M' b f = m_gr M b f) → (∀ b : Nat, m_tg M b ≠ 19 → b ≠ u → ∀ f : Nat, ¬ (b = H ∧ (f = 8 ∨ f = 9)) → m_gr M' b f = m_gr M b f) → (∀ b : Nat, b ≠ u → b ≠ H → (∀ t : Nat, m_gr M H 9 = some t → b ≠ t) → M'.1 b = M.1 b) → m_nc M' = m_nc M + 1 → m_ns M' = m_ns M + 6 → K (some u) M') : wp_J9_newNodeL g M H (nI h) k x none K := by
  refine ⟨hroom, fun u hu M4 h4 => ?_⟩
  have huH : H ≠ u := fun z => by rw [← z, hH] at hu; cases hu
  refine ⟨by rw [h4, m_tg_al, if_pos rfl], fun Ma ha Mb hb Mc hc Md hd hle1 hle2 => ?_⟩
  have tgd : ∀ b : Nat, m_tg Md b = if b = u then 19 else m_tg M b := fun b => by rw [hd, m_tg_pr, hc, m_tg_pr, hb, m_tg_pr, ha, m_tg_pi, h4, m_tg_al]
  have lnd : ∀ b : Nat, m_ln Md b = if b = u then 0 else m_ln M b := fun b => by rw [hd, m_ln_pr, hc, m_ln_pr, hb, m_ln_pr, ha, m_ln_pi, h4, m_ln_al]
  have gid : ∀ b f : Nat, b ≠ u → m_gi Md b f = m_gi M b f := fun b f hbn => by rw [hd, m_gi_pr, hc, m_gi_pr, hb, m_gi_pr, ha, m_gi_pi, if_neg (fun z => hbn z.1), h4, m_gi_al, if_neg hbn]
  have gidu : m_gi Md u 0 = nI h := by rw [hd, m_gi_pr, hc, m_gi_pr, hb, m_gi_pr, ha, m_gi_pi, if_pos ⟨rfl, rfl⟩]
  have grd : ∀ b f : Nat, b ≠ u → m_gr Md b f = m_gr M b f := fun b f hbn => by
    rw [hd, m_gr_pr, hc, m_gr_pr, hb, m_gr_pr, ha, m_gr_pi, h4, m_gr_al]
    simp only [hbn, false_and, if_false]
  have gr1 : m_gr Md u 1 = some k := by rw [hd, m_gr_pr, if_neg (by omega), hc, m_gr_pr, if_neg (by omega), hb, m_gr_pr, if_pos ⟨rfl, rfl⟩]
  have gr2 : m_gr Md u 2 = some x := by rw [hd, m_gr_pr, if_neg (by omega), hc, m_gr_pr, if_pos ⟨rfl, rfl⟩]
  have gr3 : m_gr Md u 3 = none := by rw [hd, m_gr_pr, if_pos ⟨rfl, rfl⟩]
  have ced : ∀ b : Nat, b ≠ u → Md.1 b = M.1 b := fun b hbn => by
    rw [hd, hc, hb, ha, h4]
    unfold m_pr m_pi m_al
    dsimp only
    rw [if_neg hbn, if_neg hbn, if_neg hbn, if_neg hbn, if_neg hbn]
  have ndd : m_nc Md = m_nc M + 1 ∧ m_ns Md = m_ns M + 6 := by rw [hd, hc, hb, ha, h4]; exact ⟨rfl, rfl⟩
  have hHd : m_tg Md H = 17 := by rw [tgd, if_neg huH, hH]
  refine ⟨hHd, hHd, fun _ => ?_, fun z => ?_⟩
  · intro r3 h3 M5 h5
    have tg5 : ∀ b : Nat, m_tg M5 b = m_tg Md b := fun b => by rw [h5, m_tg_pr]
    have r3e : r3 = m_gr M H 9 := by rw [h3, grd H 9 huH]
    refine ⟨fun hn M24 h24 => ?_, fun u9 h9 => ⟨by rw [tg5, tgd, if_pos rfl], fun M12 h12 => ⟨?_, fun M18 h18 => ?_⟩⟩⟩
    · intro hle12
      have g24 : ∀ b f : Nat, m_gr M24 b f = if b = H ∧ f = 8 then some u else if b = H ∧ f = 9 then some u else m_gr Md b f := fun b f => by rw [h24, m_gr_pr, h5, m_gr_pr]
      refine hK u M24 hu (fun b => by rw [h24, m_tg_pr, tg5, tgd]) (fun b => by rw [h24, m_ln_pr, h5, m_ln_pr, lnd]) (fun b f hbn => by rw [h24, m_gi_pr, h5, m_gi_pr, gid b f hbn]) (by rw [h24, m_gi_pr, h5, m_gi_pr, gidu]) ?_ ?_ ?_ ?_ (fun b f hbn _ hbH => ?_) (fun b _ hbn f hbH => ?_) (fun b hbn hbH _ => ?_) ?_ ?_
      · rw [g24, if_neg (fun z => huH z.1.symm), if_neg (fun z => huH z.1.symm), gr1]
      · rw [g24, if_neg (fun z => huH z.1.symm), if_neg (fun z => huH z.1.symm), gr2]
      · rw [g24, if_neg (fun z => huH z.1.symm), if_neg (fun z => huH z.1.symm), gr3]
      · rw [g24, if_neg (by omega), if_pos ⟨rfl, rfl⟩]
      · rw [g24, if_neg (fun z => hbH ⟨z.1, Or.inl z.2⟩), if_neg (fun z => hbH ⟨z.1, Or.inr z.2⟩), grd b f hbn]
      · rw [g24, if_neg (fun z => hbH ⟨z.1, Or.inl z.2⟩), if_neg (fun z => hbH ⟨z.1, Or.inr z.2⟩), grd b f hbn]
      · rw [h24, h5]
        unfold m_pr
        dsimp only
        rw [if_neg hbH, if_neg hbH]
        exact ced b hbn
      · rw [h24, h5]
        exact ndd.1
      · rw [h24, h5]
        exact ndd.2
    · have ht9 : m_gr M H 9 = some u9 := by rw [← r3e, h9]
      have t9 := htl u9 ht9
      have hu9 : u9 ≠ u := fun z => by rw [z, hu] at t9; cases t9
      rw [h12, m_tg_pr, tg5, tgd, if_neg hu9, t9]
    · have ht9 : m_gr M H 9 = some u9 := by rw [← r3e, h9]
      have t9 := htl u9 ht9
      have hu9 : u9 ≠ u := fun z => by rw [z, hu] at t9; cases t9
      have hu9H : u9 ≠ H := fun z => by rw [z, hH] at t9; cases t9
      intro hle12
      have g18 : ∀ b f : Nat, m_gr M18 b f = if b = u9 ∧ f = 5 then some u else if b = u ∧ f = 4 then some u9 else if b = H ∧ f = 9 then some u else m_gr Md b f := fun b f => by rw [h18, m_gr_pr, h12, m_gr_pr, h5, m_gr_pr]
      refine hK u M18 hu (fun b => by rw [h18, m_tg_pr, h12, m_tg_pr, tg5, tgd]) (fun b => by rw [h18, m_ln_pr, h12, m_ln_pr, h5, m_ln_pr, lnd]) (fun b f hbn => by rw [h18, m_gi_pr, h12, m_gi_pr, h5, m_gi_pr, gid b f hbn]) (by rw [h18, m_gi_pr, h12, m_gi_pr, h5, m_gi_pr, gidu]) ?_ ?_ ?_ ?_ (fun b f hbn hf5 hbH => ?_) (fun b hb19 hbn f hbH => ?_) (fun b hbn hbH hbt => ?_) ?_ ?_
      · rw [g18, if_neg (fun z => hu9 z.1.symm), if_neg (by omega), if_neg (fun z => huH z.1.symm), gr1]
      · rw [g18, if_neg (fun z => hu9 z.1.symm), if_neg (by omega), if_neg (fun z => huH z.1.symm), gr2]
      · rw [g18, if_neg (fun z => hu9 z.1.symm), if_neg (by omega), if_neg (fun z => huH z.1.symm), gr3]
      · rw [g18, if_neg (fun z => hu9H z.1.symm), if_neg (fun z => huH z.1), if_pos ⟨rfl, rfl⟩]
      · rw [g18, if_neg (fun z => hf5 z.2), if_neg (fun z => hbn z.1), if_neg (fun z => hbH ⟨z.1, Or.inr z.2⟩), grd b f hbn]
      · rw [g18, if_neg (fun z => hb19 (by rw [z.1]; exact t9)), if_neg (fun z => hbn z.1), if_neg (fun z => hbH ⟨z.1, Or.inr z.2⟩), grd b f hbn]
      · rw [h18, h12, h5]
        unfold m_pr
        dsimp only
        rw [if_neg (hbt u9 ht9), if_neg hbn, if_neg hbH]
        exact ced b hbn
      · rw [h18, h12, h5]
        exact ndd.1
      · rw [h18, h12, h5]
        exact ndd.2
  · exfalso
    rw [gid H 11 huH, h11] at z
    exact absurd z (by decide)
end
