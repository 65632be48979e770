/-! PURE: Roads are made: its cells; roads are kept -/
set_option maxRecDepth 100000
def c_S (R dD dF l b : Nat) : Prop := b = R ∨ b = l ∨ ∃ j : Nat, j ≤ 12 ∧ (b = dD + j ∨ b = dF + j)
/-- cells of the new map -/
def c_P (Xb : Mem) (R dD dF l b : Nat) : Prop := m_tg Xb b = 0 ∧ ¬ c_S R dD dF l b
theorem c_Mh_skip {g : Nat → Nat} {M : Mem} {P : Nat → Prop} {H h k : Nat} {D : Nat → Nat → Nat} (hm : c_Mh g M P H D h) (hk : h ≤ k) (hno : ∀ y : Nat, h ≤ y → y < k → ¬ l_hv y) (hk144 : k ≤ 144) : c_Mh g M P H D k := by
  have hnp : ∀ d : Nat, h + d ≤ k → u_np D (h + d) = u_np D h := by
    intro d
    induction d with
    | zero => intro _; rfl
    | succ d ih =>
      intro hd
      have h1 := ih (by omega)
      have e2 : u_np D (h + d + 1) = u_np D (h + d) + (if (h + d) / 12 < (h + d) % 12 ∧ D ((h + d) / 12) ((h + d) % 12) < 100000 then 1 else 0) := rfl
      have hv := hno (h + d) (by omega) (by omega)
      rw [if_neg (fun z => hv ⟨z.1, by omega⟩)] at e2
      show u_np D (h + d + 1) = u_np D h
      omega
  obtain ⟨T, cap, B, nd, V, a, b⟩ := hm
  have e := hnp (k - h) (by omega)
  rw [show h + (k - h) = k by omega] at e
  refine ⟨T, cap, B, nd, V, by rw [e]; exact a, fun y hy => ⟨?_, (b y hy).2⟩⟩
  rw [(b y hy).1]
  refine ⟨fun z => ⟨by omega, z.2⟩, fun z => ⟨?_, z.2⟩⟩
  apply Classical.byContradiction
  intro w
  exact hno y (by omega) z.1 hy
theorem u_tg_mu {M : Mem} {a n k b : Nat} : m_tg (m_mu M a n k) b = if b = a then 105 else if a < b ∧ b ≤ a + n then 101 else m_tg M b := by
  unfold m_tg m_mu
  dsimp only
  split
  · rfl
  · split <;> rfl
theorem u_ln_mu {M : Mem} {a n k b : Nat} : m_ln (m_mu M a n k) b = if b = a then n else if a < b ∧ b ≤ a + n then k else m_ln M b := by
  unfold m_ln m_mu
  dsimp only
  split
  · rfl
  · split <;> rfl
theorem u_gr_mu {M : Mem} {a n k b f : Nat} : m_gr (m_mu M a n k) b f = if b = a then some (a + 1 + f) else if a < b ∧ b ≤ a + n then none else m_gr M b f := by
  unfold m_gr m_mu
  dsimp only
  split
  · rfl
  · split <;> rfl
theorem m_cell_mu {M : Mem} {a n k b : Nat} (h : ¬ (a ≤ b ∧ b ≤ a + n)) : (m_mu M a n k).1 b = M.1 b := by
  unfold m_mu
  dsimp only
  rw [if_neg (by omega), if_neg (by omega)]
theorem m_cell_pr {M : Mem} {a k b : Nat} {v : Option Nat} (h : b ≠ a) : (m_pr M a k v).1 b = M.1 b := by
  unfold m_pr
  dsimp only
  rw [if_neg h]
theorem m_cell_pi {M : Mem} {a k b : Nat} {v : Int32} (h : b ≠ a) : (m_pi M a k v).1 b = M.1 b := by
  unfold m_pi
  dsimp only
  rw [if_neg h]
theorem m_cell_al {M : Mem} {a t n s b : Nat} (h : b ≠ a) : (m_al M a t n s).1 b = M.1 b := by
  unfold m_al
  dsimp only
  rw [if_neg h]
theorem u_le_mu {M : Mem} {a n k : Nat} (h : ∀ j : Nat, j ≤ n → m_tg M (a + j) = 0) : m_le M (m_mu M a n k) := fun b hb => by
  have hn : ¬ (a ≤ b ∧ b ≤ a + n) := fun z => hb (by
    have := h (b - a) (by omega)
    rw [show a + (b - a) = b by omega] at this
    exact this)
  exact ⟨c_cell_tg (m_cell_mu hn), c_cell_ln (m_cell_mu hn)⟩
/-- the cells of new Roads -/
theorem c2_cells {g : Nat → Nat} {Xb X0 : Mem} {R : Nat} {x3 : Int32} {r1 r2 : Option Nat} {Q : Mem → Prop} (hnw : c_nw Xb X0) (hR : m_tg X0 R = 3) (hRb : m_tg Xb R = 0) (hroom : m_nc X0 + 40 ≤ m_CM ∧ m_ns X0 + 400 ≤ m_SM)
    (hQ : ∀ (X : Mem) (H dD dF l : Nat), c_BS g Xb X R H dD dF l → m_le X0 X → (∀ b : Nat, b ≠ R → m_tg X0 b ≠ 0 → X.1 b = X0.1 b ∧ ¬ c_S R dD dF l b) → c_L g X l (g 1) 0 (fun _ => none) → (∀ D : Nat → Nat → Nat, c_Mh g X (c_P Xb R dD dF l) H D 0) → m_nc X ≤ m_nc X0 + 28 → m_ns X ≤ m_ns X0 + 327 → ((r1 = none → wp_X2_init_b105 g X R r2 x3 Q) ∧ (∀ u75 : Nat, r1 = some u75 → ∃ j57 : Nat, wp_X2_init_b57 g Q j57 X R u75 r2 x3 0))) : wp_X2_init g X0 R r1 r2 x3 Q := by
  have c12 : Int32.toNatClampNeg 12 = 12 := rfl
  unfold wp_X2_init
  rw [c12]
  refine ⟨⟨by omega, by omega⟩, fun H hH M4 h4 => ?_⟩
  have hRH : R ≠ H := fun z => by rw [← z, hR] at hH; cases hH
  have t4 : m_tg M4 H = 17 := by rw [h4, m_tg_al, if_pos rfl]
  refine fun _ => ⟨t4, fun Ma ha _ => ⟨by rw [ha, m_tg_pi]; exact t4, fun Mb hb Mc hc _ => ?_⟩⟩
  have hlec : m_le X0 Mc := by
    rw [hc, hb, ha, h4]
    exact m_le_tr (m_le_al hH) (m_le_tr m_le_pi (m_le_tr m_le_pi m_le_pi))
  have tc : ∀ b : Nat, m_tg Mc b = if b = H then 17 else m_tg X0 b := fun b => by rw [hc, m_tg_pi, hb, m_tg_pi, ha, m_tg_pi, h4, m_tg_al]
  have cc : ∀ b : Nat, b ≠ H → Mc.1 b = X0.1 b := fun b hbH => by rw [hc, m_cell_pi hbH, hb, m_cell_pi hbH, ha, m_cell_pi hbH, h4, m_cell_al hbH]
  refine ⟨by rw [tc, if_neg hRH, hR], fun M12 h12 => ?_⟩
  have t12 : ∀ b : Nat, m_tg M12 b = if b = H then 17 else m_tg X0 b := fun b => by rw [h12, m_tg_pr, tc]
  have n12 : m_nc M12 = m_nc X0 + 1 ∧ m_ns M12 = m_ns X0 + 12 := by rw [h12, hc, hb, ha, h4]; exact ⟨rfl, rfl⟩
  refine ⟨⟨by omega, by omega⟩, fun dD hD M19 h19 M26 h26 => ?_⟩
  have n26 : m_nc M26 = m_nc X0 + 14 ∧ m_ns M26 = m_ns X0 + 168 := by
    rw [h26, h19]
    show m_nc M12 + (1 + 12) = _ ∧ m_ns M12 + (12 + 12 * 12) = _
    omega
  have t26 : ∀ b : Nat, m_tg M26 b = if b = dD then 105 else if dD < b ∧ b ≤ dD + 12 then 101 else if b = H then 17 else m_tg X0 b := fun b => by rw [h26, m_tg_pr, h19, u_tg_mu, t12]
  have hDX : ∀ j : Nat, j ≤ 12 → m_tg X0 (dD + j) = 0 ∧ dD + j ≠ H := fun j hj => by
    have := hD j hj
    rw [t12] at this
    split at this
    · cases this
    · rename_i z
      exact ⟨this, z⟩
  refine ⟨⟨by omega, by omega⟩, fun dF hF M34 h34 M42 h42 => ?_⟩
  have n42 : m_nc M42 = m_nc X0 + 27 ∧ m_ns M42 = m_ns X0 + 324 := by
    rw [h42, h34]
    show m_nc M26 + (1 + 12) = _ ∧ m_ns M26 + (12 + 12 * 12) = _
    omega
  have t42 : ∀ b : Nat, m_tg M42 b = if b = dF then 105 else if dF < b ∧ b ≤ dF + 12 then 101 else m_tg M26 b := fun b => by rw [h42, m_tg_pr, h34, u_tg_mu]
  have hFX : ∀ j : Nat, j ≤ 12 → m_tg X0 (dF + j) = 0 ∧ dF + j ≠ H ∧ ¬ (dD ≤ dF + j ∧ dF + j ≤ dD + 12) := fun j hj => by
    have := hF j hj
    rw [t26] at this
    split at this
    · cases this
    · split at this
      · cases this
      · split at this
        · cases this
        · exact ⟨this, by omega, by omega⟩
  refine ⟨⟨by omega, by omega⟩, fun l hl M52 h52 => ?_⟩
  have hlX : m_tg X0 l = 0 ∧ l ≠ H ∧ ¬ (dD ≤ l ∧ l ≤ dD + 12) ∧ ¬ (dF ≤ l ∧ l ≤ dF + 12) := by
    have := hl
    rw [t42, t26] at this
    split at this
    · cases this
    · split at this
      · cases this
      · split at this
        · cases this
        · split at this
          · cases this
          · split at this
            · cases this
            · exact ⟨this, by omega, by omega, by omega⟩
  have hRD : ∀ j : Nat, j ≤ 12 → R ≠ dD + j ∧ R ≠ dF + j := fun j hj => ⟨fun z => (by have := (hDX j hj).1; rw [← z, hR] at this; cases this), fun z => (by have := (hFX j hj).1; rw [← z, hR] at this; cases this)⟩
  have hRl : R ≠ l := fun z => by have := hlX.1; rw [← z, hR] at this; cases this
  have nRF : R ≠ dF := fun z => (hRD 0 (by omega)).2 (by omega)
  have nRD : R ≠ dD := fun z => (hRD 0 (by omega)).1 (by omega)
  have nRF2 : ¬ (dF < R ∧ R ≤ dF + 12) := fun z => (hRD (R - dF) (by omega)).2 (by omega)
  have nRD2 : ¬ (dD < R ∧ R ≤ dD + 12) := fun z => (hRD (R - dD) (by omega)).1 (by omega)
  have t52 : m_tg M52 l = 14 := by rw [h52, m_tg_al, if_pos rfl]
  refine q_init t52 (by rw [h52, m_gi_al, if_pos rfl]) (fun hg1 M60 hM60 hL hfr _ M67 h67 => ?_)
  have le12 : m_le Mc M12 := by rw [h12]; exact m_le_pr
  have le19 : m_le M12 M19 := by rw [h19]; exact u_le_mu hD
  have le26 : m_le M19 M26 := by rw [h26]; exact m_le_pr
  have le34 : m_le M26 M34 := by rw [h34]; exact u_le_mu hF
  have le42 : m_le M34 M42 := by rw [h42]; exact m_le_pr
  have le52' : m_le M42 M52 := by rw [h52]; exact m_le_al hl
  have le52 : m_le X0 M52 := m_le_tr hlec (m_le_tr le12 (m_le_tr le19 (m_le_tr le26 (m_le_tr le34 (m_le_tr le42 le52')))))
  have t67 : ∀ b : Nat, m_tg M67 b = if b = l then 14 else m_tg M42 b := fun b => by rw [h67, m_tg_pr, hM60, m_tg_pr, m_tg_pi, h52, m_tg_al]
  have l67 : ∀ b : Nat, m_ln M67 b = if b = l then 0 else m_ln M42 b := fun b => by rw [h67, m_ln_pr, hM60, m_ln_pr, m_ln_pi, h52, m_ln_al]
  have le67 : m_le X0 M67 := m_le_tr le52 (m_le_tr hfr.1 (by rw [h67]; exact m_le_pr))
  have gr42 : ∀ b f : Nat, m_gr M42 b f = if b = R ∧ f = 2 then some dF else if b = dF then some (dF + 1 + f) else if dF < b ∧ b ≤ dF + 12 then none else if b = R ∧ f = 1 then some dD else if b = dD then some (dD + 1 + f) else if dD < b ∧ b ≤ dD + 12 then none else if b = R ∧ f = 0 then some H else m_gr Mc b f := fun b f => by rw [h42, m_gr_pr, h34, u_gr_mu, h26, m_gr_pr, h19, u_gr_mu, h12, m_gr_pr]
  have gr67 : ∀ b f : Nat, b ≠ l → m_gr M67 b f = if b = R ∧ f = 3 then some l else m_gr M42 b f := fun b f hbl => by
    rw [h67, m_gr_pr, hM60, m_gr_pr, m_gr_pi, h52, m_gr_al]
    simp only [hbl, false_and, if_false]
  have cell67 : ∀ b : Nat, b ≠ R → m_tg X0 b ≠ 0 → M67.1 b = X0.1 b := fun b hbR hb0 => by
    have b1 : b ≠ H := fun z => hb0 (by rw [z]; exact hH)
    have b2 : ¬ (dD ≤ b ∧ b ≤ dD + 12) := fun z => hb0 (by
      have := (hDX (b - dD) (by omega)).1
      rw [show dD + (b - dD) = b by omega] at this
      exact this)
    have b3 : ¬ (dF ≤ b ∧ b ≤ dF + 12) := fun z => hb0 (by
      have := (hFX (b - dF) (by omega)).1
      rw [show dF + (b - dF) = b by omega] at this
      exact this)
    have b4 : b ≠ l := fun z => hb0 (by rw [z]; exact hlX.1)
    rw [h67, m_cell_pr hbR, hfr.2.1 b b4 b4, h52, m_cell_al b4, h42, m_cell_pr hbR, h34, m_cell_mu b3, h26, m_cell_pr hbR, h19, m_cell_mu b2, h12, m_cell_pr hbR]
    exact cc b b1
  have hb0 : ∀ b : Nat, m_tg X0 b = 0 → m_tg Xb b = 0 := fun b hb => Classical.byContradiction (fun z => z ((hnw.1 b z).1.symm.trans hb))
  have g67 : c_g1 g M67 := c_g1_le hg1 (m_le_tr hfr.1 (by rw [h67]; exact m_le_pr))
  have HS : ¬ c_S R dD dF l H := fun z => by
    rcases z with z | z | ⟨j, hj, z | z⟩
    · exact hRH z.symm
    · exact hlX.2.1 z.symm
    · exact (hDX j hj).2 z.symm
    · exact (hFX j hj).2.1 z.symm
  have cellH : M67.1 H = Mc.1 H := by
    have b2 : ¬ (dD ≤ H ∧ H ≤ dD + 12) := fun z => (hDX (H - dD) (by omega)).2 (by omega)
    have b3 : ¬ (dF ≤ H ∧ H ≤ dF + 12) := fun z => (hFX (H - dF) (by omega)).2.1 (by omega)
    rw [h67, m_cell_pr hRH.symm, hfr.2.1 H hlX.2.1.symm hlX.2.1.symm, h52, m_cell_al hlX.2.1.symm, h42, m_cell_pr hRH.symm, h34, m_cell_mu b3, h26, m_cell_pr hRH.symm, h19, m_cell_mu b2, h12, m_cell_pr hRH.symm]
  have giH : ∀ f : Nat, f = 4 ∨ f = 6 ∨ f = 10 ∨ f = 11 → m_gi M67 H f = 0 := fun f hf => by
    rw [c_cell_gi cellH, hc, m_gi_pi]
    split
    · rfl
    · rw [hb, m_gi_pi]
      split
      · rfl
      · rw [ha, m_gi_pi, if_neg (by omega), h4, m_gi_al, if_pos rfl]
  have grH : ∀ f : Nat, m_gr M67 H f = none := fun f => by rw [c_cell_gr cellH, hc, m_gr_pi, hb, m_gr_pi, ha, m_gr_pi, h4, m_gr_al, if_pos rfl]
  refine hQ M67 H dD dF l ⟨⟨m_le_tr hnw.1 le67, fun b hb => ?_⟩, g67, ?_, ?_, ?_, ?_, ?_, ⟨?_, ?_, fun a haa => ⟨?_, ?_, ?_⟩⟩, ⟨?_, ?_, fun a haa => ⟨?_, ?_, ?_⟩⟩, ⟨hRb, hb0 l hlX.1, fun j hj => ⟨hb0 _ (hDX j hj).1, hb0 _ (hFX j hj).1⟩⟩, fun i j hi hj => ?_⟩ le67 (fun b hbR hb0' => ⟨cell67 b hbR hb0', fun z => ?_⟩) ?_ (fun D => ⟨0, 0, fun _ => [], id, id, ⟨⟨hb0 H hH, HS⟩, (c_cell_tg cellH).trans (by rw [tc, if_pos rfl]), giH 10 (by omega), giH 11 (by omega), giH 4 (by omega), fun t ht => ?_, ⟨fun i h hh => (by cases hh), fun i => List.nodup_nil, fun i j y y' hy => (by cases hy)⟩, Or.inl ⟨rfl, rfl, grH 2, giH 6 (by omega)⟩⟩, fun y _ => ⟨⟨fun z => (by cases z), fun z => absurd z.1 (Nat.not_lt_zero _)⟩, fun z => (by cases z)⟩⟩) ?_ ?_
  · have hbX : m_tg X0 b ≠ 0 := by rw [(hnw.1 b hb).1]; exact hb
    rw [cell67 b (fun z => hb (by rw [z]; exact hRb)) hbX]
    exact hnw.2 b hb
  · rw [(le67 R (by rw [hR]; decide)).1, hR]
  · rw [gr67 R 0 hRl, if_neg (by omega), gr42, if_neg (by omega), if_neg nRF, if_neg nRF2, if_neg (by omega), if_neg nRD, if_neg nRD2, if_pos ⟨rfl, rfl⟩]
  · rw [gr67 R 1 hRl, if_neg (by omega), gr42, if_neg (by omega), if_neg nRF, if_neg nRF2, if_pos ⟨rfl, rfl⟩]
  · rw [gr67 R 2 hRl, if_neg (by omega), gr42, if_pos ⟨rfl, rfl⟩]
  · rw [gr67 R 3 hRl, if_pos ⟨rfl, rfl⟩]
  · rw [t67, if_neg (by omega), t42, if_neg (fun z => (hFX 0 (by omega)).2.2 (by omega)), if_neg (fun z => (hFX (dD - dF) (by omega)).2.2 (by omega)), t26, if_pos rfl]
  · rw [l67, if_neg (by omega), h42, m_ln_pr, h34, u_ln_mu, if_neg (fun z => (hFX 0 (by omega)).2.2 (by omega)), if_neg (fun z => (hFX (dD - dF) (by omega)).2.2 (by omega)), h26, m_ln_pr, h19, u_ln_mu, if_pos rfl]
  · rw [gr67 dD a (by omega), if_neg (fun z => nRD z.1.symm), gr42, if_neg (fun z => nRD z.1.symm), if_neg (fun z => (hFX 0 (by omega)).2.2 (by omega)), if_neg (fun z => (hFX (dD - dF) (by omega)).2.2 (by omega)), if_neg (fun z => nRD z.1.symm), if_pos rfl]
  · rw [t67, if_neg (by omega), t42, if_neg (fun z => (hFX 0 (by omega)).2.2 (by omega)), if_neg (fun z => (hFX (dD + 1 + a - dF) (by omega)).2.2 (by omega)), t26, if_neg (by omega), if_pos (by omega)]
  · rw [l67, if_neg (by omega), h42, m_ln_pr, h34, u_ln_mu, if_neg (fun z => (hFX 0 (by omega)).2.2 (by omega)), if_neg (fun z => (hFX (dD + 1 + a - dF) (by omega)).2.2 (by omega)), h26, m_ln_pr, h19, u_ln_mu, if_neg (by omega), if_pos (by omega)]
  · rw [t67, if_neg (by omega), t42, if_pos rfl]
  · rw [l67, if_neg (by omega), h42, m_ln_pr, h34, u_ln_mu, if_pos rfl]
  · rw [gr67 dF a (by omega), if_neg (fun z => nRF z.1.symm), gr42, if_neg (fun z => nRF z.1.symm), if_pos rfl]
  · rw [t67, if_neg (by omega), t42, if_neg (by omega), if_pos (by omega)]
  · rw [l67, if_neg (by omega), h42, m_ln_pr, h34, u_ln_mu, if_neg (by omega), if_pos (by omega)]
  · have := (hFX j hj).2.2
    omega
  · rcases z with z | z | ⟨j, hj, z | z⟩
    · exact hbR z
    · exact hb0' (by rw [z]; exact hlX.1)
    · exact hb0' (by rw [z]; exact (hDX j hj).1)
    · exact hb0' (by rw [z]; exact (hFX j hj).1)
  · refine c_L_same hL (by rw [h67]; exact m_cell_pr hRl.symm) (by
      rw [h67]
      refine m_cell_pr (fun z => ?_)
      have := hg1.1
      rw [z, h52, m_tg_al, if_neg hRl, t42, if_neg nRF, if_neg nRF2, t26, if_neg nRD, if_neg nRD2, if_neg hRH, hR] at this
      cases this)
  · rw [grH 9] at ht
    cases ht
  · have := hfr.2.2.1
    rw [h67]
    show m_nc M60 ≤ _
    rw [h52] at this
    have e9 : m_nc (m_al M42 l 14 0 3) = m_nc M42 + 1 := rfl
    omega
  · have := hfr.2.2.2
    rw [h67]
    show m_ns M60 ≤ _
    rw [h52] at this
    have e9 : m_ns (m_al M42 l 14 0 3) = m_ns M42 + 3 := rfl
    omega
