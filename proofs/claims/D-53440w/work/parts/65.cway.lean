/-! PURE: the component's way, laid once -/
set_option maxRecDepth 100000
/-- what the roads' keeper knows of D and W -/
def u_OK (D W : Nat → Nat → Nat) : Prop := (∀ a b : Nat, a < 12 → b < 12 → D a b ≤ 100000 ∧ W a b ≤ 100000) ∧ (∀ a : Nat, a < 12 → D a a = 100000) ∧ u_Q D W
section
variable {g : Nat → Nat} {M : Mem} {o : Nat → Nat × Nat × Nat} {rr R u : Nat} {D W : Nat → Nat → Nat}
/-- a way, out of what the lay gave: it is put among the ways -/
theorem c_way_put {a t : Nat} {Q : Option Nat → Mem → Prop} {X0 X : Mem} {l wd w d cnt : Nat} {e : Nat → Option Nat} (hobj : ∀ (M : Mem) (y : Nat), q_obj (m_tg M y) → m_asg M y "java/lang/Object") (hD : c_Rd g X0 o rr R D W u) (hrr : rr ≠ 0) (hLb : c_Lb X0 o) (ha : a < 12) (ht : t < 12) (hl : m_gr X0 R 3 = some l) (hw : c_ways g X0 o rr D W l wd) (hu : u_un (m_gr X0 wd) 144 = u) (hnone : m_gr X0 wd (12 * a + t) = none)
    (hnw : c_nw X0 X) (hg1 : c_g1 g X) (hw0 : m_tg X0 w = 0) (hd0 : m_tg X0 d = 0 ∨ d = g 1) (hL : c_L g X w d cnt e) (hcnt : cnt = u_cnt D W a t) (hc12 : cnt ≤ 12) (hbox : ∀ k : Nat, k < cnt → ∃ x : Nat, e k = some x ∧ m_tg X x = 150 ∧ m_ub g x = nI (u_it D W t a k)) (hnc : m_nc X ≤ m_nc X0 + 60) (hns : m_ns X ≤ m_ns X0 + 300)
    (hQ : ∀ (X' : Mem) (o' : Nat → Nat × Nat × Nat) (u' : Nat), m_le X0 X' → (∀ q : Nat, q ≠ rr → q ≠ 0 → c_same X0 o X' o' q) → c_Rd g X' o' rr R D W u' → c_wl g X' o' rr (12 * a + t) w (u_cnt D W a t) (u_it D W t a) → c_Lb X' o' → c_g1 g X' → m_nc X' + 60 * u' ≤ m_nc X0 + 60 * u → m_ns X' + 300 * u' ≤ m_ns X0 + 300 * u → Q (some w) X') :
    m_tg X l = 14 ∧ wp_J2_set g X l (nI (12 * a + t)) (some w) (fun (r22 : Option Nat) (M20 : Mem) => m_le X M20 → wp_X2_way_b40 g M20 R (nI a) (nI t) Q) := by
  obtain ⟨b1, b2, b3, b4, b5, b6, b7, b8, b9⟩ := id hw
  have hR := hD.1
  have tR := hD.2.1
  have exl := hnw.2 l (by rw [b2]; decide)
  have exd := hnw.2 wd (by rw [b6]; decide)
  have exR := hnw.2 R (by rw [tR]; decide)
  have h144 : nI (12 * a + t) < nI 144 := (pn_lt (by omega) (by omega)).mpr (by omega)
  have h0 : (0 : Int32) ≤ nI (12 * a + t) := Int32.not_lt.mp (pn_nn (by omega))
  have hcl : (nI (12 * a + t)).toNatClampNeg = 12 * a + t := pn_cl (by omega)
  have tl : m_tg X l = 14 := (c_cell_tg exl).trans b2
  have twd : m_tg X wd = 103 := (c_cell_tg exd).trans b6
  have hvin : vp_in (nI (12 * a + t)) (m_ln X wd) := by rw [c_cell_ln exd]; exact (pn_in (by omega)).mpr (by omega)
  refine ⟨tl, q_set tl ((c_cell_gr exl).trans b4) twd h0 (by rw [c_cell_gi exl, b3]; exact h144) hvin (fun y hy => ?_) (fun hle20 => ?_)⟩
  · cases hy
    refine hobj X w ?_
    rw [hL.1]
    exact Or.inr (Or.inr (Or.inr (Or.inr (Or.inr (Or.inl rfl)))))
  · rw [hcl] at hle20 ⊢
    have hwd_w : wd ≠ w := fun z => by rw [← z, b6] at hw0; cases hw0
    have hd_wd : d ≠ wd := fun z => by
      rcases hd0 with h | h
      · rw [z, b6] at h; cases h
      · have := hg1.1
        rw [← h, z, twd] at this
        cases this
    have hR_wd : R ≠ wd := fun z => by rw [z, b6] at tR; cases tR
    have hl_wd : l ≠ wd := fun z => by rw [z, b6] at b2; cases b2
    -- the memory now
    generalize hX' : m_pr X wd (12 * a + t) (some w) = X' at hle20 ⊢
    have tgX' : ∀ b : Nat, m_tg X' b = m_tg X b := fun b => by rw [← hX', m_tg_pr]
    have cell : ∀ b : Nat, b ≠ wd → X'.1 b = X.1 b := fun b hb => by
      rw [← hX']
      unfold m_pr
      dsimp only
      rw [if_neg hb]
    have grwd : ∀ j : Nat, m_gr X' wd j = if j = 12 * a + t then some w else m_gr X0 wd j := fun j => by
      rw [← hX', m_gr_pr]
      by_cases hj : j = 12 * a + t
      · rw [if_pos ⟨rfl, hj⟩, if_pos hj]
      · rw [if_neg (fun z => hj z.2), if_neg hj, c_cell_gr exd]
    have cell0 : ∀ b : Nat, b ≠ wd → m_tg X0 b ≠ 0 → X'.1 b = X0.1 b := fun b hb h0 => (cell b hb).trans (hnw.2 b h0)
    refine ⟨(tgX' R).trans ((c_cell_tg exR).trans tR), l, (c_cell_gr (cell0 R hR_wd (by rw [tR]; decide))).trans hl, (tgX' l).trans tl, ?_⟩
    have q12' : 12 * nI a + nI t = nI (12 * a + t) := q12
    rw [q12']
    have cl := cell0 l hl_wd (by rw [b2]; decide)
    refine q_get ((c_cell_tg cl).trans b2) ((c_cell_gr cl).trans b4) ((tgX' wd).trans twd) h0 (by rw [c_cell_gi cl, b3]; exact h144) (by rw [← hX', m_ln_pr]; exact hvin) (fun _ => ⟨w, ?_, (tgX' w).trans hL.1, ?_⟩)
    · rw [hcl, grwd, if_pos rfl]
    -- the labels now
    have cw : X'.1 w = X.1 w := cell w (fun z => hwd_w z.symm)
    have cd : X'.1 d = X.1 d := cell d hd_wd
    have owd : o w = o w := rfl
    have ow0 : (o w).1 = 0 := Classical.byContradiction (fun z => hLb w z hw0)
    have hwd2 : w ≠ d ∨ True := Or.inr trivial
    generalize ho1 : (if cnt = 0 then o else c_lab o d (rr, 8, 12 * a + t)) = o1
    have o1e : ∀ b : Nat, (cnt = 0 ∨ b ≠ d) → o1 b = o b := fun b hb => by
      rw [← ho1]
      by_cases h : cnt = 0
      · rw [if_pos h]
      · rw [if_neg h]
        unfold c_lab
        rw [if_neg (hb.resolve_left h)]
    have hdcnt : cnt ≠ 0 → m_tg X0 d = 0 ∧ m_tg X d = 103 ∧ cnt ≤ m_ln X d ∧ ∀ k : Nat, k < cnt → m_gr X d k = e k := fun h => by
      rcases hL.2.2.2 with ⟨k, _⟩ | ⟨k1, k2, _, k3⟩
      · exact absurd k h
      · refine ⟨?_, k1, k2.2, k3⟩
        rcases hd0 with h | h
        · exact h
        · exfalso
          rw [h, hg1.1] at k1
          cases k1
    have hwd3 : w ≠ d := fun z => by
      have h1 := hL.1
      by_cases h : cnt = 0
      · rcases hL.2.2.2 with ⟨_, k⟩ | ⟨k1, _⟩
        · rw [z, k, hg1.1] at h1
          cases h1
        · rw [z, k1] at h1
          cases h1
      · rw [z, (hdcnt h).2.1] at h1
        cases h1
    have onew : ∀ b : Nat, m_tg X0 b ≠ 0 → c_lab o1 w (rr, 7, 12 * a + t) b = o b := fun b hb => by
      unfold c_lab
      rw [if_neg (fun z => hb (by rw [z]; exact hw0))]
      refine o1e b ?_
      by_cases h : cnt = 0
      · exact Or.inl h
      · exact Or.inr (fun z => hb (by rw [z]; exact (hdcnt h).1))
    have oold : ∀ b : Nat, m_tg X0 b = 0 → (c_lab o1 w (rr, 7, 12 * a + t) b).1 = 0 ∨ (c_lab o1 w (rr, 7, 12 * a + t) b).1 = rr := fun b hb => by
      unfold c_lab
      by_cases h1 : b = w
      · rw [if_pos h1]
        exact Or.inr rfl
      · rw [if_neg h1, ← ho1]
        have ob : (o b).1 = 0 := Classical.byContradiction (fun z => hLb b z hb)
        by_cases h : cnt = 0
        · rw [if_pos h]
          exact Or.inl ob
        · rw [if_neg h]
          unfold c_lab
          by_cases h2 : b = d
          · rw [if_pos h2]
            exact Or.inr rfl
          · rw [if_neg h2]
            exact Or.inl ob
    have hle : m_le X0 X' := m_le_tr hnw.1 hle20
    have hwl : c_wl g X' (c_lab o1 w (rr, 7, 12 * a + t)) rr (12 * a + t) w (u_cnt D W a t) (u_it D W t a) := by
      rw [← hcnt]
      refine ⟨by unfold c_lab; rw [if_pos rfl], (c_cell_tg cw).trans hL.1, (c_cell_gi cw).trans hL.2.1, hc12, d, (c_cell_gr cw).trans hL.2.2.1, ?_⟩
      by_cases h : cnt = 0
      · exact Or.inl h
      · right
        obtain ⟨h1, h2, h3, h4⟩ := hdcnt h
        refine ⟨?_, (c_cell_tg cd).trans h2, by rw [c_cell_ln cd]; exact h3, fun k hk => ?_⟩
        · unfold c_lab
          rw [if_neg (fun z => hwd3 z.symm), ← ho1, if_neg h]
          unfold c_lab
          rw [if_pos rfl]
        · obtain ⟨x, y1, y2, y3⟩ := hbox k hk
          exact ⟨x, (c_cell_gr cd).trans ((h4 k hk).trans y1), (tgX' x).trans y2, y3⟩
    have hun : u_un (m_gr X' wd) 144 + 1 = u := by
      rw [← hu]
      exact u_un_set hnone (by rw [grwd, if_pos rfl]) (fun j hj => by rw [grwd, if_neg hj]) 144 (by omega)
    refine hQ X' (c_lab o1 w (rr, 7, 12 * a + t)) (u_un (m_gr X' wd) 144) hle (fun q hq hq0 b hb => ?_) ?_ hwl (fun b hb => ?_) (c_g1_le hg1 hle20) ?_ ?_
    · have hb0 : m_tg X0 b ≠ 0 := by
        rcases hb with hb | hb
        · exact hLb b (by rw [hb]; exact hq0)
        · intro z
          rcases oold b z with h | h
          · exact hq0 (hb.symm.trans h)
          · exact hq (hb.symm.trans h)
      have hbo := onew b hb0
      rw [hbo] at hb
      have hbq : (o b).1 = q := hb.elim id id
      have hbwd : b ≠ wd := fun z => by
        rw [z, b5] at hbq
        exact hq hbq.symm
      exact ⟨cell0 b hbwd hb0, hbo⟩
    · obtain ⟨a1, a2, ⟨d1, a3, a4⟩, ⟨d2, a5, a6⟩, _⟩ := hD
      have sq : ∀ (s dd : Nat) (V : Nat → Nat → Nat), s ≠ 6 → s + 2 ≠ 6 → c_sq X0 o rr s dd V → c_sq X' (c_lab o1 w (rr, 7, 12 * a + t)) rr s dd V := by
        intro s dd V hs1 hs2 hsq
        obtain ⟨k1, k2, k3, k4⟩ := hsq
        have e := cell0 dd (fun z => by rw [z, b5] at k1; cases k1; exact hs2 rfl) (by rw [k2]; decide)
        refine ⟨(onew dd (by rw [k2]; decide)).trans k1, (c_cell_tg e).trans k2, (c_cell_ln e).trans k3, fun x hx => ?_⟩
        obtain ⟨w', y1, y2, y3, y4, y5⟩ := k4 x hx
        have ew := cell0 w' (fun z => by rw [z, b5] at y2; cases y2; exact hs1 rfl) (by rw [y3]; decide)
        exact ⟨w', (c_cell_gr e).trans y1, (onew w' (by rw [y3]; decide)).trans y2, (c_cell_tg ew).trans y3, (c_cell_ln ew).trans y4, fun b hb => (c_cell_gi ew).trans (y5 b hb)⟩
      have eR := cell0 R hR_wd (by rw [tR]; decide)
      refine ⟨(onew R (by rw [tR]; decide)).trans a1, (c_cell_tg eR).trans a2, ⟨d1, (c_cell_gr eR).trans a3, sq 1 d1 D (by decide) (by decide) a4⟩, ⟨d2, (c_cell_gr eR).trans a5, sq 2 d2 W (by decide) (by decide) a6⟩, l, wd, (c_cell_gr eR).trans hl, ⟨(onew l (by rw [b2]; decide)).trans b1, (c_cell_tg cl).trans b2, (c_cell_gi cl).trans b3, (c_cell_gr cl).trans b4, (onew wd (by rw [b6]; decide)).trans b5, (tgX' wd).trans twd, by rw [← hX', m_ln_pr, c_cell_ln exd]; exact b7, by rw [← hX', m_ln_pr, c_cell_ln exd]; exact b8, fun a' t' ha' ht' w' hw' => ?_⟩, rfl⟩
      rw [grwd] at hw'
      by_cases hj : 12 * a' + t' = 12 * a + t
      · rw [if_pos hj] at hw'
        cases hw'
        have ea : a' = a := by omega
        have et : t' = t := by omega
        subst ea
        subst et
        exact hwl
      · rw [if_neg hj] at hw'
        have k := b9 a' t' ha' ht' w' hw'
        have tw' : m_tg X0 w' ≠ 0 := by rw [k.2.1]; decide
        refine c_wl_same k hle ⟨cell0 w' (fun z => by have := k.2.1; rw [z, b6] at this; cases this) tw', onew w' tw'⟩ (fun d' hd' => ?_)
        have td' : m_tg X0 d' ≠ 0 := hLb d' (by rw [hd']; exact hrr)
        exact ⟨cell0 d' (fun z => by rw [z, b5] at hd'; cases hd') td', onew d' td'⟩
    · by_cases hb0 : m_tg X0 b = 0
      · unfold c_lab at hb
        by_cases h1 : b = w
        · rw [tgX', h1, hL.1]
          decide
        · rw [if_neg h1, ← ho1] at hb
          have ob : (o b).1 = 0 := Classical.byContradiction (fun z => hLb b z hb0)
          by_cases h : cnt = 0
          · rw [if_pos h] at hb
            exact absurd ob hb
          · rw [if_neg h] at hb
            unfold c_lab at hb
            by_cases h2 : b = d
            · rw [tgX', h2, (hdcnt h).2.1]
              decide
            · rw [if_neg h2] at hb
              exact absurd ob hb
      · rw [(hle b hb0).1]
        exact hb0
    · have : m_nc X' = m_nc X := by rw [← hX']; rfl
      omega
    · have : m_ns X' = m_ns X := by rw [← hX']; rfl
      omega
theorem c2_way {a t : Nat} {Q : Option Nat → Mem → Prop} {X : Mem} (hobj : ∀ (M : Mem) (y : Nat), q_obj (m_tg M y) → m_asg M y "java/lang/Object") (hnode : ∀ (M : Mem) (y : Nat), m_tg M y = 18 → m_asg M y "java/util/HashMap$Node") (hD : c_Rd g X o rr R D W u) (hrr : rr ≠ 0) (hLb : c_Lb X o) (hok : u_OK D W) (ha : a < 12) (ht : t < 12) (hroom : m_nc X + 60 ≤ m_CM ∧ m_ns X + 300 ≤ m_SM) (hg1 : c_g1 g X)
    (hQ : ∀ (X' : Mem) (o' : Nat → Nat × Nat × Nat) (w u' : Nat), m_le X X' → (∀ q : Nat, q ≠ rr → q ≠ 0 → c_same X o X' o' q) → c_Rd g X' o' rr R D W u' → c_wl g X' o' rr (12 * a + t) w (u_cnt D W a t) (u_it D W t a) → c_Lb X' o' → c_g1 g X' → m_nc X' + 60 * u' ≤ m_nc X + 60 * u → m_ns X' + 300 * u' ≤ m_ns X + 300 * u → Q (some w) X') : wp_X2_way g X R (nI a) (nI t) Q := by
  obtain ⟨hb, hD0, hP⟩ := hok
  obtain ⟨l, wd, hl, hw, hu⟩ := hD.2.2.2.2
  obtain ⟨b1, b2, b3, b4, b5, b6, b7, b8, b9⟩ := id hw
  have h144 : nI (12 * a + t) < nI 144 := (pn_lt (by omega) (by omega)).mpr (by omega)
  have h0 : (0 : Int32) ≤ nI (12 * a + t) := Int32.not_lt.mp (pn_nn (by omega))
  have hcl : (nI (12 * a + t)).toNatClampNeg = 12 * a + t := pn_cl (by omega)
  have hvin : vp_in (nI (12 * a + t)) (m_ln X wd) := (pn_in (by omega)).mpr (by omega)
  have q12' : 12 * nI a + nI t = nI (12 * a + t) := q12
  unfold wp_X2_way
  rw [q12']
  refine ⟨hD.2.1, l, hl, b2, q_get b2 b4 b6 h0 (by rw [b3]; exact h144) hvin (fun _ => ⟨fun hn => ⟨l, hl, ?_⟩, fun w hw1 => ?_⟩)⟩
  · rw [hcl] at hn
    obtain ⟨dF, hdF, odF, tdF, ldF, hrow⟩ := hD.2.2.2.1
    obtain ⟨rw', hrw, orw, trw, lrw, hi⟩ := hrow a ha
    have va : vp_in (nI a) 12 := (pn_in (by omega)).mpr ha
    have vt : vp_in (nI t) 12 := (pn_in (by omega)).mpr ht
    have ca : (nI a).toNatClampNeg = a := pn_cl (by omega)
    have ct : (nI t).toNatClampNeg = t := pn_cl (by omega)
    refine ⟨⟨by omega, by omega⟩, fun u2 hu2 M4 h4 => ?_⟩
    have t4 : m_tg M4 u2 = 14 := by rw [h4, m_tg_al, if_pos rfl]
    refine q_init t4 (by rw [h4, m_gi_al, if_pos rfl]) (fun hg4 M8 hM8 hL8 hfr8 _ => ?_)
    have hnw4 : c_nw X M4 := by
      rw [h4]
      refine ⟨m_le_al hu2, fun b hb => ?_⟩
      unfold m_al
      dsimp only
      rw [if_neg (fun z => hb (by rw [z]; exact hu2))]
    have hnw8 : c_nw X M8 := c_nw_fr hnw4 hfr8 hu2 hu2
    have hg8 : c_g1 g M8 := c_g1_le hg4 hfr8.1
    have n8 : m_nc M8 ≤ m_nc X + 1 ∧ m_ns M8 ≤ m_ns X + 3 := by
      have h1 := hfr8.2.2
      rw [h4] at h1
      exact h1
    have e8 : ∀ b : Nat, m_tg X b ≠ 0 → M8.1 b = X.1 b := hnw8.2
    have eR := e8 R (by rw [hD.2.1]; decide)
    have eF := e8 dF (by rw [tdF]; decide)
    have er := e8 rw' (by rw [trw]; decide)
    have hv : m_gi M8 rw' (nI t).toNatClampNeg = c_far W a t := by rw [ct, c_cell_gi er]; exact hi t ht
    refine ⟨(c_cell_tg eR).trans hD.2.1, dF, (c_cell_gr eR).trans hdF, (c_cell_tg eF).trans tdF, by rw [c_cell_ln eF, ldF]; exact va, rw', by rw [ca, c_cell_gr eF]; exact hrw, (c_cell_tg er).trans trw, by rw [c_cell_ln er, lrw]; exact vt, ?_⟩
    rw [hv, c_far_no (hb a t ha ht).2]
    refine ⟨fun hW => ?_, fun hW => ?_⟩
    · have hW := Classical.not_not.mp hW
      obtain ⟨L, hL, hL11, hLt, hs⟩ := hP a t ha ht hW
      refine ⟨⟨by omega, by omega⟩, fun u22 hu22 M24 h24 => ?_⟩
      have n24 : m_nc M24 = m_nc M8 + 1 ∧ m_ns M24 = m_ns M8 + 1 := by rw [h24]; exact ⟨rfl, rfl⟩
      have h22_0 : m_tg X u22 = 0 := by
        apply Classical.byContradiction
        intro z
        have := (hnw8.1 u22 z).1
        rw [hu22] at this
        exact z this.symm
      have hu2ne : u2 ≠ u22 := fun z => by
        have := hL8.1
        rw [z, hu22] at this
        cases this
      refine q_setinit (by rw [h24, m_tg_al, if_pos rfl]) ⟨by omega, by omega⟩ (fun M32 lh hlh hS32 hle32 hfr32 nc32 ns32 _ => ⟨L + 2, ?_⟩)
      have lh0 : m_tg X lh = 0 := by
        apply Classical.byContradiction
        intro z
        have h1 := (hnw8.1 lh z).1
        have : m_tg M24 lh = m_tg M8 lh := by
          rw [h24, m_tg_al, if_neg (fun y => by rw [y] at z; exact z h22_0)]
        rw [hlh, h1] at this
        exact z this.symm
      have c24 : ∀ b : Nat, b ≠ u22 → M24.1 b = M8.1 b := fun b hb => by
        rw [h24]
        unfold m_al
        dsimp only
        rw [if_neg hb]
      have c32 : ∀ b : Nat, b ≠ u22 → m_tg M8 b ≠ 0 → M32.1 b = M8.1 b := fun b hb hb0 => (hfr32 b hb (by rw [c_cell_tg (c24 b hb)]; exact hb0)).trans (c24 b hb)
      have hle832 : m_le M8 M32 := by
        refine m_le_tr ?_ hle32
        rw [h24]
        exact m_le_al hu22
      have nw32 : c_nw X M32 := ⟨m_le_tr hnw8.1 hle832, fun b hb => by
        have hb8 : m_tg M8 b ≠ 0 := by rw [(hnw8.1 b hb).1]; exact hb
        exact (c32 b (fun z => hb (by rw [z]; exact h22_0)) hb8).trans (e8 b hb)⟩
      have g1_32 := c_g1_le hg8 hle832
      have hL32 : c_L g M32 u2 (g 1) 0 (fun _ => none) := c_L_same hL8 (c32 u2 hu2ne (by rw [hL8.1]; decide)) (c32 (g 1) (fun z => by have := hg8.1; rw [z, hu22] at this; cases this) (by rw [hg8.1]; decide))
      refine c_lay_loop (u := u) hobj hnode hD hrr hLb hb hD0 ha ht hW hL11 hLt hs ⟨by omega, by omega⟩ (fun X2 d T hX2 hleX => ?_) L 0 (by omega) M32 (g 1) lh ⟨nw32, g1_32, hu2, h22_0, lh0, lh0, Or.inr rfl, ⟨_, hL32, fun k hk => absurd hk (Nat.not_lt_zero _)⟩, hS32 _ _, g1_32.2, ?_, ?_⟩
      · obtain ⟨x1, x2, x3, x4, x5, x6, x7, ⟨e, x8, x9⟩, x10, x11, x12, x13⟩ := hX2
        have cap5 : (c_cap (L + 1)).2.1 ≤ 2 ∧ (c_cap (L + 1)).2.2 ≤ 25 := by
          have H : ∀ k : Fin 13, (c_cap k.val).2.1 ≤ 2 ∧ (c_cap k.val).2.2 ≤ 25 := by decide +kernel
          exact H ⟨L + 1, by omega⟩
        rw [if_neg (by omega)] at x12 x13
        have hcnt : L + 1 = u_cnt D W a t := by
          unfold u_cnt
          rw [if_pos hW, hL]
        exact c_way_put hobj hD hrr hLb ha ht hl hw hu hn x1 x2 x3 x7 x8 hcnt (by omega) x9 (by omega) (by omega) (fun X' o' u' k1 k2 k3 k4 k5 k6 k7 k8 => hQ X' o' u2 u' k1 k2 k3 k4 k5 k6 k7 k8)
      · rw [if_pos rfl]
        show m_nc M32 ≤ m_nc X + 3 + 0 + 2 * 0 + 0
        omega
      · rw [if_pos rfl]
        show m_ns M32 ≤ m_ns X + 12 + 0 + 5 * 0 + 0
        omega
    · intro _
      have hcnt : 0 = u_cnt D W a t := by
        unfold u_cnt
        rw [if_neg hW]
      exact c_way_put hobj hD hrr hLb ha ht hl hw hu hn hnw8 hg8 hu2 (Or.inr rfl) hL8 hcnt (by omega) (fun k hk => absurd hk (Nat.not_lt_zero _)) (by omega) (by omega) (fun X' o' u' k1 k2 k3 k4 k5 k6 k7 k8 => hQ X' o' u2 u' k1 k2 k3 k4 k5 k6 k7 k8)
  · rw [hcl] at hw1
    have hwl := b9 a t ha ht w hw1
    refine ⟨hD.2.1, l, hl, b2, ?_⟩
    rw [q12']
    refine q_get b2 b4 b6 h0 (by rw [b3]; exact h144) hvin (fun _ => ⟨w, by rw [hcl]; exact hw1, hwl.2.1, ?_⟩)
    exact hQ X o w u m_le_rf (fun q _ _ => c_same_rf) hD hwl hLb hg1 (Nat.le_refl _) (Nat.le_refl _)
end
