/-! ROWS that read and write the memory -/
set_option maxRecDepth 100000
theorem m_ok_upd {G : Gp} {M M' : Mem} {H H1 : Heap} {a : Nat} (hM : m_ok G M H) (h0 : ∀ b : Nat, b ≠ a → M'.1 b = M.1 b) (htg : m_tg M' a = m_tg M a) (hn : M'.2 = M.2) (hz : H1.size = H.size) (ho : ∀ q : Nat, q ≠ a → H1[q]? = H[q]?)
    (hs : (H1[a]?).map (·.slots.size) = (H[a]?).map (·.slots.size)) (hlt : m_tg M a < 150)
    (hob : ∀ (ci : Nat) (q : Ce), m_tg M a = ci + 1 → m_cls[ci]? = some q → t_OB a (G.1.1 ci) q.2.2.2 (G.1.2 ci) H1 (fun k => m_fv (q.2.2.1 k) (m_gi M' a k) (m_gr M' a k)))
    (har : ∀ k : Nat, m_tg M a = k + 101 → k < 5 → H1[a]? = some (arrV (G.2 (10 + k)) (m_ln M' a) (fun j => m_av k (m_gi M' a j) (m_gr M' a j))))
    (hmo : m_tg M a = 10 ∨ m_tg M a = 13 → ∀ c : Cell, H1[a]? = some c → c.monitor.owner = none ∧ c.monitor.count = 0) : m_ok G M' H1 := by
  obtain ⟨m1, m2, m3, m4, m5, m6, m7, m8, m9, m10⟩ := hM
  have et : ∀ b : Nat, m_tg M' b = m_tg M b := fun b => by
    by_cases h : b = a
    · rw [h, htg]
    · unfold m_tg; rw [h0 b h]
  have ei : ∀ b : Nat, b ≠ a → m_gi M' b = m_gi M b := fun b h => by funext k; unfold m_gi; rw [h0 b h]
  have er : ∀ b : Nat, b ≠ a → m_gr M' b = m_gr M b := fun b h => by funext k; unfold m_gr; rw [h0 b h]
  have el : ∀ b : Nat, b ≠ a → m_ln M' b = m_ln M b := fun b h => by unfold m_ln; rw [h0 b h]
  refine ⟨fun b ci q hb hq => ?_, fun b k hb hk => ?_, ⟨fun b hb => m3.1 b (by rw [← et]; exact hb), fun k hk => by rw [et]; exact m3.2.1 k hk, by rw [et]; exact m3.2.2.1, fun j hj => by rw [et]; exact m3.2.2.2 j hj⟩, fun b hb => ?_, fun b j hb hj => ?_, fun b hb => ?_, ?_, ?_, ?_, ?_⟩
  · rw [et] at hb
    by_cases h : b = a
    · subst h
      exact hob ci q hb hq
    · rw [ei b h, er b h]
      exact (m1 b ci q hb hq).kept (ho b h)
  · rw [et] at hb
    by_cases h : b = a
    · subst h
      exact har k hb hk
    · rw [ei b h, er b h, el b h, ho b h]
      exact m2 b k hb hk
  · rw [et] at hb
    have h : b ≠ a := fun e => by rw [e] at hb; omega
    rw [el b h]
    exact m4 b hb
  · rw [et] at hb
    have h : b ≠ a := fun e => by rw [e] at hb; omega
    rw [ei b h, er b h, ho b h]
    exact m5 b j hb hj
  · rw [et] at hb ⊢
    rw [hz]
    refine ⟨(m6 b hb).1, (m6 b hb).2.1, fun h c hc => ?_⟩
    by_cases e : b = a
    · subst e
      exact hmo h c hc
    · rw [ho b e] at hc
      exact (m6 b hb).2.2 h c hc
  · rw [hz, m7]
    unfold m_nc
    rw [hn]
  · rw [m_sum_eq hz (fun q => ?_), m8]
    · unfold m_ns
      rw [hn]
    · by_cases h : q = a
      · rw [h]; exact hs
      · rw [ho q h]
  · unfold m_nc
    rw [hn]
    exact m9
  · unfold m_ns
    rw [hn]
    exact m10
/-- a new cell -/
theorem m_ok_new {G : Gp} {M : Mem} {H : Heap} {c : Cell} {t n : Nat} (hM : m_ok G M H) (ht : t ≠ 0 ∧ (t < 106 ∨ 201 ≤ t ∧ t < 210)) (hf : m_fits M c.slots.size)
    (hob : ∀ (ci : Nat) (q : Ce), t = ci + 1 → m_cls[ci]? = some q → t_OB H.size (G.1.1 ci) q.2.2.2 (G.1.2 ci) (H.push c) (fun k => m_fv (q.2.2.1 k) 0 none))
    (har : ∀ k : Nat, t = k + 101 → k < 5 → c = arrV (G.2 (10 + k)) n (fun _ => m_av k 0 none)) (hla : t < 201) (hmo : c.monitor.owner = none ∧ c.monitor.count = 0) : m_ok G (m_al M H.size t n c.slots.size) (H.push c) := by
  obtain ⟨m1, m2, m3, m4, m5, m6, m7, m8, m9, m10⟩ := hM
  have ho : ∀ q : Nat, q < H.size → (H.push c)[q]? = H[q]? := fun q hq => by rw [Array.getElem?_push, if_neg (Nat.ne_of_lt hq)]
  have hold : ∀ b : Nat, b ≠ H.size → m_tg M b ≠ 0 → b < H.size := fun b _ h => (m6 b h).1
  have hro : ∀ b : Nat, m_tg M b ≠ 0 → m_tg (m_al M H.size t n c.slots.size) b = m_tg M b := fun b hb => by
    rw [m_tg_al, if_neg]
    intro e
    rw [e] at hb
    have := (m6 _ hb).1
    omega
  refine ⟨fun b ci q hb hq => ?_, fun b k hb hk => ?_, ⟨fun b hb => ?_, fun k hk => by rw [hro _ (by rw [m3.2.1 k hk]; decide)]; exact m3.2.1 k hk, by rw [hro _ (by rw [m3.2.2.1]; decide)]; exact m3.2.2.1, fun j hj => by rw [hro _ (by rw [m3.2.2.2 j hj]; omega)]; exact m3.2.2.2 j hj⟩, fun b hb => ?_, fun b j hb hj => ?_, fun b hb => ?_, ?_, ?_, ?_, ?_⟩
  · rw [m_tg_al] at hb
    by_cases h : b = H.size
    · rw [if_pos h] at hb
      subst h
      refine (hob ci q hb hq).to (fun k _ => ?_)
      rw [m_gi_al, m_gr_al, if_pos rfl, if_pos rfl]
    · rw [if_neg h] at hb
      refine ((m1 b ci q hb hq).kept (ho b (hold b h (by omega)))).to (fun k _ => ?_)
      rw [m_gi_al, m_gr_al, if_neg h, if_neg h]
  · rw [m_tg_al] at hb
    by_cases h : b = H.size
    · rw [if_pos h] at hb
      subst h
      rw [Array.getElem?_push_size, har k hb hk, m_ln_al, if_pos rfl]
      congr 2
      funext j
      rw [m_gi_al, m_gr_al, if_pos rfl, if_pos rfl]
    · rw [if_neg h] at hb
      rw [ho b (hold b h (by omega)), m2 b k hb hk, m_ln_al, if_neg h]
      congr 2
      funext j
      rw [m_gi_al, m_gr_al, if_neg h, if_neg h]
  · rw [m_tg_al] at hb
    by_cases h : b = H.size
    · rw [if_pos h] at hb
      omega
    · rw [if_neg h] at hb
      exact m3.1 b hb
  · rw [m_tg_al] at hb
    by_cases h : b = H.size
    · rw [if_pos h] at hb
      omega
    · rw [if_neg h] at hb
      rw [m_ln_al, if_neg h]
      exact m4 b hb
  · rw [m_tg_al] at hb
    by_cases h : b = H.size
    · rw [if_pos h] at hb
      omega
    · rw [if_neg h] at hb
      rw [ho b (hold b h (by omega))]
      have e1 : m_gi (m_al M H.size t n c.slots.size) b = m_gi M b := by funext k; rw [m_gi_al, if_neg h]
      have e2 : m_gr (m_al M H.size t n c.slots.size) b = m_gr M b := by funext k; rw [m_gr_al, if_neg h]
      rw [e1, e2]
      exact m5 b j hb hj
  · rw [m_tg_al] at hb ⊢
    rw [Array.size_push]
    by_cases h : b = H.size
    · rw [if_pos h]
      refine ⟨by omega, fun _ => by omega, fun _ c9 hc => ?_⟩
      subst h
      rw [Array.getElem?_push_size] at hc
      cases hc
      exact hmo
    · rw [if_neg h] at hb ⊢
      refine ⟨by have := (m6 b hb).1; omega, (m6 b hb).2.1, fun h9 c9 hc => ?_⟩
      rw [ho b (hold b h hb)] at hc
      exact (m6 b hb).2.2 h9 c9 hc
  · rw [Array.size_push, m_nc_al]
    omega
  · rw [m_sum_push H c (by omega), m8, m_ns_al]
  · rw [m_nc_al]
    exact hf.1
  · rw [m_ns_al]
    exact hf.2
theorem m_free {G : Gp} {M : Mem} {H : Heap} (hM : m_ok G M H) : m_tg M H.size = 0 := by
  apply Classical.byContradiction
  intro h
  have := (hM.2.2.2.2.2.1 _ h).1
  omega
theorem m_inA {G : Gp} {M : Mem} {H : Heap} {a : Nat} (hM : m_ok G M H) (h0 : m_tg M a ≠ 0) (h : m_tg M a < 150) : m_A G a := (hM.2.2.2.2.2.1 a h0).2.1 h
theorem m_S_push {A : Nat → Prop} {H0 H : Heap} {locs : List Loc} {c : Cell} (h : va_S A H0 H locs) : va_S A H0 (H.push c) locs := by
  refine ⟨by rw [Array.size_push]; have := h.1; omega, fun q h1 h2 => ?_, h.2.2⟩
  rw [Array.getElem?_push, if_neg (by have := h.1; omega)]
  exact h.2.1 q h1 h2
section
variable {G : Gp} {C : m_Cx} {own : String} {cc : ByteArray} {nL : Nat} {ret : Option FieldType} {nm : String} {F L n0 s0 : Nat} {Q : State → Prop} {M0 M : Mem} {pc : Nat} {lo lo2 : m_L} {st : List m_V}
theorem m_Kc {ci : Nat} {q : Ce} (X : m_in G C own cc nL ret nm F L n0 s0) (hc : m_cls[ci]? = some q) : u_Kn (m_s C) q.1 q.2.1 q.2.2.2 (G.1.1 ci) (G.1.2 ci) :=
  X.2.2.2.2.2.2.2.2.1.1.1 ci (q.1, q.2.1, q.2.2.2) (by rw [List.getElem?_map, hc]; rfl)
/-- the field by the reference's own class: declared there, or inherited -/
def m_sm (ref o f d : String) : Prop := o = ref ∨ Cond.sameField ref o f d ∈ lw_all
theorem m_sm_ok {ref o f d : String} {s : State} {args : Array Value} (hts : ∀ w ∈ lw_all, w.before args s = true) (h : m_sm ref o f d) : ∀ x, s.fieldFound? o f d = some x → s.fieldFound? ref f d = some x := by
  rcases h with h | h
  · subst h
    exact fun _ h => h
  · exact u_same (hts _ h)
theorem pw_get (X : m_in G C own cc nL ret nm F L n0 s0) {a ci k index : Nat} {q : Ce} {ref : String} (v : m_V) (ht : m_tg M a = ci + 1) (hc : m_cls[ci]? = some q) (hk : k < q.2.2.2) (hin : ∀ w ∈ u_ws q.1 q.2.1 q.2.2.2, w ∈ lw_all) (hlink : Cond.fieldLink own index ref (q.2.1 k).2.1 (q.2.1 k).2.2.1 ∈ lw_all) (hsm : m_sm ref (q.2.1 k).1 (q.2.1 k).2.1 (q.2.1 k).2.2.1)
    (hv : m_fv (q.2.2.1 k) (m_gi M a k) (m_gr M a k) = m_v v) (hdg : decode cc pc = .ok (.getfield index, 3)) (kk : pW G C nL n0 s0 M0 Q M (pc + 3) lo (v :: st)) : pW G C nL n0 s0 M0 Q M pc lo (vR (some a) :: st) := by
  intro hle H locs ls hM hS hl
  have hts := X.2.2.2.2.2.2.2.1
  have hown := X.2.2.2.2.2.1
  obtain ⟨cell, q1, q2, q3, q4⟩ := hM.1 a ci q ht hc
  obtain ⟨hSl, hfc, kC, hkC, hkind⟩ := m_Kc X hc
  obtain ⟨cf, kf, fi, f, hi, hsl⟩ := hSl k hk
  refine W.getf X.1 X.2.1 hown (hts _ hlink) (m_sm_ok hts hsm _ hi) (u_facts hfc hkC (u_lays hts hin hk) hi).1 q1 (by rw [q3]; exact fun h => by cases h) (v := m_v v) ?_ rfl rfl hdg (kk hle H locs ls hM hS hl)
  rw [hsl, q4 k hk]
  exact congrArg some hv
theorem pw_getN (X : m_in G C own cc nL ret nm F L n0 s0) {a ci k index : Nat} {q : Ce} {ref host : String} (v : m_V) (ht : m_tg M a = ci + 1) (hc : m_cls[ci]? = some q) (hk : k < q.2.2.2) (hin : ∀ w ∈ u_ws q.1 q.2.1 q.2.2.2, w ∈ lw_all) (hlink : Cond.fieldLinkNest own index ref (q.2.1 k).2.1 (q.2.1 k).2.2.1 host ∈ lw_tbl) (hsm : m_sm ref (q.2.1 k).1 (q.2.1 k).2.1 (q.2.1 k).2.2.1)
    (hv : m_fv (q.2.2.1 k) (m_gi M a k) (m_gr M a k) = m_v v) (hdg : decode cc pc = .ok (.getfield index, 3)) (kk : pW G C nL n0 s0 M0 Q M (pc + 3) lo (v :: st)) : pW G C nL n0 s0 M0 Q M pc lo (vR (some a) :: st) := by
  intro hle H locs ls hM hS hl
  have hts := X.2.2.2.2.2.2.2.1
  have hown := X.2.2.2.2.2.1
  obtain ⟨cell, q1, q2, q3, q4⟩ := hM.1 a ci q ht hc
  obtain ⟨hSl, hfc, kC, hkC, hkind⟩ := m_Kc X hc
  obtain ⟨cf, kf, fi, f, hi, hsl⟩ := hSl k hk
  refine va_Wgetf X.1 X.2.1 hown (va_Nw.use rfl (X.2.2.2.2.2.2.2.2.1.2.1 _ (m_nst_in hlink rfl))) (m_sm_ok hts hsm _ hi) (u_facts hfc hkC (u_lays hts hin hk) hi).1 q1 (by rw [q3]; exact fun h => by cases h) (v := m_v v) ?_ rfl rfl hdg (kk hle H locs ls hM hS hl)
  rw [hsl, q4 k hk]
  exact congrArg some hv
/-- the memory behind a put -/
def m_pt (M : Mem) (a k : Nat) (v : m_V) : Mem := match v with
  | .inl x => m_pi M a k x
  | .inr (.inl r) => m_pr M a k r
  | .inr (.inr f) => m_pi M a k f.toInt32
theorem m_pt_fv {t : FieldType} {a k j : Nat} {v : m_V} (hn : m_fv t 0 none = m_fv t 0 none) (hv : ∀ (x : Int32) (r : Option Nat), (∀ y, v = vI y → x = y) → (∀ y, v = vR y → r = y) → (∀ y, v = vF y → x = y.toInt32) → m_fv t x r = m_v v) (hj : j = k) : m_fv t (m_gi (m_pt M a k v) a j) (m_gr (m_pt M a k v) a j) = m_v v := by
  subst hj
  refine hv _ _ (fun y e => ?_) (fun y e => ?_) (fun y e => ?_) <;> subst e
  · show m_gi (m_pi M a j y) a j = y
    rw [m_gi_pi, if_pos ⟨rfl, rfl⟩]
  · show m_gr (m_pr M a j y) a j = y
    rw [m_gr_pr, if_pos ⟨rfl, rfl⟩]
  · show m_gi (m_pi M a j y.toInt32) a j = y.toInt32
    rw [m_gi_pi, if_pos ⟨rfl, rfl⟩]
theorem m_pt_gi {a k b j : Nat} {v : m_V} (h : ¬ (b = a ∧ j = k)) : m_gi (m_pt M a k v) b j = m_gi M b j := by
  rcases v with x | r | x
  · exact m_gi_pi.trans (if_neg h)
  · exact m_gi_pr
  · exact m_gi_pi.trans (if_neg h)
theorem m_pt_gr {a k b j : Nat} {v : m_V} (h : ¬ (b = a ∧ j = k)) : m_gr (m_pt M a k v) b j = m_gr M b j := by
  rcases v with x | r | x
  · exact m_gr_pi
  · exact m_gr_pr.trans (if_neg h)
  · exact m_gr_pi
theorem m_pt_tg {a k b : Nat} {v : m_V} : m_tg (m_pt M a k v) b = m_tg M b := by
  rcases v with x | r | x
  · exact m_tg_pi
  · exact m_tg_pr
  · exact m_tg_pi
theorem m_pt_ot {a k b : Nat} {v : m_V} (h : b ≠ a) : (m_pt M a k v).1 b = M.1 b := by
  rcases v with x | r | x <;> exact if_neg h
theorem m_le_pt {a k : Nat} {v : m_V} : m_le M (m_pt M a k v) := by
  rcases v with x | r | x
  · exact m_le_pi
  · exact m_le_pr
  · exact m_le_pi
theorem m_pt_2 {a k : Nat} {v : m_V} : (m_pt M a k v).2 = M.2 := by rcases v with x | r | x <;> rfl
/-- a value fits a field's kind -/
def m_kd (t : FieldType) (v : m_V) : Prop := ∀ (x : Int32) (r : Option Nat), (∀ y, v = vI y → x = y) → (∀ y, v = vR y → r = y) → (∀ y, v = vF y → x = y.toInt32) → m_fv t x r = m_v v
theorem m_kd_i {t : FieldType} {x : Int32} (h : ∀ (y : Int32) (r : Option Nat), m_fv t y r = .int y) : m_kd t (vI x) := fun y r e _ _ => by rw [h, e x rfl]; rfl
theorem m_kd_r {t : FieldType} {r : Option Nat} (h : ∀ (y : Int32) (r : Option Nat), m_fv t y r = va_rf r) : m_kd t (vR r) := fun y r' _ e _ => by rw [h, e r rfl]; rfl
theorem m_kd_f {f : UInt32} : m_kd .float (vF f) := fun y r' _ _ e => by rw [e f rfl]; show Value.float _ = Value.float _; rw [UInt32.toUInt32_toInt32]
theorem m_apart {ci : Nat} {q : Ce} (X : m_in G C own cc nL ret nm F L n0 s0) (hc : m_cls[ci]? = some q) (hin : ∀ w ∈ u_ws q.1 q.2.1 q.2.2.2, w ∈ lw_all) (hty : ∀ k, k < q.2.2.2 → parseFieldDescriptor (q.2.1 k).2.2.1 = some (q.2.2.1 k)) (hnm : ∀ a, a < q.2.2.2 → ∀ b, b < q.2.2.2 → a ≠ b → (q.2.1 a).2.1 ≠ (q.2.1 b).2.1) : ∀ x y, x < q.2.2.2 → y < q.2.2.2 → x ≠ y → (G.1.2 ci) x ≠ (G.1.2 ci) y :=
  va_apart (own := own) X.2.2.2.2.2.2.2.1 hin q.2.2.1 hty hnm (X.2.2.2.2.2.2.2.2.1.1) (C := q.1) (by show vwCl[ci]? = _; rw [List.getElem?_map, hc]; rfl)
/-- the heap behind a put holds the memory behind it -/
theorem m_put_ok {a ci k : Nat} {q : Ce} {v : m_V} {H H1 : Heap} {cell : Cell} (X : m_in G C own cc nL ret nm F L n0 s0) (hM : m_ok G M H) (ht : m_tg M a = ci + 1) (hc : m_cls[ci]? = some q) (hk : k < q.2.2.2) (hin : ∀ w ∈ u_ws q.1 q.2.1 q.2.2.2, w ∈ lw_all) (hty : ∀ k, k < q.2.2.2 → parseFieldDescriptor (q.2.1 k).2.2.1 = some (q.2.2.1 k)) (hnm : ∀ a, a < q.2.2.2 → ∀ b, b < q.2.2.2 → a ≠ b → (q.2.1 a).2.1 ≠ (q.2.1 b).2.1) (hkd : m_kd (q.2.2.1 k) v)
    (q1 : H[a]? = some cell) (e1 : H1[a]? = some (cell.setSlot (G.1.2 ci k) (m_v v))) (e2 : H1.size = H.size) (e3 : ∀ q : Nat, q ≠ a → H1[q]? = H[q]?) : m_ok G (m_pt M a k v) H1 := by
  obtain ⟨cell', p1, p2, p3, p4⟩ := hM.1 a ci q ht hc
  cases p1.symm.trans q1
  have hci : ci < 20 := (List.getElem?_eq_some_iff.mp hc).1
  refine m_ok_upd hM (fun b hb => m_pt_ot hb) m_pt_tg m_pt_2 e2 e3 ?_ (by omega) (fun ci2 q2 h2 hc2 => ?_) (fun k2 h2 _ => by omega) (fun h9 c9 hc9 => by
    rw [e1] at hc9
    cases hc9
    exact (hM.2.2.2.2.2.1 a (by omega)).2.2 h9 cell q1)
  · rw [e1, q1]
    simp [Cell.setSlot]
  · have e : ci2 = ci := by omega
    subst e
    cases hc.symm.trans hc2
    refine ⟨_, e1, p2, p3, fun j hj => ?_⟩
    rw [t_set p4 (m_apart X hc hin hty hnm) hk (m_v v) j hj]
    unfold updV
    by_cases h : j = k
    · rw [if_pos h]
      congr 1
      subst h
      exact (m_pt_fv rfl hkd rfl).symm
    · rw [if_neg h]
      dsimp only
      rw [m_pt_gi (fun z => h z.2), m_pt_gr (fun z => h z.2)]
theorem pw_put (X : m_in G C own cc nL ret nm F L n0 s0) {a ci k index : Nat} {q : Ce} {ref : String} {v : m_V} (M2 : Mem) (hM2 : m_pt M a k v = M2) (ht : m_tg M a = ci + 1) (hc : m_cls[ci]? = some q) (hk : k < q.2.2.2) (hin : ∀ w ∈ u_ws q.1 q.2.1 q.2.2.2, w ∈ lw_all) (hty : ∀ k, k < q.2.2.2 → parseFieldDescriptor (q.2.1 k).2.2.1 = some (q.2.2.1 k)) (hnm : ∀ a, a < q.2.2.2 → ∀ b, b < q.2.2.2 → a ≠ b → (q.2.1 a).2.1 ≠ (q.2.1 b).2.1)
    (hlink : Cond.fieldLink own index ref (q.2.1 k).2.1 (q.2.1 k).2.2.1 ∈ lw_all) (hsm : m_sm ref (q.2.1 k).1 (q.2.1 k).2.1 (q.2.1 k).2.2.1) (hfin : (q.2.1 k).2.2.2 = false) (hkd : m_kd (q.2.2.1 k) v) (hn : narrow (q.2.2.1 k) (m_v v) = m_v v) (hfit : fits (q.2.2.1 k) (m_v v) = true)
    (hdg : decode cc pc = .ok (.putfield index, 3)) (kk : pW G C nL n0 s0 M0 Q M2 (pc + 3) lo st) : pW G C nL n0 s0 M0 Q M pc lo (v :: vR (some a) :: st) := by
  subst hM2
  intro hle H locs ls hM hS hl
  have hts := X.2.2.2.2.2.2.2.1
  have hown := X.2.2.2.2.2.1
  obtain ⟨cell, q1, q2, q3, q4⟩ := hM.1 a ci q ht hc
  obtain ⟨hSl, hfc, kC, hkC, hkind⟩ := m_Kc X hc
  obtain ⟨cf, kf, fi, f, hi, hsl⟩ := hSl k hk
  have hlay := hts _ (hin _ (u_in_lay hk))
  unfold u_lay at hlay
  rw [if_neg (by rw [hfin]; decide)] at hlay
  have hst := (u_facts hfc hkC (u_lays hts hin hk) hi).1
  have h6 := u_store hfc hkC hkind hlay hi (hty k hk) hn hfit
  refine W.putK X.1 X.2.1 (f := f) ⟨hown, hts _ hlink, ⟨_, _, _, m_sm_ok hts hsm _ hi⟩, hst⟩ (by rw [q2]; exact h6) q1 q3 (by rw [hsl]; exact k2_hasslot (q4 k hk)) rfl rfl hdg fun H' e1 e2 e3 => ?_
  rw [hsl] at e1
  have hci : ci < 20 := (List.getElem?_eq_some_iff.mp hc).1
  have e4 : m_nc (m_pt M a k v) = m_nc M := congrArg (fun x : Nat × Nat => x.1) (m_pt_2 (M := M) (a := a) (k := k) (v := v))
  have e5 : m_ns (m_pt M a k v) = m_ns M := congrArg (fun x : Nat × Nat => x.2) (m_pt_2 (M := M) (a := a) (k := k) (v := v))
  have K := kk (m_le_tr hle m_le_pt) H' (locs ++ [⟨a, f.slot⟩]) ls (m_put_ok X hM ht hc hk hin hty hnm hkd q1 e1 e2 e3) (hS.put e2 e3 (m_inA hM (by omega) (by omega))) hl
  rw [e4, e5] at K
  exact K
theorem pw_putN (X : m_in G C own cc nL ret nm F L n0 s0) {a ci k index : Nat} {q : Ce} {ref host : String} {v : m_V} (M2 : Mem) (hM2 : m_pt M a k v = M2) (ht : m_tg M a = ci + 1) (hc : m_cls[ci]? = some q) (hk : k < q.2.2.2) (hin : ∀ w ∈ u_ws q.1 q.2.1 q.2.2.2, w ∈ lw_all) (hty : ∀ k, k < q.2.2.2 → parseFieldDescriptor (q.2.1 k).2.2.1 = some (q.2.2.1 k)) (hnm : ∀ a, a < q.2.2.2 → ∀ b, b < q.2.2.2 → a ≠ b → (q.2.1 a).2.1 ≠ (q.2.1 b).2.1)
    (hlink : Cond.fieldLinkNest own index ref (q.2.1 k).2.1 (q.2.1 k).2.2.1 host ∈ lw_tbl) (hsm : m_sm ref (q.2.1 k).1 (q.2.1 k).2.1 (q.2.1 k).2.2.1) (hfin : (q.2.1 k).2.2.2 = false) (hkd : m_kd (q.2.2.1 k) v) (hn : narrow (q.2.2.1 k) (m_v v) = m_v v) (hfit : fits (q.2.2.1 k) (m_v v) = true)
    (hdg : decode cc pc = .ok (.putfield index, 3)) (kk : pW G C nL n0 s0 M0 Q M2 (pc + 3) lo st) : pW G C nL n0 s0 M0 Q M pc lo (v :: vR (some a) :: st) := by
  subst hM2
  intro hle H locs ls hM hS hl
  have hts := X.2.2.2.2.2.2.2.1
  have hown := X.2.2.2.2.2.1
  obtain ⟨cell, q1, q2, q3, q4⟩ := hM.1 a ci q ht hc
  obtain ⟨hSl, hfc, kC, hkC, hkind⟩ := m_Kc X hc
  obtain ⟨cf, kf, fi, f, hi, hsl⟩ := hSl k hk
  have hlay := hts _ (hin _ (u_in_lay hk))
  unfold u_lay at hlay
  rw [if_neg (by rw [hfin]; decide)] at hlay
  have hst := (u_facts hfc hkC (u_lays hts hin hk) hi).1
  have h6 := u_store hfc hkC hkind hlay hi (hty k hk) hn hfit
  refine va_WputK X.1 X.2.1 (f := f) hown (va_Nw.use rfl (X.2.2.2.2.2.2.2.2.1.2.1 _ (m_nst_in hlink rfl))) (m_sm_ok hts hsm _ hi) hst (by rw [q2]; exact h6) q1 q3 (by rw [hsl]; exact k2_hasslot (q4 k hk)) rfl rfl hdg fun H' e1 e2 e3 => ?_
  rw [hsl] at e1
  have hci : ci < 20 := (List.getElem?_eq_some_iff.mp hc).1
  have e4 : m_nc (m_pt M a k v) = m_nc M := congrArg (fun x : Nat × Nat => x.1) (m_pt_2 (M := M) (a := a) (k := k) (v := v))
  have e5 : m_ns (m_pt M a k v) = m_ns M := congrArg (fun x : Nat × Nat => x.2) (m_pt_2 (M := M) (a := a) (k := k) (v := v))
  have K := kk (m_le_tr hle m_le_pt) H' (locs ++ [⟨a, f.slot⟩]) ls (m_put_ok X hM ht hc hk hin hty hnm hkd q1 e1 e2 e3) (hS.put e2 e3 (m_inA hM (by omega) (by omega))) hl
  rw [e4, e5] at K
  exact K
/-- a final field, in its class's constructor -/
theorem pw_putF (X : m_in G C own cc nL ret nm F L n0 s0) {a ci k index : Nat} {q : Ce} {ref : String} {v : m_V} (M2 : Mem) (hM2 : m_pt M a k v = M2) (ht : m_tg M a = ci + 1) (hc : m_cls[ci]? = some q) (hk : k < q.2.2.2) (hin : ∀ w ∈ u_ws q.1 q.2.1 q.2.2.2, w ∈ lw_all) (hty : ∀ k, k < q.2.2.2 → parseFieldDescriptor (q.2.1 k).2.2.1 = some (q.2.2.1 k)) (hnm : ∀ a, a < q.2.2.2 → ∀ b, b < q.2.2.2 → a ≠ b → (q.2.1 a).2.1 ≠ (q.2.1 b).2.1)
    (hlink : Cond.fieldLink own index ref (q.2.1 k).2.1 (q.2.1 k).2.2.1 ∈ lw_all) (hsm : m_sm ref (q.2.1 k).1 (q.2.1 k).2.1 (q.2.1 k).2.2.1) (hfin : (q.2.1 k).2.2.2 = true) (hi2 : nm = "<init>") (hdecl : (q.2.1 k).1 = own) (hkd : m_kd (q.2.2.1 k) v) (hn : narrow (q.2.2.1 k) (m_v v) = m_v v) (hfit : fits (q.2.2.1 k) (m_v v) = true)
    (hdg : decode cc pc = .ok (.putfield index, 3)) (kk : pW G C nL n0 s0 M0 Q M2 (pc + 3) lo st) : pW G C nL n0 s0 M0 Q M pc lo (v :: vR (some a) :: st) := by
  subst hM2
  intro hle H locs ls hM hS hl
  have hts := X.2.2.2.2.2.2.2.1
  have hown := X.2.2.2.2.2.1
  have hmn := X.2.2.2.2.2.2.1
  obtain ⟨cell, q1, q2, q3, q4⟩ := hM.1 a ci q ht hc
  obtain ⟨hSl, hfc, kC, hkC, hkind⟩ := m_Kc X hc
  obtain ⟨cf, kf, fi, f, hi, hsl⟩ := hSl k hk
  have hlay := hts _ (hin _ (u_in_lay hk))
  unfold u_lay at hlay
  rw [if_pos hfin] at hlay
  have hst := (u_facts hfc hkC (u_lays hts hin hk) hi).1
  have hcf : (m_mi C).cls = cf := by
    obtain ⟨_, _, c', _, _, _, -, -, hf', -, -, -, hown2, -⟩ := Cond.laysFinal_spec hlay
    have e1 : c' = cf := by have := hi.symm.trans hf'; simp at this; exact this.1.symm
    rw [hdecl] at hown2
    rw [← e1]; exact Option.some.inj (hown.symm.trans hown2)
  have h6 := u_fits hfc hkC hkind (Or.inr hlay) hi (hty k hk) hn hfit
  refine W.putFinK X.1 X.2.1 hown (hts _ hlink) (m_sm_ok hts hsm _ hi) hst hcf (hmn.trans hi2) (by rw [q2]; exact h6) q1 q3 (by rw [hsl]; exact k2_hasslot (q4 k hk)) rfl rfl hdg fun H' e1 e2 e3 => ?_
  rw [hsl] at e1
  have hci : ci < 20 := (List.getElem?_eq_some_iff.mp hc).1
  have e4 : m_nc (m_pt M a k v) = m_nc M := congrArg (fun x : Nat × Nat => x.1) (m_pt_2 (M := M) (a := a) (k := k) (v := v))
  have e5 : m_ns (m_pt M a k v) = m_ns M := congrArg (fun x : Nat × Nat => x.2) (m_pt_2 (M := M) (a := a) (k := k) (v := v))
  have K := kk (m_le_tr hle m_le_pt) H' (locs ++ [⟨a, f.slot⟩]) ls (m_put_ok X hM ht hc hk hin hty hnm hkd q1 e1 e2 e3) (hS.put e2 e3 (m_inA hM (by omega) (by omega))) hl
  rw [e4, e5] at K
  exact K
theorem m_R (X : m_in G C own cc nL ret nm F L n0 s0) {H : Heap} {locs : List Loc} {n : Nat} (hM : m_ok G M H) (hS : va_S (m_A G) (m_s C).heap H locs) (hf : m_fits M n) (h0 : s0 ≤ m_ns M) : (m_nc M - n0) + 1 ≤ C.2.2.2.1.cells ∧ (m_ns M - s0) + n ≤ C.2.2.2.1.slots := by
  have hr := X.2.2.2.2.2.2.2.2.2.1
  obtain ⟨k1, k2, k3⟩ := m_keep X hM hS
  obtain ⟨f1, f2⟩ := hf
  rw [hr]
  exact ⟨by show _ ≤ m_CM - n0; omega, by show _ ≤ m_SM - s0; omega⟩
end
section
variable {G : Gp} {C : m_Cx} {own : String} {cc : ByteArray} {nL : Nat} {ret : Option FieldType} {nm : String} {F L n0 s0 : Nat} {Q : State → Prop} {M0 M : Mem} {pc : Nat} {lo lo2 : m_L} {st : List m_V}
theorem m_s0 (X : m_in G C own cc nL ret nm F L n0 s0) {H : Heap} {locs : List Loc} {cells slots : Nat} {g : JFrame} (hM : m_ok G M H) (k : s0 ≤ m_ns M → m_Wg C H locs cells slots Q g) : m_Wg C H locs cells slots Q g := by
  intro T hT Y
  refine k ?_ T hT Y
  obtain ⟨-, -, -, -, -, -, -, -, -, -, e1, e2⟩ := X
  obtain ⟨-, -, -, -, -, -, z1, z2, -, -⟩ := hM
  obtain ⟨a1, a2, a3, a4, a5, a6⟩ := Y.same
  have a2 : (m_s C).heap.size ≤ T.heap.size := a2
  have e3 := m_sum_split (H0 := (m_s C).heap) (H := T.heap) (n := G.2 0) (by omega) a2 (fun q c hq => by
    obtain ⟨c', b1, -, b2, -⟩ := a6 q c hq
    exact ⟨c', b1, b2⟩)
  rw [hT] at e3
  omega
theorem pw_new (X : m_in G C own cc nL ret nm F L n0 s0) {ci index : Nat} {q : Ce} (hf : m_fits M q.2.2.2) (hc : m_cls[ci]? = some q) (hin : ∀ w ∈ u_ws q.1 q.2.1 q.2.2.2, w ∈ lw_all) (hty : ∀ k, k < q.2.2.2 → parseFieldDescriptor (q.2.1 k).2.2.1 = some (q.2.2.1 k)) (hcl : Cond.classLink own index q.1 ∈ lw_all) (hins : Cond.instantiable q.1 q.2.2.2 ∈ lw_all) (hini : Cond.initialized q.1 ∈ lw_all) (hdg : decode cc pc = .ok (.new index, 3))
    (kk : ∀ a : Nat, m_tg M a = 0 → pW G C nL n0 s0 M0 Q (m_al M a (ci + 1) 0 q.2.2.2) (pc + 3) lo (vR (some a) :: st)) : pW G C nL n0 s0 M0 Q M pc lo st := by
  intro hle H locs ls hM hS hl
  have hts := X.2.2.2.2.2.2.2.1
  refine m_s0 X hM (fun h0 => ?_)
  obtain ⟨r1, r2⟩ := m_R X hM hS hf h0
  obtain ⟨k1, k2, k3⟩ := m_keep X hM hS
  have hKn := m_Kc X hc
  have hci : ci < 20 := (List.getElem?_eq_some_iff.mp hc).1
  refine W.newc X.1 X.2.1 X.2.2.2.2.2.1 (hts _ hcl) (hts _ hins) (hts _ hini) rfl hdg r1 r2 fun cC kC f1 f2 f3 f4 => ?_
  have e0 : cC = G.1.1 ci := Option.some.inj (f1.symm.trans hKn.2.1)
  subst e0
  have hsz : (kC.instanceTypes.map defaultValue).size = q.2.2.2 := by rw [Array.size_map, f4]
  have hcell : (H.push ({ cls := G.1.1 ci, slots := kC.instanceTypes.map defaultValue, vm := .none } : Cell))[H.size]? = some (blank (G.1.1 ci) kC) := by rw [Array.getElem?_push_size]; rfl
  have hok := m_ok_new (t := ci + 1) (n := 0) (c := ({ cls := G.1.1 ci, slots := kC.instanceTypes.map defaultValue, vm := .none } : Cell)) hM ⟨by omega, Or.inl (by omega)⟩ (by show m_fits M (kC.instanceTypes.map defaultValue).size; rw [hsz]; exact hf) (fun ci2 q2 h2 hc2 => by
    have e : ci2 = ci := by omega
    subst e
    cases hc.symm.trans hc2
    refine (u_born q.2.2.1 hts hin hKn f2 hcell hty).to (fun k _ => ?_)
    exact m_fv0 _) (fun k h _ => by omega) (by omega) ⟨rfl, rfl⟩
  have K := kk H.size (m_free hM) (m_le_tr hle (m_le_al (m_free hM))) _ locs ls (by rw [← hsz]; exact hok) (m_S_push hS) hl
  rw [m_nc_al, m_ns_al, show m_nc M + 1 - n0 = m_nc M - n0 + 1 by omega, show m_ns M + q.2.2.2 - s0 = m_ns M - s0 + q.2.2.2 by omega] at K
  exact K
theorem m_Ka {k : Nat} {ty : FieldType} {id : ClassId} (X : m_in G C own cc nL ret nm F L n0 s0) (hk : (m_tys G)[k]? = some (id, ty)) : ArrOfT (m_s C) id ty ∧ va_RA (m_s C) id ty := X.2.2.2.2.2.2.2.2.1.1.2 k _ hk
/-- a new array of whole numbers (kd 0) or bytes (1) -/
theorem pw_newa (X : m_in G C own cc nL ret nm F L n0 s0) {atype : ArrayType} (kd : Nat) (hkd : kd < 2) {n : Int32} (hf : m_fits M n.toNatClampNeg) (hn : ¬ n < 0) (hty : m_aty[kd]? = some (newarray.typeOf atype)) (hcl : Cond.arrayClass (newarray.typeOf atype) ∈ lw_all) (hdg : decode cc pc = .ok (.newarray atype, 2))
    (kk : ∀ a : Nat, m_tg M a = 0 → pW G C nL n0 s0 M0 Q (m_al M a (kd + 101) n.toNatClampNeg n.toNatClampNeg) (pc + 2) lo (vR (some a) :: st)) : pW G C nL n0 s0 M0 Q M pc lo (vI n :: st) := by
  intro hle H locs ls hM hS hl
  have hts := X.2.2.2.2.2.2.2.1
  refine m_s0 X hM (fun h0 => ?_)
  obtain ⟨r1, r2⟩ := m_R X hM hS hf h0
  obtain ⟨k1, k2, k3⟩ := m_keep X hM hS
  have hb4 : n.toNatClampNeg * componentBytes (newarray.typeOf atype) ≤ 536870912 := by
    have h1 := hf.2
    have h2 : componentBytes (newarray.typeOf atype) ≤ 8 := by cases atype <;> decide
    have h3 := Nat.mul_le_mul_left n.toNatClampNeg h2
    have : m_SM = 5501818 := rfl
    omega
  refine W.newa X.1 X.2.1 (hts _ hcl) rfl hdg rfl hn hb4 r1 r2 fun cA kA comp f1 f2 f3 => ?_
  have hid : cA = G.2 (10 + kd) := by
    have hr : kd = 0 ∨ kd = 1 := by omega
    rcases hr with rfl | rfl
    · have := (m_Ka (k := 0) X rfl).2
      have e : newarray.typeOf atype = .int := (Option.some.inj hty).symm
      rw [e] at f1
      exact Option.some.inj (f1.symm.trans this)
    · have := (m_Ka (k := 1) X rfl).2
      have e : newarray.typeOf atype = .byte := (Option.some.inj hty).symm
      rw [e] at f1
      exact Option.some.inj (f1.symm.trans this)
  subst hid
  have hdv : defaultValue (newarray.typeOf atype) = .int 0 := by
    have hr : kd = 0 ∨ kd = 1 := by omega
    rcases hr with rfl | rfl <;> rw [← Option.some.inj hty] <;> rfl
  have hsz : (Array.replicate n.toNatClampNeg (defaultValue (newarray.typeOf atype))).size = n.toNatClampNeg := by rw [Array.size_replicate]
  have hok := m_ok_new (t := kd + 101) (n := n.toNatClampNeg) (c := ({ cls := G.2 (10 + kd), slots := Array.replicate n.toNatClampNeg (defaultValue (newarray.typeOf atype)), vm := .none } : Cell)) hM ⟨by omega, Or.inl (by omega)⟩ (by show m_fits M (Array.replicate _ _).size; rw [hsz]; exact hf)
    (fun ci2 q2 h2 hc2 => by have := (List.getElem?_eq_some_iff.mp hc2).1; have h20 : m_cls.length = 20 := rfl; omega) (fun k h _ => by
      have e : k = kd := by omega
      subst e
      rw [arrV_new, hdv]
      congr 1
      funext j
      unfold m_av
      rw [if_pos hkd]) (by omega) ⟨rfl, rfl⟩
  have K := kk H.size (m_free hM) (m_le_tr hle (m_le_al (m_free hM))) _ locs ls (by rw [← hsz]; rw [hsz]; have h := hok; rw [show ({ cls := G.2 (10 + kd), slots := Array.replicate n.toNatClampNeg (defaultValue (newarray.typeOf atype)), vm := .none } : Cell).slots.size = n.toNatClampNeg from hsz] at h; exact h) (m_S_push hS) hl
  rw [m_nc_al, m_ns_al, show m_nc M + 1 - n0 = m_nc M - n0 + 1 by omega, show m_ns M + n.toNatClampNeg - s0 = m_ns M - s0 + n.toNatClampNeg by omega] at K
  exact K
/-- a new array of references (kd 2: Object, 3: HashMap.Node) -/
theorem pw_newq (X : m_in G C own cc nL ret nm F L n0 s0) (kd : Nat) {E : String} {index : Nat} (hkd : kd = 2 ∨ kd = 3) {n : Int32} (hf : m_fits M n.toNatClampNeg) (hn : ¬ n < 0) (hty : m_aty[kd]? = some (.object E)) (hcl : Cond.classLink own index E ∈ lw_all) (hov : Cond.arrayOver (.object E) ∈ lw_tbl) (hdg : decode cc pc = .ok (.anewarray index, 3))
    (kk : ∀ a : Nat, m_tg M a = 0 → pW G C nL n0 s0 M0 Q (m_al M a (kd + 101) n.toNatClampNeg n.toNatClampNeg) (pc + 3) lo (vR (some a) :: st)) : pW G C nL n0 s0 M0 Q M pc lo (vI n :: st) := by
  intro hle H locs ls hM hS hl
  have hts := X.2.2.2.2.2.2.2.1
  refine m_s0 X hM (fun h0 => ?_)
  obtain ⟨r1, r2⟩ := m_R X hM hS hf h0
  obtain ⟨k1, k2, k3⟩ := m_keep X hM hS
  have hb4 : n.toNatClampNeg * 4 ≤ 536870912 := by
    have h1 := hf.2
    have : m_SM = 5501818 := rfl
    omega
  refine W.anew X.1 X.2.1 X.2.2.2.2.2.1 (hts _ hcl) (va_AO.use (X.2.2.2.2.2.2.2.2.1.2.1 _ (m_nst_in hov rfl))) rfl hdg rfl hn hb4 r1 r2 fun cA kA comp f1 f2 f3 f4 => ?_
  have hid : cA = G.2 (10 + kd) := by
    rcases hkd with rfl | rfl
    · obtain ⟨_, _, -, -, -, h4⟩ := (m_Ka (k := 2) X rfl).2
      have e : E = "java/lang/Object" := by cases hty; rfl
      rw [e] at f1
      exact Option.some.inj (f1.symm.trans h4)
    · obtain ⟨_, _, -, -, -, h4⟩ := (m_Ka (k := 3) X rfl).2
      have e : E = "java/util/HashMap$Node" := by cases hty; rfl
      rw [e] at f1
      exact Option.some.inj (f1.symm.trans h4)
  subst hid
  have hsz : (Array.replicate n.toNatClampNeg Value.null).size = n.toNatClampNeg := by rw [Array.size_replicate]
  have hok := m_ok_new (t := kd + 101) (n := n.toNatClampNeg) (c := ({ cls := G.2 (10 + kd), slots := Array.replicate n.toNatClampNeg .null, vm := .none } : Cell)) hM ⟨by omega, Or.inl (by omega)⟩ (by show m_fits M (Array.replicate _ _).size; rw [hsz]; exact hf)
    (fun ci2 q2 h2 hc2 => by have := (List.getElem?_eq_some_iff.mp hc2).1; have h20 : m_cls.length = 20 := rfl; omega) (fun k h _ => by
      have e : k = kd := by omega
      subst e
      rw [arrV_new]
      congr 1
      funext j
      unfold m_av
      rw [if_neg (by omega)]
      rfl) (by omega) ⟨rfl, rfl⟩
  have K := kk H.size (m_free hM) (m_le_tr hle (m_le_al (m_free hM))) _ locs ls (by have h := hok; rw [show ({ cls := G.2 (10 + kd), slots := Array.replicate n.toNatClampNeg .null, vm := .none } : Cell).slots.size = n.toNatClampNeg from hsz] at h; exact h) (m_S_push hS) hl
  rw [m_nc_al, m_ns_al, show m_nc M + 1 - n0 = m_nc M - n0 + 1 by omega, show m_ns M + n.toNatClampNeg - s0 = m_ns M - s0 + n.toNatClampNeg by omega] at K
  exact K
theorem m_ain {i : Int32} {n : Nat} {cA : ClassId} {f : Nat → Value} (h : vp_in i n) : ¬ (i < 0 ∨ (arrV cA n f).slots.size ≤ i.toNatClampNeg) := by rw [arrV_size]; exact h
theorem m_alt {i : Int32} {n : Nat} (h : vp_in i n) : i.toNatClampNeg < n := Nat.not_le.mp fun q => h (Or.inr q)
theorem pw_iald (X : m_in G C own cc nL ret nm F L n0 s0) {a : Nat} {i : Int32} (ht : m_tg M a = 101) (hi : vp_in i (m_ln M a)) (hdg : decode cc pc = .ok (.iaload, 1)) (kk : pW G C nL n0 s0 M0 Q M (pc + 1) lo (vI (m_gi M a i.toNatClampNeg) :: st)) : pW G C nL n0 s0 M0 Q M pc lo (vI i :: vR (some a) :: st) := by
  intro hle H locs ls hM hS hl
  exact W.iald (v := .int (m_gi M a i.toNatClampNeg)) X.1 X.2.1 (hM.2.1 a 0 ht (by decide)) ((m_Ka (k := 0) X rfl).1 _ _) (fun q => by cases q) (m_ain hi) (by rw [arrV_read _ _ (m_alt hi)]; rfl) rfl rfl hdg (kk hle H locs ls hM hS hl)
theorem pw_bald (X : m_in G C own cc nL ret nm F L n0 s0) {a : Nat} {i : Int32} (ht : m_tg M a = 102) (hi : vp_in i (m_ln M a)) (hdg : decode cc pc = .ok (.baload, 1)) (kk : pW G C nL n0 s0 M0 Q M (pc + 1) lo (vI (m_gi M a i.toNatClampNeg) :: st)) : pW G C nL n0 s0 M0 Q M pc lo (vI i :: vR (some a) :: st) := by
  intro hle H locs ls hM hS hl
  exact W.bald (v := .int (m_gi M a i.toNatClampNeg)) X.1 X.2.1 (hM.2.1 a 1 ht (by decide)) ((m_Ka (k := 1) X rfl).1 _ _) (fun q => by cases q) (m_ain hi) (by rw [arrV_read _ _ (m_alt hi)]; rfl) rfl rfl hdg (kk hle H locs ls hM hS hl)
theorem pw_aald (X : m_in G C own cc nL ret nm F L n0 s0) {a : Nat} {i : Int32} (ht : m_tg M a = 103 ∨ m_tg M a = 104 ∨ m_tg M a = 105) (hi : vp_in i (m_ln M a)) (hdg : decode cc pc = .ok (.aaload, 1)) (kk : pW G C nL n0 s0 M0 Q M (pc + 1) lo (vR (m_gr M a i.toNatClampNeg) :: st)) : pW G C nL n0 s0 M0 Q M pc lo (vI i :: vR (some a) :: st) := by
  intro hle H locs ls hM hS hl
  rcases ht with ht | ht | ht
  · exact W.aald (ty := .object "java/lang/Object") (v := va_rf (m_gr M a i.toNatClampNeg)) X.1 X.2.1 (hM.2.1 a 2 ht (by decide)) ((m_Ka (k := 2) X rfl).1 _ _) rfl (fun q => by cases q) (m_ain hi) (by rw [arrV_read _ _ (m_alt hi)]; rfl) rfl rfl hdg (kk hle H locs ls hM hS hl)
  · exact W.aald (ty := .object "java/util/HashMap$Node") (v := va_rf (m_gr M a i.toNatClampNeg)) X.1 X.2.1 (hM.2.1 a 3 ht (by decide)) ((m_Ka (k := 3) X rfl).1 _ _) rfl (fun q => by cases q) (m_ain hi) (by rw [arrV_read _ _ (m_alt hi)]; rfl) rfl rfl hdg (kk hle H locs ls hM hS hl)
  · exact W.aald (ty := .array .int) (v := va_rf (m_gr M a i.toNatClampNeg)) X.1 X.2.1 (hM.2.1 a 4 ht (by decide)) ((m_Ka (k := 4) X rfl).1 _ _) rfl (fun q => by cases q) (m_ain hi) (by rw [arrV_read _ _ (m_alt hi)]; rfl) rfl rfl hdg (kk hle H locs ls hM hS hl)
/-- an array of ours, or the empty one of ArrayList -/
def m_isA (M : Mem) (a : Nat) : Prop := (101 ≤ m_tg M a ∧ m_tg M a < 106) ∨ m_tg M a = 160
theorem pw_alen (X : m_in G C own cc nL ret nm F L n0 s0) {a : Nat} (ht : m_isA M a) (hdg : decode cc pc = .ok (.arraylength, 1)) (kk : pW G C nL n0 s0 M0 Q M (pc + 1) lo (vI (nI (m_ln M a)) :: st)) : pW G C nL n0 s0 M0 Q M pc lo (vR (some a) :: st) := by
  intro hle H locs ls hM hS hl
  rcases ht with ht | ht
  · obtain ⟨k, hk⟩ : ∃ k, m_tg M a = k + 101 := ⟨m_tg M a - 101, by omega⟩
    have h5 : k < 5 := by omega
    have hA : ∃ ty, (m_s C).isArrayOf (arrV (G.2 (10 + k)) (m_ln M a) (fun j => m_av k (m_gi M a j) (m_gr M a j))) ty := by
      have hr : k = 0 ∨ k = 1 ∨ k = 2 ∨ k = 3 ∨ k = 4 := by omega
      rcases hr with rfl | rfl | rfl | rfl | rfl
      · exact ⟨_, (m_Ka (k := 0) X rfl).1 _ _⟩
      · exact ⟨_, (m_Ka (k := 1) X rfl).1 _ _⟩
      · exact ⟨_, (m_Ka (k := 2) X rfl).1 _ _⟩
      · exact ⟨_, (m_Ka (k := 3) X rfl).1 _ _⟩
      · exact ⟨_, (m_Ka (k := 4) X rfl).1 _ _⟩
    obtain ⟨ty, hA⟩ := hA
    exact W.alen (n := nI (m_ln M a)) X.1 X.2.1 (hM.2.1 a k hk h5) hA (by rw [arrV_size]; rfl) rfl rfl hdg (kk hle H locs ls hM hS hl)
  · obtain ⟨e1, e2⟩ := hM.2.2.2.1 a ht
    obtain ⟨cell, h1, h2, h3, h4, h5, h6, h7⟩ := X.2.2.2.2.2.2.2.2.1.2.2.2.2.2.2.1
    subst e1
    exact W.alen (n := nI (m_ln M (G.2 1))) X.1 X.2.1 (by rw [hS.2.1 _ (Array.getElem?_eq_some_iff.mp h1).1 h7]; exact h1) h2 (by rw [h5, e2]; rfl) rfl rfl hdg (kk hle H locs ls hM hS hl)
end
