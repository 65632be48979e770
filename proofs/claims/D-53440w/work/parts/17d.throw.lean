/-! METHODS THAT THROW: the exceptional post, the constructor of Throwable, athrow, handlers, calls -/
set_option maxRecDepth 100000
/-- the exceptional post: an object of class ci, and what holds of it and the memory -/
def m_xc (G : Gp) (M0 : Mem) (ci : Nat) (Qx : Nat → Mem → Prop) : String → Addr → State → State → Prop := fun E q st t =>
  (∃ c : Ce, m_cls[ci]? = some c ∧ c.1 = E) ∧ (∃ M' : Mem, m_tg M' q = ci + 1 ∧ m_le M0 M' ∧ Qx q M' ∧ m_W G M' t) ∧ va_F (m_A G) st t
abbrev m_QX (G : Gp) (C : m_Cx) (n0 s0 : Nat) (Qc : Array Value → State → Outcome → State → Prop) (XC : String → Addr → State → State → Prop) : State → Prop := vx_MQ (m_be C) Qc XC (m_ar C) (m_s C) (m_CM - n0) (m_SM - s0) (m_A G)
/-- a contract of a method that returns or throws -/
def m_KX (G : Gp) (l : Launch) (y : MethodName) (cc : ByteArray) (nL : Nat) (ret : Option FieldType) (F L : Nat) (av : List m_V) (M : Mem) (Qc : Array Value → State → Outcome → State → Prop) (XC : String → Addr → State → State → Prop) : Prop :=
  vx_Met l y (ws_ y cc nL ret) { frames := F, cells := m_CM - m_nc M, slots := m_SM - m_ns M, locals := L } (va_Pc (av.map m_v) (m_W G M)) Qc XC (m_CM - m_nc M) (m_SM - m_ns M) (m_A G)
theorem m_metX {G : Gp} {l : Launch} {y : MethodName} {cc : ByteArray} {nL : Nat} {ret : Option FieldType} {F L : Nat} {av : List m_V} {M : Mem} {Qc : Array Value → State → Outcome → State → Prop} {XC : String → Addr → State → State → Prop} (hy : plainName y.cls = true) (hn : av.length ≤ nL)
    (body : ∀ C : m_Cx, C.2.1 = l → m_in G C y.cls cc nL ret y.name F L (m_nc M) (m_ns M) → (∀ x ∈ (m_co C).exceptionTable.toList, False) → pW G C nL (m_nc M) (m_ns M) M (m_QX G C (m_nc M) (m_ns M) Qc XC) M 0 (m_ix 0 av) []) : m_KX G l y cc nL ret F L av M Qc XC := by
  refine vx_ofW (cc := cc) (maxL := nL) (ret := ret) hy rfl ?_
  intro p e s m args below meth c s₁ B hml ht hv
  obtain ⟨rfl, hM, hG⟩ := hv
  have hts := atoms_spec (ws := ws_ y cc nL ret) B.pre
  have hts : ∀ w ∈ lw_all, w.before _ s = true := fun w h => hts w (List.mem_cons_of_mem _ h)
  have hl := lv_entry (av.map m_v) (n := nL) (by rw [m_sl_len]; exact hn)
  rw [lg_entry_eq]
  rw [m_ix_args] at hl
  generalize (lg_sl (av.map m_v) ++ List.replicate (nL - (lg_sl (av.map m_v)).length) Slot.unset).toArray = ls at hl ⊢
  have K := body (p, l, e, (headSpec (ws_ y cc nL ret) { frames := F, cells := m_CM - m_nc M, slots := m_SM - m_ns M, locals := L }).room, s, m, (av.map m_v).toArray, below, meth, c) rfl ⟨B.exec, B.bytes, B.returns, B.notSynchronized, hml, findClass_of_methodNamed B.named, (name_of_methodNamed B.named B.method).1, hts, hG, rfl, hM.2.2.2.2.2.2.1, hM.2.2.2.2.2.2.2.1⟩ ht m_le_rf s.heap [] ls hM va_S.rf hl
  rw [Nat.sub_self, Nat.sub_self] at K
  exact K
/-- a contract of a method with handlers, which never throws -/
def m_KW (G : Gp) (l : Launch) (y : MethodName) (cc : ByteArray) (nL : Nat) (ret : Option FieldType) (hh : List (Nat × Nat × Nat × Nat)) (F L : Nat) (av : List m_V) (M : Mem) (Qc : Array Value → State → Outcome → State → Prop) : Prop :=
  Met l y (wsW_ y cc nL ret hh) { frames := F, cells := m_CM - m_nc M, slots := m_SM - m_ns M, locals := L } (va_Pc (av.map m_v) (m_W G M)) Qc (m_CM - m_nc M) (m_SM - m_ns M) (m_A G)
theorem m_metW {G : Gp} {l : Launch} {y : MethodName} {cc : ByteArray} {nL : Nat} {ret : Option FieldType} {hh : List (Nat × Nat × Nat × Nat)} {F L : Nat} {av : List m_V} {M : Mem} {Qc : Array Value → State → Outcome → State → Prop} (hy : plainName y.cls = true) (hn : av.length ≤ nL)
    (body : ∀ C : m_Cx, C.2.1 = l → m_in G C y.cls cc nL ret y.name F L (m_nc M) (m_ns M) → (m_co C).exceptionTable.toList = tableOf hh → pW G C nL (m_nc M) (m_ns M) M (m_Q G C (m_nc M) (m_ns M) Qc) M 0 (m_ix 0 av) []) : m_KW G l y cc nL ret hh F L av M Qc := by
  have h : vx_Met l y (wsW_ y cc nL ret hh) { frames := F, cells := m_CM - m_nc M, slots := m_SM - m_ns M, locals := L } (va_Pc (av.map m_v) (m_W G M)) Qc (fun _ _ _ _ => False) (m_CM - m_nc M) (m_SM - m_ns M) (m_A G) := by
    refine vx_ofWH (cc := cc) (maxL := nL) (ret := ret) hy rfl ?_
    intro p e s m args below meth c s₁ B hml hv
    obtain ⟨rfl, hM, hG⟩ := hv
    have hts := atoms_spec (ws := wsW_ y cc nL ret hh) B.pre
    have htb := vx_table (x := y) B (hts _ List.mem_cons_self)
    have hts : ∀ w ∈ lw_all, w.before _ s = true := fun w h => hts w (List.mem_cons_of_mem _ h)
    have hl := lv_entry (av.map m_v) (n := nL) (by rw [m_sl_len]; exact hn)
    rw [lg_entry_eq]
    rw [m_ix_args] at hl
    generalize (lg_sl (av.map m_v) ++ List.replicate (nL - (lg_sl (av.map m_v)).length) Slot.unset).toArray = ls at hl ⊢
    have K := body (p, l, e, (headSpec (wsW_ y cc nL ret hh) { frames := F, cells := m_CM - m_nc M, slots := m_SM - m_ns M, locals := L }).room, s, m, (av.map m_v).toArray, below, meth, c) rfl ⟨B.exec, B.bytes, B.returns, B.notSynchronized, hml, findClass_of_methodNamed B.named, (name_of_methodNamed B.named B.method).1, hts, hG, rfl, hM.2.2.2.2.2.2.1, hM.2.2.2.2.2.2.2.1⟩ htb m_le_rf s.heap [] ls hM va_S.rf hl
    rw [Nat.sub_self, Nat.sub_self] at K
    exact vx_ret K
  unfold m_KW Met
  refine MetFree.mono h (fun _ _ q => q) (fun _ _ _ _ _ q => q) (fun a st o t _ hq => ?_)
  rcases hq with hq | ⟨q, -, E, ce, L9, hx, -⟩
  · exact hq
  · exact hx.elim
section
variable {G : Gp} {C : m_Cx} {own : String} {cc : ByteArray} {nL : Nat} {ret : Option FieldType} {nm : String} {F L n0 s0 : Nat} {Q : State → Prop} {M0 M : Mem} {pc : Nat} {lo lo2 : m_L} {st st0 : List m_V}
theorem pw_lift {Qc : Array Value → State → Outcome → State → Prop} {XC : String → Addr → State → State → Prop} (k : pW G C nL n0 s0 M0 (m_Q G C n0 s0 Qc) M pc lo st) : pW G C nL n0 s0 M0 (m_QX G C n0 s0 Qc XC) M pc lo st :=
  fun hle H locs ls hM hS hl => vx_ret (k hle H locs ls hM hS hl)
/-- q is thrown here -/
def pX (G : Gp) (C : m_Cx) (nL n0 s0 : Nat) (M0 : Mem) (Q : State → Prop) (M : Mem) (pc : Nat) (lo : m_L) (q : Nat) : Prop :=
  m_le M0 M → ∀ (H : Heap) (locs : List Loc) (ls : Array Slot) (rest : List Value), m_ok G M H → va_S (m_A G) (m_s C).heap H locs → lv_has ls nL (m_lv lo) → vx_W C.1 C.2.1 C.2.2.1 C.2.2.2.1 (m_s C) (m_mi C) (m_ar C) (m_be C) (m_me C) (m_co C) H locs (m_nc M - n0) (m_ns M - s0) Q (F0 (m_mi C) pc ls rest) q
theorem pw_athrow (X : m_in G C own cc nL ret nm F L n0 s0) {q : Nat} (hdg : decode cc pc = .ok (.athrow, 1)) (k : pX G C nL n0 s0 M0 Q M pc lo q) : pW G C nL n0 s0 M0 Q M pc lo (vR (some q) :: st) :=
  fun hle H locs ls hM hS hl => vx_athrow X.1 X.2.1 hdg (k hle H locs ls _ hM hS hl)
theorem px_out (X : m_in G C own cc nL ret nm F L n0 s0) {Qc : Array Value → State → Outcome → State → Prop} {ci q : Nat} {c : Ce} {Qx : Nat → Mem → Prop} (hT : ∀ x ∈ (m_co C).exceptionTable.toList, False) (ht : m_tg M q = ci + 1) (hc : m_cls[ci]? = some c) (hq : Qx q M) :
    pX G C nL n0 s0 M0 (m_QX G C n0 s0 Qc (m_xc G M0 ci Qx)) M pc lo q := by
  intro hle H locs ls rest hM hS hl
  obtain ⟨cell, q1, q2, q3, q4⟩ := hM.1 q ci c ht hc
  obtain ⟨k1, k2, k3⟩ := m_keep X hM hS
  exact vx_out (fun x hx => (hT x hx).elim) X.2.2.2.1 q1 q3 (by rw [q2]; exact (m_Kc X hc).2.1) (fun t ht9 hW => ⟨⟨c, hc, rfl⟩, ⟨M, ht, hle, hq, m_end X hM hS ht9 hW⟩, hS.F ht9⟩) hS.2.2 (by omega) (by omega)
/-- caught -/
theorem px_catch (X : m_in G C own cc nL ret nm F L n0 s0) {ci q : Nat} {c : Ce} (pre : List ExceptionTableEntry) (x : ExceptionTableEntry) (suf : List ExceptionTableEntry) (hsplit : (m_co C).exceptionTable.toList = pre ++ x :: suf) (hpass : ∀ z ∈ pre, covers z pc = false ∨ (z.catchType ≠ 0 ∧ ∃ n9 : String, Cond.classLink own z.catchType n9 ∈ lw_all ∧ va_Nc c.1 n9 (m_s C)))
    (hx : covers x pc = true) (h0 : x.catchType ≠ 0) {name : String} (hlink : Cond.classLink own x.catchType name ∈ lw_all) (hcast : Cond.castable c.1 name ∈ lw_tbl) (ht : m_tg M q = ci + 1) (hc : m_cls[ci]? = some c) (h : Nat) (hh : x.handlerPc = h) (kk : pW G C nL n0 s0 M0 Q M h lo [vR (some q)]) : pX G C nL n0 s0 M0 Q M pc lo q := by
  subst hh
  intro hle H locs ls rest hM hS hl
  obtain ⟨cell, q1, q2, q3, q4⟩ := hM.1 q ci c ht hc
  have hts := X.2.2.2.2.2.2.2.1
  exact vx_catch X.2.2.2.2.2.1 pre x suf hsplit (fun z hz => (hpass z hz).imp id (fun ⟨a, n9, b, d⟩ => ⟨a, n9, hts _ b, d⟩)) hx h0 (hts _ hlink) (va_Nw.use rfl (X.2.2.2.2.2.2.2.2.1.2.1 _ (m_nst_in hcast rfl))) q1 q3 (by rw [q2]; exact (m_Kc X hc).2.1) (kk hle H locs ls hM hS hl)
theorem px_lo (ks : List Nat) (h : ks.filterMap (fun k => lo[k]?) = lo2) {q : Nat} (k : pX G C nL n0 s0 M0 Q M pc lo2 q) : pX G C nL n0 s0 M0 Q M pc lo q :=
  fun hle H locs ls rest hM hS hl => k hle H locs ls rest hM hS (m_lo_has ks h hl)
/-- a call that returns or throws -/
def m_runX (G : Gp) (C : m_Cx) (nL n0 s0 : Nat) (M : Mem) (pc : Nat) (lo : m_L) (st0 st : List m_V) (Qc : Array Value → State → Outcome → State → Prop) (XC : String → Addr → State → State → Prop) : Prop :=
  ∀ (H : Heap) (locs : List Loc) (ls : Array Slot), m_ok G M H → va_S (m_A G) (m_s C).heap H locs → lv_has ls nL (m_lv lo) → ∀ T : State, T.heap = H → Stand C.1 C.2.1 C.2.2.1 C.2.2.2.1 (m_s C) (m_mi C) (m_ar C) (m_be C) (m_me C) (m_co C) T locs (m_nc M - n0) (m_ns M - s0) →
    ∃ a : Array Value, vx_Run C.1 C.2.1 C.2.2.1 C.2.2.2.1 (m_s C) (m_mi C) (m_ar C) (m_be C) (m_me C) (m_co C) H locs (m_nc M - n0) (m_ns M - s0) (m_CM - m_nc M) (m_SM - m_ns M) (F0 (m_mi C) pc ls (st0.map m_v)) (st.map m_v) (Qc a) XC (m_A G)
theorem m_runXx {H : Heap} {locs Lc : List Loc} {ls : Array Slot} {t T' st₀ : State} {q ci : Nat} {E : String} {Qx : Nat → Mem → Prop} (X : m_in G C own cc nL ret nm F L n0 s0) (hle : m_le M0 M) (hS : va_S (m_A G) (m_s C).heap H locs) (hl : lv_has ls nL (m_lv lo)) (h0 : st₀.heap = H) (hL : ∀ q ∈ Lc, m_A G q.base) (e1 : T'.heap = t.heap) (hx : m_xc G M ci Qx E q st₀ t)
    (Y' : Stand C.1 C.2.1 C.2.2.1 C.2.2.2.1 (m_s C) (m_mi C) (m_ar C) (m_be C) (m_me C) (m_co C) T' (locs ++ Lc) (m_nc M - n0 + (m_CM - m_nc M)) (m_ns M - s0 + (m_SM - m_ns M)))
    (kx : ∀ (q : Nat) (M' : Mem), m_le M M' → m_tg M' q = ci + 1 → Qx q M' → pX G C nL n0 s0 M0 Q M' pc lo q) : ∃ t2, Steps C.1.tables C.2.2.1 (m_be C) ((T'.setTop (F0 (m_mi C) pc ls (st.map m_v))).pushFrame (.throwing q)) t2 ∧ Q t2 := by
  obtain ⟨-, ⟨M', ht, hp0, hp, hB, -⟩, hF⟩ := hx
  exact kx q M' hp0 ht hp (m_le_tr hle hp0) T'.heap (locs ++ Lc) ls (st.map m_v) (by rw [e1]; exact hB) (m_run_S hS h0 e1 hF hL) hl T' rfl (m_tight X (by rw [e1]; exact hB) Y')
theorem pw_runXi {Qp : Int32 → Mem → Prop} {Qx : Nat → Mem → Prop} {ci : Nat} (X : m_in G C own cc nL ret nm F L n0 s0) (hr : m_runX G C nL n0 s0 M pc lo st0 st (va_Qi (m_q1 M Qp) (m_W G) (m_A G)) (m_xc G M ci Qx)) (kx : ∀ (q : Nat) (M' : Mem), m_le M M' → m_tg M' q = ci + 1 → Qx q M' → pX G C nL n0 s0 M0 Q M' pc lo q)
    (kk : ∀ (r : Int32) (M' : Mem), m_le M M' → Qp r M' → pW G C nL n0 s0 M0 Q M' (pc + 3) lo (vI r :: st)) : pW G C nL n0 s0 M0 Q M pc lo st0 := by
  intro hle H locs ls hM hS hl T hT Y
  obtain ⟨a, hr⟩ := hr H locs ls hM hS hl T hT Y
  rcases hr T hT Y with ⟨v, st₀, t, T', Lc, h0, Y', hL, e1, e2, ⟨⟨r, M', hv, ⟨hp0, hp⟩, hB, -⟩, hF⟩, st'⟩ | ⟨q, st₀, t, T', Lc, E, ce, h0, Y', hL, e1, e2, hx, -, -, -, st'⟩
  · cases hv
    obtain ⟨t2, a1, b1⟩ := kk r M' hp0 hp (m_le_tr hle hp0) T'.heap (locs ++ Lc) ls (by rw [e1]; exact hB) (m_run_S hS h0 e1 hF hL) hl T' rfl (m_tight X (by rw [e1]; exact hB) Y')
    exact ⟨t2, st' t2 a1, b1⟩
  · obtain ⟨t2, a1, b1⟩ := m_runXx X hle hS hl h0 hL e1 hx Y' kx
    exact ⟨t2, st'.trans a1, b1⟩
theorem pw_runXv {Qp : Mem → Prop} {Qx : Nat → Mem → Prop} {ci : Nat} (X : m_in G C own cc nL ret nm F L n0 s0) (hr : m_runX G C nL n0 s0 M pc lo st0 st (va_Qv (m_q0 M Qp) (m_W G) (m_A G)) (m_xc G M ci Qx)) (kx : ∀ (q : Nat) (M' : Mem), m_le M M' → m_tg M' q = ci + 1 → Qx q M' → pX G C nL n0 s0 M0 Q M' pc lo q)
    (kk : ∀ (M' : Mem), m_le M M' → Qp M' → pW G C nL n0 s0 M0 Q M' (pc + 3) lo st) : pW G C nL n0 s0 M0 Q M pc lo st0 := by
  intro hle H locs ls hM hS hl T hT Y
  obtain ⟨a, hr⟩ := hr H locs ls hM hS hl T hT Y
  rcases hr T hT Y with ⟨v, st₀, t, T', Lc, h0, Y', hL, e1, e2, ⟨⟨M', hv, ⟨hp0, hp⟩, hB, -⟩, hF⟩, st'⟩ | ⟨q, st₀, t, T', Lc, E, ce, h0, Y', hL, e1, e2, hx, -, -, -, st'⟩
  · cases hv
    obtain ⟨t2, a1, b1⟩ := kk M' hp0 hp (m_le_tr hle hp0) T'.heap (locs ++ Lc) ls (by rw [e1]; exact hB) (m_run_S hS h0 e1 hF hL) hl T' rfl (m_tight X (by rw [e1]; exact hB) Y')
    exact ⟨t2, st' t2 a1, b1⟩
  · obtain ⟨t2, a1, b1⟩ := m_runXx X hle hS hl h0 hL e1 hx Y' kx
    exact ⟨t2, st'.trans a1, b1⟩
theorem pw_runXq {Qp : Option Nat → Mem → Prop} {Qx : Nat → Mem → Prop} {ci : Nat} (X : m_in G C own cc nL ret nm F L n0 s0) (hr : m_runX G C nL n0 s0 M pc lo st0 st (va_Qq (m_q1 M Qp) (m_W G) (m_A G)) (m_xc G M ci Qx)) (kx : ∀ (q : Nat) (M' : Mem), m_le M M' → m_tg M' q = ci + 1 → Qx q M' → pX G C nL n0 s0 M0 Q M' pc lo q)
    (kk : ∀ (r : Option Nat) (M' : Mem), m_le M M' → Qp r M' → pW G C nL n0 s0 M0 Q M' (pc + 3) lo (vR r :: st)) : pW G C nL n0 s0 M0 Q M pc lo st0 := by
  intro hle H locs ls hM hS hl T hT Y
  obtain ⟨a, hr⟩ := hr H locs ls hM hS hl T hT Y
  rcases hr T hT Y with ⟨v, st₀, t, T', Lc, h0, Y', hL, e1, e2, ⟨⟨r, M', hv, ⟨hp0, hp⟩, hB, -⟩, hF⟩, st'⟩ | ⟨q, st₀, t, T', Lc, E, ce, h0, Y', hL, e1, e2, hx, -, -, -, st'⟩
  · cases hv
    obtain ⟨t2, a1, b1⟩ := kk r M' hp0 hp (m_le_tr hle hp0) T'.heap (locs ++ Lc) ls (by rw [e1]; exact hB) (m_run_S hS h0 e1 hF hL) hl T' rfl (m_tight X (by rw [e1]; exact hB) Y')
    exact ⟨t2, st' t2 a1, b1⟩
  · obtain ⟨t2, a1, b1⟩ := m_runXx X hle hS hl h0 hL e1 hx Y' kx
    exact ⟨t2, st'.trans a1, b1⟩
variable {y : MethodName} {ccy : ByteArray} {nLy Fy Ly index : Nat} {rety : Option FieldType} {av : List m_V} {Qc : Array Value → State → Outcome → State → Prop} {XC : String → Addr → State → State → Prop} {b : Nat}
theorem m_cVX {ci : Nat} {q : Ce} (X : m_in G C own cc nL ret nm F L n0 s0) (hK : m_KX G C.2.1 y ccy nLy rety Fy Ly (vR (some b) :: av) M Qc XC) (ht : m_tg M b = ci + 1) (hc : m_cls[ci]? = some q) (hg : GoodIn lw_all (wsV own index q.1 y (ws_ y ccy nLy rety))) (hd : y.cls = q.1 ∧ m_nMH y av.length) (hR : m_rm F L Fy nLy Ly) (hst : st0 = av.reverse ++ vR (some b) :: st) (hw : st.length ≤ 8) (hdg : decode cc pc = .ok (.invokevirtual index, 3)) : m_runX G C nL n0 s0 M pc lo st0 st Qc XC := by
  intro H locs ls hM hS hl T hT Y
  exact ⟨_, vx_runV (b := b) (As := av.map m_v) (m_fix X) hK (cwV av.length X.2.2.2.2.2.2.2.1 hg rfl rfl rfl hd (m_rmR X hR)) (m_pV X hM hS ht hc) rfl (by rw [List.length_map]) hl.1 (m_st3 hst) (m_wd hw) hdg (m_hf X hM hS (m_s0' X hM hT Y))⟩
theorem m_cVNX {ci : Nat} {q : Ce} {host : String} (X : m_in G C own cc nL ret nm F L n0 s0) (hK : m_KX G C.2.1 y ccy nLy rety Fy Ly (vR (some b) :: av) M Qc XC) (ht : m_tg M b = ci + 1) (hc : m_cls[ci]? = some q) (hcode : Cond.code y ccy nLy rety ∈ lw_all) (hini : Cond.initialized y.cls ∈ lw_all) (hlink : Cond.methodLinkNest own index y host ∈ lw_tbl) (hinst : Cond.instanceMethod y ∈ lw_all) (hsel : Cond.selects q.1 y y ∈ lw_all) (hd : m_nMH y av.length) (hR : m_rm F L Fy nLy Ly) (hst : st0 = av.reverse ++ vR (some b) :: st) (hw : st.length ≤ 8) (hdg : decode cc pc = .ok (.invokevirtual index, 3)) : m_runX G C nL n0 s0 M pc lo st0 st Qc XC := by
  intro H locs ls hM hS hl T hT Y
  have hts := X.2.2.2.2.2.2.2.1
  exact ⟨_, vx_runVN (C := q.1) (b := b) (As := av.map m_v) (m_fix X) hK ⟨va_cnB av.length hts (lw_meth hcode) rfl rfl rfl (X.2.2.2.2.2.2.2.2.1.2.1 _ (m_nst_in hlink rfl)) (hts _ hini) hd (m_rmR X hR), hts _ hinst, hts _ hsel⟩ (m_pV X hM hS ht hc) rfl (by rw [List.length_map]) hl.1 (m_st3 hst) (m_wd hw) hdg (m_hf X hM hS (m_s0' X hM hT Y))⟩
/-- invokevirtual of a method with handlers -/
theorem m_cVW {ci : Nat} {q : Ce} {hh : List (Nat × Nat × Nat × Nat)} (X : m_in G C own cc nL ret nm F L n0 s0) (hK : m_KW G C.2.1 y ccy nLy rety hh Fy Ly (vR (some b) :: av) M Qc) (ht : m_tg M b = ci + 1) (hc : m_cls[ci]? = some q) (hg : GoodIn lw_all (wsV own index q.1 y (wsW_ y ccy nLy rety hh))) (hd : y.cls = q.1 ∧ m_nMH y av.length) (hR : m_rm F L Fy nLy Ly) (hst : st0 = av.reverse ++ vR (some b) :: st) (hw : st.length ≤ 8) (hdg : decode cc pc = .ok (.invokevirtual index, 3)) : m_run G C nL n0 s0 M pc 3 lo st0 st Qc := by
  intro H locs ls hM hS hl T hT Y
  exact m_runOf (g := fun _ _ _ => True) hT Y (vx_runVW (b := b) (As := av.map m_v) (m_fix X) hK (vx_cwVW av.length X.2.2.2.2.2.2.2.1 hg rfl rfl rfl hd (m_rmR X hR)) (m_pV X hM hS ht hc) rfl (by rw [List.length_map]) hl.1 (m_st3 hst) (m_wd hw) hdg (m_hf X hM hS (m_s0' X hM hT Y)))
end
