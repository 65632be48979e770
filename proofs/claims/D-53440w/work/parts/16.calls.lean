/-! A METHOD'S ENTRY, ITS ENDS, CALLS -/
set_option maxRecDepth 100000
def m_ix : Nat → List m_V → m_L
  | _, [] => []
  | i, v :: l => (i, v) :: m_ix (i + 1) l
theorem m_ix_args (av : List m_V) : ∀ i : Nat, lv_args i (av.map m_v) = m_lv (m_ix i av) := by
  induction av with
  | nil => intro i; rfl
  | cons v l ih =>
    intro i
    show (i, m_v v) :: lv_args (if (m_v v).category = 2 then i + 2 else i + 1) (l.map m_v) = _
    rw [m_cat, if_neg (by decide), ih]
    rfl
theorem m_sl_len (av : List m_V) : (lg_sl (av.map m_v)).length = av.length := by
  induction av with
  | nil => rfl
  | cons v l ih =>
    unfold lg_sl at ih ⊢
    rw [List.map_cons, List.flatMap_cons, List.length_append, ih, if_neg (by rw [m_cat]; decide)]
    simp
    omega
abbrev m_Q (G : Gp) (C : m_Cx) (n0 s0 : Nat) (Qc : Array Value → State → Outcome → State → Prop) : State → Prop := MQ (m_be C) Qc (m_ar C) (m_s C) (m_CM - n0) (m_SM - s0) (m_A G)
/-- A CONTRACT: from any start with this memory, the method y (code cc, nL locals, answer ret; F frames and L words of locals below it) ends as Qc says -/
def m_K (G : Gp) (l : Launch) (y : MethodName) (cc : ByteArray) (nL : Nat) (ret : Option FieldType) (F L : Nat) (av : List m_V) (M : Mem) (Qc : Array Value → State → Outcome → State → Prop) : Prop :=
  Met l y (ws_ y cc nL ret) { frames := F, cells := m_CM - m_nc M, slots := m_SM - m_ns M, locals := L } (va_Pc (av.map m_v) (m_W G M)) Qc (m_CM - m_nc M) (m_SM - m_ns M) (m_A G)
theorem m_met {G : Gp} {l : Launch} {y : MethodName} {cc : ByteArray} {nL : Nat} {ret : Option FieldType} {F L : Nat} {av : List m_V} {M : Mem} {Qc : Array Value → State → Outcome → State → Prop} (hy : plainName y.cls = true) (hn : av.length ≤ nL)
    (body : ∀ C : m_Cx, C.2.1 = l → m_in G C y.cls cc nL ret y.name F L (m_nc M) (m_ns M) → pW G C nL (m_nc M) (m_ns M) M (m_Q G C (m_nc M) (m_ns M) Qc) M 0 (m_ix 0 av) []) : m_K G l y cc nL ret F L av M Qc := by
  refine Met.ofW (cc := cc) (maxL := nL) (ret := ret) hy rfl ?_
  intro p e s m args below meth c s₁ B hml hv
  obtain ⟨rfl, hM, hG⟩ := hv
  have hts := atoms_spec (ws := ws_ y cc nL ret) B.pre
  have hts : ∀ w ∈ lw_all, w.before _ s = true := fun w h => hts w (List.mem_cons_of_mem _ h)
  have hl := lv_entry (av.map m_v) (n := nL) (by rw [m_sl_len]; exact hn)
  rw [lg_entry_eq]
  rw [m_ix_args] at hl
  generalize (lg_sl (av.map m_v) ++ List.replicate (nL - (lg_sl (av.map m_v)).length) Slot.unset).toArray = ls at hl ⊢
  have K := body (p, l, e, (headSpec (ws_ y cc nL ret) { frames := F, cells := m_CM - m_nc M, slots := m_SM - m_ns M, locals := L }).room, s, m, (av.map m_v).toArray, below, meth, c) rfl ⟨B.exec, B.bytes, B.returns, B.notSynchronized, hml, findClass_of_methodNamed B.named, (name_of_methodNamed B.named B.method).1, hts, hG, rfl, hM.2.2.2.2.2.2.1, hM.2.2.2.2.2.2.2.1⟩ m_le_rf s.heap [] ls hM va_S.rf hl
  rw [Nat.sub_self, Nat.sub_self] at K
  exact K
section
variable {G : Gp} {C : m_Cx} {own : String} {cc : ByteArray} {nL : Nat} {ret : Option FieldType} {nm : String} {F L n0 s0 : Nat} {Q : State → Prop} {M0 M : Mem} {pc : Nat} {lo lo2 : m_L} {st st0 : List m_V}
/-- a method's end: cells stay what they are, and its post -/
def m_q1 {α : Type} (M : Mem) (Qp : α → Mem → Prop) : α → Mem → Prop := fun r M' => m_le M M' ∧ Qp r M'
def m_q0 (M : Mem) (Qp : Mem → Prop) : Mem → Prop := fun M' => m_le M M' ∧ Qp M'
theorem m_wide {H : Heap} {locs : List Loc} {g : JFrame} (X : m_in G C own cc nL ret nm F L n0 s0) (hM : m_ok G M H) (hS : va_S (m_A G) (m_s C).heap H locs) (k : m_Wg C H locs (m_CM - n0) (m_SM - s0) Q g) : m_Wg C H locs (m_nc M - n0) (m_ns M - s0) Q g := by
  obtain ⟨k1, k2, k3⟩ := m_keep X hM hS
  exact W.widen (by omega) (by omega) k
theorem m_end {H : Heap} {locs : List Loc} {t : State} (X : m_in G C own cc nL ret nm F L n0 s0) (hM : m_ok G M H) (hS : va_S (m_A G) (m_s C).heap H locs) (ht : t.heap = H) (hW : (m_s C).WarmedH t.vm) : m_W G M t := ⟨by rw [ht]; exact hM, m_gSat X hS ht hW⟩
theorem pw_iret {Qp : Int32 → Mem → Prop} (X : m_in G C own cc nL (some .int) nm F L n0 s0) {x : Int32} (hq : Qp x M) (hdg : decode cc pc = .ok (.ireturn, 1)) : pW G C nL n0 s0 M0 (m_Q G C n0 s0 (va_Qi (m_q1 M0 Qp) (m_W G) (m_A G))) M pc lo [vI x] := by
  intro hle H locs ls hM hS hl
  exact m_wide X hM hS (W.iret (v := x) X.1 X.2.1 X.2.2.1 (fun t ht hW => ⟨⟨x, M, rfl, ⟨hle, hq⟩, m_end X hM hS ht hW⟩, hS.F ht⟩) hS.2.2 hdg X.2.2.2.1)
theorem pw_zret {Qp : Int32 → Mem → Prop} {ty : FieldType} (X : m_in G C own cc nL (some ty) nm F L n0 s0) {x : Int32} (hn : narrow ty (.int x) = .int x) (hq : Qp x M) (hdg : decode cc pc = .ok (.ireturn, 1)) : pW G C nL n0 s0 M0 (m_Q G C n0 s0 (va_Qi (m_q1 M0 Qp) (m_W G) (m_A G))) M pc lo [vI x] := by
  intro hle H locs ls hM hS hl
  exact m_wide X hM hS (W.zret (v := x) X.1 X.2.1 X.2.2.1 hn (fun t ht hW => ⟨⟨x, M, rfl, ⟨hle, hq⟩, m_end X hM hS ht hW⟩, hS.F ht⟩) hS.2.2 hdg X.2.2.2.1)
theorem pw_vret {Qp : Mem → Prop} (X : m_in G C own cc nL none nm F L n0 s0) (hq : Qp M) (hdg : decode cc pc = .ok (.return_, 1)) : pW G C nL n0 s0 M0 (m_Q G C n0 s0 (va_Qv (m_q0 M0 Qp) (m_W G) (m_A G))) M pc lo [] := by
  intro hle H locs ls hM hS hl
  exact m_wide X hM hS (W.vret X.1 X.2.1 X.2.2.1 (fun t ht hW => ⟨⟨M, rfl, ⟨hle, hq⟩, m_end X hM hS ht hW⟩, hS.F ht⟩) hS.2.2 hdg X.2.2.2.1)
theorem pw_aret {Qp : Option Nat → Mem → Prop} {ty : FieldType} (X : m_in G C own cc nL (some ty) nm F L n0 s0) {r : Option Nat} (hrt : (∃ n, ty = .object n) ∨ ∃ t, ty = .array t) (hq : Qp r M) (hdg : decode cc pc = .ok (.areturn, 1)) : pW G C nL n0 s0 M0 (m_Q G C n0 s0 (va_Qq (m_q1 M0 Qp) (m_W G) (m_A G))) M pc lo [vR r] := by
  intro hle H locs ls hM hS hl
  exact m_wide X hM hS (W.aret (v := va_rf r) X.1 X.2.1 X.2.2.1 hrt (va_rf_or r) (fun t ht hW => ⟨⟨r, M, rfl, ⟨hle, hq⟩, m_end X hM hS ht hW⟩, hS.F ht⟩) hS.2.2 hdg X.2.2.2.1)
/-- a call of y, run: for a 3-byte instruction (d 3) or a 5-byte one -/
def m_run (G : Gp) (C : m_Cx) (nL n0 s0 : Nat) (M : Mem) (pc d : Nat) (lo : m_L) (st0 st : List m_V) (Qc : Array Value → State → Outcome → State → Prop) : Prop :=
  ∀ (H : Heap) (locs : List Loc) (ls : Array Slot), m_ok G M H → va_S (m_A G) (m_s C).heap H locs → lv_has ls nL (m_lv lo) → ∀ T : State, T.heap = H → Stand C.1 C.2.1 C.2.2.1 C.2.2.2.1 (m_s C) (m_mi C) (m_ar C) (m_be C) (m_me C) (m_co C) T locs (m_nc M - n0) (m_ns M - s0) →
    ∃ (v : Option Value) (st₀ t T' : State) (L : List Loc) (a : Array Value), st₀.heap = H ∧ Stand C.1 C.2.1 C.2.2.1 C.2.2.2.1 (m_s C) (m_mi C) (m_ar C) (m_be C) (m_me C) (m_co C) T' (locs ++ L) (m_nc M - n0 + (m_CM - m_nc M)) (m_ns M - s0 + (m_SM - m_ns M)) ∧ (∀ q ∈ L, m_A G q.base) ∧ T'.heap = t.heap ∧ T'.vm = t.vm ∧ Qc a st₀ (.returned v) t ∧
      Goes C.1 C.2.2.1 (m_be C) T (F0 (m_mi C) pc ls (st0.map m_v)) T' { F0 (m_mi C) pc ls (st0.map m_v) with pc := pc + d, stack := v.toList ++ st.map m_v }
theorem m_run_S {H H1 : Heap} {locs Lc : List Loc} {st₀ t : State} (hS : va_S (m_A G) (m_s C).heap H locs) (h0 : st₀.heap = H) (h1 : H1 = t.heap) (hF : va_F (m_A G) st₀ t) (hL : ∀ q ∈ Lc, m_A G q.base) : va_S (m_A G) (m_s C).heap H1 (locs ++ Lc) := by
  subst h1
  obtain ⟨f1, f2⟩ := hF
  rw [h0] at f1 f2
  refine ⟨Nat.le_trans hS.1 f1, fun q h2 h3 => ?_, fun q hq => ?_⟩
  · rw [f2 q (Nat.lt_of_lt_of_le h2 hS.1) h3]
    exact hS.2.1 q h2 h3
  · rcases List.mem_append.mp hq with h | h
    · exact hS.2.2 q h
    · exact hL q h
theorem pw_runi {d : Nat} {Qp : Int32 → Mem → Prop} (X : m_in G C own cc nL ret nm F L n0 s0) (hr : m_run G C nL n0 s0 M pc d lo st0 st (va_Qi (m_q1 M Qp) (m_W G) (m_A G))) (kk : ∀ (r : Int32) (M' : Mem), m_le M M' → Qp r M' → pW G C nL n0 s0 M0 Q M' (pc + d) lo (vI r :: st)) : pW G C nL n0 s0 M0 Q M pc lo st0 := by
  intro hle H locs ls hM hS hl T hT Y
  obtain ⟨v, st₀, t, T', Lc, a, h0, Y', hL, e1, e2, ⟨⟨r, M', hv, ⟨hp0, hp⟩, hB, -⟩, hF⟩, st'⟩ := hr H locs ls hM hS hl T hT Y
  cases hv
  obtain ⟨t2, a1, b1⟩ := kk r M' hp0 hp (m_le_tr hle hp0) T'.heap (locs ++ Lc) ls (by rw [e1]; exact hB) (m_run_S hS h0 e1 hF hL) hl T' rfl (m_tight X (by rw [e1]; exact hB) Y')
  exact ⟨t2, st' t2 a1, b1⟩
theorem pw_runv {d : Nat} {Qp : Mem → Prop} (X : m_in G C own cc nL ret nm F L n0 s0) (hr : m_run G C nL n0 s0 M pc d lo st0 st (va_Qv (m_q0 M Qp) (m_W G) (m_A G))) (kk : ∀ (M' : Mem), m_le M M' → Qp M' → pW G C nL n0 s0 M0 Q M' (pc + d) lo st) : pW G C nL n0 s0 M0 Q M pc lo st0 := by
  intro hle H locs ls hM hS hl T hT Y
  obtain ⟨v, st₀, t, T', Lc, a, h0, Y', hL, e1, e2, ⟨⟨M', hv, ⟨hp0, hp⟩, hB, -⟩, hF⟩, st'⟩ := hr H locs ls hM hS hl T hT Y
  cases hv
  obtain ⟨t2, a1, b1⟩ := kk M' hp0 hp (m_le_tr hle hp0) T'.heap (locs ++ Lc) ls (by rw [e1]; exact hB) (m_run_S hS h0 e1 hF hL) hl T' rfl (m_tight X (by rw [e1]; exact hB) Y')
  exact ⟨t2, st' t2 a1, b1⟩
theorem pw_runq {d : Nat} {Qp : Option Nat → Mem → Prop} (X : m_in G C own cc nL ret nm F L n0 s0) (hr : m_run G C nL n0 s0 M pc d lo st0 st (va_Qq (m_q1 M Qp) (m_W G) (m_A G))) (kk : ∀ (r : Option Nat) (M' : Mem), m_le M M' → Qp r M' → pW G C nL n0 s0 M0 Q M' (pc + d) lo (vR r :: st)) : pW G C nL n0 s0 M0 Q M pc lo st0 := by
  intro hle H locs ls hM hS hl T hT Y
  obtain ⟨v, st₀, t, T', Lc, a, h0, Y', hL, e1, e2, ⟨⟨r, M', hv, ⟨hp0, hp⟩, hB, -⟩, hF⟩, st'⟩ := hr H locs ls hM hS hl T hT Y
  cases hv
  obtain ⟨t2, a1, b1⟩ := kk r M' hp0 hp (m_le_tr hle hp0) T'.heap (locs ++ Lc) ls (by rw [e1]; exact hB) (m_run_S hS h0 e1 hF hL) hl T' rfl (m_tight X (by rw [e1]; exact hB) Y')
  exact ⟨t2, st' t2 a1, b1⟩
theorem m_hf {H : Heap} {locs : List Loc} (X : m_in G C own cc nL ret nm F L n0 s0) (hM : m_ok G M H) (hS : va_S (m_A G) (m_s C).heap H locs) (h0 : s0 ≤ m_ns M) : (m_nc M - n0) + (m_CM - m_nc M) ≤ C.2.2.2.1.cells ∧ (m_ns M - s0) + (m_SM - m_ns M) ≤ C.2.2.2.1.slots := by
  have hr := X.2.2.2.2.2.2.2.2.2.1
  obtain ⟨k1, k2, k3⟩ := m_keep X hM hS
  rw [hr]
  exact ⟨by show _ ≤ m_CM - n0; omega, by show _ ≤ m_SM - s0; omega⟩
theorem m_s0' (X : m_in G C own cc nL ret nm F L n0 s0) {H : Heap} {T : State} {locs : List Loc} {k n : Nat} (hM : m_ok G M H) (hT : T.heap = H) (Y : Stand C.1 C.2.1 C.2.2.1 C.2.2.2.1 (m_s C) (m_mi C) (m_ar C) (m_be C) (m_me C) (m_co C) T locs k n) : s0 ≤ m_ns M := by
  obtain ⟨-, -, -, -, -, -, -, -, -, -, e1, e2⟩ := X
  obtain ⟨-, -, -, -, -, -, z1, z2, -, -⟩ := hM
  obtain ⟨a1, a2, a3, a4, a5, a6⟩ := Y.same
  have a2 : (m_s C).heap.size ≤ T.heap.size := a2
  have e3 := m_sum_split (H0 := (m_s C).heap) (H := T.heap) (n := G.2 0) (by omega) a2 (fun q c hq => by
    obtain ⟨c', b1, -, b2, -⟩ := a6 q c hq
    exact ⟨c', b1, b2⟩)
  rw [hT] at e3
  omega
theorem m_runOf {g : Heap → List Loc → Array Slot → Prop} {Qc : Array Value → State → Outcome → State → Prop} {a : Array Value} {H : Heap} {locs : List Loc} {ls : Array Slot} {T : State} (hT : T.heap = H) (Y : Stand C.1 C.2.1 C.2.2.1 C.2.2.2.1 (m_s C) (m_mi C) (m_ar C) (m_be C) (m_me C) (m_co C) T locs (m_nc M - n0) (m_ns M - s0))
    (h : va_Run C.1 C.2.1 C.2.2.1 C.2.2.2.1 (m_s C) (m_mi C) (m_ar C) (m_be C) (m_me C) (m_co C) H locs (m_nc M - n0) (m_ns M - s0) (m_CM - m_nc M) (m_SM - m_ns M) (F0 (m_mi C) pc ls (st0.map m_v)) (st.map m_v) (Qc a) (m_A G)) :
    ∃ (v : Option Value) (st₀ t T' : State) (L : List Loc) (a : Array Value), st₀.heap = H ∧ Stand C.1 C.2.1 C.2.2.1 C.2.2.2.1 (m_s C) (m_mi C) (m_ar C) (m_be C) (m_me C) (m_co C) T' (locs ++ L) (m_nc M - n0 + (m_CM - m_nc M)) (m_ns M - s0 + (m_SM - m_ns M)) ∧ (∀ q ∈ L, m_A G q.base) ∧ T'.heap = t.heap ∧ T'.vm = t.vm ∧ Qc a st₀ (.returned v) t ∧
      Goes C.1 C.2.2.1 (m_be C) T (F0 (m_mi C) pc ls (st0.map m_v)) T' { F0 (m_mi C) pc ls (st0.map m_v) with pc := pc + 3, stack := v.toList ++ st.map m_v } := by
  obtain ⟨v, st₀, t, T', Lc, h0, Y', hL, e1, e2, hq, st'⟩ := h T hT Y
  exact ⟨v, st₀, t, T', Lc, a, h0, Y', hL, e1, e2, hq, st'⟩
theorem m_runOf5 {Qc : Array Value → State → Outcome → State → Prop} {a : Array Value} {H : Heap} {locs : List Loc} {ls : Array Slot} {T : State} (hT : T.heap = H) (Y : Stand C.1 C.2.1 C.2.2.1 C.2.2.2.1 (m_s C) (m_mi C) (m_ar C) (m_be C) (m_me C) (m_co C) T locs (m_nc M - n0) (m_ns M - s0))
    (h : va_Run5 C.1 C.2.1 C.2.2.1 C.2.2.2.1 (m_s C) (m_mi C) (m_ar C) (m_be C) (m_me C) (m_co C) H locs (m_nc M - n0) (m_ns M - s0) (m_CM - m_nc M) (m_SM - m_ns M) (F0 (m_mi C) pc ls (st0.map m_v)) (st.map m_v) (Qc a) (m_A G)) :
    ∃ (v : Option Value) (st₀ t T' : State) (L : List Loc) (a : Array Value), st₀.heap = H ∧ Stand C.1 C.2.1 C.2.2.1 C.2.2.2.1 (m_s C) (m_mi C) (m_ar C) (m_be C) (m_me C) (m_co C) T' (locs ++ L) (m_nc M - n0 + (m_CM - m_nc M)) (m_ns M - s0 + (m_SM - m_ns M)) ∧ (∀ q ∈ L, m_A G q.base) ∧ T'.heap = t.heap ∧ T'.vm = t.vm ∧ Qc a st₀ (.returned v) t ∧
      Goes C.1 C.2.2.1 (m_be C) T (F0 (m_mi C) pc ls (st0.map m_v)) T' { F0 (m_mi C) pc ls (st0.map m_v) with pc := pc + 5, stack := v.toList ++ st.map m_v } := by
  obtain ⟨v, st₀, t, T', Lc, h0, Y', hL, e1, e2, hq, st'⟩ := h T hT Y
  exact ⟨v, st₀, t, T', Lc, a, h0, Y', hL, e1, e2, hq, st'⟩
variable {y : MethodName} {ccy : ByteArray} {nLy Fy Ly index : Nat} {rety : Option FieldType} {av : List m_V} {Qc : Array Value → State → Outcome → State → Prop} {r0 : Option Nat} {b : Nat}
abbrev m_nMH (y : MethodName) (n : Nat) : Prop := y.cls ≠ "java/lang/invoke/MethodHandle" ∧ y.cls ≠ "java/lang/invoke/VarHandle" ∧ (parseMethodDescriptor y.desc).map (fun d => d.parameters.length) = some n
abbrev m_rm (F L Fy nLy Ly : Nat) : Prop := Fy + 1 ≤ F ∧ 8 + (nLy + 11) + Ly ≤ L
theorem m_pS {H : Heap} {locs : List Loc} (X : m_in G C own cc nL ret nm F L n0 s0) (hM : m_ok G M H) (hS : va_S (m_A G) (m_s C).heap H locs) {As : List Value} (hA : As = av.map m_v) : PreS (m_s C) H (va_Pc (av.map m_v) (m_W G M)) As :=
  ⟨m_blind, fun U hU hW => ⟨by rw [hA], by rw [hU]; exact hM, m_gSat X hS hU hW⟩⟩
theorem m_fix (X : m_in G C own cc nL ret nm F L n0 s0) : CallFix C.1 (m_mi C) (m_co C) cc nL (m_s C) (m_ar C) lw_all own := ⟨X.1, X.2.1, X.2.2.2.2.1, X.2.2.2.2.2.1, X.2.2.2.2.2.2.2.1⟩
theorem m_rmR (X : m_in G C own cc nL ret nm F L n0 s0) (hR : m_rm F L Fy nLy Ly) : Fy + 1 ≤ C.2.2.2.1.frames ∧ 8 + (nLy + 11) + Ly ≤ C.2.2.2.1.locals := by
  rw [X.2.2.2.2.2.2.2.2.2.1]
  exact hR
theorem m_wd {pc : Nat} {ls : Array Slot} {stk : List Value} (h : st.length ≤ 8) : 2 * (F0 (m_mi C) pc ls stk).monitorRoom + ((st.map m_v).map fun v => v.category).sum ≤ 8 := by
  rw [m_cats]
  show 2 * 0 + _ ≤ 8
  omega
/-- invokestatic -/
theorem m_cS (X : m_in G C own cc nL ret nm F L n0 s0) (hK : m_K G C.2.1 y ccy nLy rety Fy Ly av M Qc) (hg : GoodIn lw_all (va_wsS own index y (ws_ y ccy nLy rety))) (hd : m_nMH y av.length) (hR : m_rm F L Fy nLy Ly) (hst : st0 = av.reverse ++ st) (hw : st.length ≤ 8) (hdg : decode cc pc = .ok (.invokestatic index, 3)) : m_run G C nL n0 s0 M pc 3 lo st0 st Qc := by
  intro H locs ls hM hS hl T hT Y
  refine m_runOf (g := fun _ _ _ => True) hT Y (va_runS (As := av.map m_v) (m_fix X) hK (va_cwS av.length X.2.2.2.2.2.2.2.1 hg rfl rfl rfl hd (m_rmR X hR)) (m_pS X hM hS rfl) rfl (by rw [List.length_map]) hl.1 ?_ (m_wd hw) hdg (m_hf X hM hS (m_s0' X hM hT Y)))
  subst hst
  show (av.reverse ++ st).map m_v = _
  rw [List.map_append, List.map_reverse]
/-- a private static method of a nest mate -/
theorem m_cSN {host : String} (X : m_in G C own cc nL ret nm F L n0 s0) (hK : m_K G C.2.1 y ccy nLy rety Fy Ly av M Qc) (hcode : Cond.code y ccy nLy rety ∈ lw_all) (hlink : Cond.methodLinkNest own index y host ∈ lw_tbl) (hstt : Cond.static y ∈ lw_all) (hini : Cond.initialized y.cls ∈ lw_all) (hd : m_nMH y av.length) (hR : m_rm F L Fy nLy Ly) (hst : st0 = av.reverse ++ st) (hw : st.length ≤ 8) (hdg : decode cc pc = .ok (.invokestatic index, 3)) : m_run G C nL n0 s0 M pc 3 lo st0 st Qc := by
  intro H locs ls hM hS hl T hT Y
  have hts := X.2.2.2.2.2.2.2.1
  refine m_runOf (g := fun _ _ _ => True) hT Y (va_runSN (As := av.map m_v) (m_fix X) hK ⟨va_cnB av.length hts (lw_meth hcode) rfl rfl rfl (X.2.2.2.2.2.2.2.2.1.2.1 _ (m_nst_in hlink rfl)) (hts _ hini) hd (m_rmR X hR), hts _ hstt, trivial⟩ (m_pS X hM hS rfl) rfl (by rw [List.length_map]) hl.1 ?_ (m_wd hw) hdg (m_hf X hM hS (m_s0' X hM hT Y)))
  subst hst
  show (av.reverse ++ st).map m_v = _
  rw [List.map_append, List.map_reverse]
/-- a constructor (invokespecial) -/
theorem m_cI (X : m_in G C own cc nL ret nm F L n0 s0) (hK : m_K G C.2.1 y ccy nLy none Fy Ly (vR (some b) :: av) M Qc) (hcode : Cond.code y ccy nLy none ∈ lw_all) (hini : Cond.initialized y.cls ∈ lw_all) (hlink : Cond.methodLink own index y ∈ lw_all) (hinst : Cond.instanceMethod y ∈ lw_all) (hy1 : y.name = "<init>") (hd : m_nMH y av.length) (hR : m_rm F L Fy nLy Ly) (hst : st0 = av.reverse ++ vR (some b) :: st) (hw : st.length ≤ 8) (hdg : decode cc pc = .ok (.invokespecial index, 3)) : m_run G C nL n0 s0 M pc 3 lo st0 st Qc := by
  intro H locs ls hM hS hl T hT Y
  have hts := X.2.2.2.2.2.2.2.1
  refine m_runOf (g := fun _ _ _ => True) hT Y (va_runI (b := b) (As := av.map m_v) (m_fix X) hK (cwI av.length hts (lw_meth hcode) rfl rfl rfl (hts _ hini) (hts _ hlink) (hts _ hinst) hy1 hd (m_rmR X hR)) (m_pS (av := vR (some b) :: av) X hM hS rfl) rfl (by rw [List.length_map]) hl.1 ?_ (m_wd hw) hdg (m_hf X hM hS (m_s0' X hM hT Y)))
  subst hst
  show (av.reverse ++ vR (some b) :: st).map m_v = _
  rw [List.map_append, List.map_reverse]
  rfl
theorem m_cIN {host : String} (X : m_in G C own cc nL ret nm F L n0 s0) (hK : m_K G C.2.1 y ccy nLy none Fy Ly (vR (some b) :: av) M Qc) (hcode : Cond.code y ccy nLy none ∈ lw_all) (hini : Cond.initialized y.cls ∈ lw_all) (hlink : Cond.methodLinkNest own index y host ∈ lw_tbl) (hinst : Cond.instanceMethod y ∈ lw_all) (hy1 : y.name = "<init>") (hd : m_nMH y av.length) (hR : m_rm F L Fy nLy Ly) (hst : st0 = av.reverse ++ vR (some b) :: st) (hw : st.length ≤ 8) (hdg : decode cc pc = .ok (.invokespecial index, 3)) : m_run G C nL n0 s0 M pc 3 lo st0 st Qc := by
  intro H locs ls hM hS hl T hT Y
  have hts := X.2.2.2.2.2.2.2.1
  refine m_runOf (g := fun _ _ _ => True) hT Y (va_runIN (b := b) (As := av.map m_v) (m_fix X) hK ⟨va_cnB av.length hts (lw_meth hcode) rfl rfl rfl (X.2.2.2.2.2.2.2.2.1.2.1 _ (m_nst_in hlink rfl)) (hts _ hini) hd (m_rmR X hR), hy1, hts _ hinst⟩ (m_pS (av := vR (some b) :: av) X hM hS rfl) rfl (by rw [List.length_map]) hl.1 ?_ (m_wd hw) hdg (m_hf X hM hS (m_s0' X hM hT Y)))
  subst hst
  show (av.reverse ++ vR (some b) :: st).map m_v = _
  rw [List.map_append, List.map_reverse]
  rfl
theorem m_pV {H : Heap} {locs : List Loc} {ci : Nat} {q : Ce} (X : m_in G C own cc nL ret nm F L n0 s0) (hM : m_ok G M H) (hS : va_S (m_A G) (m_s C).heap H locs) (ht : m_tg M b = ci + 1) (hc : m_cls[ci]? = some q) : PreV (m_s C) H q.1 b (va_Pc ((vR (some b) :: av).map m_v) (m_W G M)) (av.map m_v) :=
  ⟨m_blind, m_recv X hM ht hc, fun U hU hW => ⟨rfl, by rw [hU]; exact hM, m_gSat X hS hU hW⟩⟩
theorem m_st3 (hst : st0 = av.reverse ++ vR (some b) :: st) : st0.map m_v = (av.map m_v).reverse ++ Value.ref b :: st.map m_v := by
  subst hst
  rw [List.map_append, List.map_reverse]
  rfl
/-- invokevirtual, the method of the object's own class -/
theorem m_cV {ci : Nat} {q : Ce} (X : m_in G C own cc nL ret nm F L n0 s0) (hK : m_K G C.2.1 y ccy nLy rety Fy Ly (vR (some b) :: av) M Qc) (ht : m_tg M b = ci + 1) (hc : m_cls[ci]? = some q) (hg : GoodIn lw_all (wsV own index q.1 y (ws_ y ccy nLy rety))) (hd : y.cls = q.1 ∧ m_nMH y av.length) (hR : m_rm F L Fy nLy Ly) (hst : st0 = av.reverse ++ vR (some b) :: st) (hw : st.length ≤ 8) (hdg : decode cc pc = .ok (.invokevirtual index, 3)) : m_run G C nL n0 s0 M pc 3 lo st0 st Qc := by
  intro H locs ls hM hS hl T hT Y
  exact m_runOf (g := fun _ _ _ => True) hT Y (va_runV (b := b) (As := av.map m_v) (m_fix X) hK (cwV av.length X.2.2.2.2.2.2.2.1 hg rfl rfl rfl hd (m_rmR X hR)) (m_pV X hM hS ht hc) rfl (by rw [List.length_map]) hl.1 (m_st3 hst) (m_wd hw) hdg (m_hf X hM hS (m_s0' X hM hT Y)))
/-- .. of a nest mate -/
theorem m_cVN {ci : Nat} {q : Ce} {host : String} (X : m_in G C own cc nL ret nm F L n0 s0) (hK : m_K G C.2.1 y ccy nLy rety Fy Ly (vR (some b) :: av) M Qc) (ht : m_tg M b = ci + 1) (hc : m_cls[ci]? = some q) (hcode : Cond.code y ccy nLy rety ∈ lw_all) (hini : Cond.initialized y.cls ∈ lw_all) (hlink : Cond.methodLinkNest own index y host ∈ lw_tbl) (hinst : Cond.instanceMethod y ∈ lw_all) (hsel : Cond.selects q.1 y y ∈ lw_all) (hd : m_nMH y av.length) (hR : m_rm F L Fy nLy Ly) (hst : st0 = av.reverse ++ vR (some b) :: st) (hw : st.length ≤ 8) (hdg : decode cc pc = .ok (.invokevirtual index, 3)) : m_run G C nL n0 s0 M pc 3 lo st0 st Qc := by
  intro H locs ls hM hS hl T hT Y
  have hts := X.2.2.2.2.2.2.2.1
  exact m_runOf (g := fun _ _ _ => True) hT Y (va_runVN (C := q.1) (b := b) (As := av.map m_v) (m_fix X) hK ⟨va_cnB av.length hts (lw_meth hcode) rfl rfl rfl (X.2.2.2.2.2.2.2.2.1.2.1 _ (m_nst_in hlink rfl)) (hts _ hini) hd (m_rmR X hR), hts _ hinst, hts _ hsel⟩ (m_pV X hM hS ht hc) rfl (by rw [List.length_map]) hl.1 (m_st3 hst) (m_wd hw) hdg (m_hf X hM hS (m_s0' X hM hT Y)))
abbrev m_nMHo (o : String) (x : MethodName) (n : Nat) : Prop := o ≠ "java/lang/invoke/MethodHandle" ∧ o ≠ "java/lang/invoke/VarHandle" ∧ (parseMethodDescriptor x.desc).map (fun d => d.parameters.length) = some n
/-- inherited, called by another name -/
theorem m_cU {ci : Nat} {q : Ce} {owner : String} {x : MethodName} (X : m_in G C own cc nL ret nm F L n0 s0) (hK : m_K G C.2.1 y ccy nLy rety Fy Ly (vR (some b) :: av) M Qc) (ht : m_tg M b = ci + 1) (hc : m_cls[ci]? = some q) (hg : GoodIn lw_all (va_wsU own index q.1 owner x y (ws_ y ccy nLy rety))) (hyx : y = ⟨owner, x.name, x.desc⟩) (hd : m_nMHo owner x av.length) (hR : m_rm F L Fy nLy Ly) (hst : st0 = av.reverse ++ vR (some b) :: st) (hw : st.length ≤ 8) (hdg : decode cc pc = .ok (.invokevirtual index, 3)) : m_run G C nL n0 s0 M pc 3 lo st0 st Qc := by
  intro H locs ls hM hS hl T hT Y
  exact m_runOf (g := fun _ _ _ => True) hT Y (va_runU (b := b) (As := av.map m_v) (m_fix X) hK (va_cwU av.length X.2.2.2.2.2.2.2.1 hg rfl rfl rfl hyx hd (m_rmR X hR)) (m_pV X hM hS ht hc) rfl (by rw [List.length_map]) hl.1 (m_st3 hst) (m_wd hw) hdg (m_hf X hM hS (m_s0' X hM hT Y)))
/-- an overriding method -/
theorem m_cO {ci : Nat} {q : Ce} {owner : String} {x : MethodName} {b0 : ByteArray} {m0 : Nat} {r0 : Option FieldType} (X : m_in G C own cc nL ret nm F L n0 s0) (hK : m_K G C.2.1 y ccy nLy rety Fy Ly (vR (some b) :: av) M Qc) (ht : m_tg M b = ci + 1) (hc : m_cls[ci]? = some q) (hg : GoodIn lw_all (va_wsO own index q.1 owner x y (ws_ y ccy nLy rety))) (h0 : Cond.code ⟨owner, x.name, x.desc⟩ b0 m0 r0 ∈ lw_all) (hd : m_nMHo owner x av.length) (hR : m_rm F L Fy nLy Ly) (hst : st0 = av.reverse ++ vR (some b) :: st) (hw : st.length ≤ 8) (hdg : decode cc pc = .ok (.invokevirtual index, 3)) : m_run G C nL n0 s0 M pc 3 lo st0 st Qc := by
  intro H locs ls hM hS hl T hT Y
  exact m_runOf (g := fun _ _ _ => True) hT Y (va_runU (b := b) (As := av.map m_v) (m_fix X) hK (va_cwO av.length X.2.2.2.2.2.2.2.1 hg rfl rfl rfl h0 hd (m_rmR X hR)) (m_pV X hM hS ht hc) rfl (by rw [List.length_map]) hl.1 (m_st3 hst) (m_wd hw) hdg (m_hf X hM hS (m_s0' X hM hT Y)))
/-- what the reference names is only declared (native or abstract) -/
theorem m_cA {ci : Nat} {q : Ce} {owner : String} {x : MethodName} (X : m_in G C own cc nL ret nm F L n0 s0) (hK : m_K G C.2.1 y ccy nLy rety Fy Ly (vR (some b) :: av) M Qc) (ht : m_tg M b = ci + 1) (hc : m_cls[ci]? = some q) (hg : GoodIn lw_all (va_wsU own index q.1 owner x y (ws_ y ccy nLy rety))) (hz : Cond.declares ⟨owner, x.name, x.desc⟩ ∈ lw_tbl) (hd : m_nMHo owner x av.length) (hR : m_rm F L Fy nLy Ly) (hst : st0 = av.reverse ++ vR (some b) :: st) (hw : st.length ≤ 8) (hdg : decode cc pc = .ok (.invokevirtual index, 3)) : m_run G C nL n0 s0 M pc 3 lo st0 st Qc := by
  intro H locs ls hM hS hl T hT Y
  exact m_runOf (g := fun _ _ _ => True) hT Y (va_runU (b := b) (As := av.map m_v) (m_fix X) hK (va_cwA av.length X.2.2.2.2.2.2.2.1 hg rfl rfl rfl (X.2.2.2.2.2.2.2.2.1.2.1 _ (m_nst_in hz rfl)) hd (m_rmR X hR)) (m_pV X hM hS ht hc) rfl (by rw [List.length_map]) hl.1 (m_st3 hst) (m_wd hw) hdg (m_hf X hM hS (m_s0' X hM hT Y)))
/-- through an interface -/
theorem m_cF {ci index count : Nat} {q : Ce} {x : MethodName} (X : m_in G C own cc nL ret nm F L n0 s0) (hK : m_K G C.2.1 y ccy nLy rety Fy Ly (vR (some b) :: av) M Qc) (ht : m_tg M b = ci + 1) (hc : m_cls[ci]? = some q) (hg : GoodIn lw_all (va_wsF own index q.1 x y (ws_ y ccy nLy rety))) (hF : (q.1, x, y) ∈ m_fws) (hd : m_nMH x av.length) (hR : m_rm F L Fy nLy Ly) (hst : st0 = av.reverse ++ vR (some b) :: st) (hw : st.length ≤ 8) (hdg : decode cc pc = .ok (.invokeinterface index count, 5)) : m_run G C nL n0 s0 M pc 5 lo st0 st Qc := by
  intro H locs ls hM hS hl T hT Y
  exact m_runOf5 hT Y (va_runF (m_Kc X hc).2 (b := b) (As := av.map m_v) (m_fix X) hK (va_cwF av.length X.2.2.2.2.2.2.2.1 hg rfl rfl rfl (X.2.2.2.2.2.2.2.2.1.2.2.1 _ hF) hd (m_rmR X hR)) (m_pV X hM hS ht hc) rfl (by rw [List.length_map]) hl.1 (m_st3 hst) (m_wd hw) hdg (m_hf X hM hS (m_s0' X hM hT Y)))
end
