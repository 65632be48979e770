/-! THE JUDGEMENT over a memory, and its rows -/
set_option maxRecDepth 100000
theorem m_sum_push (H : Heap) (c : Cell) {n : Nat} (h : n ≤ H.size) : m_sum (H.push c) n = m_sum H n + c.slots.size := by
  unfold m_sum
  rw [Array.toList_push, List.drop_append_of_le_length (by simpa using h), List.map_append, List.sum_append]
  simp
theorem m_sum_eq {H H1 : Heap} (hz : H1.size = H.size) (h : ∀ q : Nat, (H1[q]?).map (·.slots.size) = (H[q]?).map (·.slots.size)) (n : Nat) : m_sum H1 n = m_sum H n := by
  have e : H1.toList.map (·.slots.size) = H.toList.map (·.slots.size) := by
    apply List.ext_getElem?
    intro i
    rw [List.getElem?_map, List.getElem?_map]
    have := h i
    simpa using this
  unfold m_sum
  rw [List.map_drop, List.map_drop, e]
/-- the first part of a heap, by its old sizes -/
theorem m_sum_split {H0 H : Heap} {n : Nat} (hn : n ≤ H0.size) (hl : H0.size ≤ H.size) (h : ∀ (q : Nat) (c : Cell), H0[q]? = some c → ∃ c' : Cell, H[q]? = some c' ∧ c'.slots.size = c.slots.size) : m_sum H n = m_sum H0 n + m_sum H H0.size := by
  have e : (H.toList.map (·.slots.size)).take H0.size = H0.toList.map (·.slots.size) := by
    apply List.ext_getElem?
    intro i
    rw [List.getElem?_map, List.getElem?_take]
    by_cases hi : i < H0.size
    · rw [if_pos hi]
      have h0 : H0[i]? = some H0[i] := Array.getElem?_eq_getElem hi
      obtain ⟨c', h1, h2⟩ := h i _ h0
      have h0' : H0.toList[i]? = some H0[i] := by simpa using h0
      have h1' : H.toList[i]? = some c' := by simpa using h1
      rw [List.getElem?_map, h1', h0']
      simp [h2]
    · rw [if_neg hi]
      have : H0.toList[i]? = none := by simp; omega
      rw [this]
      rfl
  unfold m_sum
  rw [List.map_drop, List.map_drop, List.map_drop, ← e]
  rw [← List.sum_append]
  congr 1
  rw [← List.drop_append_of_le_length (by simp; omega), List.take_append_drop]
/-- a value of one word, by its kind -/
abbrev m_V : Type := Int32 ⊕ (Option Nat ⊕ UInt32)
abbrev vI (x : Int32) : m_V := .inl x
abbrev vR (r : Option Nat) : m_V := .inr (.inl r)
abbrev vF (x : UInt32) : m_V := .inr (.inr x)
def m_v : m_V → Value
  | .inl x => .int x
  | .inr (.inl r) => va_rf r
  | .inr (.inr x) => .float x
theorem m_cat (v : m_V) : (m_v v).category = 1 := by
  rcases v with x | r | x
  · rfl
  · cases r <;> rfl
  · rfl
theorem m_cats (l : List m_V) : ((l.map m_v).map fun v => v.category).sum = l.length := by
  induction l with
  | nil => rfl
  | cons v l ih =>
    rw [List.map_cons, List.map_cons, List.sum_cons, ih, m_cat, List.length_cons]
    omega
abbrev m_L : Type := List (Nat × m_V)
def m_lv (lo : m_L) : List (Nat × Value) := lo.map (fun q => (q.1, m_v q.2))
/-- a local by its number -/
def m_lk (lo : m_L) (i : Nat) : Option m_V := (lo.find? (fun q => q.1 == i)).map (·.2)
theorem m_lk_at {ls : Array Slot} {nL i : Nat} {lo : m_L} {v : m_V} (h : lv_has ls nL (m_lv lo)) (hk : m_lk lo i = some v) : ls[i]? = some (.val (m_v v)) := by
  unfold m_lk at hk
  cases hf : lo.find? (fun q => q.1 == i) with
  | none => rw [hf] at hk; cases hk
  | some q =>
    rw [hf] at hk
    cases hk
    have h1 := List.mem_of_find?_eq_some hf
    have h2 : q.1 = i := by simpa using List.find?_some hf
    rw [← h2]
    exact h.2.2 (q.1, m_v q.2) (List.mem_map.mpr ⟨q, h1, rfl⟩)
/-- the locals behind a store, by their places (0: the new one) -/
def m_st (lo : m_L) (i : Nat) (v : m_V) (ks : List Nat) : m_L := ks.filterMap (fun k => ((i, v) :: lo.filter (fun q => !(q.1 == i)))[k]?)
theorem m_st_has {ls : Array Slot} {nL i : Nat} {lo lo2 : m_L} {v : m_V} {ks : List Nat} (hl : m_st lo i v ks = lo2) (h : lv_has ls nL ((i, m_v v) :: (m_lv lo).filter (fun q => !(q.1 == i) && !(q.1 + 1 == i && q.2.category == 2)))) : lv_has ls nL (m_lv lo2) := by
  refine ⟨h.1, h.2.1, fun q hq => ?_⟩
  obtain ⟨q0, h1, rfl⟩ := List.mem_map.mp hq
  rw [← hl] at h1
  obtain ⟨k, -, hk⟩ := List.mem_filterMap.mp h1
  refine h.2.2 _ ?_
  rcases List.mem_cons.mp (List.mem_of_getElem? hk) with e | e
  · rw [e]
    exact List.mem_cons_self
  · obtain ⟨e1, e2⟩ := List.mem_filter.mp e
    refine List.mem_cons_of_mem _ (List.mem_filter.mpr ⟨List.mem_map.mpr ⟨q0, e1, rfl⟩, ?_⟩)
    show (!(q0.1 == i) && !(q0.1 + 1 == i && (m_v q0.2).category == 2)) = true
    rw [m_cat]
    simpa using e2
theorem m_lo_has {ls : Array Slot} {nL : Nat} {lo lo2 : m_L} (ks : List Nat) (hl : ks.filterMap (fun k => lo[k]?) = lo2) (h : lv_has ls nL (m_lv lo)) : lv_has ls nL (m_lv lo2) := by
  refine ⟨h.1, h.2.1, fun q hq => ?_⟩
  obtain ⟨q0, h1, rfl⟩ := List.mem_map.mp hq
  rw [← hl] at h1
  obtain ⟨k, -, hk⟩ := List.mem_filterMap.mp h1
  exact h.2.2 _ (List.mem_map.mpr ⟨q0, List.mem_of_getElem? hk, rfl⟩)
/-- a walk's own: program .. code -/
abbrev m_Cx : Type := Program × Launch × Env × Room × State × MethodId × Array Value × List Frame × Method × Code
abbrev m_s (C : m_Cx) : State := C.2.2.2.2.1
abbrev m_mi (C : m_Cx) : MethodId := C.2.2.2.2.2.1
abbrev m_ar (C : m_Cx) : Array Value := C.2.2.2.2.2.2.1
abbrev m_be (C : m_Cx) : List Frame := C.2.2.2.2.2.2.2.1
abbrev m_me (C : m_Cx) : Method := C.2.2.2.2.2.2.2.2.1
abbrev m_co (C : m_Cx) : Code := C.2.2.2.2.2.2.2.2.2
abbrev m_Wg (C : m_Cx) (H : Heap) (locs : List Loc) (cells slots : Nat) (Q : State → Prop) (g : JFrame) : Prop := W C.1 C.2.1 C.2.2.1 C.2.2.2.1 (m_s C) (m_mi C) (m_ar C) (m_be C) (m_me C) (m_co C) H locs cells slots Q g
/-- what holds all through a method's walk. nL: its locals; n0, s0: cells and slots used at its start -/
def m_in (G : Gp) (C : m_Cx) (own : String) (cc : ByteArray) (nL : Nat) (ret : Option FieldType) (nm : String) (F L n0 s0 : Nat) : Prop :=
  C.1.tables.exec = Jvm.exec ∧ (m_co C).code = cc ∧ (m_me C).sig.returnType = ret ∧ (m_me C).locks = false ∧ (m_co C).maxLocals = nL ∧ (m_s C).vm.findClass own = some (m_mi C).cls ∧ (m_me C).name = nm ∧
  (∀ w ∈ lw_all, w.before (m_ar C) (m_s C) = true) ∧ m_gS G (m_s C) (m_s C).heap ∧ C.2.2.2.1 = { frames := F, cells := m_CM - n0, slots := m_SM - s0, locals := L } ∧
  (m_s C).heap.size = G.2 0 + n0 ∧ m_sum (m_s C).heap (G.2 0) = s0
/-- from here, with this memory, these locals and this stack, the method comes to its end -/
def pW (G : Gp) (C : m_Cx) (nL n0 s0 : Nat) (M0 : Mem) (Q : State → Prop) (M : Mem) (pc : Nat) (lo : m_L) (st : List m_V) : Prop :=
  m_le M0 M → ∀ (H : Heap) (locs : List Loc) (ls : Array Slot), m_ok G M H → va_S (m_A G) (m_s C).heap H locs → lv_has ls nL (m_lv lo) → m_Wg C H locs (m_nc M - n0) (m_ns M - s0) Q (F0 (m_mi C) pc ls (st.map m_v))
section
variable {G : Gp} {C : m_Cx} {own : String} {cc : ByteArray} {nL : Nat} {ret : Option FieldType} {nm : String} {F L n0 s0 : Nat} {Q : State → Prop} {M0 M : Mem} {pc : Nat} {lo lo2 : m_L} {st : List m_V}
/-- the books, tight -/
theorem m_tight {M' : Mem} {T : State} {locs : List Loc} {k n : Nat} (X : m_in G C own cc nL ret nm F L n0 s0) (hM : m_ok G M' T.heap) (Y : Stand C.1 C.2.1 C.2.2.1 C.2.2.2.1 (m_s C) (m_mi C) (m_ar C) (m_be C) (m_me C) (m_co C) T locs k n) :
    Stand C.1 C.2.1 C.2.2.1 C.2.2.2.1 (m_s C) (m_mi C) (m_ar C) (m_be C) (m_me C) (m_co C) T locs (m_nc M' - n0) (m_ns M' - s0) := by
  obtain ⟨-, -, -, -, -, -, -, -, -, -, e1, e2⟩ := X
  obtain ⟨-, -, -, -, -, -, z1, z2, -, -⟩ := hM
  obtain ⟨a1, a2, a3, a4, a5, a6⟩ := Y.same
  have a2 : (m_s C).heap.size ≤ T.heap.size := a2
  have a6 : ∀ (q : Nat) (c : Cell), (m_s C).heap[q]? = some c → ∃ c' : Cell, T.heap[q]? = some c' ∧ c'.slots.size = c.slots.size := fun q c hq => by
    obtain ⟨c', b1, -, b2, -⟩ := a6 q c hq
    exact ⟨c', b1, b2⟩
  have e3 := m_sum_split (n := G.2 0) (by omega) a2 a6
  refine { Y with same := ⟨a1, a2, ?_, a4, ?_, Y.same.2.2.2.2.2⟩ }
  · show T.heap.size ≤ _
    omega
  · show m_sum T.heap (m_s C).heap.size ≤ _
    omega
theorem m_keep {M : Mem} {H : Heap} {locs : List Loc} (X : m_in G C own cc nL ret nm F L n0 s0) (hM : m_ok G M H) (hS : va_S (m_A G) (m_s C).heap H locs) : n0 ≤ m_nc M ∧ m_nc M ≤ m_CM ∧ m_ns M ≤ m_SM := by
  obtain ⟨-, -, -, -, -, -, -, -, -, -, e1, e2⟩ := X
  obtain ⟨-, -, -, -, -, -, z1, z2, z3, z4⟩ := hM
  have := hS.1
  exact ⟨by omega, z3, z4⟩
theorem m_gSat {U : State} {H : Heap} {locs : List Loc} (X : m_in G C own cc nL ret nm F L n0 s0) (hS : va_S (m_A G) (m_s C).heap H locs) (hH : U.heap = H) (hW : (m_s C).WarmedH U.vm) : m_gS G U U.heap :=
  m_gS.warm hW X.2.2.2.2.2.2.2.2.1 (fun a h1 h2 => by rw [hH]; exact hS.2.1 a h1 h2)
/-- a row that leaves the memory alone -/
theorem pw_go {pc2 : Nat} {st2 : List m_V} (h : ∀ (H : Heap) (locs : List Loc) (ls : Array Slot) (cells slots : Nat), lv_has ls nL (m_lv lo) → (∀ ls2 : Array Slot, lv_has ls2 nL (m_lv lo2) → m_Wg C H locs cells slots Q (F0 (m_mi C) pc2 ls2 (st2.map m_v))) → m_Wg C H locs cells slots Q (F0 (m_mi C) pc ls (st.map m_v)))
    (k : pW G C nL n0 s0 M0 Q M pc2 lo2 st2) : pW G C nL n0 s0 M0 Q M pc lo st :=
  fun hle H locs ls hM hS hl => h H locs ls _ _ hl (fun ls2 hl2 => k hle H locs ls2 hM hS hl2)
theorem pw_go2 {pc2 pc3 : Nat} {st2 st3 : List m_V} {A B : Prop} (h : ∀ (H : Heap) (locs : List Loc) (ls : Array Slot) (cells slots : Nat), (A → m_Wg C H locs cells slots Q (F0 (m_mi C) pc2 ls (st2.map m_v))) → (B → m_Wg C H locs cells slots Q (F0 (m_mi C) pc3 ls (st3.map m_v))) → m_Wg C H locs cells slots Q (F0 (m_mi C) pc ls (st.map m_v)))
    (k : A → pW G C nL n0 s0 M0 Q M pc2 lo st2) (k' : B → pW G C nL n0 s0 M0 Q M pc3 lo st3) : pW G C nL n0 s0 M0 Q M pc lo st :=
  fun hle H locs ls hM hS hl => h H locs ls _ _ (fun a => k a hle H locs ls hM hS hl) (fun b => k' b hle H locs ls hM hS hl)
/-- the same locals, otherwise listed -/
theorem pw_lo (ks : List Nat) (h : ks.filterMap (fun k => lo[k]?) = lo2) (k : pW G C nL n0 s0 M0 Q M pc lo2 st) : pW G C nL n0 s0 M0 Q M pc lo st :=
  fun hle H locs ls hM hS hl => k hle H locs ls hM hS (m_lo_has ks h hl)
theorem pw_iconst (X : m_in G C own cc nL ret nm F L n0 s0) {n : Int} (v : Int32) (hdg : decode cc pc = .ok (.iconst n, 1)) (hv : Int32.ofInt n = v) (k : pW G C nL n0 s0 M0 Q M (pc + 1) lo (vI v :: st)) : pW G C nL n0 s0 M0 Q M pc lo (st) :=
  pw_go (fun H locs ls cells slots hl kk => lv_iconst X.1 X.2.1 hdg hv (kk ls hl)) k
theorem pw_bipush (X : m_in G C own cc nL ret nm F L n0 s0) {n : Int} (v : Int32) (hdg : decode cc pc = .ok (.bipush n, 2)) (hv : (Int8.ofInt n).toInt32 = v) (k : pW G C nL n0 s0 M0 Q M (pc + 2) lo (vI v :: st)) : pW G C nL n0 s0 M0 Q M pc lo (st) :=
  pw_go (fun H locs ls cells slots hl kk => lv_bipush X.1 X.2.1 hdg hv (kk ls hl)) k
theorem pw_sipush (X : m_in G C own cc nL ret nm F L n0 s0) {n : Int} (v : Int32) (hdg : decode cc pc = .ok (.sipush n, 3)) (hv : (Int16.ofInt n).toInt32 = v) (k : pW G C nL n0 s0 M0 Q M (pc + 3) lo (vI v :: st)) : pW G C nL n0 s0 M0 Q M pc lo (st) :=
  pw_go (fun H locs ls cells slots hl kk => lv_sipush X.1 X.2.1 hdg hv (kk ls hl)) k
theorem pw_null (X : m_in G C own cc nL ret nm F L n0 s0)  (hdg : decode cc pc = .ok (.aconst_null, 1)) (k : pW G C nL n0 s0 M0 Q M (pc + 1) lo (vR none :: st)) : pW G C nL n0 s0 M0 Q M pc lo (st) :=
  pw_go (fun H locs ls cells slots hl kk => lv_null X.1 X.2.1 hdg (kk ls hl)) k
theorem pw_iload_n (X : m_in G C own cc nL ret nm F L n0 s0) {k : Fin 4} {i : Nat} {x : Int32} (hdg : decode cc pc = .ok (.iload_n k, 1)) (hi : (k : Nat) = i) (hv : m_lk lo i = some (vI x)) (k : pW G C nL n0 s0 M0 Q M (pc + 1) lo (vI x :: st)) : pW G C nL n0 s0 M0 Q M pc lo (st) :=
  pw_go (fun H locs ls cells slots hl kk => lv_iload_n X.1 X.2.1 hdg hi (m_lk_at hl hv) (kk ls hl)) k
theorem pw_iload (X : m_in G C own cc nL ret nm F L n0 s0) {i : Nat} {x : Int32} (hdg : decode cc pc = .ok (.iload i, 2)) (hv : m_lk lo i = some (vI x)) (k : pW G C nL n0 s0 M0 Q M (pc + 2) lo (vI x :: st)) : pW G C nL n0 s0 M0 Q M pc lo (st) :=
  pw_go (fun H locs ls cells slots hl kk => lv_iload X.1 X.2.1 hdg (m_lk_at hl hv) (kk ls hl)) k
theorem pw_aload_n (X : m_in G C own cc nL ret nm F L n0 s0) {k : Fin 4} {i : Nat} {r : Option Nat} (hdg : decode cc pc = .ok (.aload_n k, 1)) (hi : (k : Nat) = i) (hv : m_lk lo i = some (vR r)) (kk : pW G C nL n0 s0 M0 Q M (pc + 1) lo (vR r :: st)) : pW G C nL n0 s0 M0 Q M pc lo st := by
  cases r with
  | none => exact pw_go (fun H locs ls cells slots hl q => lv_aload_nN X.1 X.2.1 hdg hi (m_lk_at hl hv) (q ls hl)) kk
  | some a => exact pw_go (fun H locs ls cells slots hl q => lv_aload_n X.1 X.2.1 hdg hi (m_lk_at hl hv) (q ls hl)) kk
theorem pw_aload (X : m_in G C own cc nL ret nm F L n0 s0) {i : Nat} {r : Option Nat} (hdg : decode cc pc = .ok (.aload i, 2)) (hv : m_lk lo i = some (vR r)) (kk : pW G C nL n0 s0 M0 Q M (pc + 2) lo (vR r :: st)) : pW G C nL n0 s0 M0 Q M pc lo st := by
  cases r with
  | none => exact pw_go (fun H locs ls cells slots hl q => lv_aloadN X.1 X.2.1 hdg (m_lk_at hl hv) (q ls hl)) kk
  | some a => exact pw_go (fun H locs ls cells slots hl q => lv_aload X.1 X.2.1 hdg (m_lk_at hl hv) (q ls hl)) kk
theorem pw_istore_n (X : m_in G C own cc nL ret nm F L n0 s0) {k : Fin 4} {i : Nat} {x : Int32} (lo2 : m_L) (ks : List Nat) (hdg : decode cc pc = .ok (.istore_n k, 1)) (hi : (k : Nat) = i) (hn : i < nL) (hl2 : m_st lo i (vI x) ks = lo2) (kk : pW G C nL n0 s0 M0 Q M (pc + 1) lo2 st) : pW G C nL n0 s0 M0 Q M pc lo (vI x :: st) :=
  pw_go (fun H locs ls cells slots hl q => lv_istore_n X.1 X.2.1 hdg hi hl hn rfl (fun ls2 h => q ls2 (m_st_has hl2 h))) kk
theorem pw_istore (X : m_in G C own cc nL ret nm F L n0 s0) {i : Nat} {x : Int32} (lo2 : m_L) (ks : List Nat) (hdg : decode cc pc = .ok (.istore i, 2)) (hn : i < nL) (hl2 : m_st lo i (vI x) ks = lo2) (kk : pW G C nL n0 s0 M0 Q M (pc + 2) lo2 st) : pW G C nL n0 s0 M0 Q M pc lo (vI x :: st) :=
  pw_go (fun H locs ls cells slots hl q => lv_istore X.1 X.2.1 hdg hl hn rfl (fun ls2 h => q ls2 (m_st_has hl2 h))) kk
theorem pw_astore_n (X : m_in G C own cc nL ret nm F L n0 s0) {k : Fin 4} {i : Nat} {r : Option Nat} (lo2 : m_L) (ks : List Nat) (hdg : decode cc pc = .ok (.astore_n k, 1)) (hi : (k : Nat) = i) (hn : i < nL) (hl2 : m_st lo i (vR r) ks = lo2) (kk : pW G C nL n0 s0 M0 Q M (pc + 1) lo2 st) : pW G C nL n0 s0 M0 Q M pc lo (vR r :: st) := by
  cases r with
  | none => exact pw_go (fun H locs ls cells slots hl q => lv_astore_nN X.1 X.2.1 hdg hi hl hn rfl (fun ls2 h => q ls2 (m_st_has hl2 h))) kk
  | some a => exact pw_go (fun H locs ls cells slots hl q => lv_astore_n X.1 X.2.1 hdg hi hl hn rfl (fun ls2 h => q ls2 (m_st_has hl2 h))) kk
theorem pw_astore (X : m_in G C own cc nL ret nm F L n0 s0) {i : Nat} {r : Option Nat} (lo2 : m_L) (ks : List Nat) (hdg : decode cc pc = .ok (.astore i, 2)) (hn : i < nL) (hl2 : m_st lo i (vR r) ks = lo2) (kk : pW G C nL n0 s0 M0 Q M (pc + 2) lo2 st) : pW G C nL n0 s0 M0 Q M pc lo (vR r :: st) := by
  cases r with
  | none => exact pw_go (fun H locs ls cells slots hl q => lv_astoreN X.1 X.2.1 hdg hl hn rfl (fun ls2 h => q ls2 (m_st_has hl2 h))) kk
  | some a => exact pw_go (fun H locs ls cells slots hl q => lv_astore X.1 X.2.1 hdg hl hn rfl (fun ls2 h => q ls2 (m_st_has hl2 h))) kk
theorem m_lk_lv {i : Nat} {v : m_V} (h : m_lk lo i = some v) : ∃ k : Nat, (m_lv lo)[k]? = some (i, m_v v) := by
  unfold m_lk at h
  cases hf : lo.find? (fun q => q.1 == i) with
  | none => rw [hf] at h; cases h
  | some q =>
    rw [hf] at h
    cases h
    have h2 : q.1 = i := by simpa using List.find?_some hf
    obtain ⟨k, hk⟩ := List.getElem?_of_mem (List.mem_of_find?_eq_some hf)
    exact ⟨k, by rw [← h2]; unfold m_lv; rw [List.getElem?_map, hk]; rfl⟩
theorem pw_iinc (X : m_in G C own cc nL ret nm F L n0 s0) {i : Nat} {n : Int} {x : Int32} (v : Int32) (lo2 : m_L) (ks : List Nat) (hdg : decode cc pc = .ok (.iinc i n, 3)) (hv : m_lk lo i = some (vI x)) (he : x + Int32.ofInt n = v) (hn : i < nL) (hl2 : m_st lo i (vI v) ks = lo2) (kk : pW G C nL n0 s0 M0 Q M (pc + 3) lo2 st) : pW G C nL n0 s0 M0 Q M pc lo st := by
  obtain ⟨k, hk⟩ := m_lk_lv hv
  exact pw_go (fun H locs ls cells slots hl q => lv_iinc X.1 X.2.1 hdg hl hk he hn rfl (fun ls2 h => q ls2 (m_st_has (v := vI v) hl2 h))) kk
theorem pw_iadd (X : m_in G C own cc nL ret nm F L n0 s0) {x y : Int32} (hdg : decode cc pc = .ok (.iadd, 1)) (k : pW G C nL n0 s0 M0 Q M (pc + 1) lo (vI (x + y) :: st)) : pW G C nL n0 s0 M0 Q M pc lo (vI y :: vI x :: st) :=
  pw_go (fun H locs ls cells slots hl kk => lv_iadd X.1 X.2.1 hdg (kk ls hl)) k
theorem pw_isub (X : m_in G C own cc nL ret nm F L n0 s0) {x y : Int32} (hdg : decode cc pc = .ok (.isub, 1)) (k : pW G C nL n0 s0 M0 Q M (pc + 1) lo (vI (x - y) :: st)) : pW G C nL n0 s0 M0 Q M pc lo (vI y :: vI x :: st) :=
  pw_go (fun H locs ls cells slots hl kk => lv_isub X.1 X.2.1 hdg (kk ls hl)) k
theorem pw_imul (X : m_in G C own cc nL ret nm F L n0 s0) {x y : Int32} (hdg : decode cc pc = .ok (.imul, 1)) (k : pW G C nL n0 s0 M0 Q M (pc + 1) lo (vI (x * y) :: st)) : pW G C nL n0 s0 M0 Q M pc lo (vI y :: vI x :: st) :=
  pw_go (fun H locs ls cells slots hl kk => lv_imul X.1 X.2.1 hdg (kk ls hl)) k
theorem pw_iand (X : m_in G C own cc nL ret nm F L n0 s0) {x y : Int32} (hdg : decode cc pc = .ok (.iand, 1)) (k : pW G C nL n0 s0 M0 Q M (pc + 1) lo (vI (x &&& y) :: st)) : pW G C nL n0 s0 M0 Q M pc lo (vI y :: vI x :: st) :=
  pw_go (fun H locs ls cells slots hl kk => lv_iand X.1 X.2.1 hdg (kk ls hl)) k
theorem pw_ior (X : m_in G C own cc nL ret nm F L n0 s0) {x y : Int32} (hdg : decode cc pc = .ok (.ior, 1)) (k : pW G C nL n0 s0 M0 Q M (pc + 1) lo (vI (x ||| y) :: st)) : pW G C nL n0 s0 M0 Q M pc lo (vI y :: vI x :: st) :=
  pw_go (fun H locs ls cells slots hl kk => lv_ior X.1 X.2.1 hdg (kk ls hl)) k
theorem pw_ixor (X : m_in G C own cc nL ret nm F L n0 s0) {x y : Int32} (hdg : decode cc pc = .ok (.ixor, 1)) (k : pW G C nL n0 s0 M0 Q M (pc + 1) lo (vI (x ^^^ y) :: st)) : pW G C nL n0 s0 M0 Q M pc lo (vI y :: vI x :: st) :=
  pw_go (fun H locs ls cells slots hl kk => lv_ixor X.1 X.2.1 hdg (kk ls hl)) k
theorem pw_ishl (X : m_in G C own cc nL ret nm F L n0 s0) {x y : Int32} (hdg : decode cc pc = .ok (.ishl, 1)) (k : pW G C nL n0 s0 M0 Q M (pc + 1) lo (vI (x <<< (y &&& 31)) :: st)) : pW G C nL n0 s0 M0 Q M pc lo (vI y :: vI x :: st) :=
  pw_go (fun H locs ls cells slots hl kk => lv_ishl X.1 X.2.1 hdg (kk ls hl)) k
theorem pw_ishr (X : m_in G C own cc nL ret nm F L n0 s0) {x y : Int32} (hdg : decode cc pc = .ok (.ishr, 1)) (k : pW G C nL n0 s0 M0 Q M (pc + 1) lo (vI (x >>> (y &&& 31)) :: st)) : pW G C nL n0 s0 M0 Q M pc lo (vI y :: vI x :: st) :=
  pw_go (fun H locs ls cells slots hl kk => lv_ishr X.1 X.2.1 hdg (kk ls hl)) k
theorem pw_iushr (X : m_in G C own cc nL ret nm F L n0 s0) {x y : Int32} (hdg : decode cc pc = .ok (.iushr, 1)) (k : pW G C nL n0 s0 M0 Q M (pc + 1) lo (vI ((x.toUInt32 >>> (y.toUInt32 &&& Int32.toUInt32 31)).toInt32) :: st)) : pW G C nL n0 s0 M0 Q M pc lo (vI y :: vI x :: st) :=
  pw_go (fun H locs ls cells slots hl kk => lv_iushr X.1 X.2.1 hdg rfl (kk ls hl)) k
theorem pw_idiv (X : m_in G C own cc nL ret nm F L n0 s0) {x y : Int32} (hdg : decode cc pc = .ok (.idiv, 1)) (hne : ¬ y = 0) (k : pW G C nL n0 s0 M0 Q M (pc + 1) lo (vI (x / y) :: st)) : pW G C nL n0 s0 M0 Q M pc lo (vI y :: vI x :: st) :=
  pw_go (fun H locs ls cells slots hl kk => lv_idiv X.1 X.2.1 hdg hne (kk ls hl)) k
theorem pw_irem (X : m_in G C own cc nL ret nm F L n0 s0) {x y : Int32} (hdg : decode cc pc = .ok (.irem, 1)) (hne : ¬ y = 0) (k : pW G C nL n0 s0 M0 Q M (pc + 1) lo (vI (x - x / y * y) :: st)) : pW G C nL n0 s0 M0 Q M pc lo (vI y :: vI x :: st) :=
  pw_go (fun H locs ls cells slots hl kk => lv_irem X.1 X.2.1 hdg hne (kk ls hl)) k
theorem pw_ineg (X : m_in G C own cc nL ret nm F L n0 s0) {x : Int32} (hdg : decode cc pc = .ok (.ineg, 1)) (k : pW G C nL n0 s0 M0 Q M (pc + 1) lo (vI (-x) :: st)) : pW G C nL n0 s0 M0 Q M pc lo (vI x :: st) :=
  pw_go (fun H locs ls cells slots hl kk => lv_ineg X.1 X.2.1 hdg (kk ls hl)) k
theorem pw_i2b (X : m_in G C own cc nL ret nm F L n0 s0) {x : Int32} (hdg : decode cc pc = .ok (.i2b, 1)) (k : pW G C nL n0 s0 M0 Q M (pc + 1) lo (vI (x.toInt8.toInt32) :: st)) : pW G C nL n0 s0 M0 Q M pc lo (vI x :: st) :=
  pw_go (fun H locs ls cells slots hl kk => lv_i2b X.1 X.2.1 hdg rfl (kk ls hl)) k
theorem pw_i2c (X : m_in G C own cc nL ret nm F L n0 s0) {x : Int32} (hdg : decode cc pc = .ok (.i2c, 1)) (k : pW G C nL n0 s0 M0 Q M (pc + 1) lo (vI ((x.toUInt32 % 65536).toInt32) :: st)) : pW G C nL n0 s0 M0 Q M pc lo (vI x :: st) :=
  pw_go (fun H locs ls cells slots hl kk => lv_i2c X.1 X.2.1 hdg rfl (kk ls hl)) k
theorem pw_dup (X : m_in G C own cc nL ret nm F L n0 s0) {va : m_V} (hdg : decode cc pc = .ok (.dup, 1)) (k : pW G C nL n0 s0 M0 Q M (pc + 1) lo (va :: va :: st)) : pW G C nL n0 s0 M0 Q M pc lo (va :: st) :=
  pw_go (fun H locs ls cells slots hl kk => lv_dup X.1 X.2.1 hdg (m_cat va) (kk ls hl)) k
theorem pw_pop (X : m_in G C own cc nL ret nm F L n0 s0) {va : m_V} (hdg : decode cc pc = .ok (.pop, 1)) (k : pW G C nL n0 s0 M0 Q M (pc + 1) lo (st)) : pW G C nL n0 s0 M0 Q M pc lo (va :: st) :=
  pw_go (fun H locs ls cells slots hl kk => lv_pop X.1 X.2.1 hdg (m_cat va) (kk ls hl)) k
theorem pw_dup_x1 (X : m_in G C own cc nL ret nm F L n0 s0) {va vb : m_V} (hdg : decode cc pc = .ok (.dup_x1, 1)) (k : pW G C nL n0 s0 M0 Q M (pc + 1) lo (va :: vb :: va :: st)) : pW G C nL n0 s0 M0 Q M pc lo (va :: vb :: st) :=
  pw_go (fun H locs ls cells slots hl kk => lv_dup_x1 X.1 X.2.1 hdg (m_cat va) (m_cat vb) (kk ls hl)) k
theorem pw_dup_x2 (X : m_in G C own cc nL ret nm F L n0 s0) {va vb vd : m_V} (hdg : decode cc pc = .ok (.dup_x2, 1)) (k : pW G C nL n0 s0 M0 Q M (pc + 1) lo (va :: vb :: vd :: va :: st)) : pW G C nL n0 s0 M0 Q M pc lo (va :: vb :: vd :: st) :=
  pw_go (fun H locs ls cells slots hl kk => lv_dup_x2 X.1 X.2.1 hdg (m_cat va) (m_cat vb) (m_cat vd) (kk ls hl)) k
theorem pw_dup2 (X : m_in G C own cc nL ret nm F L n0 s0) {va vb : m_V} (hdg : decode cc pc = .ok (.dup2, 1)) (k : pW G C nL n0 s0 M0 Q M (pc + 1) lo (va :: vb :: va :: vb :: st)) : pW G C nL n0 s0 M0 Q M pc lo (va :: vb :: st) :=
  pw_go (fun H locs ls cells slots hl kk => lv_dup2_11 X.1 X.2.1 hdg (m_cat va) (m_cat vb) (kk ls hl)) k
theorem pw_ldc (X : m_in G C own cc nL ret nm F L n0 s0) {index : Nat} (v : Int32) (hc : Cond.constant own index v ∈ lw_all) (hdg : decode cc pc = .ok (.ldc index, 2)) (k : pW G C nL n0 s0 M0 Q M (pc + 2) lo (vI v :: st)) : pW G C nL n0 s0 M0 Q M pc lo (st) :=
  pw_go (fun H locs ls cells slots hl kk => lv_ldc X.1 X.2.1 X.2.2.2.2.2.1 (X.2.2.2.2.2.2.2.1 _ hc) hdg (kk ls hl)) k
theorem pw_ldcw (X : m_in G C own cc nL ret nm F L n0 s0) {index : Nat} (v : Int32) (hc : Cond.constant own index v ∈ lw_all) (hdg : decode cc pc = .ok (.ldc_w index, 3)) (k : pW G C nL n0 s0 M0 Q M (pc + 3) lo (vI v :: st)) : pW G C nL n0 s0 M0 Q M pc lo (st) :=
  pw_go (fun H locs ls cells slots hl kk => lv_ldcw X.1 X.2.1 X.2.2.2.2.2.1 (X.2.2.2.2.2.2.2.1 _ hc) hdg (kk ls hl)) k
theorem pw_ldcf (X : m_in G C own cc nL ret nm F L n0 s0) {index : Nat} (v : UInt32) (hc : Cond.constantFloat own index v ∈ lw_all) (hdg : decode cc pc = .ok (.ldc index, 2)) (k : pW G C nL n0 s0 M0 Q M (pc + 2) lo (vF v :: st)) : pW G C nL n0 s0 M0 Q M pc lo (st) :=
  pw_go (fun H locs ls cells slots hl kk => lv_ldcf X.1 X.2.1 X.2.2.2.2.2.1 (X.2.2.2.2.2.2.2.1 _ hc) hdg (kk ls hl)) k
theorem pw_goto (X : m_in G C own cc nL ret nm F L n0 s0) {off : Int} (tgt : Nat) (hdg : decode cc pc = .ok (.goto off, 3)) (ht : (pc : Int) + off = (tgt : Int)) (k : pW G C nL n0 s0 M0 Q M tgt lo st) : pW G C nL n0 s0 M0 Q M pc lo st :=
  pw_go (fun H locs ls cells slots hl kk => lv_goto X.1 X.2.1 hdg ht (kk ls hl)) k
theorem pw_if_eq (X : m_in G C own cc nL ret nm F L n0 s0) {x : Int32} {off : Int} (tgt : Nat) (hdg : decode cc pc = .ok (.ifCond .eq off, 3)) (ht : (pc : Int) + off = (tgt : Int)) (kt : x = 0 → pW G C nL n0 s0 M0 Q M tgt lo st) (kf : ¬ x = 0 → pW G C nL n0 s0 M0 Q M (pc + 3) lo st) : pW G C nL n0 s0 M0 Q M pc lo (vI x :: st) :=
  pw_go2 (fun H locs ls cells slots a b => lv_if_eq X.1 X.2.1 hdg ht a b) kt kf
theorem pw_icmp_eq (X : m_in G C own cc nL ret nm F L n0 s0) {x y : Int32} {off : Int} (tgt : Nat) (hdg : decode cc pc = .ok (.if_icmp .eq off, 3)) (ht : (pc : Int) + off = (tgt : Int)) (kt : x = y → pW G C nL n0 s0 M0 Q M tgt lo st) (kf : ¬ x = y → pW G C nL n0 s0 M0 Q M (pc + 3) lo st) : pW G C nL n0 s0 M0 Q M pc lo (vI y :: vI x :: st) :=
  pw_go2 (fun H locs ls cells slots a b => lv_icmp_eq X.1 X.2.1 hdg ht a b) kt kf
theorem pw_if_ne (X : m_in G C own cc nL ret nm F L n0 s0) {x : Int32} {off : Int} (tgt : Nat) (hdg : decode cc pc = .ok (.ifCond .ne off, 3)) (ht : (pc : Int) + off = (tgt : Int)) (kt : ¬ x = 0 → pW G C nL n0 s0 M0 Q M tgt lo st) (kf : x = 0 → pW G C nL n0 s0 M0 Q M (pc + 3) lo st) : pW G C nL n0 s0 M0 Q M pc lo (vI x :: st) :=
  pw_go2 (fun H locs ls cells slots a b => lv_if_ne X.1 X.2.1 hdg ht a b) kt kf
theorem pw_icmp_ne (X : m_in G C own cc nL ret nm F L n0 s0) {x y : Int32} {off : Int} (tgt : Nat) (hdg : decode cc pc = .ok (.if_icmp .ne off, 3)) (ht : (pc : Int) + off = (tgt : Int)) (kt : ¬ x = y → pW G C nL n0 s0 M0 Q M tgt lo st) (kf : x = y → pW G C nL n0 s0 M0 Q M (pc + 3) lo st) : pW G C nL n0 s0 M0 Q M pc lo (vI y :: vI x :: st) :=
  pw_go2 (fun H locs ls cells slots a b => lv_icmp_ne X.1 X.2.1 hdg ht a b) kt kf
theorem pw_if_lt (X : m_in G C own cc nL ret nm F L n0 s0) {x : Int32} {off : Int} (tgt : Nat) (hdg : decode cc pc = .ok (.ifCond .lt off, 3)) (ht : (pc : Int) + off = (tgt : Int)) (kt : x < 0 → pW G C nL n0 s0 M0 Q M tgt lo st) (kf : ¬ x < 0 → pW G C nL n0 s0 M0 Q M (pc + 3) lo st) : pW G C nL n0 s0 M0 Q M pc lo (vI x :: st) :=
  pw_go2 (fun H locs ls cells slots a b => lv_if_lt X.1 X.2.1 hdg ht a b) kt kf
theorem pw_icmp_lt (X : m_in G C own cc nL ret nm F L n0 s0) {x y : Int32} {off : Int} (tgt : Nat) (hdg : decode cc pc = .ok (.if_icmp .lt off, 3)) (ht : (pc : Int) + off = (tgt : Int)) (kt : x < y → pW G C nL n0 s0 M0 Q M tgt lo st) (kf : ¬ x < y → pW G C nL n0 s0 M0 Q M (pc + 3) lo st) : pW G C nL n0 s0 M0 Q M pc lo (vI y :: vI x :: st) :=
  pw_go2 (fun H locs ls cells slots a b => lv_icmp_lt X.1 X.2.1 hdg ht a b) kt kf
theorem pw_if_ge (X : m_in G C own cc nL ret nm F L n0 s0) {x : Int32} {off : Int} (tgt : Nat) (hdg : decode cc pc = .ok (.ifCond .ge off, 3)) (ht : (pc : Int) + off = (tgt : Int)) (kt : 0 ≤ x → pW G C nL n0 s0 M0 Q M tgt lo st) (kf : ¬ 0 ≤ x → pW G C nL n0 s0 M0 Q M (pc + 3) lo st) : pW G C nL n0 s0 M0 Q M pc lo (vI x :: st) :=
  pw_go2 (fun H locs ls cells slots a b => lv_if_ge X.1 X.2.1 hdg ht a b) kt kf
theorem pw_icmp_ge (X : m_in G C own cc nL ret nm F L n0 s0) {x y : Int32} {off : Int} (tgt : Nat) (hdg : decode cc pc = .ok (.if_icmp .ge off, 3)) (ht : (pc : Int) + off = (tgt : Int)) (kt : y ≤ x → pW G C nL n0 s0 M0 Q M tgt lo st) (kf : ¬ y ≤ x → pW G C nL n0 s0 M0 Q M (pc + 3) lo st) : pW G C nL n0 s0 M0 Q M pc lo (vI y :: vI x :: st) :=
  pw_go2 (fun H locs ls cells slots a b => lv_icmp_ge X.1 X.2.1 hdg ht a b) kt kf
theorem pw_if_gt (X : m_in G C own cc nL ret nm F L n0 s0) {x : Int32} {off : Int} (tgt : Nat) (hdg : decode cc pc = .ok (.ifCond .gt off, 3)) (ht : (pc : Int) + off = (tgt : Int)) (kt : 0 < x → pW G C nL n0 s0 M0 Q M tgt lo st) (kf : ¬ 0 < x → pW G C nL n0 s0 M0 Q M (pc + 3) lo st) : pW G C nL n0 s0 M0 Q M pc lo (vI x :: st) :=
  pw_go2 (fun H locs ls cells slots a b => lv_if_gt X.1 X.2.1 hdg ht a b) kt kf
theorem pw_icmp_gt (X : m_in G C own cc nL ret nm F L n0 s0) {x y : Int32} {off : Int} (tgt : Nat) (hdg : decode cc pc = .ok (.if_icmp .gt off, 3)) (ht : (pc : Int) + off = (tgt : Int)) (kt : y < x → pW G C nL n0 s0 M0 Q M tgt lo st) (kf : ¬ y < x → pW G C nL n0 s0 M0 Q M (pc + 3) lo st) : pW G C nL n0 s0 M0 Q M pc lo (vI y :: vI x :: st) :=
  pw_go2 (fun H locs ls cells slots a b => lv_icmp_gt X.1 X.2.1 hdg ht a b) kt kf
theorem pw_if_le (X : m_in G C own cc nL ret nm F L n0 s0) {x : Int32} {off : Int} (tgt : Nat) (hdg : decode cc pc = .ok (.ifCond .le off, 3)) (ht : (pc : Int) + off = (tgt : Int)) (kt : x ≤ 0 → pW G C nL n0 s0 M0 Q M tgt lo st) (kf : ¬ x ≤ 0 → pW G C nL n0 s0 M0 Q M (pc + 3) lo st) : pW G C nL n0 s0 M0 Q M pc lo (vI x :: st) :=
  pw_go2 (fun H locs ls cells slots a b => lv_if_le X.1 X.2.1 hdg ht a b) kt kf
theorem pw_icmp_le (X : m_in G C own cc nL ret nm F L n0 s0) {x y : Int32} {off : Int} (tgt : Nat) (hdg : decode cc pc = .ok (.if_icmp .le off, 3)) (ht : (pc : Int) + off = (tgt : Int)) (kt : x ≤ y → pW G C nL n0 s0 M0 Q M tgt lo st) (kf : ¬ x ≤ y → pW G C nL n0 s0 M0 Q M (pc + 3) lo st) : pW G C nL n0 s0 M0 Q M pc lo (vI y :: vI x :: st) :=
  pw_go2 (fun H locs ls cells slots a b => lv_icmp_le X.1 X.2.1 hdg ht a b) kt kf
theorem pw_acmp_eq (X : m_in G C own cc nL ret nm F L n0 s0) {rx ry : Option Nat} {off : Int} (tgt : Nat) (hdg : decode cc pc = .ok (.if_acmp .eq off, 3)) (ht : (pc : Int) + off = (tgt : Int)) (kt : rx = ry → pW G C nL n0 s0 M0 Q M tgt lo st) (kf : ¬ rx = ry → pW G C nL n0 s0 M0 Q M (pc + 3) lo st) : pW G C nL n0 s0 M0 Q M pc lo (vR ry :: vR rx :: st) :=
  pw_go2 (fun H locs ls cells slots a b => lv_acmp_eq X.1 X.2.1 hdg ht a b) kt kf
theorem pw_acmp_ne (X : m_in G C own cc nL ret nm F L n0 s0) {rx ry : Option Nat} {off : Int} (tgt : Nat) (hdg : decode cc pc = .ok (.if_acmp .ne off, 3)) (ht : (pc : Int) + off = (tgt : Int)) (kt : ¬ rx = ry → pW G C nL n0 s0 M0 Q M tgt lo st) (kf : rx = ry → pW G C nL n0 s0 M0 Q M (pc + 3) lo st) : pW G C nL n0 s0 M0 Q M pc lo (vR ry :: vR rx :: st) :=
  pw_go2 (fun H locs ls cells slots a b => lv_acmp_ne X.1 X.2.1 hdg ht a b) kt kf
theorem pw_ifnull (X : m_in G C own cc nL ret nm F L n0 s0) {r : Option Nat} {off : Int} (tgt : Nat) (hdg : decode cc pc = .ok (.ifnull off, 3)) (ht : (pc : Int) + off = (tgt : Int)) (kt : r = none → pW G C nL n0 s0 M0 Q M tgt lo st) (kf : ∀ a : Nat, r = some a → pW G C nL n0 s0 M0 Q M (pc + 3) lo st) : pW G C nL n0 s0 M0 Q M pc lo (vR r :: st) := by
  cases r with
  | none => exact pw_go (fun H locs ls cells slots hl kk => lv_ifnullN X.1 X.2.1 hdg ht (kk ls hl)) (kt rfl)
  | some a => exact pw_go (fun H locs ls cells slots hl kk => lv_ifnull X.1 X.2.1 hdg (kk ls hl)) (kf a rfl)
theorem pw_ifnonnull (X : m_in G C own cc nL ret nm F L n0 s0) {r : Option Nat} {off : Int} (tgt : Nat) (hdg : decode cc pc = .ok (.ifnonnull off, 3)) (ht : (pc : Int) + off = (tgt : Int)) (kt : ∀ a : Nat, r = some a → pW G C nL n0 s0 M0 Q M tgt lo st) (kf : r = none → pW G C nL n0 s0 M0 Q M (pc + 3) lo st) : pW G C nL n0 s0 M0 Q M pc lo (vR r :: st) := by
  cases r with
  | none => exact pw_go (fun H locs ls cells slots hl kk => lv_ifnonnullN X.1 X.2.1 hdg (kk ls hl)) (kf rfl)
  | some a => exact pw_go (fun H locs ls cells slots hl kk => lv_ifnonnull X.1 X.2.1 hdg ht (kk ls hl)) (kt a rfl)
theorem pw_tableOut (X : m_in G C own cc nL ret nm F L n0 s0) {dflt lw hi : Int} {offs : Array Int} {len : Nat} {x : Int32} (tgt : Nat) (hdg : decode cc pc = .ok (.tableswitch dflt lw hi offs, len)) (h : x.toInt < lw ∨ hi < x.toInt) (ht : (pc : Int) + dflt = (tgt : Int)) (k : pW G C nL n0 s0 M0 Q M tgt lo st) : pW G C nL n0 s0 M0 Q M pc lo (vI x :: st) :=
  pw_go (fun H locs ls cells slots hl kk => lv_tableOut X.1 X.2.1 hdg h ht (kk ls hl)) k
theorem pw_tableIn (X : m_in G C own cc nL ret nm F L n0 s0) {dflt lw hi : Int} {offs : Array Int} {len : Nat} {x : Int32} (z : Int32) {off : Int} (tgt : Nat) (hdg : decode cc pc = .ok (.tableswitch dflt lw hi offs, len)) (hz : x = z) (h1 : ¬ z.toInt < lw) (h2 : ¬ hi < z.toInt) (ho : offs[(z.toInt - lw).toNat]? = some off) (ht : (pc : Int) + off = (tgt : Int)) (k : pW G C nL n0 s0 M0 Q M tgt lo st) : pW G C nL n0 s0 M0 Q M pc lo (vI x :: st) := by
  subst hz
  exact pw_go (fun H locs ls cells slots hl kk => lv_tableIn X.1 X.2.1 hdg h1 h2 ho ht (kk ls hl)) k
end
