/-! THE WORLD: what a memory says of the heap; what the tables and the statics say all through the run -/
set_option maxRecDepth 100000
/-- classes by numbers and slots; constants: 0: the run's first address; 1 DEFAULTCAPACITY_EMPTY_ELEMENTDATA; 2 PRESENT; 3 UNASSIGNED_STACK, 4 SUPPRESSED_SENTINEL, 7 SIOOBE_FORMATTER (0: null); 6 the Integer cache; 10.. array classes; 20.. constant lambdas; 40.. lambda classes; 100.. the cache's boxes -/
abbrev Gp : Type := va_G × (Nat → Nat)
abbrev Ce : Type := String × u_T × (Nat → FieldType) × Nat
def m_cls : List Ce := [(RX0, TX0, tyX0, 4), (RX1, TX1, tyX1, 8), (RX2, TX2, tyX2, 4), (RX3, TX3, tyX3, 2), (RX4, TX4, tyX4, 15), (RX5, TX5, tyX5, 5), (RX6, TX6, tyX6, 15), (RX7, TX7, tyX7, 5), (RX8, TX8, tyX8, 13), (RX9, TX9, tyX9, 7), (RX10, TX10, tyX10, 1), (RX11, TX11, tyX11, 2), (RX12, TX12, tyX12, 7), (RJ2, TJ2, tyJ2, 3), (RJ4, TJ4, tyJ4, 4), (RJ8, TJ8, tyJ8, 8), (RJ9, TJ9, tyJ9, 12), (RJ18, TJ18, tyJ18, 4), (RJ19, TJ19, tyJ19, 6), (RJ26, TJ26, tyJ26, 1)]
abbrev vwCl : List vw_C := m_cls.map (fun q => (q.1, q.2.1, q.2.2.2))
def m_ro (n : Nat) : Option Nat := if n = 0 then none else some (n - 1)
/-- a field's value -/
def m_fv (t : FieldType) (x : Int32) (r : Option Nat) : Value := match t with
  | .object _ => va_rf r
  | .array _ => va_rf r
  | .float => .float x.toUInt32
  | .long => .long 0
  | .double => .double 0
  | _ => .int x
theorem m_fv0 (t : FieldType) : defaultValue t = m_fv t 0 none := by cases t <;> rfl
def m_aty : List FieldType := [.int, .byte, .object "java/lang/Object", .object "java/util/HashMap$Node", .array .int]
/-- a place's value in an array of kind k -/
def m_av (k : Nat) (x : Int32) (r : Option Nat) : Value := if k < 2 then .int x else va_rf r
abbrev m_tys (G : Gp) : List (ClassId × FieldType) := [(G.2 10, .int), (G.2 11, .byte), (G.2 12, .object "java/lang/Object"), (G.2 13, .object "java/util/HashMap$Node"), (G.2 14, .array .int)]
/-- which cells may change -/
def m_A (G : Gp) : Nat → Prop := fun q => G.2 0 ≤ q
/-- what a lambda has caught, by its site -/
def m_ls (j : Nat) (f : Nat → Int32) (r : Nat → Option Nat) : Array Value := match j with
  | 0 => #[]
  | 1 => #[]
  | 2 => #[.int (f 0)]
  | 3 => #[va_rf (r 0), .int (f 1)]
  | 4 => #[.int (f 0)]
  | 5 => #[.int (f 0)]
  | 6 => #[.int (f 0)]
  | 7 => #[va_rf (r 0)]
  | _ => #[]
def m_sum (H : Heap) (n : Nat) : Nat := ((H.toList.drop n).map (·.slots.size)).sum
/-- the heap holds the memory -/
def m_ok (G : Gp) (M : Mem) (H : Heap) : Prop :=
  (∀ (a ci : Nat) (q : Ce), m_tg M a = ci + 1 → m_cls[ci]? = some q → t_OB a (G.1.1 ci) q.2.2.2 (G.1.2 ci) H (fun k => m_fv (q.2.2.1 k) (m_gi M a k) (m_gr M a k))) ∧
  (∀ a k : Nat, m_tg M a = k + 101 → k < 5 → H[a]? = some (arrV (G.2 (10 + k)) (m_ln M a) (fun j => m_av k (m_gi M a j) (m_gr M a j)))) ∧
  ((∀ a : Nat, m_tg M a = 150 → ∃ k : Nat, k < 256 ∧ a = G.2 (100 + k)) ∧ (∀ k : Nat, k < 256 → m_tg M (G.2 (100 + k)) = 150) ∧ m_tg M (G.2 1) = 160 ∧ (∀ j : Nat, (j = 0 ∨ j = 1 ∨ j = 8) → m_tg M (G.2 (20 + j)) = j + 201)) ∧
  (∀ a : Nat, m_tg M a = 160 → a = G.2 1 ∧ m_ln M a = 0) ∧
  (∀ a j : Nat, m_tg M a = j + 201 → j < 9 → ∃ cell : Cell, H[a]? = some cell ∧ cell.cls = G.2 (40 + j) ∧ cell.vm = .none ∧ cell.slots = m_ls j (m_gi M a) (m_gr M a)) ∧
  (∀ a : Nat, m_tg M a ≠ 0 → a < H.size ∧ (m_tg M a < 150 → G.2 0 ≤ a) ∧ (m_tg M a = 10 ∨ m_tg M a = 13 → ∀ c : Cell, H[a]? = some c → c.monitor.owner = none ∧ c.monitor.count = 0)) ∧
  H.size = G.2 0 + m_nc M ∧ m_sum H (G.2 0) = m_ns M ∧ m_nc M ≤ m_CM ∧ m_ns M ≤ m_SM
/-- the tables' words that ride in no list of words -/
def m_nw (w : Cond) : Bool := match w with
  | .fieldLinkNest .. => true
  | .methodLinkNest .. => true
  | .castable .. => true
  | .arrayOver _ => true
  | .declares .. => true
  | .interfaceMethod r o _ _ => r == o && r != "java/lang/invoke/MethodHandle" && r != "java/lang/invoke/VarHandle"
  | _ => false
def m_nst : List Cond := lw_tbl.filter m_nw
theorem m_nst_in {w : Cond} (h : w ∈ lw_tbl) (hn : m_nw w = true) : w ∈ m_nst := List.mem_filter.mpr ⟨h, hn⟩
theorem m_ao_moved {ty : FieldType} {s U : State} (hvm : s.vm.Alike U.vm) (h : va_Nw (.arrayOver ty) s) : va_Nw (.arrayOver ty) U := by
  have h1 : (Cond.arrayOver ty).before #[] (s.setVm U.vm) = true := by
    rw [Cond.arrayOver_setVmC hvm]
    exact h
  exact h1
theorem m_if_moved {r o n d : String} (hc : (r == o && r != "java/lang/invoke/MethodHandle" && r != "java/lang/invoke/VarHandle") = true) {s U : State} (hvm : s.vm.Alike U.vm) (h : va_Nw (.interfaceMethod r o n d) s) : va_Nw (.interfaceMethod r o n d) U := by
  have h1 : (Cond.interfaceMethod r o n d).before #[] (s.setVm U.vm) = true := Cond.faceAtom_setVm hvm _ hc h
  exact h1
theorem m_nw_warm {w : Cond} (hw : m_nw w = true) {s U : State} (hW : s.WarmedH U.vm) (h : va_Nw w s) : va_Nw w U := by
  unfold m_nw at hw
  split at hw
  · exact va_Nw.warmF hW h
  · exact va_Nw.warmM hW h
  · exact va_Nw.warmC hW h
  · exact m_ao_moved hW.alike h
  · exact va_Nw.warmD hW h
  · exact m_if_moved hw hW.alike h
  · cases hw
/-- a lambda's site, linked -/
def m_lb (U : State) (x : MethodName) (pc index : Nat) (σ : Lambda.Shape) (c : ClassId) (a : Addr) : Prop :=
  ∃ (m : MethodId) (k : Class) (cf : ClassFile) (i0 p0 : Nat) (l : Linked), U.methodNamed? x = some m ∧ U.vm.classes[m.cls]? = some k ∧ k.cf = some cf ∧ Lambda.shapeOf? cf index = some σ ∧ (m.idx, pc, index, σ) ∈ Lambda.sitesOf k ∧
      (k.callSites.find? fun y => y.1 == m.idx && y.2.1 == pc) = some (i0, p0, l) ∧ Lambda.isMade { classPath := fun _ => none } U.vm m.cls σ c = true ∧ U.lambdaCallable σ c = true ∧
      ((l = .constant a ∧ σ.captured = []) ∨ (l = .makes c ∧ σ.captured ≠ []))
theorem m_lb.warm {s t : State} (hW : s.WarmedH t.vm) {x : MethodName} {pc index : Nat} {σ : Lambda.Shape} {c : ClassId} {a : Addr} (h : m_lb s x pc index σ c a) : m_lb t x pc index σ c a := by
  obtain ⟨m, kc, cf, i0, p0, l, hm, hk, hcf, hsh, hin, hfind, hmade, hcall, hl⟩ := h
  have hcall' : t.lambdaCallable σ c = true := by
    have hA := hW.alike
    simp only [State.lambdaCallable, hA.findClass, hA.assignable, hA.superclasses, hA.declaredIn] at hcall ⊢
    exact hcall
  obtain ⟨kc', hk', he⟩ := hW.alike.2.2 _ _ hk
  have hm' : t.methodNamed? x = some m := by
    have := State.methodNamed?_setVm (s := s) hW.alike x
    rw [hm] at this
    exact this
  exact ⟨m, kc', cf, i0, p0, l, hm', hk', by rw [he]; exact hcf, hsh, by rw [he]; exact hin, by rw [he]; exact hfind, Lambda.isMade_warmer hW hmade, hcall', hl⟩
def m_site (w : Cond) : List (MethodName × Nat × Nat × Lambda.Shape) := match w with
  | .lambdaSite x pc i σ => [(x, pc, i, σ)]
  | _ => []
def m_lbs : List (MethodName × Nat × Nat × Lambda.Shape) := [siteWord_1_1, siteWord_1_2, siteWord_1_3, siteWord_1_4, siteWord_1_5, siteWord_1_6, siteWord_1_7, siteWord_1_8, siteWord_1_9].flatMap m_site
/-- statics that nobody writes -/
def m_stz (G : Gp) : List (String × String × String × Value) := [("java/util/ArrayList", "DEFAULTCAPACITY_EMPTY_ELEMENTDATA", "[Ljava/lang/Object;", .ref (G.2 1)), ("java/util/HashSet", "PRESENT", "Ljava/lang/Object;", .ref (G.2 2)), ("java/lang/Throwable", "UNASSIGNED_STACK", "[Ljava/lang/StackTraceElement;", va_rf (m_ro (G.2 3))), ("java/lang/Throwable", "SUPPRESSED_SENTINEL", "Ljava/util/List;", va_rf (m_ro (G.2 4))), ("jdk/internal/util/Preconditions", "SIOOBE_FORMATTER", "Ljava/util/function/BiFunction;", va_rf (m_ro (G.2 7))), ("java/lang/Integer$IntegerCache", "cache", "[Ljava/lang/Integer;", .ref (G.2 6)), ("java/lang/Integer$IntegerCache", "high", "I", .int 127), ("java/lang/String", "COMPACT_STRINGS", "Z", .int 1), ("java/lang/StringUTF16", "HI_BYTE_SHIFT", "I", .int 0), ("java/lang/StringUTF16", "LO_BYTE_SHIFT", "I", .int 8), ("java/lang/StringUTF16", "$assertionsDisabled", "Z", .int 1)]
/-- calls through an interface: receiver's class, the interface's method, the method that runs -/
def m_fws : List (String × MethodName × MethodName) := [
  (RJ2, ⟨"java/util/List", "add", "(ILjava/lang/Object;)V"⟩, ⟨RJ2, "add", "(ILjava/lang/Object;)V"⟩),
  (RJ2, ⟨"java/util/List", "add", "(Ljava/lang/Object;)Z"⟩, ⟨RJ2, "add", "(Ljava/lang/Object;)Z"⟩),
  (RJ2, ⟨"java/util/List", "get", "(I)Ljava/lang/Object;"⟩, ⟨RJ2, "get", "(I)Ljava/lang/Object;"⟩),
  (RJ2, ⟨"java/util/List", "isEmpty", "()Z"⟩, ⟨RJ2, "isEmpty", "()Z"⟩),
  (RJ2, ⟨"java/util/List", "remove", "(I)Ljava/lang/Object;"⟩, ⟨RJ2, "remove", "(I)Ljava/lang/Object;"⟩),
  (RJ2, ⟨"java/util/List", "set", "(ILjava/lang/Object;)Ljava/lang/Object;"⟩, ⟨RJ2, "set", "(ILjava/lang/Object;)Ljava/lang/Object;"⟩),
  (RJ2, ⟨"java/util/List", "size", "()I"⟩, ⟨RJ2, "size", "()I"⟩),
  (RJ9, ⟨"java/util/Map", "get", "(Ljava/lang/Object;)Ljava/lang/Object;"⟩, ⟨RJ9, "get", "(Ljava/lang/Object;)Ljava/lang/Object;"⟩),
  (RJ9, ⟨"java/util/Map", "put", "(Ljava/lang/Object;Ljava/lang/Object;)Ljava/lang/Object;"⟩, ⟨RJ8, "put", "(Ljava/lang/Object;Ljava/lang/Object;)Ljava/lang/Object;"⟩),
  (RJ9, ⟨"java/util/Map", "size", "()I"⟩, ⟨RJ8, "size", "()I"⟩),
  (RJ26, ⟨"java/util/Set", "add", "(Ljava/lang/Object;)Z"⟩, ⟨RJ26, "add", "(Ljava/lang/Object;)Z"⟩),
  (RJ4, ⟨"java/lang/CharSequence", "charAt", "(I)C"⟩, ⟨RJ4, "charAt", "(I)C"⟩),
  (RJ4, ⟨"java/lang/CharSequence", "length", "()I"⟩, ⟨RJ4, "length", "()I"⟩)]
/-- private methods of AbstractStringBuilder, called on a StringBuilder -/
def m_prv : List MethodName := [⟨RJ3, "ensureCapacityInternal", "(I)V"⟩, ⟨RJ3, "newCapacity", "(I)I"⟩, ⟨RJ3, "inflate", "()V"⟩]
/-- what holds of the tables and the statics all through -/
def m_gS (G : Gp) (U : State) (H : Heap) : Prop :=
  va_K G.1 vwCl (m_tys G) U ∧ (∀ w ∈ m_nst, va_Nw w U) ∧ (∀ t ∈ m_fws, va_Fw t.1 t.2.1 t.2.2 U) ∧ (∀ z ∈ m_stz G, va_Z z.1 z.2.1 z.2.2.1 z.2.2.2 (m_A G) U H) ∧
  vb_C (fun k => G.2 (100 + k)) (m_A G) U H ∧ va_T (.object "java/lang/Integer") (G.2 6) 256 (fun k => .ref (G.2 (100 + k))) (m_A G) U H ∧ va_T (.object "java/lang/Object") (G.2 1) 0 (fun _ => .null) (m_A G) U H ∧
  (∀ (j : Nat) (σ : MethodName × Nat × Nat × Lambda.Shape), m_lbs[j]? = some σ → m_lb U σ.1 σ.2.1 σ.2.2.1 σ.2.2.2 (G.2 (40 + j)) (G.2 (20 + j))) ∧ va_Mi "[Ljava/lang/Object;" (G.2 8) U ∧ va_Nc "java/util/HashMap$Node" "java/util/HashMap$TreeNode" U ∧ va_Nc "java/util/LinkedHashMap$Entry" "java/util/HashMap$TreeNode" U ∧ (∀ y ∈ m_prv, va_Nw (.selects RJ4 y y) U) ∧
  va_Nc "PatrolDesk$Refused" "PatrolDesk$TextFault" U ∧ vx_L "java/lang/Throwable" "UNASSIGNED_STACK" "[Ljava/lang/StackTraceElement;" (m_A G) U H ∧ vx_L "java/lang/Throwable" "SUPPRESSED_SENTINEL" "Ljava/util/List;" (m_A G) U H
theorem m_fws_ok : ∀ t ∈ m_fws, t.2.1.cls ≠ "java/lang/invoke/MethodHandle" ∧ t.2.1.cls ≠ "java/lang/invoke/VarHandle" := by decide +kernel
theorem m_gS.warm {G : Gp} {s U : State} {H H1 : Heap} (hW : s.WarmedH U.vm) (h : m_gS G s H) (hq : ∀ a : Nat, a < H.size → ¬ m_A G a → H1[a]? = H[a]?) : m_gS G U H1 := by
  obtain ⟨h1, h2, h3, h4, h5, h6, h7, h8, h9, h10, h11, h12, h13, h14, h15⟩ := h
  have hvm := hW.alike
  exact ⟨h1.moved hvm, fun w hw => m_nw_warm (List.mem_filter.mp hw).2 hW (h2 w hw), fun t ht => (h3 t ht).moved (m_fws_ok t ht) hvm, fun z hz => ((h4 z hz).moved hvm).kept hq, (h5.moved hvm).kept hq, (h6.moved hvm).kept hq, (h7.moved hvm).kept hq, fun j σ hj => (h8 j σ hj).warm hW, h9.moved hvm, h10.moved hvm, h11.moved hvm, fun y hy => word_at hW (Or.inl rfl) (h12 y hy), h13.moved hvm, (h14.moved hvm).kept hq, (h15.moved hvm).kept hq⟩
def m_W (G : Gp) (M : Mem) (U : State) : Prop := m_ok G M U.heap ∧ m_gS G U U.heap
theorem m_blind {G : Gp} {M : Mem} {av : List Value} : FrameBlind (va_Pc av (m_W G M)) := by
  intro a U g mk h
  exact ⟨h.1, h.2.1, m_gS.warm (U := U.calling g mk a) (State.WarmedH.refl U) h.2.2 (fun _ _ _ => rfl)⟩
