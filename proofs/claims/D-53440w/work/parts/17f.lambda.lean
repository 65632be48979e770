/-! LAMBDAS: the classes that the VM makes (after the worked examples' made_facts, and the Shelf's shapeOf?_site) -/
set_option maxRecDepth 100000
section
def lm_no : ClassFile := { minorVersion := 0, majorVersion := 0, constantPool := #[], accessFlags := 0, thisClass := 0, superClass := 0, interfaces := #[], fields := #[], methods := #[], attributes := #[] }
def lm_D (σ : Lambda.Shape) (cls : String) : ClassFile := (σ.file cls).getD lm_no
def lm_f (σ : Lambda.Shape) (cls : String) : Method := ((layoutMethods (lm_D σ cls)).bind (fun ms => ms[1]?)).getD default
def lm_l (σ : Lambda.Shape) (cls : String) : Array Field × Array FieldType × Array FieldType := (layoutFields (lm_D σ cls) 0).getD (#[], #[], #[])
/-- what the kernel tells of a shape's class file: the second method's code, its call's entry -/
def lm_K (σ : Lambda.Shape) (cls : String) (code : ByteArray) (maxL mi ci nt cn : Nat) : Prop :=
  (σ.file cls).isSome = true ∧ ((layoutMethods (lm_D σ cls)).bind (fun ms => ms[1]?)).isSome = true ∧ (layoutFields (lm_D σ cls) 0).isSome = true ∧
  ((lm_f σ cls).code.map fun c => (c.code.data, c.maxLocals)) = some (code.data, maxL) ∧ ((lm_f σ cls).accessFlags, (lm_f σ cls).sig.returnType) = (0x0001, σ.sam.returnType) ∧
  (lm_D σ cls).constantPool[mi]? = some (.methodref ci nt) ∧ (lm_D σ cls).constantPool.className? ci = some σ.implClass ∧ (lm_D σ cls).constantPool.nameAndType? nt = some (σ.implName, σ.implDesc.toString) ∧
  (lm_D σ cls).constantPool[ci]? = some (.class_ cn) ∧ (lm_D σ cls).constantPool.string? cn = some σ.implClass ∧ ci ≠ (lm_D σ cls).thisClass
/-- .. and of its k-th field, at the entry fi -/
def lm_F (σ : Lambda.Shape) (cls : String) (fi fnt k : Nat) (name desc : String) : Prop :=
  (lm_D σ cls).constantPool[fi]? = some (.fieldref 2 fnt) ∧ (lm_D σ cls).constantPool.nameAndType? fnt = some (name, desc) ∧ (lm_l σ cls).1.findIdx? (fun f => f.name == name) = some k ∧ ((lm_l σ cls).1[k]?).map (fun f => (f.isStatic, f.slot)) = some (false, k)
theorem lm_made {σ : Lambda.Shape} {cls : String} {code : ByteArray} {maxL mi ci nt cn : Nat} (K : lm_K σ cls code maxL mi ci nt cn) {e : Setting} {vm : Vm} {d c : ClassId} {dk : Class} (hd : vm.classes[d]? = some dk) (hname : dk.name = cls) (h : Lambda.isMade e vm d σ c = true)
    (hO : ∀ o ok, vm.findClass "java/lang/Object" = some o → vm.classes[o]? = some ok → ok.instanceTypes = #[]) :
    ∃ (k tk : Class) (file : ClassFile) (methk : Method) (ck : Code) (toy : ClassId) (t : MethodId),
      vm.classes[c]? = some k ∧ k.name = cls ++ "$$Lambda" ∧ k.cf = some file ∧ file.constantPool = (lm_D σ cls).constantPool ∧
      vm.method? ⟨c, 1⟩ = some methk ∧ methk.code = some ck ∧ ck.code = code ∧ ck.maxLocals = maxL ∧ methk.locks = false ∧ methk.accessFlags = 0x0001 ∧ methk.sig.returnType = σ.sam.returnType ∧
      vm.findClass σ.implClass = some toy ∧ vm.classes[toy]? = some tk ∧ tk.isInterface = σ.implItf ∧ ((methodIn toy σ.implName σ.implDesc.toString tk.isInterface none).ask e vm).1 = .ok t ∧
      vm.methodReady c mi t ∧ vm.classReady c ci toy ∧ k.instanceTypes = (lm_l σ cls).2.1 ∧ k.kind = .ordinary ∧
      (∀ (fi fnt j : Nat) (name desc : String), lm_F σ cls fi fnt j name desc → ∃ f : Field, vm.fieldReady c fi c f ∧ f.isStatic = false ∧ f.slot = j) := by
  obtain ⟨K1, K2, K3, K4, K5, K6, K7, K8, K9, K10, K11⟩ := K
  obtain ⟨dk', k, ok, tk, file, cf, object, iface, toy, lay, methods, target, found, hd', hk, hfile, hcf, hobj, -, hok, hlay, hms, ht, htk, hg, -, hrec, -, -, -, hitf, hpool, hmeth, hfields, htys, hres, -⟩ := Lambda.isMade_spec h
  cases hd.symm.trans hd'
  have hD : σ.file cls = some (lm_D σ cls) := by
    obtain ⟨x, hx⟩ := Option.isSome_iff_exists.mp K1
    simp [lm_D, hx]
  rw [hname, hD] at hcf
  cases hcf
  have hemp := hO object ok hobj hok
  have hL : layoutFields (lm_D σ cls) 0 = some (lm_l σ cls) := by
    obtain ⟨x, hx⟩ := Option.isSome_iff_exists.mp K3
    simp [lm_l, hx]
  rw [hemp] at hlay
  have hlay : layoutFields (lm_D σ cls) 0 = some lay := hlay
  cases Option.some.inj (hL.symm.trans hlay)
  have hsec : methods[1]? = some (lm_f σ cls) := by
    obtain ⟨x, hx⟩ := Option.isSome_iff_exists.mp K2
    have hf : lm_f σ cls = x := by simp [lm_f, hx]
    rw [hms] at hx
    rw [hf]
    exact hx
  obtain ⟨b, hb, hsame⟩ := hmeth 1 _ hsec
  simp only [Lambda.sameMethod, Bool.and_eq_true, decide_eq_true_eq] at hsame
  obtain ⟨⟨hn, -, hsig, hfl⟩, hcode⟩ := hsame
  simp only [Prod.mk.injEq] at K5
  cases hfc : (lm_f σ cls).code with
  | none => rw [hfc] at K4; cases K4
  | some x =>
    cases hbc : b.code with
    | none => simp [hfc, hbc] at hcode
    | some y =>
      simp only [hfc, hbc, Bool.and_eq_true, decide_eq_true_eq] at hcode
      simp only [hfc, Option.map_some, Option.some.injEq, Prod.mk.injEq] at K4
      refine ⟨k, tk, file, b, y, toy, target, hk, by rw [hrec.1, hname], hfile, hpool.2.1, by simp [Vm.method?, hk, hb], hbc, ?_, by rw [← hcode.1.1.1.1.2.1]; exact K4.2, ?_, by rw [← hfl]; exact K5.1, by rw [← hsig]; exact K5.2, ht, htk, hitf, hg,
        ⟨k, hk, hres mi _ (Lambda.resolvedOf_method K6 K7 ht htk K8 hg)⟩, ⟨k, hk, hres ci _ (Lambda.resolvedOf_class K9 K11 K10 ht)⟩, by rw [htys.1, hemp]; simp, hrec.2.1, ?_⟩
      · rw [← hcode.1.1.1.1.2.2]
        exact ByteArray.ext K4.1
      · simp [Method.locks, Method.isSynchronized, ← hfl, K5.1, hasFlag, Acc.synchronized]
      · intro fi fnt j name desc ⟨f1, f2, f3, f4⟩
        obtain ⟨g0, hg0, hp0⟩ := Option.map_eq_some_iff.mp f4
        simp only [Prod.mk.injEq] at hp0
        exact ⟨g0, ⟨k, j, k, hk, hres fi _ (Lambda.resolvedOf_field f1 f2 f3), hk, hfields j _ hg0⟩, hp0.1, hp0.2⟩
end
section
variable {G : Gp} {C : m_Cx} {own : String} {cc : ByteArray} {nL : Nat} {ret : Option FieldType} {nm : String} {F L n0 s0 : Nat} {Q : State → Prop} {M0 M : Mem} {pc : Nat} {lo lo2 : m_L} {st st0 : List m_V}
theorem lm_weaken {tb : Tables} {e : Env} {mid below : List Frame} {a b : State} (h : Steps tb e (mid ++ below) a b) : Steps tb e below a b := by
  obtain ⟨n, hn, w⟩ := h
  exact ⟨n, hn, fun k hk => (w k hk).weaken⟩
/-- the VM's method that calls ours, run -/
theorem lm_run {H : Heap} {T : State} {locs : List Loc} {ls : Array Slot} {Qp : Int32 → Mem → Prop} {y : MethodName} {ccy : ByteArray} {nLy Fy Ly index count : Nat} {rety : Option FieldType} {av : List m_V} (X : m_in G C own cc nL ret nm F L n0 s0) (hM : m_ok G M H) (hS : va_S (m_A G) (m_s C).heap H locs) (hls : lv_has ls nL (m_lv lo)) (hT : T.heap = H)
    (Y : Stand C.1 C.2.1 C.2.2.1 C.2.2.2.1 (m_s C) (m_mi C) (m_ar C) (m_be C) (m_me C) (m_co C) T locs (m_nc M - n0) (m_ns M - s0)) (hK : m_K G C.2.1 y ccy nLy rety Fy Ly av M (va_Qi (m_q1 M Qp) (m_W G) (m_A G))) (hcode : Cond.code y ccy nLy rety ∈ lw_all) (hini : Cond.initialized y.cls ∈ lw_all)
    {mk : MethodId} {methk : Method} {ck : Code} {code : ByteArray} {mL : Nat} {ty : FieldType} (hmk : T.vm.method? mk = some methk) (hck : methk.code = some ck) (hbytes : ck.code = code) (hml : ck.maxLocals = mL) (hlk : methk.locks = false) (hpk : T.plainMethod mk) (hret : methk.sig.returnType = some ty)
    (hR : Fy + 2 ≤ F ∧ 8 + (mL + 11) + (8 + (nLy + 11) + Ly) ≤ L) (hw : st.length ≤ 8) (hdg : decode cc pc = .ok (.invokeinterface index count, 5)) {t : MethodId} (hn : T.methodNamed? y = some t) (a' : Array Value) {pci : Nat} {inv : Instr} (hdi : decode code pci = .ok (inv, 3)) (hdr : decode code (pci + 3) = .ok (.ireturn, 1))
    (hls2 : (entryFrame mk a' mL).locals.size = mL) (hnar : ∀ r M', m_le M M' → Qp r M' → narrow ty (.int r) = .int r)
    (hbody : ∀ U : State, U.vm = T.vm → U.heap = T.heap → Stand C.1 C.2.1 C.2.2.1 { frames := Fy + 1, cells := m_CM - m_nc M, slots := m_SM - m_ns M, locals := 8 + (nLy + 11) + Ly } (T.calling (F0 (m_mi C) pc ls (st.map m_v)) mk a') mk a' (.java (F0 (m_mi C) pc ls (st.map m_v)) :: m_be C) methk ck U [] 0 0 →
      ∀ target : State, (∀ acts, Steps C.1.tables C.2.2.1 (.java (F0 (m_mi C) pc ls (st.map m_v)) :: m_be C) (doInvoke C.2.2.1 (U.setTop { entryFrame mk a' mL with pc := pci }) acts t (av.map m_v).toArray).1 target) → Steps C.1.tables C.2.2.1 (.java (F0 (m_mi C) pc ls (st.map m_v)) :: m_be C) (U.setTop (entryFrame mk a' mL)) target) :
    ∃ (v : Option Value) (st₀ t' T' : State) (Lc : List Loc) (a : Array Value), st₀.heap = H ∧ Stand C.1 C.2.1 C.2.2.1 C.2.2.2.1 (m_s C) (m_mi C) (m_ar C) (m_be C) (m_me C) (m_co C) T' (locs ++ Lc) (m_nc M - n0 + (m_CM - m_nc M)) (m_ns M - s0 + (m_SM - m_ns M)) ∧ (∀ q ∈ Lc, m_A G q.base) ∧ T'.heap = t'.heap ∧ T'.vm = t'.vm ∧ va_Qi (m_q1 M Qp) (m_W G) (m_A G) a st₀ (.returned v) t' ∧
      ∀ acts, Steps C.1.tables C.2.2.1 (m_be C) (doInvoke C.2.2.1 (T.setTop (F0 (m_mi C) pc ls (st.map m_v))) acts mk a').1 (T'.setTop { F0 (m_mi C) pc ls (st.map m_v) with pc := pc + 5, stack := v.toList ++ st.map m_v }) := by
  have hRC := X.2.2.2.2.2.2.2.2.2.1
  have hts := X.2.2.2.2.2.2.2.1
  have hf := m_hf X hM hS (m_s0' X hM hT Y)
  rw [hRC] at hf
  have hf1 : m_nc M - n0 + (m_CM - m_nc M) ≤ m_CM - n0 := hf.1
  have hf2 : m_ns M - s0 + (m_SM - m_ns M) ≤ m_SM - s0 := hf.2
  have hdg' : decode (m_co C).code (F0 (m_mi C) pc ls (st.map m_v)).pc = .ok (.invokeinterface index count, 5) := by rw [X.2.1]; exact hdg
  obtain ⟨Y₀, hin⟩ := Y.into (g := F0 (m_mi C) pc ls (st.map m_v)) rfl (hls.1.trans X.2.2.2.2.1.symm) hdg' a' (R' := { frames := Fy + 1, cells := m_CM - m_nc M, slots := m_SM - m_ns M, locals := 8 + (nLy + 11) + Ly }) hmk hck hlk hpk
    (by rw [hRC]; show Fy + 1 + 1 ≤ F; omega) (by rw [hRC, hml]; show 2 * 0 + ((st.map m_v).map fun v => v.category).sum + (mL + 11) + (8 + (nLy + 11) + Ly) ≤ L; rw [m_cats]; omega) (by rw [hRC]; exact hf1) (by rw [hRC]; exact hf2)
  rw [hml] at Y₀ hin
  generalize hU : (T.setTop (F0 (m_mi C) pc ls (st.map m_v))).pushFrame (.java (entryFrame mk a' mL)) = U at Y₀ hin
  have hvm : U.vm = T.vm := by rw [← hU]; rfl
  have hheap : U.heap = T.heap := by rw [← hU]; rfl
  have hG : GoodIn lw_all (ws_ y ccy nLy rety) := lw_meth hcode
  have hWU : ∀ vm : Vm, (T.calling (F0 (m_mi C) pc ls (st.map m_v)) mk a').WarmedH vm → (m_s C).WarmedH vm := fun vm h => State.WarmedH.trans Y.warmed h
  have hB : Back C.2.1 { frames := Fy + 1, cells := m_CM - m_nc M, slots := m_SM - m_ns M, locals := 8 + (nLy + 11) + Ly } C.1 C.2.2.1 (.java (F0 (m_mi C) pc ls (st.map m_v)) :: m_be C) (T.calling (F0 (m_mi C) pc ls (st.map m_v)) mk a') a' y 3 8 (PreOf { frames := Fy + 1, cells := m_CM - m_nc M, slots := m_SM - m_ns M, locals := 8 + (nLy + 11) + Ly } (m_CM - m_nc M) (m_SM - m_ns M) (va_Pc (av.map m_v) (m_W G M))) (PostOf (va_Qi (m_q1 M Qp) (m_W G) (m_A G)) (m_CM - m_nc M) (m_SM - m_ns M) (m_A G)) :=
    back_of (bytes := ccy) (maxL := nLy) (ret := rety) hK m_blind rfl rfl (Nat.le_refl _) (Nat.le_refl _) (fun w hw a9 U9 h9 => pay_in hts hG w hw a9 U9 (hWU _ h9)) List.mem_cons_self (fun a9 U9 h9 => word_at (hWU _ h9) (Or.inl (by first | rfl | simp [Cond.onTables, Cond.keeps, Cond.steady])) (hts _ hini))
  obtain ⟨v, ⟨BU, Bl, Bc, Bs⟩, Y₁, ⟨g', mk', t', Lc, e1, e2, hq, h1, hL, h2, h3⟩, hsteps⟩ := hB mk methk ck ⟨U, [], 0, 0⟩ { entryFrame mk a' mL with pc := pci } inv t (av.map m_v).toArray Y₀ rfl (by rw [hml]; exact hls2) (by rw [hbytes]; exact hdi) (by show 2 * 0 + 0 ≤ 8; omega)
    (by show U.methodNamed? y = some t; rw [← hU]; exact hn) ⟨by show 0 + (m_CM - m_nc M) ≤ m_CM - m_nc M; omega, by show 0 + (m_SM - m_ns M) ≤ m_SM - m_ns M; omega, rfl, by show m_ok G M U.heap; rw [hheap, hT]; exact hM, m_gSat X hS (by rw [hheap, hT]) (by rw [hvm]; exact Y.warmed)⟩
  dsimp only [Pt.U, Pt.locs, Pt.cells, Pt.slots] at Y₁ e1 e2 hq h1 h2 h3 hsteps
  obtain ⟨⟨r, M', hv, ⟨hp0, hp⟩, hBB⟩, hF⟩ := id hq
  cases hv
  obtain ⟨fs, hleave, -, hended, hWe, hsame⟩ := Y₁.leave (v := some (.int r)) (fun h => by rw [hret] at h; cases h) hlk
  obtain ⟨T', X', hW', -, ht⟩ := Y.outOf (g := F0 (m_mi C) pc ls (st.map m_v)) rfl hdg' hended hWe hsame
  have eh : T'.heap = BU.heap := (congrArg State.heap ht).symm
  have ev : T'.vm = BU.vm := (congrArg State.vm ht).symm
  subst h1
  subst h2
  subst h3
  rw [Nat.zero_add, Nat.zero_add] at X'
  refine ⟨some (.int r), U.calling g' mk' (av.map m_v).toArray, t', T', _, (av.map m_v).toArray, hheap.trans hT, X', hL, eh.trans e1, ev.trans e2, hq, fun acts => ?_⟩
  rw [hin acts]
  show Steps C.1.tables C.2.2.1 (m_be C) (U.setTop (entryFrame mk a' mL)) (T'.setTop { F0 (m_mi C) pc ls (st.map m_v) with pc := pc + 5, stack := (some (Value.int r)).toList ++ st.map m_v })
  rw [show T'.setTop { F0 (m_mi C) pc ls (st.map m_v) with pc := pc + 5, stack := (some (Value.int r)).toList ++ st.map m_v } = BU.setFrames fs from ht.symm]
  refine lm_weaken (mid := [.java (F0 (m_mi C) pc ls (st.map m_v))]) ?_
  refine hbody U hvm hheap Y₀ _ (fun acts' => ?_)
  rw [doInvoke_state]
  refine hsteps.trans ?_
  show Steps C.1.tables C.2.2.1 (.java (F0 (m_mi C) pc ls (st.map m_v)) :: m_be C) (BU.setTop { method := mk, pc := pci + 3, locals := (entryFrame mk a' mL).locals, stack := [.int r], locked := none }) _
  generalize (entryFrame mk a' mL).locals = LS
  have hs9 := Y₁.here.top
  have hm9 := Y₁.method'
  have hn9 := hnar r M' hp0 hp
  have hx9 := X.1
  have hd9 : decode ck.code (pci + 3) = .ok (.ireturn, 1) := by rw [hbytes]; exact hdr
  jvm_step Y₁.here [hs9, hx9, hd9, hm9, hret, hn9]
  intro acts''
  rw [hleave { method := mk, pc := pci + 3, locals := LS, stack := [], locked := none } acts'' rfl rfl rfl]
  exact Steps.refl _
end

