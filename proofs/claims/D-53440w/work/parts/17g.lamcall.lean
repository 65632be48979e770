/-! calls of lambdas, through their interface -/
set_option maxRecDepth 100000
section
variable {G : Gp} {C : m_Cx} {own : String} {cc : ByteArray} {nL : Nat} {ret : Option FieldType} {nm : String} {F L n0 s0 : Nat} {Q : State → Prop} {M0 M : Mem} {pc : Nat} {lo lo2 : m_L} {st st0 : List m_V}
/-- what is known where the VM's method stands -/
def lm_at (σ : Lambda.Shape) (cls : String) (mi ci : Nat) (y : MethodName) (n : Nat) (stat : Bool) (U : State) (c : ClassId) (t : MethodId) (tk : Class) (methY : Method) : Prop :=
  ∃ (k : Class) (file : ClassFile), U.vm.classes[c]? = some k ∧ k.cf = some file ∧ file.constantPool = (lm_D σ cls).constantPool ∧ U.vm.methodReady c mi t ∧ U.vm.classReady c ci t.cls ∧ U.vm.classes[t.cls]? = some tk ∧ tk.isInterface = σ.implItf ∧ U.vm.method? t = some methY ∧
    (∀ (fi fnt j : Nat) (name desc : String), lm_F σ cls fi fnt j name desc → ∃ f : Field, U.vm.fieldReady c fi c f ∧ f.isStatic = false ∧ f.slot = j) ∧ (∀ z : Method, signaturePolymorphic tk z = false) ∧ tk.init = .initialized ∧ methY.sig.parameters.length = n ∧ methY.isStatic = stat ∧ (stat = false → methY.isAbstract = false)
set_option maxHeartbeats 4000000 in
theorem m_cL {j p9 i9 index count b mL mi ci nt cn pci : Nat} {x ifm y : MethodName} {σ : Lambda.Shape} {code ccy : ByteArray} {nLy Fy Ly n9 : Nat} {rety : Option FieldType} {ty : FieldType} {av avy : List m_V} {Qp : Int32 → Mem → Prop} {inv : Instr} {stat : Bool} (X : m_in G C own cc nL ret nm F L n0 s0)
    (hσ : m_lbs[j]? = some (x, p9, i9, σ)) (hj : j < 9) (K : lm_K σ x.cls code mL mi ci nt cn) (hb : m_tg M b = j + 201)
    (hlink : Cond.methodLink own index ifm ∈ lw_all) (hdecl : Cond.declares ifm ∈ lw_tbl) (hface : Cond.interfaceMethod ifm.cls ifm.cls ifm.name ifm.desc ∈ lw_tbl) (hfg : (ifm.cls == ifm.cls && ifm.cls != "java/lang/invoke/MethodHandle" && ifm.cls != "java/lang/invoke/VarHandle") = true) (hif : σ.iface = ifm.cls ∧ σ.name = ifm.name ∧ σ.sam.toString = ifm.desc) (hd : (parseMethodDescriptor ifm.desc).map (fun d => d.parameters.length) = some av.length)
    (hK : m_K G C.2.1 y ccy nLy rety Fy Ly avy M (va_Qi (m_q1 M Qp) (m_W G) (m_A G))) (hcode : Cond.code y ccy nLy rety ∈ lw_all) (hini : Cond.initialized y.cls ∈ lw_all) (hy : y = ⟨σ.implClass, σ.implName, σ.implDesc.toString⟩) (hyMH : y.cls ≠ "java/lang/invoke/MethodHandle" ∧ y.cls ≠ "java/lang/invoke/VarHandle") (hn9 : (parseMethodDescriptor y.desc).map (fun d => d.parameters.length) = some n9)
    (hsti : if stat = true then Cond.static y ∈ lw_all else Cond.instanceMethod y ∈ lw_all)
    (hret : σ.sam.returnType = some ty) (hplain : plainName (x.cls ++ "$$Lambda") = true) (hR : Fy + 2 ≤ F ∧ 8 + (mL + 11) + (8 + (nLy + 11) + Ly) ≤ L) (hw : st.length ≤ 8) (hst : st0 = av.reverse ++ vR (some b) :: st) (hdg : decode cc pc = .ok (.invokeinterface index count, 5)) (hdi : decode code pci = .ok (inv, 3)) (hdr : decode code (pci + 3) = .ok (.ireturn, 1))
    (hls2 : (entryFrame ⟨G.2 (40 + j), 1⟩ ((vR (some b) :: av).map m_v).toArray mL).locals.size = mL) (hnar : ∀ r M', m_le M M' → Qp r M' → narrow ty (.int r) = .int r)
    (hbody : ∀ (U : State) (below : List Frame) (a9 : Array Value) (s9 : State) (R9 : Room) (methk : Method) (ck : Code) (t : MethodId) (tk : Class) (methY : Method) (cellB : Cell), m_gS G (m_s C) (m_s C).heap → (m_s C).WarmedH U.vm → lm_at σ x.cls mi ci y n9 stat U (G.2 (40 + j)) t tk methY → U.methodNamed? y = some t → U.heap[b]? = some cellB → cellB.vm = .none → cellB.slots = m_ls j (m_gi M b) (m_gr M b) → m_ok G M U.heap → ck.code = code →
      Stand C.1 C.2.1 C.2.2.1 R9 s9 ⟨G.2 (40 + j), 1⟩ a9 below methk ck U [] 0 0 → ∀ target : State, (∀ acts, Steps C.1.tables C.2.2.1 below (doInvoke C.2.2.1 (U.setTop { entryFrame ⟨G.2 (40 + j), 1⟩ ((vR (some b) :: av).map m_v).toArray mL with pc := pci }) acts t (avy.map m_v).toArray).1 target) → Steps C.1.tables C.2.2.1 below (U.setTop (entryFrame ⟨G.2 (40 + j), 1⟩ ((vR (some b) :: av).map m_v).toArray mL)) target) :
    m_run G C nL n0 s0 M pc 5 lo st0 st (va_Qi (m_q1 M Qp) (m_W G) (m_A G)) := by
  intro H locs ls hM hS hls T hT Y
  have hts := X.2.2.2.2.2.2.2.1
  have hG := X.2.2.2.2.2.2.2.2.1
  have hown := X.2.2.2.2.2.1
  have hRC := X.2.2.2.2.2.2.2.2.2.1
  have hlb := hG.2.2.2.2.2.2.2.1 j _ hσ
  dsimp only at hlb
  obtain ⟨cell, hc1, hc2, hc3, hc4⟩ := hM.2.2.2.2.1 b j hb hj
  have hlb0 := hlb
  obtain ⟨mS, kS, cfS, i0, p0, lk, hmS, hkS, hcfS, hshS, hinS, hfindS, hmade, hcan, hlk⟩ := hlb
  obtain ⟨kS', hkS', hnameS⟩ := className_of_methodNamed hmS
  cases hkS.symm.trans hkS'
  obtain ⟨cO, kO, hfO, hkO, -, -, -, hszO⟩ := Cond.instantiable_spec (hts _ q2320)
  have hO : ∀ vm9 : Vm, (m_s C).vm.Alike vm9 → ∀ o ok, vm9.findClass "java/lang/Object" = some o → vm9.classes[o]? = some ok → ok.instanceTypes = #[] := fun vm9 ha o ok h1 h2 => by
    rw [ha.findClass] at h1
    cases hfO.symm.trans h1
    obtain ⟨k', hk', he⟩ := ha.2.2 _ _ hkO
    cases hk'.symm.trans h2
    rw [he]
    exact Array.eq_empty_of_size_eq_zero hszO
  obtain ⟨k, tk, file, methk, ck, toy, t, hk, hkn, hfile, hpool, hmk, hck, hbytes, hml, hlkm, hfl, hretk, -, -, -, -, -, -, -, -, -⟩ := lm_made K hkS hnameS hmade (hO _ (State.WarmedH.refl (m_s C)).alike)
  -- the interface
  obtain ⟨r0, r, hn, hrm, hstR, hsigR⟩ := Cond.declares_spec (va_Nw.use (A := m_ar C) rfl (hG.2.1 _ (m_nst_in hdecl rfl)))
  obtain ⟨cL, kL, r1, hcL, hkL, hiL, hfoundL, hn1⟩ := Cond.interfaceMethod_spec (hG.2.1 _ (m_nst_in hface hfg))
  cases hn.symm.trans hn1
  have hr0cls : r0.cls = cL := Option.some.inj ((findClass_of_methodNamed hn).symm.trans hcL)
  obtain ⟨hnameR, hdescR⟩ := name_of_methodNamed hn hrm
  obtain ⟨-, -, -, -, -, -, -, iface', -, -, -, -, found, -, -, -, -, -, hi', -, -, -, -, -, -, hfound', -, -, -, -, -, -, -, -, -, -, hsel⟩ := Lambda.isMade_spec hmade
  rw [hif.1] at hi'
  cases hcL.symm.trans hi'
  have hfr : found = r0 := by
    have h1 := hfoundL
    simp only [State.methodFound?, hcL, hkL, hiL, Option.bind_eq_bind, Option.bind_some] at h1
    have h2 := hfound'
    rw [hif.2.1, hif.2.2] at h2
    rw [h2] at h1
    exact Option.some.inj h1
  subst hfr
  obtain ⟨i2, hi2, hasg, hway⟩ := State.lambdaCallable_spec hcan
  rw [hif.1] at hi2
  cases hcL.symm.trans hi2
  have hlenI : (av.map m_v).length = r.sig.parameters.length := by
    rw [hsigR] at hd
    rw [List.length_map]
    exact (Option.some.inj hd).symm
  have hMH : ifm.cls ≠ "java/lang/invoke/MethodHandle" ∧ ifm.cls ≠ "java/lang/invoke/VarHandle" := by
    simpa using hfg
  obtain ⟨vm₁, Y₁, hstep₁⟩ := Y.invokeinterface X.1 hown (hts _ hlink) hn hrm hstR (by rw [hr0cls]; exact hkL) hiL hMH (a := b) (cell := cell) (kcell := k) (by rw [hT]; exact hc1) (fun z h => by rw [hc3] at h; cases h) (by rw [hc2]; exact hk) (by rw [hr0cls, hc2]; exact hasg)
    (m' := ⟨G.2 (40 + j), 1⟩) (meth' := methk) (by rw [Launch.admits_selectMethod Y.admits, hc2]; exact hsel) hmk (by rw [hnameR, hdescR, hc2]; rw [hif.2.1, hif.2.2] at hway; exact hway) (by rw [hfl]; decide) (by simp [Method.isAbstract, hfl, hasFlag, Acc.abstract])
    (g := F0 (m_mi C) pc ls (st0.map m_v)) rfl (argsL := av.map m_v) (rest := st.map m_v) hlenI (m_st3 hst) (by rw [X.2.1]; exact hdg)
  have hW₁ : (m_s C).WarmedH vm₁ := Y₁.warmed
  obtain ⟨mS1, kS1, cfS1, i01, p01, lk1, hmS1, hkS1, hcfS1, hshS1, hinS1, hfindS1, hmade1, hcan1, hlk1'⟩ := m_lb.warm (t := T.setVm vm₁) hW₁ hlb0
  obtain ⟨kS1', hkS1', hnameS1⟩ := className_of_methodNamed hmS1
  cases hkS1.symm.trans hkS1'
  obtain ⟨k1, tk1, file1, methk1, ck1, toy1, t1, hk1, hkn1, hfile1, hpool1, hmk1, hck1, hbytes1, hml1, hlk1, hfl1, hretk1, htoy1, htk1, hitf1, hlook1, hready1, hclsR1, htys1, hkind1, hF1⟩ := lm_made K hkS1 hnameS1 hmade1 (hO _ hW₁.alike)
  obtain ⟨mT, hnT⟩ := Cond.code_named (hts _ hcode)
  obtain ⟨methT, cT, hmethT, hcT, -, -, -, -, -, hsigT⟩ := Cond.code_spec hnT (hts _ hcode)
  obtain ⟨kT, hkT, hnameT⟩ := className_of_methodNamed hnT
  have hfT : (m_s C).vm.findClass y.cls = some mT.cls := findClass_of_methodNamed hnT
  have hinitK : kT.init = .initialized := Cond.initialized_spec hfT hkT (hts _ hini)
  have hfT1 : vm₁.findClass σ.implClass = some mT.cls := by rw [hW₁.alike.findClass]; rw [hy] at hfT; exact hfT
  cases htoy1.symm.trans hfT1
  have ht1 : t1 = mT := by
    have h1 : ((m_s C).setVm vm₁).methodFound? σ.implClass σ.implName σ.implDesc.toString = some mT := by
      rw [State.methodFound?_setVm hW₁.alike]
      have h9 := State.methodFound?_of_named hnT hyMH
      rw [hy] at h9
      exact h9
    simp only [State.methodFound?, State.vm_setVm, hfT1, Option.bind_eq_bind, Option.bind_some] at h1
    rw [show vm₁.classes[mT.cls]? = some tk1 from htk1] at h1
    simp only [Option.bind_some] at h1
    have hlook1' : ((methodIn mT.cls σ.implName σ.implDesc.toString tk1.isInterface none).ask { classPath := fun _ => none } vm₁).1 = .ok t1 := hlook1
    rw [hlook1'] at h1
    exact Option.some.inj h1
  subst ht1
  obtain ⟨kT1, hkT1, heT1⟩ := hW₁.alike.2.2 _ _ hkT
  cases (show vm₁.classes[t1.cls]? = some tk1 from htk1).symm.trans hkT1
  have hnmT : tk1.name = y.cls := by rw [heT1]; exact hnameT
  have hsp : ∀ z : Method, signaturePolymorphic tk1 z = false := fun z => by simp [signaturePolymorphic, hnmT, hyMH.1, hyMH.2]
  have hmethT1 : vm₁.method? t1 = some methT := by rw [hW₁.alike.method?]; exact hmethT
  have hlenY : methT.sig.parameters.length = n9 := by
    rw [hsigT] at hn9
    exact Option.some.inj hn9
  have hsa : methT.isStatic = stat ∧ (stat = false → methT.isAbstract = false) := by
    cases stat with
    | true =>
      have h1 := Cond.static_spec hnT hmethT (hts _ hsti)
      exact ⟨h1, fun h => by cases h⟩
    | false =>
      obtain ⟨mk2, methM, hnamed, hmethM, hstM, habM⟩ := Cond.instanceMethod_spec (hts _ hsti)
      cases hnT.symm.trans hnamed
      cases hmethT.symm.trans hmethM
      exact ⟨hstM, fun _ => habM⟩
  have hnT1 : (T.setVm vm₁).methodNamed? y = some t1 := by
    have h9 := State.methodNamed?_setVm (s := m_s C) hW₁.alike y
    rw [hnT] at h9
    exact h9
  obtain ⟨v, st₀, t', T', Lc, a9, r1, r2, r3, r4, r5, r6, r7⟩ := lm_run X hM hS hls (T := T.setVm vm₁) hT Y₁ hK hcode hini (mk := ⟨G.2 (40 + j), 1⟩) hmk1 hck1 hbytes1 hml1 hlk1 (State.plainMethod.of_name (fun k' hk' => by cases hk1.symm.trans hk'; rw [hkn1]; exact hplain)) (hretk1.trans hret) hR hw hdg (t := t1) hnT1 ((vR (some b) :: av).map m_v).toArray hdi hdr hls2 hnar
    (fun U e1 e2 Z target kk => hbody U _ _ _ _ methk1 ck1 t1 tk1 methT cell hG (by rw [e1]; exact hW₁) ⟨k1, file1, by rw [e1]; exact hk1, hfile1, hpool1, by rw [e1]; exact hready1, by rw [e1]; exact hclsR1, by rw [e1]; exact htk1, hitf1, by rw [e1]; exact hmethT1, by rw [e1]; exact hF1, hsp, by rw [heT1]; exact hinitK, hlenY, hsa.1, hsa.2⟩
      (by rw [← hnT1]; unfold State.methodNamed?; rw [e1]) (by rw [e2]; show T.heap[b]? = some cell; rw [hT]; exact hc1) hc3 hc4 (by rw [e2]; show m_ok G M T.heap; rw [hT]; exact hM) hbytes1 Z target kk)
  exact ⟨v, st₀, t', T', Lc, a9, r1, r2, r3, r4, r5, r6, fun target h => hstep₁ _ (fun acts => (r7 acts).trans h)⟩
end
section
variable {G : Gp} {C : m_Cx} {U : State} {below : List Frame} {a9 : Array Value} {s9 : State} {R9 : Room} {methk : Method} {ck : Code} {t : MethodId} {tk : Class} {methY : Method} {cellB : Cell} {c : ClassId} {σ : Lambda.Shape} {cls : String} {y : MethodName} {mi ci nt n : Nat} {code : ByteArray} {target : State}
/-- the call of a static method of ours, out of the VM's method -/
theorem lm_static (hexec : C.1.tables.exec = Jvm.exec) (Z : Stand C.1 C.2.1 C.2.2.1 R9 s9 ⟨c, 1⟩ a9 below methk ck U [] 0 0) (hbytes : ck.code = code) {cn mL : Nat} (K : lm_K σ cls code mL mi ci nt cn) (hat : lm_at σ cls mi ci y n true U c t tk methY) {pci : Nat} {LS : Array Slot} {vs : List Value} (hvs : vs.length = n) (hdi : decode code pci = .ok (.invokestatic mi, 3))
    (kk : ∀ acts, Steps C.1.tables C.2.2.1 below (doInvoke C.2.2.1 (U.setTop { method := ⟨c, 1⟩, pc := pci, locals := LS, stack := [], locked := none }) acts t vs.toArray).1 target) : Steps C.1.tables C.2.2.1 below (U.setTop { method := ⟨c, 1⟩, pc := pci, locals := LS, stack := vs.reverse, locked := none }) target := by
  obtain ⟨k, file, h1, h2, h3, h4, h5, h6, h7, h8, h9, h10, h11, h12, h13, h14⟩ := hat
  obtain ⟨-, -, -, -, -, K6, K7, K8, -, -, -⟩ := K
  obtain ⟨b, hmem⟩ := memberRef_ask' (e := C.2.2.1) (vm := U.vm) (d := c) (index := mi) h1 h2 (Or.inl (by rw [h3]; exact K6)) (by rw [h3]; exact K8)
  have hs := Z.here.top
  have hd : decode ck.code pci = .ok (.invokestatic mi, 3) := by rw [hbytes]; exact hdi
  jvm_step Z.here [hexec, hd, invokestatic.wp_ready (e := C.2.2.1) (s := U) (m := t) (k := tk) (meth := methY) (args := vs) (rest := [])
    (f := { method := ⟨c, 1⟩, pc := pci, locals := LS, stack := vs.reverse, locked := none }) hs ⟨ci, _, _, b, t.cls, tk, hmem, h5, h6, by simp [h10]⟩ h4 h6 h8 (h10 _) h13 h11 (by rw [hvs, h12]) (by simp)]
  exact kk
/-- .. of a method of an object of ours -/
theorem lm_virtual (hexec : C.1.tables.exec = Jvm.exec) (Z : Stand C.1 C.2.1 C.2.2.1 R9 s9 ⟨c, 1⟩ a9 below methk ck U [] 0 0) (hbytes : ck.code = code) {cn mL : Nat} (K : lm_K σ cls code mL mi ci nt cn) (hitf : σ.implItf = false) (hat : lm_at σ cls mi ci y n false U c t tk methY) {pci : Nat} {LS : Array Slot} {vs : List Value} (hvs : vs.length = n) (hdi : decode code pci = .ok (.invokevirtual mi, 3)) {a : Nat} {cellA : Cell} (hcell : U.heap[a]? = some cellA) (hvm : cellA.vm = .none) (hsel : selectMethod C.2.2.1.platform U.vm cellA.cls t = .method t)
    (kk : ∀ acts, Steps C.1.tables C.2.2.1 below (doInvoke C.2.2.1 (U.setTop { method := ⟨c, 1⟩, pc := pci, locals := LS, stack := [], locked := none }) acts t (.ref a :: vs).toArray).1 target) : Steps C.1.tables C.2.2.1 below (U.setTop { method := ⟨c, 1⟩, pc := pci, locals := LS, stack := vs.reverse ++ [.ref a], locked := none }) target := by
  obtain ⟨k, file, h1, h2, h3, h4, h5, h6, h7, h8, h9, h10, h11, h12, h13, h14⟩ := hat
  obtain ⟨-, -, -, -, -, K6, K7, K8, -, -, -⟩ := K
  have hs := Z.here.top
  have hd : decode ck.code pci = .ok (.invokevirtual mi, 3) := by rw [hbytes]; exact hdi
  have hcls : tk.isInterface = false := h7.trans hitf
  jvm_step Z.here [hexec, hd, invokevirtual.wp_ready (e := C.2.2.1) (s := U) (r := t) (m := t) (k := tk) (mk := tk) (rmeth := methY) (meth := methY) (a := a) (args := vs) (rest := []) (cell := cellA)
    (f := { method := ⟨c, 1⟩, pc := pci, locals := LS, stack := vs.reverse ++ [.ref a], locked := none }) hs ⟨k, file, ci, nt, t.cls, tk, h1, h2, by rw [h3]; exact K6, h5, h6, hcls⟩ h4 h6 h8 (h10 _) h13 (by rw [hvs, h12]) (by simp) hcell (fun z h => by rw [hvm] at h; cases h) hsel h8 (h14 rfl) h6 hcls]
  exact kk
/-- a field that was caught -/
theorem lm_field (hexec : C.1.tables.exec = Jvm.exec) (Z : Stand C.1 C.2.1 C.2.2.1 R9 s9 ⟨c, 1⟩ a9 below methk ck U [] 0 0) (hbytes : ck.code = code) {stat : Bool} (hat : lm_at σ cls mi ci y n stat U c t tk methY) {fi fnt j b : Nat} {name desc : String} (hF : lm_F σ cls fi fnt j name desc) {pci : Nat} {LS : Array Slot} {v : Value} {st : List Value} (hdi : decode code pci = .ok (.getfield fi, 3)) (hcell : U.heap[b]? = some cellB) (hvm : cellB.vm = .none) (hv : cellB.slots[j]? = some v)
    (kk : Steps C.1.tables C.2.2.1 below (U.setTop { method := ⟨c, 1⟩, pc := pci + 3, locals := LS, stack := v :: st, locked := none }) target) : Steps C.1.tables C.2.2.1 below (U.setTop { method := ⟨c, 1⟩, pc := pci, locals := LS, stack := .ref b :: st, locked := none }) target := by
  obtain ⟨k, file, h1, h2, h3, h4, h5, h6, h7, h8, h9, h10, h11, h12, h13, h14⟩ := hat
  obtain ⟨f, f1, f2, f3⟩ := h9 _ _ _ _ _ hF
  have hs := Z.here.top
  have hd : decode ck.code pci = .ok (.getfield fi, 3) := by rw [hbytes]; exact hdi
  jvm_step Z.here [hexec, hd, getfield.wp_ready (e := C.2.2.1) (s := U) (c := c) (field := f) (a := b) (rest := st) (cell := cellB) (v := v)
    (f := { method := ⟨c, 1⟩, pc := pci, locals := LS, stack := .ref b :: st, locked := none }) hs f1 f2 rfl hcell (by rw [hvm]; exact fun h => by cases h) (by rw [f3]; exact hv)]
  exact kk
theorem lm_aload (hexec : C.1.tables.exec = Jvm.exec) (Z : Stand C.1 C.2.1 C.2.2.1 R9 s9 ⟨c, 1⟩ a9 below methk ck U [] 0 0) (hbytes : ck.code = code) {i : Fin 4} {r : Option Nat} {pci : Nat} {LS : Array Slot} {st : List Value} (hdi : decode code pci = .ok (.aload_n i, 1)) (hv : LS[(i : Nat)]? = some (.val (va_rf r)))
    (kk : Steps C.1.tables C.2.2.1 below (U.setTop { method := ⟨c, 1⟩, pc := pci + 1, locals := LS, stack := va_rf r :: st, locked := none }) target) : Steps C.1.tables C.2.2.1 below (U.setTop { method := ⟨c, 1⟩, pc := pci, locals := LS, stack := st, locked := none }) target := by
  have hs := Z.here.top
  have hd : decode ck.code pci = .ok (.aload_n i, 1) := by rw [hbytes]; exact hdi
  have hr := m_refV r
  jvm_step Z.here [hexec, hd, hv, hr]
  exact kk
theorem lm_iload (hexec : C.1.tables.exec = Jvm.exec) (Z : Stand C.1 C.2.1 C.2.2.1 R9 s9 ⟨c, 1⟩ a9 below methk ck U [] 0 0) (hbytes : ck.code = code) {i : Fin 4} {r : Int32} {pci : Nat} {LS : Array Slot} {st : List Value} (hdi : decode code pci = .ok (.iload_n i, 1)) (hv : LS[(i : Nat)]? = some (.val (.int r)))
    (kk : Steps C.1.tables C.2.2.1 below (U.setTop { method := ⟨c, 1⟩, pc := pci + 1, locals := LS, stack := .int r :: st, locked := none }) target) : Steps C.1.tables C.2.2.1 below (U.setTop { method := ⟨c, 1⟩, pc := pci, locals := LS, stack := st, locked := none }) target := by
  have hs := Z.here.top
  have hd : decode ck.code pci = .ok (.iload_n i, 1) := by rw [hbytes]; exact hdi
  jvm_step Z.here [hexec, hd, hv]
  exact kk
end
