/-! super() of an exception's constructor (a launch without stack traces): what java.lang.Throwable's constructor leaves behind (follows vx_ctorMade0) -/
set_option maxRecDepth 100000
section
variable {G : Gp} {C : m_Cx} {own : String} {cc : ByteArray} {nL : Nat} {ret : Option FieldType} {nm : String} {F L n0 s0 : Nat} {Q : State → Prop} {M0 M : Mem} {pc : Nat} {lo lo2 : m_L} {st st0 : List m_V}
abbrev yEx0 : MethodName := ⟨"java/lang/Exception", "<init>", "()V"⟩
theorem m_thrAtoms {s : State} {args : Array Value} (hts : ∀ w ∈ lw_all, w.before args s = true) (h1 : vx_L "java/lang/Throwable" "UNASSIGNED_STACK" "[Ljava/lang/StackTraceElement;" (m_A G) s s.heap) (h2 : vx_L "java/lang/Throwable" "SUPPRESSED_SENTINEL" "Ljava/util/List;" (m_A G) s s.heap) : ∀ w ∈ Bundle.throwableAtoms, w.before args s = true := by
  intro w hw
  simp only [Bundle.throwableAtoms, List.mem_cons, List.not_mem_nil, or_false] at hw
  rcases hw with rfl | rfl | rfl | rfl | rfl | rfl | rfl | rfl | rfl | rfl | rfl | rfl | rfl | rfl | rfl | rfl | rfl | rfl | rfl | rfl | rfl | rfl | rfl | rfl
  · exact hts _ q113
  · exact hts _ q1333
  · exact hts _ q1342
  · exact hts _ q1345
  · exact hts _ q1348
  · exact hts _ q1350
  · exact hts _ q1334
  · exact hts _ q1335
  · exact hts _ q127
  · exact hts _ q128
  · exact hts _ q1336
  · exact hts _ q1341
  · exact hts _ q1346
  · exact hts _ q1361
  · exact hts _ q1323
  · exact hts _ q1362
  · exact hts _ q1325
  · exact hts _ q1363
  · exact hts _ q1327
  · exact hts _ q1337
  · exact h1.word
  · exact hts _ q1339
  · exact h2.word
  · exact hts _ q1329
/-- the table of an exception's class begins with Throwable's fields -/
def m_thr (q : Ce) : Prop := q.2.2.2 = 7 ∧ q.2.1 0 = ("java/lang/Throwable", "cause", "Ljava/lang/Throwable;", false) ∧ q.2.1 1 = ("java/lang/Throwable", "stackTrace", "[Ljava/lang/StackTraceElement;", false) ∧ q.2.1 2 = ("java/lang/Throwable", "suppressedExceptions", "Ljava/util/List;", false) ∧
  q.2.1 4 = ("java/lang/Throwable", "backtrace", "Ljava/lang/Object;", false) ∧ q.2.2.1 0 = .object "java/lang/Throwable" ∧ q.2.2.1 1 = .array (.object "java/lang/StackTraceElement") ∧ q.2.2.1 2 = .object "java/util/List" ∧ q.2.2.1 4 = .object "java/lang/Object"
def m_sxg (g : Nat → Nat) (M : Mem) (a : Nat) : Mem := m_pr (m_pr (m_pr (m_pr M a 0 (some a)) a 1 (m_ro (g 3))) a 2 (m_ro (g 4))) a 1 (m_ro (g 3))
abbrev m_sx (G : Gp) (M : Mem) (a : Nat) : Mem := m_sxg G.2 M a
theorem m_tg_sx {a b : Nat} : m_tg (m_sx G M a) b = m_tg M b := by unfold m_sx m_sxg; rw [m_tg_pr, m_tg_pr, m_tg_pr, m_tg_pr]
theorem m_le_sx {a : Nat} : m_le M (m_sx G M a) := m_le_tr m_le_pr (m_le_tr m_le_pr (m_le_tr m_le_pr m_le_pr))
theorem m_refV (r : Option Nat) : (va_rf r).isRef = true := by cases r <;> rfl
theorem m_fitsO {n : String} (r : Option Nat) : fits (.object n) (va_rf r) = true := by cases r <;> rfl
theorem m_fitsA {t : FieldType} (r : Option Nat) : fits (.array t) (va_rf r) = true := by cases r <;> rfl
theorem m_narO {n : String} (r : Option Nat) : narrow (.object n) (va_rf r) = va_rf r := by cases r <;> rfl
theorem m_narA {t : FieldType} (r : Option Nat) : narrow (.array t) (va_rf r) = va_rf r := by cases r <;> rfl
set_option maxHeartbeats 4000000 in
theorem pw_superX (X : m_in G C own cc nL ret nm F L n0 s0) (hl : C.2.1.stackTraces = false) {a ci : Nat} {q : Ce} (M2 : Mem) (hM2 : M2 = m_sx G M a) (ht : m_tg M a = ci + 1) (hx : ci = 9 ∨ ci = 12) (hc : m_cls[ci]? = some q) (hq : m_thr q)
    (hin : ∀ w ∈ u_ws q.1 q.2.1 q.2.2.2, w ∈ lw_all) (hty : ∀ k, k < q.2.2.2 → parseFieldDescriptor (q.2.1 k).2.2.1 = some (q.2.2.1 k)) (hnm : ∀ a, a < q.2.2.2 → ∀ b, b < q.2.2.2 → a ≠ b → (q.2.1 a).2.1 ≠ (q.2.1 b).2.1)
    (hb : m_gr M a 4 = none) (hlink : Cond.methodLink own 1 yEx0 ∈ lw_all) (hsel0 : Cond.selects q.1 Bundle.tFill0 Bundle.tFill0 ∈ lw_all) (hselF : Cond.selects q.1 Bundle.tFill Bundle.tFill ∈ lw_all)
    (hF : 4 ≤ F) (hL : st.length + 60 ≤ L) (hdg : decode cc pc = .ok (.invokespecial 1, 3)) (kk : pW G C nL n0 s0 M0 Q M2 (pc + 3) lo st) : pW G C nL n0 s0 M0 Q M pc lo (vR (some a) :: st) := by
  subst hM2
  intro hle H locs ls hM hS hls T hT Y
  have hts := X.2.2.2.2.2.2.2.1
  have hG := X.2.2.2.2.2.2.2.2.1
  have hown := X.2.2.2.2.2.1
  have hR := X.2.2.2.2.2.2.2.2.2.1
  obtain ⟨-, -, -, hZ, -, -, -, -, -, -, -, -, -, hLU, hLS⟩ := id hG
  obtain ⟨hN7, hT0, hT1, hT2, hT4, hy0, hy1, hy2, hy4⟩ := hq
  have howns : C.2.2.1.platform.frameOwnsMonitors = true := by rw [Y.admits.platform]
  have hfin : C.2.2.1.platform.finalization = false := by rw [Y.admits.platform]
  have hpl : C.2.2.1.platform.magicAccessors = ({} : Platform).magicAccessors := by rw [Y.admits.platform]
  have htr : C.2.2.1.platform.stackTraces = false := by rw [Y.admits.platform]; exact hl
  obtain ⟨TT, Z, LL, LZ, Y0⟩ := ThrowableC.of_atoms (args := m_ar C) howns hfin hpl (m_thrAtoms hts hLU hLS)
  obtain ⟨P1, Ps, hlen, L1, hL', hP1m, hlink1, hlink'⟩ := Bundle.chain0 (args := m_ar C) hpl Y0.init0 [] "java/lang/Exception" (by decide +kernel) (fun _ h => by cases h) (fun w hw => by
    simp only [Bundle.chain0Atoms, Bundle.passAtoms, List.mem_cons, List.not_mem_nil, or_false] at hw
    rcases hw with rfl | rfl | rfl | rfl | rfl
    · exact hts _ q1355
    · exact hts _ q1356
    · exact hts _ q1357
    · exact hts _ q1334
    · exact va_Nw.use rfl (X.2.2.2.2.2.2.2.2.1.2.1 _ (m_nst_in q1318 rfl)))
  cases Ps with
  | cons _ _ => simp at hlen
  | nil =>
  obtain ⟨cell, q1, q2, q3, q4⟩ := hM.1 a ci q ht hc
  obtain ⟨hmo, hmc⟩ := (hM.2.2.2.2.2.1 a (by omega)).2.2 (by omega) cell q1
  obtain ⟨hSl, hfc, kC, hkC, hkind⟩ := m_Kc X hc
  have hsel0' : selectMethod C.2.2.1.platform (m_s C).vm cell.cls TT.fill0 = .method TT.fill0 := by
    obtain ⟨c2, r2, m2, p1, p2, p3, p4, -⟩ := Cond.selects_spec (hts _ hsel0)
    cases Option.some.inj (p1.symm.trans hfc)
    cases Option.some.inj (p2.symm.trans (State.methodFound?_of_named Y0.fill0 (by decide)))
    cases Option.some.inj (p3.symm.trans Y0.fill0)
    rw [Launch.admits_selectMethod Y.admits, q2]; exact p4
  have hselF' : selectMethod C.2.2.1.platform (m_s C).vm cell.cls TT.fill = .method TT.fill := by
    obtain ⟨c2, r2, m2, p1, p2, p3, p4, -⟩ := Cond.selects_spec (hts _ hselF)
    cases Option.some.inj (p1.symm.trans hfc)
    cases Option.some.inj (p2.symm.trans (State.methodFound?_of_named Y0.fill (by decide)))
    cases Option.some.inj (p3.symm.trans Y0.fill)
    rw [Launch.admits_selectMethod Y.admits, q2]; exact p4
  -- the statics
  have hzU := hZ ("java/lang/Throwable", "UNASSIGNED_STACK", "[Ljava/lang/StackTraceElement;", va_rf (m_ro (G.2 3))) (List.mem_of_getElem? (i := 2) rfl)
  have hzS := hZ ("java/lang/Throwable", "SUPPRESSED_SENTINEL", "Ljava/util/List;", va_rf (m_ro (G.2 4))) (List.mem_of_getElem? (i := 3) rfl)
  obtain ⟨cU, kU, iU, fU, aU, cellU, u1, u2, u3, u4, u5, u6, u7, u8⟩ := hzU
  obtain ⟨cV, kV, iV, fV, aV, cellV, v1, v2, v3, v4, v5, v6, v7, v8⟩ := hzS
  cases Option.some.inj (u1.symm.trans Y0.unassigned)
  cases Option.some.inj (v1.symm.trans Y0.sentinel)
  have ea : aU = TT.aS := Option.some.inj (u4.symm.trans LL.statics)
  have eb : aV = TT.aS := Option.some.inj (v4.symm.trans LL.statics)
  subst ea
  rw [eb] at v5
  cases Option.some.inj (u5.symm.trans v5)
  have hcellS : T.heap[TT.aS]? = some cellU := by
    rw [hT, hS.2.1 _ (Array.getElem?_eq_some_iff.mp u5).1 u8]; exact u5
  have hlt : a < H.size := (hM.2.2.2.2.2.1 a (by omega)).1
  have hge : G.2 0 ≤ a := (hM.2.2.2.2.2.1 a (by omega)).2.1 (by omega)
  have hneS : TT.aS ≠ a := fun e => u8 (by rw [e]; exact hge)
  have hknownS : cellU.vm ≠ .unknown := fun e => by rw [e] at u6; cases u6
  -- the fields
  obtain ⟨ci198, i198, fB, hk198, hg198, ha198, hsB, -, hnB, htB, hffB⟩ := Cond.ownField (t := .object "java/lang/Object") Y0.found LL.cls (by decide +kernel) (show (Cond.fieldLink Bundle.tN 198 Bundle.tN "backtrace" "Ljava/lang/Object;").holds (m_ar C) (m_s C) none (m_s C) [] = true from hts _ q1332) (show (Cond.lays Bundle.tN Bundle.tN "backtrace" "Ljava/lang/Object;").holds (m_ar C) (m_s C) none (m_s C) [] = true from hts _ q1331) C.2.2.1.platform hpl
  obtain ⟨cf0, kf0, fi0, f0, hi0, hs0⟩ := hSl 0 (by omega)
  obtain ⟨cf1, kf1, fi1, f1, hi1, hs1⟩ := hSl 1 (by omega)
  obtain ⟨cf2, kf2, fi2, f2, hi2, hs2⟩ := hSl 2 (by omega)
  obtain ⟨cf4, kf4, fi4, f4, hi4, hs4⟩ := hSl 4 (by omega)
  rw [hT0] at hi0; rw [hT1] at hi1; rw [hT2] at hi2; rw [hT4] at hi4
  cases Option.some.inj (hi0.symm.trans Y0.cause)
  cases Option.some.inj (hi1.symm.trans Y0.stack)
  cases Option.some.inj (hi2.symm.trans Y0.supp)
  cases Option.some.inj (hi4.symm.trans hffB)
  have hlay : ∀ k, k < q.2.2.2 → (q.2.1 k).2.2.2 = false → (Cond.lays q.1 (q.2.1 k).1 (q.2.1 k).2.1 (q.2.1 k).2.2.1).before (m_ar C) (m_s C) = true := fun k hk hf => by
    have h := hts _ (hin _ (u_in_lay hk))
    unfold u_lay at h
    rw [if_neg (by rw [hf]; decide)] at h
    exact h
  have hl0 := hlay 0 (by omega) (by rw [hT0])
  have hl1 := hlay 1 (by omega) (by rw [hT1])
  have hl2 := hlay 2 (by omega) (by rw [hT2])
  rw [hT0] at hl0; rw [hT1] at hl1; rw [hT2] at hl2
  have k0 : Takes (m_s C) cell TT.fCause (.ref a) := ⟨by have := k2_hasslot (q4 0 (by omega)); rw [← hs0] at this; exact this, by rw [q2, q3]; simp [State.fitsSlot, State.slotType?, hkC, hkind, (u_facts hfc hkC (Or.inl hl0) hi0).2.2, Y0.causeType]; rfl⟩
  have k1 : Takes (m_s C) cell TT.fStack (va_rf (m_ro (G.2 3))) := ⟨by have := k2_hasslot (q4 1 (by omega)); rw [← hs1] at this; exact this, by rw [q2, q3]; simp [State.fitsSlot, State.slotType?, hkC, hkind, (u_facts hfc hkC (Or.inl hl1) hi1).2.2, Y0.stackType]; exact m_fitsA _⟩
  have k2 : Takes (m_s C) cell TT.fSupp (va_rf (m_ro (G.2 4))) := ⟨by have := k2_hasslot (q4 2 (by omega)); rw [← hs2] at this; exact this, by rw [q2, q3]; simp [State.fitsSlot, State.slotType?, hkC, hkind, (u_facts hfc hkC (Or.inl hl2) hi2).2.2, Y0.suppType]; exact m_fitsO _⟩
  have hap := m_apart X hc hin hty hnm
  have hb4 : cell.slots[fB.slot]? = some .null := by
    have h4 : cell.slots[G.1.2 ci 4]? = some (m_fv (q.2.2.1 4) (m_gi M a 4) (m_gr M a 4)) := q4 4 (by omega)
    rw [hy4, hb] at h4
    rw [hs4, h4]
    rfl
  have n40 : fB.slot ≠ TT.fCause.slot := by rw [hs4, hs0]; exact hap 4 0 (by omega) (by omega) (by decide)
  have n41 : fB.slot ≠ TT.fStack.slot := by rw [hs4, hs1]; exact hap 4 1 (by omega) (by omega) (by decide)
  have n42 : fB.slot ≠ TT.fSupp.slot := by rw [hs4, hs2]; exact hap 4 2 (by omega) (by omega) (by decide)
  have hskip : SkipFacts TT C.2.2.1.platform (m_s C) (fun u => u) ⟨va_rf (m_ro (G.2 3)), m_refV _⟩ ((preparedCellV TT.toThrowableT cell a ⟨va_rf (m_ro (G.2 3)), m_refV _⟩ ⟨va_rf (m_ro (G.2 4)), m_refV _⟩).withEntry T.cur) :=
    ⟨{ ci198 := ci198, i198 := i198, fBack := fB }, ⟨hk198, hg198, ha198, hsB⟩, by
      simpa [preparedCellV, Cell.setSlot, Cell.withEntry, Array.getElem?_setIfInBounds, n40, n41, n42, n40.symm, n41.symm, n42.symm] using hb4, fun _ _ => rfl⟩
  obtain ⟨tm, methC, cdC, kC9, vm₁, hnC, -, -, -, -, -, -, -, hW₁, st1⟩ := Steps.initCold (tb := C.1.tables) (e := C.2.2.1) (below := m_be C) (s := m_s C) (U := T) Y.here X.1 Y.warmed hpl hown (t := Bundle.init0 "java/lang/Exception") rfl rfl (Bundle.fit_spec (by decide +kernel)).2
    (hts _ hlink) (hts _ q1355) (bytes := Bundle.five) (maxL := 1) (hts _ q1356) (f := F0 (m_mi C) pc ls (.ref a :: st.map m_v)) rfl (a := a) (rest := st.map m_v) rfl (by rw [X.2.1]; exact hdg)
  cases Option.some.inj (hnC.symm.trans hP1m)
  have X₁ := Y.noted hW₁
  obtain ⟨vm₂, X₂, st2⟩ := X₁.ctorPlainOffV X.1 (g := { F0 (m_mi C) pc ls (.ref a :: st.map m_v) with stack := st.map m_v }) rfl (hls.1.trans X.2.2.2.2.1.symm) TT LL Z LZ [P1]
    (fun P hP => by rw [List.mem_singleton.mp hP]; exact L1) ⟨hlink1, hlink'⟩ (u0 := ⟨va_rf (m_ro (G.2 3)), m_refV _⟩) (sen := ⟨va_rf (m_ro (G.2 4)), m_refV _⟩) (self := a) (cell := cell) (cellS := cellU)
    (by show T.heap[a]? = some cell; rw [hT]; exact q1) (fun k h => by rw [q3] at h; cases h) (by rw [q3]; exact fun h => by cases h) hmo hmc hsel0' hselF' hcellS hneS hknownS u7 v7 k0 k1 k2 Y0.objLocals hskip htr [] (by rw [X.2.1]; exact hdg)
    (by rw [hR]; show 1 + 2 < F; omega) (by rw [hR]; show 2 * 0 + ((st.map m_v).map fun v => v.category).sum + (13 * 1 + 41) ≤ L; rw [m_cats]; omega)
  have hset : ∀ c : Cell, (H.setIfInBounds a c)[a]? = some c := fun c => by rw [Array.getElem?_setIfInBounds_self_of_lt hlt]
  have hoth : ∀ (c : Cell) (b : Nat), b ≠ a → (H.setIfInBounds a c)[b]? = H[b]? := fun c b h => by rw [Array.getElem?_setIfInBounds, if_neg (fun e => h e.symm)]
  have ok0 := m_put_ok (k := 0) (v := vR (some a)) (H1 := H.setIfInBounds a (cell.setSlot (G.1.2 ci 0) (.ref a))) X hM ht hc (by omega) hin hty hnm (m_kd_r (fun _ _ => by rw [hy0]; rfl)) q1 (hset _) (by simp) (hoth _)
  have ok1 := m_put_ok (k := 1) (v := vR (m_ro (G.2 3))) (H1 := H.setIfInBounds a ((cell.setSlot (G.1.2 ci 0) (.ref a)).setSlot (G.1.2 ci 1) (va_rf (m_ro (G.2 3))))) X ok0 (by rw [show m_pt M a 0 (vR (some a)) = m_pr M a 0 (some a) from rfl, m_tg_pr]; exact ht) hc (by omega) hin hty hnm (m_kd_r (fun _ _ => by rw [hy1]; rfl)) (hset _) (hset _) (by simp) (fun b h => (hoth _ b h).trans (hoth _ b h).symm)
  have ok2 := m_put_ok (k := 2) (v := vR (m_ro (G.2 4))) (H1 := H.setIfInBounds a (((cell.setSlot (G.1.2 ci 0) (.ref a)).setSlot (G.1.2 ci 1) (va_rf (m_ro (G.2 3)))).setSlot (G.1.2 ci 2) (va_rf (m_ro (G.2 4))))) X ok1 (by rw [m_pt_tg, m_pt_tg]; exact ht) hc (by omega) hin hty hnm (m_kd_r (fun _ _ => by rw [hy2]; rfl)) (hset _) (hset _) (by simp) (fun b h => (hoth _ b h).trans (hoth _ b h).symm)
  have ok3 := m_put_ok (k := 1) (v := vR (m_ro (G.2 3))) (H1 := H.setIfInBounds a ((((cell.setSlot (G.1.2 ci 0) (.ref a)).setSlot (G.1.2 ci 1) (va_rf (m_ro (G.2 3)))).setSlot (G.1.2 ci 2) (va_rf (m_ro (G.2 4)))).setSlot (G.1.2 ci 1) (va_rf (m_ro (G.2 3))))) X ok2 (by rw [m_pt_tg, m_pt_tg, m_pt_tg]; exact ht) hc (by omega) hin hty hnm (m_kd_r (fun _ _ => by rw [hy1]; rfl)) (hset _) (hset _) (by simp) (fun b h => (hoth _ b h).trans (hoth _ b h).symm)
  have hheap : (((T.setVm vm₁).setVm vm₂).setCell a ((preparedCellV TT.toThrowableT cell a ⟨va_rf (m_ro (G.2 3)), m_refV _⟩ ⟨va_rf (m_ro (G.2 4)), m_refV _⟩).setSlot TT.fStack.slot (va_rf (m_ro (G.2 3))))).heap = H.setIfInBounds a ((((cell.setSlot (G.1.2 ci 0) (.ref a)).setSlot (G.1.2 ci 1) (va_rf (m_ro (G.2 3)))).setSlot (G.1.2 ci 2) (va_rf (m_ro (G.2 4)))).setSlot (G.1.2 ci 1) (va_rf (m_ro (G.2 3)))) := by
    rw [← hs0, ← hs1, ← hs2, ← hT]
    rfl
  have K := kk (m_le_tr hle m_le_sx) _ (locs ++ [⟨a, TT.fCause.slot⟩, ⟨a, TT.fStack.slot⟩, ⟨a, TT.fSupp.slot⟩, ⟨a, TT.fStack.slot⟩]) ls ok3 ⟨by simp; exact hS.1, fun b h1 h2 => by rw [hoth _ b (fun e => h2 (by rw [e]; exact hge))]; exact hS.2.1 b h1 h2, fun z hz => by
    rcases List.mem_append.mp hz with h | h
    · exact hS.2.2 z h
    · simp only [List.mem_cons, List.not_mem_nil, or_false] at h
      rcases h with rfl | rfl | rfl | rfl <;> exact hge⟩ hls _ hheap
  have en1 : m_nc (m_sx G M a) = m_nc M := rfl
  have en2 : m_ns (m_sx G M a) = m_ns M := rfl
  rw [en1, en2] at K
  obtain ⟨t, a1, b1⟩ := K X₂
  refine ⟨t, st1 _ (fun acts => ?_), b1⟩
  rw [doInvoke_state]
  exact st2 _ a1
end
