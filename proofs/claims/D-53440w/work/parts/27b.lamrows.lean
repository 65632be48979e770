/-! the nine lambda sites (printed by gen/lam.py) -/
set_option maxRecDepth 100000
set_option maxHeartbeats 4000000
section
variable {G : Gp} {C : m_Cx} {own : String} {cc : ByteArray} {nL : Nat} {ret : Option FieldType} {nm : String} {F L n0 s0 : Nat} {Q : State → Prop} {M0 M : Mem} {pc : Nat} {lo lo2 : m_L} {st st0 : List m_V}
/-- a private method of PatrolDesk, selected by its object -/
theorem lm_sel0 (X : m_in G C own cc nL ret nm F L n0 s0) {U : State} (hW : (m_s C).WarmedH U.vm) (hok : m_ok G M U.heap) {a : Nat} (ht : m_tg M a = 1) {y : MethodName} (hs : Cond.selects RX0 y y ∈ lw_all) (hyMH : y.cls ≠ "java/lang/invoke/MethodHandle" ∧ y.cls ≠ "java/lang/invoke/VarHandle") {t : MethodId} (hn : U.methodNamed? y = some t) (hA : C.2.1.admits C.2.2.1) :
    ∃ cellA : Cell, U.heap[a]? = some cellA ∧ cellA.vm = .none ∧ selectMethod C.2.2.1.platform U.vm cellA.cls t = .method t := by
  obtain ⟨cellA, q1, q2, q3, -⟩ := hok.1 a 0 _ ht rfl
  obtain ⟨c2, r2, m2, p1, p2, p3, p4, -⟩ := Cond.selects_spec (word_at (a' := m_ar C) hW (Or.inl rfl) (X.2.2.2.2.2.2.2.1 _ hs))
  have hfc := (m_Kc X (ci := 0) rfl).2.1
  rw [hW.alike.findClass] at p1
  cases p1.symm.trans hfc
  cases (State.methodFound?_of_named hn hyMH).symm.trans p2
  cases hn.symm.trans p3
  exact ⟨cellA, q1, q3, by rw [Launch.admits_selectMethod hA, q2]; exact p4⟩
theorem m_cS0 (X : m_in G C own cc nL ret nm F L n0 s0) {b p : Nat} {v : Int32} {index count : Nat} {Q9 : Int32 → Mem → Prop} (hb : m_tg M b = 201) (hw : wp_X1_lambda_nearest_0 G.2 M p v (fun r M1 => (r = 0 ∨ r = 1) ∧ Q9 r M1)) (hR : 5 ≤ F ∧ 104 ≤ L) (hlink : Cond.methodLink own index yTest ∈ lw_all) (hst : st0 = ([vR (some p), vI v] : List m_V).reverse ++ vR (some b) :: st) (hw8 : st.length ≤ 8) (hdg : decode cc pc = .ok (.invokeinterface index count, 5)) :
    m_run G C nL n0 s0 M pc 5 lo st0 st (va_Qi (m_q1 M (fun r M1 => (r = 0 ∨ r = 1) ∧ Q9 r M1)) (m_W G) (m_A G)) := by
  refine m_cL (ifm := yTest) (y := yX1_lambda_nearest_0) (stat := true) (n9 := 2) (av := [vR (some p), vI v]) (avy := [vR (some p), vI v]) (pci := 2) X lsh0 (by decide) lsK0 hb hlink q1644 q1643 (by decide) ⟨rfl, rfl, by decide +kernel⟩ (show (parseMethodDescriptor yTest.desc).map (fun d => d.parameters.length) = some 2 from by decide +kernel) (met_X1_lambda_nearest_0 G C.2.1 M p v _ hw) q1629 q79 (by decide +kernel) ⟨by decide, by decide⟩ (by decide +kernel) q1628 rfl (by decide) ⟨by omega, by omega⟩ hw8 hst hdg lcA_2 lcA_5 rfl (fun r M9 _ h9 => m_nz h9.1) ?_
  intro U below a9 s9 R9 methk ck t tk methY cellB hG hW hat hn hcb hcv hcs hok hbytes Z target kk
  refine lm_aload (i := 1) (r := some p) X.1 Z hbytes lcA_0 rfl ?_
  refine lm_iload (i := 2) (r := v) X.1 Z hbytes lcA_1 rfl ?_
  exact lm_static (vs := [va_rf (some p), .int v]) X.1 Z hbytes lsK0 hat rfl lcA_2 kk
theorem m_cS1 (X : m_in G C own cc nL ret nm F L n0 s0) {b p : Nat} {v : Int32} {index count : Nat} {Q9 : Int32 → Mem → Prop} (hb : m_tg M b = 202) (hw : wp_X1_lambda_nearest_1 G.2 M p v (fun r M1 => (r = 0 ∨ r = 1) ∧ Q9 r M1)) (hR : 5 ≤ F ∧ 104 ≤ L) (hlink : Cond.methodLink own index yTest ∈ lw_all) (hst : st0 = ([vR (some p), vI v] : List m_V).reverse ++ vR (some b) :: st) (hw8 : st.length ≤ 8) (hdg : decode cc pc = .ok (.invokeinterface index count, 5)) :
    m_run G C nL n0 s0 M pc 5 lo st0 st (va_Qi (m_q1 M (fun r M1 => (r = 0 ∨ r = 1) ∧ Q9 r M1)) (m_W G) (m_A G)) := by
  refine m_cL (ifm := yTest) (y := yX1_lambda_nearest_1) (stat := true) (n9 := 2) (av := [vR (some p), vI v]) (avy := [vR (some p), vI v]) (pci := 2) X lsh1 (by decide) lsK1 hb hlink q1644 q1643 (by decide) ⟨rfl, rfl, by decide +kernel⟩ (show (parseMethodDescriptor yTest.desc).map (fun d => d.parameters.length) = some 2 from by decide +kernel) (met_X1_lambda_nearest_1 G C.2.1 M p v _ hw) q1646 q79 (by decide +kernel) ⟨by decide, by decide⟩ (by decide +kernel) q1645 rfl (by decide) ⟨by omega, by omega⟩ hw8 hst hdg lcA_2 lcA_5 rfl (fun r M9 _ h9 => m_nz h9.1) ?_
  intro U below a9 s9 R9 methk ck t tk methY cellB hG hW hat hn hcb hcv hcs hok hbytes Z target kk
  refine lm_aload (i := 1) (r := some p) X.1 Z hbytes lcA_0 rfl ?_
  refine lm_iload (i := 2) (r := v) X.1 Z hbytes lcA_1 rfl ?_
  exact lm_static (vs := [va_rf (some p), .int v]) X.1 Z hbytes lsK1 hat rfl lcA_2 kk
theorem m_cS2 (X : m_in G C own cc nL ret nm F L n0 s0) {b p : Nat} {index count : Nat} {Q9 : Int32 → Mem → Prop} (hb : m_tg M b = 203) (hw : wp_X0_lambda_member_0 G.2 M (m_gi M b 0) p Q9) (hR : 2 ≤ F ∧ 42 ≤ L) (hlink : Cond.methodLink own index yOf ∈ lw_all) (hst : st0 = ([vR (some p)] : List m_V).reverse ++ vR (some b) :: st) (hw8 : st.length ≤ 8) (hdg : decode cc pc = .ok (.invokeinterface index count, 5)) :
    m_run G C nL n0 s0 M pc 5 lo st0 st (va_Qi (m_q1 M Q9) (m_W G) (m_A G)) := by
  refine m_cL (ifm := yOf) (y := yX0_lambda_member_0) (stat := true) (n9 := 2) (av := [vR (some p)]) (avy := [vI (m_gi M b 0), vR (some p)]) (pci := 5) X lsh2 (by decide) lsK2 hb hlink q1883 q1882 (by decide) ⟨rfl, rfl, by decide +kernel⟩ (show (parseMethodDescriptor yOf.desc).map (fun d => d.parameters.length) = some 1 from by decide +kernel) (met_X0_lambda_member_0 G C.2.1 M (m_gi M b 0) p _ hw) q1875 q78 (by decide +kernel) ⟨by decide, by decide⟩ (by decide +kernel) q1874 rfl (by decide) ⟨by omega, by omega⟩ hw8 hst hdg lcC_5 lcC_8 rfl (fun _ _ _ _ => rfl) ?_
  intro U below a9 s9 R9 methk ck t tk methY cellB hG hW hat hn hcb hcv hcs hok hbytes Z target kk
  refine lm_aload (i := 0) (r := some b) X.1 Z hbytes lcC_0 rfl ?_
  refine lm_field (v := .int (m_gi M b 0)) X.1 Z hbytes hat lsF2_0 lcC_1 hcb hcv (by rw [hcs]; rfl) ?_
  refine lm_aload (i := 1) (r := some p) X.1 Z hbytes lcC_4 rfl ?_
  exact lm_static (vs := [.int (m_gi M b 0), va_rf (some p)]) X.1 Z hbytes lsK2 hat rfl lcC_5 kk
theorem m_cS3 (X : m_in G C own cc nL ret nm F L n0 s0) {b p : Nat} {index count : Nat} {Q9 : Int32 → Mem → Prop} (hb : m_tg M b = 204) {a : Nat} (ha : m_gr M b 0 = some a) (hta : m_tg M a = 1) (hw : wp_X0_lambda_member_1 G.2 M a (m_gi M b 1) p Q9) (hR : 3 ≤ F ∧ 64 ≤ L) (hlink : Cond.methodLink own index yOf ∈ lw_all) (hst : st0 = ([vR (some p)] : List m_V).reverse ++ vR (some b) :: st) (hw8 : st.length ≤ 8) (hdg : decode cc pc = .ok (.invokeinterface index count, 5)) :
    m_run G C nL n0 s0 M pc 5 lo st0 st (va_Qi (m_q1 M Q9) (m_W G) (m_A G)) := by
  refine m_cL (ifm := yOf) (y := yX0_lambda_member_1) (stat := false) (n9 := 2) (av := [vR (some p)]) (avy := [vR (some a), vI (m_gi M b 1), vR (some p)]) (pci := 9) X lsh3 (by decide) lsK3 hb hlink q1883 q1882 (by decide) ⟨rfl, rfl, by decide +kernel⟩ (show (parseMethodDescriptor yOf.desc).map (fun d => d.parameters.length) = some 1 from by decide +kernel) (met_X0_lambda_member_1 G C.2.1 M a (m_gi M b 1) p _ hw) q1886 q78 (by decide +kernel) ⟨by decide, by decide⟩ (by decide +kernel) q1885 rfl (by decide) ⟨by omega, by omega⟩ hw8 hst hdg lcE_9 lcE_12 rfl (fun _ _ _ _ => rfl) ?_
  intro U below a9 s9 R9 methk ck t tk methY cellB hG hW hat hn hcb hcv hcs hok hbytes Z target kk
  obtain ⟨cellA, e1, e2, e3⟩ := lm_sel0 X hW hok hta qs34 ⟨by decide, by decide⟩ hn Z.admits
  refine lm_aload (i := 0) (r := some b) X.1 Z hbytes lcE_0 rfl ?_
  refine lm_field (v := .ref a) X.1 Z hbytes hat lsF3_0 lcE_1 hcb hcv (by rw [hcs]; show #[va_rf (m_gr M b 0), .int (m_gi M b 1)][0]? = _; rw [ha]; rfl) ?_
  refine lm_aload (i := 0) (r := some b) X.1 Z hbytes lcE_4 rfl ?_
  refine lm_field (v := .int (m_gi M b 1)) X.1 Z hbytes hat lsF3_1 lcE_5 hcb hcv (by rw [hcs]; rfl) ?_
  refine lm_aload (i := 1) (r := some p) X.1 Z hbytes lcE_8 rfl ?_
  exact lm_virtual (vs := [.int (m_gi M b 1), va_rf (some p)]) X.1 Z hbytes lsK3 rfl hat rfl lcE_9 e1 e2 e3 kk
theorem m_cS4 (X : m_in G C own cc nL ret nm F L n0 s0) {b p : Nat} {index count : Nat} {Q9 : Int32 → Mem → Prop} (hb : m_tg M b = 205) (hw : wp_X0_lambda_member_2 G.2 M (m_gi M b 0) p Q9) (hR : 2 ≤ F ∧ 42 ≤ L) (hlink : Cond.methodLink own index yOf ∈ lw_all) (hst : st0 = ([vR (some p)] : List m_V).reverse ++ vR (some b) :: st) (hw8 : st.length ≤ 8) (hdg : decode cc pc = .ok (.invokeinterface index count, 5)) :
    m_run G C nL n0 s0 M pc 5 lo st0 st (va_Qi (m_q1 M Q9) (m_W G) (m_A G)) := by
  refine m_cL (ifm := yOf) (y := yX0_lambda_member_2) (stat := true) (n9 := 2) (av := [vR (some p)]) (avy := [vI (m_gi M b 0), vR (some p)]) (pci := 5) X lsh4 (by decide) lsK4 hb hlink q1883 q1882 (by decide) ⟨rfl, rfl, by decide +kernel⟩ (show (parseMethodDescriptor yOf.desc).map (fun d => d.parameters.length) = some 1 from by decide +kernel) (met_X0_lambda_member_2 G C.2.1 M (m_gi M b 0) p _ hw) q1888 q78 (by decide +kernel) ⟨by decide, by decide⟩ (by decide +kernel) q1887 rfl (by decide) ⟨by omega, by omega⟩ hw8 hst hdg lcC_5 lcC_8 rfl (fun _ _ _ _ => rfl) ?_
  intro U below a9 s9 R9 methk ck t tk methY cellB hG hW hat hn hcb hcv hcs hok hbytes Z target kk
  refine lm_aload (i := 0) (r := some b) X.1 Z hbytes lcC_0 rfl ?_
  refine lm_field (v := .int (m_gi M b 0)) X.1 Z hbytes hat lsF4_0 lcC_1 hcb hcv (by rw [hcs]; rfl) ?_
  refine lm_aload (i := 1) (r := some p) X.1 Z hbytes lcC_4 rfl ?_
  exact lm_static (vs := [.int (m_gi M b 0), va_rf (some p)]) X.1 Z hbytes lsK4 hat rfl lcC_5 kk
theorem m_cS5 (X : m_in G C own cc nL ret nm F L n0 s0) {b p : Nat} {index count : Nat} {Q9 : Int32 → Mem → Prop} (hb : m_tg M b = 206) (hw : wp_X0_lambda_member_3 G.2 M (m_gi M b 0) p Q9) (hR : 3 ≤ F ∧ 63 ≤ L) (hlink : Cond.methodLink own index yOf ∈ lw_all) (hst : st0 = ([vR (some p)] : List m_V).reverse ++ vR (some b) :: st) (hw8 : st.length ≤ 8) (hdg : decode cc pc = .ok (.invokeinterface index count, 5)) :
    m_run G C nL n0 s0 M pc 5 lo st0 st (va_Qi (m_q1 M Q9) (m_W G) (m_A G)) := by
  refine m_cL (ifm := yOf) (y := yX0_lambda_member_3) (stat := true) (n9 := 2) (av := [vR (some p)]) (avy := [vI (m_gi M b 0), vR (some p)]) (pci := 5) X lsh5 (by decide) lsK5 hb hlink q1883 q1882 (by decide) ⟨rfl, rfl, by decide +kernel⟩ (show (parseMethodDescriptor yOf.desc).map (fun d => d.parameters.length) = some 1 from by decide +kernel) (met_X0_lambda_member_3 G C.2.1 M (m_gi M b 0) p _ hw) q1890 q78 (by decide +kernel) ⟨by decide, by decide⟩ (by decide +kernel) q1889 rfl (by decide) ⟨by omega, by omega⟩ hw8 hst hdg lcC_5 lcC_8 rfl (fun _ _ _ _ => rfl) ?_
  intro U below a9 s9 R9 methk ck t tk methY cellB hG hW hat hn hcb hcv hcs hok hbytes Z target kk
  refine lm_aload (i := 0) (r := some b) X.1 Z hbytes lcC_0 rfl ?_
  refine lm_field (v := .int (m_gi M b 0)) X.1 Z hbytes hat lsF5_0 lcC_1 hcb hcv (by rw [hcs]; rfl) ?_
  refine lm_aload (i := 1) (r := some p) X.1 Z hbytes lcC_4 rfl ?_
  exact lm_static (vs := [.int (m_gi M b 0), va_rf (some p)]) X.1 Z hbytes lsK5 hat rfl lcC_5 kk
theorem m_cS6 (X : m_in G C own cc nL ret nm F L n0 s0) {b p : Nat} {index count : Nat} {Q9 : Int32 → Mem → Prop} (hb : m_tg M b = 207) (hw : wp_X0_lambda_count_4 G.2 M (m_gi M b 0) p Q9) (hR : 2 ≤ F ∧ 42 ≤ L) (hlink : Cond.methodLink own index yOf ∈ lw_all) (hst : st0 = ([vR (some p)] : List m_V).reverse ++ vR (some b) :: st) (hw8 : st.length ≤ 8) (hdg : decode cc pc = .ok (.invokeinterface index count, 5)) :
    m_run G C nL n0 s0 M pc 5 lo st0 st (va_Qi (m_q1 M Q9) (m_W G) (m_A G)) := by
  refine m_cL (ifm := yOf) (y := yX0_lambda_count_4) (stat := true) (n9 := 2) (av := [vR (some p)]) (avy := [vI (m_gi M b 0), vR (some p)]) (pci := 5) X lsh6 (by decide) lsK6 hb hlink q1883 q1882 (by decide) ⟨rfl, rfl, by decide +kernel⟩ (show (parseMethodDescriptor yOf.desc).map (fun d => d.parameters.length) = some 1 from by decide +kernel) (met_X0_lambda_count_4 G C.2.1 M (m_gi M b 0) p _ hw) q1925 q78 (by decide +kernel) ⟨by decide, by decide⟩ (by decide +kernel) q1924 rfl (by decide) ⟨by omega, by omega⟩ hw8 hst hdg lcC_5 lcC_8 rfl (fun _ _ _ _ => rfl) ?_
  intro U below a9 s9 R9 methk ck t tk methY cellB hG hW hat hn hcb hcv hcs hok hbytes Z target kk
  refine lm_aload (i := 0) (r := some b) X.1 Z hbytes lcC_0 rfl ?_
  refine lm_field (v := .int (m_gi M b 0)) X.1 Z hbytes hat lsF6_0 lcC_1 hcb hcv (by rw [hcs]; rfl) ?_
  refine lm_aload (i := 1) (r := some p) X.1 Z hbytes lcC_4 rfl ?_
  exact lm_static (vs := [.int (m_gi M b 0), va_rf (some p)]) X.1 Z hbytes lsK6 hat rfl lcC_5 kk
theorem m_cS7 (X : m_in G C own cc nL ret nm F L n0 s0) {b p : Nat} {index count : Nat} {Q9 : Int32 → Mem → Prop} (hb : m_tg M b = 208) {a : Nat} (ha : m_gr M b 0 = some a) (hta : m_tg M a = 1) (hw : wp_X0_lambda_count_5 G.2 M a p Q9) (hR : 3 ≤ F ∧ 63 ≤ L) (hlink : Cond.methodLink own index yOf ∈ lw_all) (hst : st0 = ([vR (some p)] : List m_V).reverse ++ vR (some b) :: st) (hw8 : st.length ≤ 8) (hdg : decode cc pc = .ok (.invokeinterface index count, 5)) :
    m_run G C nL n0 s0 M pc 5 lo st0 st (va_Qi (m_q1 M Q9) (m_W G) (m_A G)) := by
  refine m_cL (ifm := yOf) (y := yX0_lambda_count_5) (stat := false) (n9 := 1) (av := [vR (some p)]) (avy := [vR (some a), vR (some p)]) (pci := 5) X lsh7 (by decide) lsK7 hb hlink q1883 q1882 (by decide) ⟨rfl, rfl, by decide +kernel⟩ (show (parseMethodDescriptor yOf.desc).map (fun d => d.parameters.length) = some 1 from by decide +kernel) (met_X0_lambda_count_5 G C.2.1 M a p _ hw) q1928 q78 (by decide +kernel) ⟨by decide, by decide⟩ (by decide +kernel) q1927 rfl (by decide) ⟨by omega, by omega⟩ hw8 hst hdg lcD_5 lcD_8 rfl (fun _ _ _ _ => rfl) ?_
  intro U below a9 s9 R9 methk ck t tk methY cellB hG hW hat hn hcb hcv hcs hok hbytes Z target kk
  obtain ⟨cellA, e1, e2, e3⟩ := lm_sel0 X hW hok hta qs35 ⟨by decide, by decide⟩ hn Z.admits
  refine lm_aload (i := 0) (r := some b) X.1 Z hbytes lcD_0 rfl ?_
  refine lm_field (v := .ref a) X.1 Z hbytes hat lsF7_0 lcD_1 hcb hcv (by rw [hcs]; show #[va_rf (m_gr M b 0)][0]? = _; rw [ha]; rfl) ?_
  refine lm_aload (i := 1) (r := some p) X.1 Z hbytes lcD_4 rfl ?_
  exact lm_virtual (vs := [va_rf (some p)]) X.1 Z hbytes lsK7 rfl hat rfl lcD_5 e1 e2 e3 kk
theorem m_cS8 (X : m_in G C own cc nL ret nm F L n0 s0) {b p : Nat} {index count : Nat} {Q9 : Int32 → Mem → Prop} (hb : m_tg M b = 209) (hw : wp_X0_lambda_count_6 G.2 M p Q9) (hR : 2 ≤ F ∧ 41 ≤ L) (hlink : Cond.methodLink own index yOf ∈ lw_all) (hst : st0 = ([vR (some p)] : List m_V).reverse ++ vR (some b) :: st) (hw8 : st.length ≤ 8) (hdg : decode cc pc = .ok (.invokeinterface index count, 5)) :
    m_run G C nL n0 s0 M pc 5 lo st0 st (va_Qi (m_q1 M Q9) (m_W G) (m_A G)) := by
  refine m_cL (ifm := yOf) (y := yX0_lambda_count_6) (stat := true) (n9 := 1) (av := [vR (some p)]) (avy := [vR (some p)]) (pci := 1) X lsh8 (by decide) lsK8 hb hlink q1883 q1882 (by decide) ⟨rfl, rfl, by decide +kernel⟩ (show (parseMethodDescriptor yOf.desc).map (fun d => d.parameters.length) = some 1 from by decide +kernel) (met_X0_lambda_count_6 G C.2.1 M p _ hw) q1934 q78 (by decide +kernel) ⟨by decide, by decide⟩ (by decide +kernel) q1933 rfl (by decide) ⟨by omega, by omega⟩ hw8 hst hdg lcB_1 lcB_4 rfl (fun _ _ _ _ => rfl) ?_
  intro U below a9 s9 R9 methk ck t tk methY cellB hG hW hat hn hcb hcv hcs hok hbytes Z target kk
  refine lm_aload (i := 1) (r := some p) X.1 Z hbytes lcB_0 rfl ?_
  exact lm_static (vs := [va_rf (some p)]) X.1 Z hbytes lsK8 hat rfl lcB_1 kk
end
/-- Fits.test -/
def wp_test (g : Nat → Nat) (M : Mem) (b p : Nat) (v : Int32) (Q : Int32 → Mem → Prop) : Prop := (m_tg M b = 201 ∧ wp_X1_lambda_nearest_0 g M p v (fun r M1 => (r = 0 ∨ r = 1) ∧ Q r M1)) ∨ (m_tg M b = 202 ∧ wp_X1_lambda_nearest_1 g M p v (fun r M1 => (r = 0 ∨ r = 1) ∧ Q r M1))
/-- Amount.of -/
def wp_of (g : Nat → Nat) (M : Mem) (b p : Nat) (Q : Int32 → Mem → Prop) : Prop := (m_tg M b = 203 ∧ wp_X0_lambda_member_0 g M (m_gi M b 0) p Q) ∨ (m_tg M b = 204 ∧ ∃ a : Nat, m_gr M b 0 = some a ∧ m_tg M a = 1 ∧ wp_X0_lambda_member_1 g M a (m_gi M b 1) p Q) ∨ (m_tg M b = 205 ∧ wp_X0_lambda_member_2 g M (m_gi M b 0) p Q) ∨ (m_tg M b = 206 ∧ wp_X0_lambda_member_3 g M (m_gi M b 0) p Q) ∨ (m_tg M b = 207 ∧ wp_X0_lambda_count_4 g M (m_gi M b 0) p Q) ∨ (m_tg M b = 208 ∧ ∃ a : Nat, m_gr M b 0 = some a ∧ m_tg M a = 1 ∧ wp_X0_lambda_count_5 g M a p Q) ∨ (m_tg M b = 209 ∧ wp_X0_lambda_count_6 g M p Q)
section
variable {G : Gp} {C : m_Cx} {own : String} {cc : ByteArray} {nL : Nat} {ret : Option FieldType} {nm : String} {F L n0 s0 : Nat} {Q : State → Prop} {M0 M : Mem} {pc : Nat} {lo lo2 : m_L} {st st0 : List m_V}
theorem m_cTest (X : m_in G C own cc nL ret nm F L n0 s0) {b p : Nat} {v : Int32} {index count : Nat} {Q9 : Int32 → Mem → Prop} (hw : wp_test G.2 M b p v Q9) (hR : 5 ≤ F ∧ 104 ≤ L) (hlink : Cond.methodLink own index yTest ∈ lw_all) (hst : st0 = ([vR (some p), vI v] : List m_V).reverse ++ vR (some b) :: st) (hw8 : st.length ≤ 8) (hdg : decode cc pc = .ok (.invokeinterface index count, 5)) :
    m_run G C nL n0 s0 M pc 5 lo st0 st (va_Qi (m_q1 M (fun r M1 => (r = 0 ∨ r = 1) ∧ Q9 r M1)) (m_W G) (m_A G)) := by
  rcases hw with ⟨hb, hw⟩ | ⟨hb, hw⟩
  · exact m_cS0 X hb hw ⟨by omega, by omega⟩ hlink hst hw8 hdg
  · exact m_cS1 X hb hw ⟨by omega, by omega⟩ hlink hst hw8 hdg
theorem m_cOf (X : m_in G C own cc nL ret nm F L n0 s0) {b p : Nat} {index count : Nat} {Q9 : Int32 → Mem → Prop} (hw : wp_of G.2 M b p Q9) (hR : 5 ≤ F ∧ 104 ≤ L) (hlink : Cond.methodLink own index yOf ∈ lw_all) (hst : st0 = ([vR (some p)] : List m_V).reverse ++ vR (some b) :: st) (hw8 : st.length ≤ 8) (hdg : decode cc pc = .ok (.invokeinterface index count, 5)) :
    m_run G C nL n0 s0 M pc 5 lo st0 st (va_Qi (m_q1 M Q9) (m_W G) (m_A G)) := by
  rcases hw with ⟨hb, hw⟩ | ⟨hb, a, ha, hta, hw⟩ | ⟨hb, hw⟩ | ⟨hb, hw⟩ | ⟨hb, hw⟩ | ⟨hb, a, ha, hta, hw⟩ | ⟨hb, hw⟩
  · exact m_cS2 X hb hw ⟨by omega, by omega⟩ hlink hst hw8 hdg
  · exact m_cS3 X hb ha hta hw ⟨by omega, by omega⟩ hlink hst hw8 hdg
  · exact m_cS4 X hb hw ⟨by omega, by omega⟩ hlink hst hw8 hdg
  · exact m_cS5 X hb hw ⟨by omega, by omega⟩ hlink hst hw8 hdg
  · exact m_cS6 X hb hw ⟨by omega, by omega⟩ hlink hst hw8 hdg
  · exact m_cS7 X hb ha hta hw ⟨by omega, by omega⟩ hlink hst hw8 hdg
  · exact m_cS8 X hb hw ⟨by omega, by omega⟩ hlink hst hw8 hdg
end
