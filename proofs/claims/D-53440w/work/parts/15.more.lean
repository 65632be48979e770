/-! ROWS: stores into arrays, statics, casts -/
set_option maxRecDepth 100000
section
variable {G : Gp} {C : m_Cx} {own : String} {cc : ByteArray} {nL : Nat} {ret : Option FieldType} {nm : String} {F L n0 s0 : Nat} {Q : State → Prop} {M0 M : Mem} {pc : Nat} {lo lo2 : m_L} {st : List m_V}
theorem m_clsN {ci : Nat} {q : Ce} (hc : m_cls[ci]? = some q) : ci < 20 := (List.getElem?_eq_some_iff.mp hc).1
/-- a store into an array of ours -/
theorem m_ast_ok {a k j : Nat} {v : m_V} {H H1 : Heap} (hM : m_ok G M H) (ht : m_tg M a = k + 101) (hk : k < 5) (hv : ∀ (x : Int32) (r : Option Nat), (∀ y, v = vI y → x = y) → (∀ y, v = vR y → r = y) → m_av k x r = m_v v) (hno : ∀ f, v ≠ vF f)
    (e1 : H1[a]? = some ((arrV (G.2 (10 + k)) (m_ln M a) (fun j => m_av k (m_gi M a j) (m_gr M a j))).setSlot j (m_v v))) (e2 : H1.size = H.size) (e3 : ∀ q : Nat, q ≠ a → H1[q]? = H[q]?) : m_ok G (m_pt M a j v) H1 := by
  refine m_ok_upd hM (fun b hb => m_pt_ot hb) m_pt_tg m_pt_2 e2 e3 ?_ (by omega) (fun ci2 q2 h2 hc2 => by have := m_clsN hc2; omega) (fun k2 h2 hk2 => ?_) (fun h9 => by omega)
  · rw [e1, hM.2.1 a k ht hk]
    simp [Cell.setSlot]
  · have e : k2 = k := by omega
    subst e
    rw [e1, arrV_store]
    have el : m_ln (m_pt M a j v) a = m_ln M a := by
      rcases v with x | r | x
      · exact m_ln_pi
      · exact m_ln_pr
      · exact m_ln_pi
    rw [el]
    congr 2
    funext i
    unfold updV
    by_cases h : i = j
    · rw [if_pos h, h]
      refine (hv _ _ (fun y e => ?_) (fun y e => ?_)).symm <;> subst e
      · exact m_gi_pi.trans (if_pos ⟨rfl, rfl⟩)
      · exact m_gr_pr.trans (if_pos ⟨rfl, rfl⟩)
    · rw [if_neg h, m_pt_gi (fun z => h z.2), m_pt_gr (fun z => h z.2)]
theorem m_pt_nc {a j : Nat} {v : m_V} : m_nc (m_pt M a j v) = m_nc M := congrArg (fun x : Nat × Nat => x.1) (m_pt_2 (M := M) (a := a) (k := j) (v := v))
theorem m_pt_ns {a j : Nat} {v : m_V} : m_ns (m_pt M a j v) = m_ns M := congrArg (fun x : Nat × Nat => x.2) (m_pt_2 (M := M) (a := a) (k := j) (v := v))
theorem m_pt_kk {a j i : Nat} {v : m_V} {H H1 : Heap} {locs : List Loc} {ls : Array Slot} {pc2 : Nat} (hle : m_le M0 M) (kk : pW G C nL n0 s0 M0 Q (m_pt M a j v) pc2 lo st) (hok : m_ok G (m_pt M a j v) H1) (hM : m_ok G M H) (hS : va_S (m_A G) (m_s C).heap H locs) (hl : lv_has ls nL (m_lv lo)) (h0 : m_tg M a ≠ 0) (h1 : m_tg M a < 150) (e2 : H1.size = H.size) (e3 : ∀ q : Nat, q ≠ a → H1[q]? = H[q]?) : m_Wg C H1 (locs ++ [⟨a, i⟩]) (m_nc M - n0) (m_ns M - s0) Q (F0 (m_mi C) pc2 ls (st.map m_v)) := by
  have K := kk (m_le_tr hle m_le_pt) H1 (locs ++ [⟨a, i⟩]) ls hok (hS.put e2 e3 (m_inA hM h0 h1)) hl
  rw [m_pt_nc, m_pt_ns] at K
  exact K
theorem pw_iast (X : m_in G C own cc nL ret nm F L n0 s0) {a : Nat} {i x : Int32} (ht : m_tg M a = 101) (hi : vp_in i (m_ln M a)) (hdg : decode cc pc = .ok (.iastore, 1)) (kk : pW G C nL n0 s0 M0 Q (m_pi M a i.toNatClampNeg x) (pc + 1) lo st) : pW G C nL n0 s0 M0 Q M pc lo (vI x :: vI i :: vR (some a) :: st) := by
  intro hle H locs ls hM hS hl
  refine W.iast X.1 X.2.1 (hM.2.1 a 0 ht (by decide)) ((m_Ka (k := 0) X rfl).1 _ _) (fun q => by cases q) (m_ain hi) rfl rfl hdg fun H1 e1 e2 e3 => ?_
  exact m_pt_kk (v := vI x) hle kk (m_ast_ok (v := vI x) hM ht (by decide) (fun y r e _ => by rw [e x rfl]; rfl) (fun f h => by cases h) e1 e2 e3) hM hS hl (by omega) (by omega) e2 e3
theorem pw_bast (X : m_in G C own cc nL ret nm F L n0 s0) {a : Nat} {i x : Int32} (ht : m_tg M a = 102) (hi : vp_in i (m_ln M a)) (hdg : decode cc pc = .ok (.bastore, 1)) (kk : pW G C nL n0 s0 M0 Q (m_pi M a i.toNatClampNeg x.toInt8.toInt32) (pc + 1) lo st) : pW G C nL n0 s0 M0 Q M pc lo (vI x :: vI i :: vR (some a) :: st) := by
  intro hle H locs ls hM hS hl
  refine W.bast X.1 X.2.1 (hM.2.1 a 1 ht (by decide)) ((m_Ka (k := 1) X rfl).1 _ _) (fun q => by cases q) (m_ain hi) rfl rfl hdg fun H1 e1 e2 e3 => ?_
  exact m_pt_kk (v := vI x.toInt8.toInt32) hle kk (m_ast_ok (v := vI x.toInt8.toInt32) hM ht (by decide) (fun y r e _ => by rw [e _ rfl]; rfl) (fun f h => by cases h) e1 e2 e3) hM hS hl (by omega) (by omega) e2 e3
/-- y may stand in an array of E -/
def m_asg (M : Mem) (y : Nat) (E : String) : Prop := (∃ (ci : Nat) (q : Ce), m_tg M y = ci + 1 ∧ m_cls[ci]? = some q ∧ (q.1 = E ∨ Cond.castable q.1 E ∈ lw_tbl)) ∨ (m_tg M y = 150 ∧ Cond.castable "java/lang/Integer" E ∈ lw_tbl)
theorem m_asg_any {y : Nat} {E : String} {H : Heap} {locs : List Loc} (X : m_in G C own cc nL ret nm F L n0 s0) (hM : m_ok G M H) (hS : va_S (m_A G) (m_s C).heap H locs) (h : m_asg M y E) : va_Any E (m_s C) H y := by
  rcases h with ⟨ci, q, h1, h2, h3⟩ | ⟨h1, h2⟩
  · obtain ⟨cell, q1, q2, q3, -⟩ := hM.1 y ci q h1 h2
    obtain ⟨-, hfc, kC, hkC, -⟩ := m_Kc X h2
    refine ⟨cell, q1, by rw [q3]; rfl, ⟨kC, by rw [q2]; exact hkC⟩, fun comp hcm => ?_⟩
    rw [q2]
    rcases h3 with h3 | h3
    · subst h3
      exact vb_asgS comp _ hcm hfc
    · exact vb_asgC (X.2.2.2.2.2.2.2.2.1.2.1 _ (m_nst_in h3 rfl)) comp _ hcm hfc
  · obtain ⟨k, hk, e⟩ := hM.2.2.1.1 y h1
    subst e
    obtain ⟨cell, q1, q2, q3, -⟩ := (X.2.2.2.2.2.2.2.2.1.2.2.2.2.1.1 k hk).kept hS.2.1
    obtain ⟨kC, hkC, -⟩ := Vm.findClass_spec q3
    exact ⟨cell, q1, q2, ⟨kC, hkC⟩, fun comp hcm => vb_asgC (X.2.2.2.2.2.2.2.2.1.2.1 _ (m_nst_in h2 rfl)) comp _ hcm q3⟩
theorem pw_aast (X : m_in G C own cc nL ret nm F L n0 s0) {a : Nat} {i : Int32} {r : Option Nat} (kd : Nat) {E : String} (hkd : kd = 2 ∨ kd = 3) (hty : m_aty[kd]? = some (.object E)) (ht : m_tg M a = kd + 101) (hi : vp_in i (m_ln M a)) (hr : ∀ y, r = some y → m_asg M y E) (hdg : decode cc pc = .ok (.aastore, 1)) (kk : pW G C nL n0 s0 M0 Q (m_pr M a i.toNatClampNeg r) (pc + 1) lo st) : pW G C nL n0 s0 M0 Q M pc lo (vR r :: vI i :: vR (some a) :: st) := by
  intro hle H locs ls hM hS hl
  have h5 : kd < 5 := by omega
  have hK : (m_tys G)[kd]? = some (G.2 (10 + kd), .object E) := by
    rcases hkd with rfl | rfl <;> cases hty <;> rfl
  have hav : ∀ (x : Int32) (r' : Option Nat), (∀ y, vR r = vI y → x = y) → (∀ y, vR r = vR y → r' = y) → m_av kd x r' = m_v (vR r) := fun y r' _ e => by
    unfold m_av
    rw [if_neg (by omega), e r rfl]
    rfl
  cases r with
  | none =>
    refine va_WaastN (C := E) X.1 X.2.1 (hM.2.1 a kd ht h5) ((m_Ka X hK).1 _ _) (fun q => by cases q) (m_ain hi) rfl rfl hdg fun H1 e1 e2 e3 => ?_
    exact m_pt_kk (v := vR none) hle kk (m_ast_ok (v := vR none) hM ht h5 hav (fun f h => by cases h) e1 e2 e3) hM hS hl (by omega) (by omega) e2 e3
  | some y =>
    obtain ⟨cellV, g1, g3, ⟨kC, hkC⟩, hasg⟩ := m_asg_any X hM hS (hr y rfl)
    obtain ⟨kA, comp, k1, k2, k3, -⟩ := (m_Ka X hK).2
    obtain ⟨kE, hkE, -⟩ := Vm.findClass_spec k3
    refine W.aast X.1 X.2.1 (hM.2.1 a kd ht h5) (fun q h => by cases h) (fun h => by cases h) k1 k2 rfl hkE ⟨fun q => hi (Or.inl q), by rw [arrV_size]; exact m_alt hi⟩ g1 (fun q h => by rw [h] at g3; cases g3) hkC (hasg _ k3) rfl rfl hdg fun H1 e1 e2 e3 => ?_
    exact m_pt_kk (v := vR (some y)) hle kk (m_ast_ok (v := vR (some y)) hM ht h5 hav (fun f h => by cases h) e1 e2 e3) hM hS hl (by omega) (by omega) e2 e3
theorem pw_gets (X : m_in G C own cc nL ret nm F L n0 s0) {c n d ref : String} {index : Nat} (v : m_V) (hz : (c, n, d, m_v v) ∈ m_stz G) (hlink : Cond.fieldLink own index ref n d ∈ lw_all) (hsm : m_sm ref c n d) (hdg : decode cc pc = .ok (.getstatic index, 3)) (kk : pW G C nL n0 s0 M0 Q M (pc + 3) lo (v :: st)) : pW G C nL n0 s0 M0 Q M pc lo st := by
  intro hle H locs ls hM hS hl
  have hts := X.2.2.2.2.2.2.2.1
  exact va_gets X.1 X.2.1 (X.2.2.2.2.2.2.2.2.1.2.2.2.1 _ hz) hS X.2.2.2.2.2.1 (hts _ hlink) (m_sm_ok hts hsm) hdg (kk hle H locs ls hM hS hl)
theorem m_recv {a ci : Nat} {q : Ce} {H : Heap} (X : m_in G C own cc nL ret nm F L n0 s0) (hM : m_ok G M H) (ht : m_tg M a = ci + 1) (hc : m_cls[ci]? = some q) : ∃ cell : Cell, H[a]? = some cell ∧ cell.vm.isStatics = false ∧ (m_s C).vm.findClass q.1 = some cell.cls := by
  obtain ⟨cell, q1, q2, q3, -⟩ := hM.1 a ci q ht hc
  exact ⟨cell, q1, by rw [q3]; rfl, by rw [q2]; exact (m_Kc X hc).2.1⟩
theorem m_recvI {a : Nat} {H : Heap} {locs : List Loc} (X : m_in G C own cc nL ret nm F L n0 s0) (hM : m_ok G M H) (hS : va_S (m_A G) (m_s C).heap H locs) (ht : m_tg M a = 150) : ∃ cell : Cell, H[a]? = some cell ∧ cell.vm.isStatics = false ∧ (m_s C).vm.findClass "java/lang/Integer" = some cell.cls := by
  obtain ⟨k, hk, e⟩ := hM.2.2.1.1 a ht
  subst e
  obtain ⟨cell, q1, q2, q3, -⟩ := (X.2.2.2.2.2.2.2.2.1.2.2.2.2.1.1 k hk).kept hS.2.1
  exact ⟨cell, q1, q2, q3⟩
/-- checkcast to the object's own class; null passes -/
theorem pw_cast (X : m_in G C own cc nL ret nm F L n0 s0) {r : Option Nat} (ci : Nat) {index : Nat} {q : Ce} (hc : m_cls[ci]? = some q) (ht : ∀ a, r = some a → m_tg M a = ci + 1) (hlink : Cond.classLink own index q.1 ∈ lw_all) (hdg : decode cc pc = .ok (.checkcast index, 3)) (kk : pW G C nL n0 s0 M0 Q M (pc + 3) lo (vR r :: st)) : pW G C nL n0 s0 M0 Q M pc lo (vR r :: st) := by
  intro hle H locs ls hM hS hl
  cases r with
  | none => exact lv_castN X.1 X.2.1 hdg (kk hle H locs ls hM hS hl)
  | some a => exact va_castS X.1 X.2.1 X.2.2.2.2.2.1 (X.2.2.2.2.2.2.2.1 _ hlink) (m_Kc X hc).2 (m_recv X hM (ht a rfl) hc) hdg (kk hle H locs ls hM hS hl)
/-- checkcast to a class above -/
theorem pw_castY (X : m_in G C own cc nL ret nm F L n0 s0) {r : Option Nat} (ci : Nat) {index : Nat} {q : Ce} {E : String} (hc : m_cls[ci]? = some q) (ht : ∀ a, r = some a → m_tg M a = ci + 1) (hlink : Cond.classLink own index E ∈ lw_all) (hcs : Cond.castable q.1 E ∈ lw_tbl) (hdg : decode cc pc = .ok (.checkcast index, 3)) (kk : pW G C nL n0 s0 M0 Q M (pc + 3) lo (vR r :: st)) : pW G C nL n0 s0 M0 Q M pc lo (vR r :: st) := by
  intro hle H locs ls hM hS hl
  cases r with
  | none => exact lv_castN X.1 X.2.1 hdg (kk hle H locs ls hM hS hl)
  | some a => exact va_castY X.1 X.2.1 X.2.2.2.2.2.1 (X.2.2.2.2.2.2.2.1 _ hlink) (X.2.2.2.2.2.2.2.2.1.2.1 _ (m_nst_in hcs rfl)) (m_recv X hM (ht a rfl) hc) hdg (kk hle H locs ls hM hS hl)
theorem pw_castI (X : m_in G C own cc nL ret nm F L n0 s0) {r : Option Nat} {index : Nat} (ht : ∀ a, r = some a → m_tg M a = 150) (hlink : Cond.classLink own index "java/lang/Integer" ∈ lw_all) (hins : Cond.instantiable "java/lang/Integer" 1 ∈ lw_all) (hdg : decode cc pc = .ok (.checkcast index, 3)) (kk : pW G C nL n0 s0 M0 Q M (pc + 3) lo (vR r :: st)) : pW G C nL n0 s0 M0 Q M pc lo (vR r :: st) := by
  intro hle H locs ls hM hS hl
  cases r with
  | none => exact lv_castN X.1 X.2.1 hdg (kk hle H locs ls hM hS hl)
  | some a =>
    obtain ⟨cC, kC, hfc, hk, hkind, -⟩ := Cond.instantiable_spec (X.2.2.2.2.2.2.2.1 _ hins)
    exact va_castS (cC := cC) X.1 X.2.1 X.2.2.2.2.2.1 (X.2.2.2.2.2.2.2.1 _ hlink) ⟨hfc, kC, hk, hkind⟩ (m_recvI X hM hS (ht a rfl)) hdg (kk hle H locs ls hM hS hl)
/-- instanceof: the object's own class -/
theorem pw_inst (X : m_in G C own cc nL ret nm F L n0 s0) {a : Nat} (ci : Nat) {index : Nat} {q : Ce} (hc : m_cls[ci]? = some q) (ht : m_tg M a = ci + 1) (hlink : Cond.classLink own index q.1 ∈ lw_all) (hdg : decode cc pc = .ok (.instanceof index, 3)) (kk : pW G C nL n0 s0 M0 Q M (pc + 3) lo (vI 1 :: st)) : pW G C nL n0 s0 M0 Q M pc lo (vR (some a) :: st) := by
  intro hle H locs ls hM hS hl
  exact va_instS X.1 X.2.1 X.2.2.2.2.2.1 (X.2.2.2.2.2.2.2.1 _ hlink) (m_Kc X hc).2 (m_recv X hM ht hc) hdg (kk hle H locs ls hM hS hl)
/-- Object's constructor -/
theorem pw_objInit (X : m_in G C own cc nL ret nm F L n0 s0) {r : Option Nat} {a idx : Nat} (hr : r = some a) (hlink : Cond.methodLink own idx objectInit ∈ lw_all) (hinst : Cond.instanceMethod objectInit ∈ lw_all) (hcode : Cond.code objectInit ⟨#[0xb1]⟩ 1 none ∈ lw_all) (hdg : decode cc pc = .ok (.invokespecial idx, 3)) (hF : 1 ≤ F) (hL : st.length + 12 ≤ L) (kk : pW G C nL n0 s0 M0 Q M (pc + 3) lo st) : pW G C nL n0 s0 M0 Q M pc lo (vR r :: st) := by
  intro hle H locs ls hM hS hl
  have hts := X.2.2.2.2.2.2.2.1
  have hR := X.2.2.2.2.2.2.2.2.2.1
  have hsz : ls.size = (m_co C).maxLocals := hl.1.trans X.2.2.2.2.1.symm
  subst hr
  refine W.objInit X.1 X.2.1 X.2.2.2.2.2.1 (hts _ hlink) (hts _ hinst) (hts _ hcode) rfl hsz rfl hdg (by rw [hR]; exact hF) (by rw [hR, m_cats]; show 2 * 0 + _ + _ ≤ L; omega) (kk hle H locs ls hM hS hl)
end
