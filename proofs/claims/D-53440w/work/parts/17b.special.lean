/-! ROWS for boxes, class objects, System.arraycopy, grids -/
set_option maxRecDepth 100000
/-- what a box of the cache holds -/
noncomputable def m_ub (g : Nat → Nat) (a : Nat) : Int32 := vb_c (Classical.epsilon (fun k : Nat => k < 256 ∧ a = g (100 + k)))
theorem m_ub_at {g : Nat → Nat} {a : Nat} (h : ∃ k : Nat, k < 256 ∧ a = g (100 + k)) : ∃ k : Nat, k < 256 ∧ a = g (100 + k) ∧ m_ub g a = vb_c k := ⟨_, (Classical.epsilon_spec h).1, (Classical.epsilon_spec h).2, rfl⟩
section
variable {G : Gp} {C : m_Cx} {own : String} {cc : ByteArray} {nL : Nat} {ret : Option FieldType} {nm : String} {F L n0 s0 : Nat} {Q : State → Prop} {M0 M : Mem} {pc : Nat} {lo lo2 : m_L} {st : List m_V}
theorem pw_getBox (X : m_in G C own cc nL ret nm F L n0 s0) {a index : Nat} {ref : String} (ht : m_tg M a = 150) (hlink : Cond.fieldLink own index ref "value" "I" ∈ lw_all) (hsm : m_sm ref "java/lang/Integer" "value" "I") (hdg : decode cc pc = .ok (.getfield index, 3)) (kk : pW G C nL n0 s0 M0 Q M (pc + 3) lo (vI (m_ub G.2 a) :: st)) : pW G C nL n0 s0 M0 Q M pc lo (vR (some a) :: st) := by
  intro hle H locs ls hM hS hl
  have hts := X.2.2.2.2.2.2.2.1
  obtain ⟨k, hk, e, ev⟩ := m_ub_at (hM.2.2.1.1 a ht)
  have K := kk hle H locs ls hM hS hl
  rw [ev] at K
  subst e
  exact va_getX (i := k) (v := fun k => .int (vb_c k)) X.1 X.2.1 X.2.2.2.2.2.2.2.2.1.2.2.2.2.1.2 hk hS X.2.2.2.2.2.1 (hts _ hlink) (m_sm_ok hts hsm) hdg K
/-- two boxes at one address hold the same -/
theorem m_box_inj (X : m_in G C own cc nL ret nm F L n0 s0) {i j : Nat} (hi : i < 256) (hj : j < 256) (e : G.2 (100 + i) = G.2 (100 + j)) : vb_c i = vb_c j := by
  have h := X.2.2.2.2.2.2.2.2.1.2.2.2.2.1.2
  obtain ⟨cf, k, fi, f, cell, a1, -, a3, -, a5, -⟩ := h i hi
  obtain ⟨cf', k', fi', f', cell', b1, -, b3, -, b5, -⟩ := h j hj
  cases a1.symm.trans b1
  have a3' : (m_s C).heap[G.2 (100 + i)]? = some cell := a3
  have b3' : (m_s C).heap[G.2 (100 + j)]? = some cell' := b3
  rw [e] at a3'
  cases a3'.symm.trans b3'
  exact Value.int.inj (Option.some.inj (a5.symm.trans b5))
theorem pw_cacheAt (X : m_in G C own cc nL ret nm F L n0 s0) {x : Int32} (h1 : ¬ x < (-128)) (h2 : ¬ 127 < x) (hdg : decode cc pc = .ok (.aaload, 1)) (kk : ∀ a : Nat, m_tg M a = 150 → m_ub G.2 a = x → pW G C nL n0 s0 M0 Q M (pc + 1) lo (vR (some a) :: st)) : pW G C nL n0 s0 M0 Q M pc lo (vI (x + 128) :: vR (some (G.2 6)) :: st) := by
  intro hle H locs ls hM hS hl
  obtain ⟨j, hj, e1, e2⟩ := bx_small h1 h2
  have ht := hM.2.2.1.2.1 j hj
  obtain ⟨k, hk, ek, ev⟩ := m_ub_at (hM.2.2.1.1 _ ht)
  have hv : m_ub G.2 (G.2 (100 + j)) = x := by rw [ev, e2]; exact m_box_inj X hk hj ek.symm
  have hin : vp_in (x + 128) 256 := by rw [e1]; exact vp_in_nI hj (by decide)
  refine vb_tq (v := .ref (G.2 (100 + j))) X.1 X.2.1 X.2.2.2.2.2.2.2.2.1.2.2.2.2.2.1 hS hin ?_ hdg (kk _ ht hv hle H locs ls hM hS hl)
  rw [e1, nI_clamp (by omega)]
theorem m_cVI {y : MethodName} {ccy : ByteArray} {nLy Fy Ly index : Nat} {rety : Option FieldType} {av : List m_V} {Qc : Array Value → State → Outcome → State → Prop} {b : Nat} {st0 : List m_V} (X : m_in G C own cc nL ret nm F L n0 s0) (hK : m_K G C.2.1 y ccy nLy rety Fy Ly (vR (some b) :: av) M Qc) (ht : m_tg M b = 150) (hg : GoodIn lw_all (wsV own index "java/lang/Integer" y (ws_ y ccy nLy rety))) (hd : y.cls = "java/lang/Integer" ∧ m_nMH y av.length) (hR : m_rm F L Fy nLy Ly) (hst : st0 = av.reverse ++ vR (some b) :: st) (hw : st.length ≤ 8) (hdg : decode cc pc = .ok (.invokevirtual index, 3)) : m_run G C nL n0 s0 M pc 3 lo st0 st Qc := by
  intro H locs ls hM hS hl T hT Y
  exact m_runOf (g := fun _ _ _ => True) hT Y (va_runV (b := b) (As := av.map m_v) (m_fix X) hK (cwV av.length X.2.2.2.2.2.2.2.1 hg rfl rfl rfl hd (m_rmR X hR)) ⟨m_blind, m_recvI X hM hS ht, fun U hU hW => ⟨rfl, by rw [hU]; exact hM, m_gSat X hS hU hW⟩⟩ rfl (by rw [List.length_map]) hl.1 (m_st3 hst) (m_wd hw) hdg (m_hf X hM hS (m_s0' X hM hT Y)))
theorem pw_ldcM (X : m_in G C own cc nL ret nm F L n0 s0) {index : Nat} (hlink : Cond.classLink own index "[Ljava/lang/Object;" ∈ lw_all) (hdg : decode cc pc = .ok (.ldc index, 2)) (kk : pW G C nL n0 s0 M0 Q M (pc + 2) lo (vR (some (G.2 8)) :: st)) : pW G C nL n0 s0 M0 Q M pc lo st := by
  intro hle H locs ls hM hS hl
  exact va_ldcM X.1 X.2.1 X.2.2.2.2.2.1 (X.2.2.2.2.2.2.2.1 _ hlink) X.2.2.2.2.2.2.2.2.1.2.2.2.2.2.2.2.2.1 hdg (kk hle H locs ls hM hS hl)
abbrev m_gc : MethodName := ⟨"java/lang/Object", "getClass", "()Ljava/lang/Class;"⟩
theorem m_arrId (X : m_in G C own cc nL ret nm F L n0 s0) : (m_s C).vm.findClass "[Ljava/lang/Object;" = some (G.2 12) := by
  obtain ⟨_, _, -, -, -, h4⟩ := (m_Ka (k := 2) X rfl).2
  exact h4
theorem pw_getClass (X : m_in G C own cc nL ret nm F L n0 s0) {a index : Nat} (ht : m_tg M a = 103) (hlink : Cond.methodLink own index m_gc ∈ lw_all) (hdecl : Cond.declares m_gc ∈ lw_tbl) (hsel : Cond.selects "[Ljava/lang/Object;" m_gc m_gc ∈ lw_all) (hinst : Cond.instanceMethod m_gc ∈ lw_all) (hnat : Cond.native m_gc ∈ lw_all) (hF : 1 ≤ F) (hL : st.length + 14 ≤ L) (hdg : decode cc pc = .ok (.invokevirtual index, 3)) (kk : pW G C nL n0 s0 M0 Q M (pc + 3) lo (vR (some (G.2 8)) :: st)) : pW G C nL n0 s0 M0 Q M pc lo (vR (some a) :: st) := by
  intro hle H locs ls hM hS hl
  have hts := X.2.2.2.2.2.2.2.1
  have hR := X.2.2.2.2.2.2.2.2.2.1
  refine va_getC X.1 X.2.1 (X.2.2.2.2.1.trans hl.1.symm) X.2.2.2.2.2.1 (hts _ hlink) (va_Nw.use rfl (X.2.2.2.2.2.2.2.2.1.2.1 _ (m_nst_in hdecl rfl))) (hts _ hsel) (hts _ hinst) (hts _ hnat) X.2.2.2.2.2.2.2.2.1.2.2.2.2.2.2.2.2.1 ?_ (by rw [hR]; exact hF) (by rw [hR, m_cats]; exact hL) hdg (kk hle H locs ls hM hS hl)
  exact ⟨_, hM.2.1 a 2 ht (by decide), rfl, m_arrId X⟩
theorem pw_castA (X : m_in G C own cc nL ret nm F L n0 s0) {a index : Nat} {nmA : String} (kd : Nat) (hkd : kd = 2 ∨ kd = 3) (ht : m_tg M a = kd + 101) (hnm : nmA = if kd = 2 then "[Ljava/lang/Object;" else "[Ljava/util/HashMap$Node;") (hlink : Cond.classLink own index nmA ∈ lw_all) (hdg : decode cc pc = .ok (.checkcast index, 3)) (kk : pW G C nL n0 s0 M0 Q M (pc + 3) lo (vR (some a) :: st)) : pW G C nL n0 s0 M0 Q M pc lo (vR (some a) :: st) := by
  intro hle H locs ls hM hS hl
  have h5 : kd < 5 := by omega
  have hfc : (m_s C).vm.findClass nmA = some (G.2 (10 + kd)) := by
    rcases hkd with rfl | rfl
    · rw [hnm]
      exact m_arrId X
    · rw [hnm]
      obtain ⟨_, _, -, -, -, h4⟩ := (m_Ka (k := 3) X rfl).2
      exact h4
  intro T hT Y
  obtain ⟨vm', Y', st'⟩ := Y.checkcastYes X.1 X.2.2.2.2.2.1 (X.2.2.2.2.2.2.2.1 _ hlink) (by rw [hT]; exact hM.2.1 a kd ht h5) (by rfl) hfc (va_asg _ _) (g := F0 (m_mi C) pc ls (.ref a :: st.map m_v)) rfl rfl (by rw [X.2.1]; exact hdg)
  obtain ⟨t, a1, b1⟩ := kk hle H locs ls hM hS hl (T.setVm vm') hT Y'
  exact ⟨t, st' t a1, b1⟩
theorem m_nn {z : Int32} (hz : ¬ z < 0) : z.toInt = (z.toNatClampNeg : Int) := by
  have hz0 : (0 : Int) ≤ z.toInt := by
    have := Int32.not_lt.mp hz
    simpa using Int32.le_iff_toInt_le.mp this
  show z.toInt = ((z.toInt.toNat : Nat) : Int)
  omega
/-- what System.arraycopy asks of its places -/
def m_cpin (M : Mem) (a0 a : Nat) (sp dp n : Int32) : Prop := ¬ sp < 0 ∧ ¬ dp < 0 ∧ ¬ n < 0 ∧ sp.toNatClampNeg + n.toNatClampNeg ≤ m_ln M a0 ∧ dp.toNatClampNeg + n.toNatClampNeg ≤ m_ln M a
theorem pw_copy (X : m_in G C own cc nL ret nm F L n0 s0) {a0 a index : Nat} {sp dp n : Int32} (kd : Nat) (M2 : Mem) (hkd : kd < 3) (hM2 : M2 = if kd < 2 then m_ci M a0 sp.toNatClampNeg a dp.toNatClampNeg n.toNatClampNeg else m_cr M a0 sp.toNatClampNeg a dp.toNatClampNeg n.toNatClampNeg) (ht0 : m_tg M a0 = kd + 101) (ht : m_tg M a = kd + 101) (hin : m_cpin M a0 a sp dp n)
    (hfb : kd = 1 → ∀ i, i < n.toNatClampNeg → fits .byte (.int (m_gi M a0 (sp.toNatClampNeg + i))) = true) (hfq : kd = 2 → ∀ i, i < n.toNatClampNeg → ∀ y, m_gr M a0 (sp.toNatClampNeg + i) = some y → m_asg M y "java/lang/Object")
    (hlink : Cond.methodLink own index arraycopyName ∈ lw_all) (hnat : Cond.native arraycopyName ∈ lw_all) (hstat : Cond.static arraycopyName ∈ lw_all) (hini : Cond.initialized "java/lang/System" ∈ lw_all) (hF : 1 ≤ F) (hL : st.length + (nativeFrameWords "java/lang/System" "arraycopy" 5 + 11) ≤ L) (hdg : decode cc pc = .ok (.invokestatic index, 3))
    (kk : pW G C nL n0 s0 M0 Q M2 (pc + 3) lo st) : pW G C nL n0 s0 M0 Q M pc lo (vI n :: vI dp :: vR (some a) :: vI sp :: vR (some a0) :: st) := by
  intro hle H locs ls hM hS hl T hT Y
  have hts := X.2.2.2.2.2.2.2.1
  have hR := X.2.2.2.2.2.2.2.2.2.1
  obtain ⟨h1, h2, h3, h4, h5⟩ := hin
  have k5 : kd < 5 := by omega
  have hc0 := hM.2.1 a0 kd ht0 k5
  have hc1 := hM.2.1 a kd ht k5
  have hKk : ∃ ty, m_aty[kd]? = some ty ∧ (m_tys G)[kd]? = some (G.2 (10 + kd), ty) := by
    have hr : kd = 0 ∨ kd = 1 ∨ kd = 2 := by omega
    rcases hr with rfl | rfl | rfl <;> exact ⟨_, rfl, rfl⟩
  obtain ⟨ty, hty, hK⟩ := hKk
  obtain ⟨-, k0, hk0, cm0, hkk0⟩ := (m_Ka X hK).1 (m_ln M a0) (fun j => m_av kd (m_gi M a0 j) (m_gr M a0 j))
  obtain ⟨-, k1, hk1, cm1, hkk1⟩ := (m_Ka X hK).1 (m_ln M a) (fun j => m_av kd (m_gi M a j) (m_gr M a j))
  obtain ⟨vm', Y', step⟩ := Y.arraycopy X.1 X.2.2.2.2.2.1 (hts _ hlink) (hts _ hnat) (hts _ hstat) (hts _ hini) (src := a0) (dst := a) (cs := arrV (G.2 (10 + kd)) (m_ln M a0) (fun j => m_av kd (m_gi M a0 j) (m_gr M a0 j))) (cd := arrV (G.2 (10 + kd)) (m_ln M a) (fun j => m_av kd (m_gi M a j) (m_gr M a j))) (srcPos := sp) (destPos := dp) (n := n) (by rw [hT]; exact hc0) (by rw [hT]; exact hc1)
    (fun _ h => by cases h) (fun _ h => by cases h) (fun h => by cases h) (fun h => by cases h) hk0 hk1 hkk0 hkk1 (by
      have hr : kd = 0 ∨ kd = 1 ∨ kd = 2 := by omega
      rcases hr with rfl | rfl | rfl <;> cases hty <;> first | rfl | decide) h1 h2 h3
    (by rw [m_nn h1, m_nn h3, arrV_size]; omega)
    (by rw [m_nn h2, m_nn h3, arrV_size]; omega)
    (fun vm₁ hal i hi => by
      have e : (arrV (G.2 (10 + kd)) (m_ln M a0) (fun j => m_av kd (m_gi M a0 j) (m_gr M a0 j))).slots.getD (sp.toNatClampNeg + i) .null = m_av kd (m_gi M a0 (sp.toNatClampNeg + i)) (m_gr M a0 (sp.toNatClampNeg + i)) := by
        rw [Array.getD_eq_getD_getElem?, arrV_read _ _ (by omega)]
        rfl
      rw [e]
      have hr : kd = 0 ∨ kd = 1 ∨ kd = 2 := by omega
      rcases hr with rfl | rfl | rfl
      · cases hty
        exact ⟨rfl, trivial⟩
      · cases hty
        exact ⟨hfb rfl i hi, trivial⟩
      · cases hty
        show fits _ (va_rf _) = true ∧ _
        cases hy : m_gr M a0 (sp.toNatClampNeg + i) with
        | none =>
          have hav : m_av 2 (m_gi M a0 (sp.toNatClampNeg + i)) none = .null := rfl
          rw [hav]
          exact ⟨rfl, trivial⟩
        | some y =>
          have hav : m_av 2 (m_gi M a0 (sp.toNatClampNeg + i)) (some y) = .ref y := rfl
          rw [hav]
          obtain ⟨cellV, g1, g2, ⟨kC, hkC⟩, hasg⟩ := m_asg_any X hM hS (hfq rfl i hi y hy)
          obtain ⟨kA, comp, r1, r2, r3, -⟩ := (m_Ka X hK).2
          cases hk1.symm.trans r1
          cases hkk1.symm.trans r2
          obtain ⟨kE, hkE, -⟩ := Vm.findClass_spec r3
          obtain ⟨kC', hkC', -⟩ := hal.2.2 _ _ hkC
          obtain ⟨kE', hkE', -⟩ := hal.2.2 _ _ hkE
          refine ⟨rfl, cellV, (show T.heap[y]? = some cellV by rw [hT]; exact g1), (fun q h => by rw [h] at g2; cases g2), ⟨kC', hkC'⟩, ?_, ?_⟩
          · exact ⟨kE', hkE'⟩
          · show vm₁.assignable _ _ = true
            rw [hal.assignable]
            exact hasg _ r3)
    (g := F0 (m_mi C) pc ls (.int n :: .int dp :: .ref a :: .int sp :: .ref a0 :: st.map m_v)) rfl (by rw [hl.1]; exact X.2.2.2.2.1.symm) (rest := st.map m_v) rfl (by rw [X.2.1]; exact hdg) (by rw [hR]; exact hF) (by rw [hR, m_cats]; show 2 * 0 + _ + _ ≤ L; omega)
  have e1 : copied (arrV (G.2 (10 + kd)) (m_ln M a0) (fun j => m_av kd (m_gi M a0 j) (m_gr M a0 j))) (arrV (G.2 (10 + kd)) (m_ln M a) (fun j => m_av kd (m_gi M a j) (m_gr M a j))) sp dp n = arrV (G.2 (10 + kd)) (m_ln M2 a) (fun j => m_av kd (m_gi M2 a j) (m_gr M2 a j)) := by
    have hc := va_copied (fun z : Int32 × Option Nat => m_av kd z.1 z.2) (G.2 (10 + kd)) (G.2 (10 + kd)) (n0 := m_ln M a0) (n1 := m_ln M a) (dp := dp.toNatClampNeg) (fun j => (m_gi M a0 j, m_gr M a0 j)) (fun j => (m_gi M a j, m_gr M a j)) h4
    refine hc.trans ?_
    rw [hM2]
    by_cases hk2 : kd < 2
    · rw [if_pos hk2, m_ln_ci]
      congr 1
      funext j
      unfold va_cpy
      rw [m_gi_ci]
      by_cases hj : dp.toNatClampNeg ≤ j ∧ j < dp.toNatClampNeg + n.toNatClampNeg
      · rw [if_pos hj, if_pos ⟨rfl, hj⟩]
        unfold m_av
        rw [if_pos hk2, if_pos hk2]
      · rw [if_neg hj, if_neg (fun z => hj z.2)]
        unfold m_av
        rw [if_pos hk2, if_pos hk2]
    · rw [if_neg hk2, m_ln_cr]
      congr 1
      funext j
      unfold va_cpy
      rw [m_gr_cr]
      by_cases hj : dp.toNatClampNeg ≤ j ∧ j < dp.toNatClampNeg + n.toNatClampNeg
      · rw [if_pos hj, if_pos ⟨rfl, hj⟩]
        unfold m_av
        rw [if_neg hk2, if_neg hk2]
      · rw [if_neg hj, if_neg (fun z => hj z.2)]
        unfold m_av
        rw [if_neg hk2, if_neg hk2]
  rw [e1] at Y' step
  generalize hcell : arrV (G.2 (10 + kd)) (m_ln M2 a) (fun j => m_av kd (m_gi M2 a j) (m_gr M2 a j)) = cell2 at Y' step
  have hl2 : a < H.size := (Array.getElem?_eq_some_iff.mp hc1).1
  have hheap : ((T.setVm vm').setCell a cell2).heap = H.setIfInBounds a cell2 := by rw [← hT]; rfl
  have oq : ∀ q : Nat, q ≠ a → (H.setIfInBounds a cell2)[q]? = H[q]? := fun q hq => by simp [Array.getElem?_setIfInBounds, Ne.symm hq]
  have e2 : (H.setIfInBounds a cell2)[a]? = some cell2 := by simp [Array.getElem?_setIfInBounds, hl2]
  have hz : (H.setIfInBounds a cell2).size = H.size := by simp
  have et : m_tg M2 a = m_tg M a ∧ m_ln M2 a = m_ln M a ∧ M2.2 = M.2 ∧ m_le M M2 ∧ ∀ b, b ≠ a → M2.1 b = M.1 b := by
    rw [hM2]
    split
    · exact ⟨m_tg_ci, m_ln_ci, rfl, m_le_ci, fun b hb => if_neg hb⟩
    · exact ⟨m_tg_cr, m_ln_cr, rfl, m_le_cr, fun b hb => if_neg hb⟩
  have hok : m_ok G M2 (H.setIfInBounds a cell2) := by
    refine m_ok_upd hM et.2.2.2.2 et.1 et.2.2.1 hz oq ?_ (by omega) (fun ci q hq hc => by have := m_clsN hc; omega) (fun k2 hk2 _ => ?_) (fun h9 => by omega)
    · rw [e2, hc1, ← hcell]
      simp [arrV_size, et.2.1]
    · have : k2 = kd := by omega
      subst this
      rw [e2, hcell]
  have en1 : m_nc M2 = m_nc M := congrArg (fun x : Nat × Nat => x.1) et.2.2.1
  have en2 : m_ns M2 = m_ns M := congrArg (fun x : Nat × Nat => x.2) et.2.2.1
  have hSn : ∀ Lx : List Loc, (∀ q ∈ Lx, q.base = a) → va_S (m_A G) (m_s C).heap (H.setIfInBounds a cell2) (locs ++ Lx) := fun Lx hx => ⟨by rw [hz]; exact hS.1, fun q g1 g2 => by
      rw [oq q (fun e => g2 (by rw [e]; exact m_inA hM (by omega) (by omega)))]
      exact hS.2.1 q g1 g2, fun q hq => by
      rcases List.mem_append.mp hq with h | h
      · exact hS.2.2 q h
      · rw [hx q h]
        exact m_inA hM (by omega) (by omega)⟩
  rw [← en1, ← en2] at Y'
  obtain ⟨t, a1, b1⟩ := kk (m_le_tr hle et.2.2.2.1) (H.setIfInBounds a cell2) _ ls hok (hSn _ (fun q hq => by
    obtain ⟨z, -, hz⟩ := List.mem_map.mp hq
    rw [← hz])) hl _ hheap Y'
  exact ⟨t, step t a1, b1⟩
end
