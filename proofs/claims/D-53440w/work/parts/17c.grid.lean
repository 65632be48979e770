/-! grids; boxes -/
set_option maxRecDepth 100000
/-- a grid is made at a: n rows of k whole numbers behind it -/
def m_mu (M : Mem) (a n k : Nat) : Mem := (fun b => if b = a then (105, n, fun _ => 0, fun i => some (a + 1 + i)) else if a < b ∧ b ≤ a + n then (101, k, fun _ => 0, fun _ => none) else M.1 b, M.2.1 + (1 + n), M.2.2 + (n + n * k))
section
variable {M : Mem} {a b n k j : Nat}
theorem m_tg_mu : m_tg (m_mu M a n k) b = if b = a then 105 else if a < b ∧ b ≤ a + n then 101 else m_tg M b := by unfold m_tg m_mu; dsimp only; split; rfl; split <;> rfl
theorem m_ln_mu : m_ln (m_mu M a n k) b = if b = a then n else if a < b ∧ b ≤ a + n then k else m_ln M b := by unfold m_ln m_mu; dsimp only; split; rfl; split <;> rfl
theorem m_gi_mu : m_gi (m_mu M a n k) b j = if b = a then 0 else if a < b ∧ b ≤ a + n then 0 else m_gi M b j := by unfold m_gi m_mu; dsimp only; split; rfl; split <;> rfl
theorem m_gr_mu : m_gr (m_mu M a n k) b j = if b = a then some (a + 1 + j) else if a < b ∧ b ≤ a + n then none else m_gr M b j := by unfold m_gr m_mu; dsimp only; split; rfl; split <;> rfl
theorem m_nc_mu : m_nc (m_mu M a n k) = m_nc M + (1 + n) := rfl
theorem m_ns_mu : m_ns (m_mu M a n k) = m_ns M + (n + n * k) := rfl
theorem m_le_mu (h : ∀ j : Nat, j ≤ n → m_tg M (a + j) = 0) : m_le M (m_mu M a n k) := fun c hc => by
  have h1 : c ≠ a := fun e => hc (by rw [e]; exact h 0 (Nat.zero_le _))
  have h2 : ¬ (a < c ∧ c ≤ a + n) := fun e => hc (by have := h (c - a) (by omega); rwa [show a + (c - a) = c by omega] at this)
  exact ⟨by rw [m_tg_mu, if_neg h1, if_neg h2], by rw [m_ln_mu, if_neg h1, if_neg h2]⟩
end
section
variable {G : Gp} {C : m_Cx} {own : String} {cc : ByteArray} {nL : Nat} {ret : Option FieldType} {nm : String} {F L n0 s0 : Nat} {Q : State → Prop} {M0 M : Mem} {pc : Nat} {lo lo2 : m_L} {st : List m_V}
theorem m_sum_app (H : Heap) (cs : List Cell) : ∀ (H1 : Heap), H1.toList = H.toList ++ cs → ∀ n : Nat, n ≤ H.size → m_sum H1 n = m_sum H n + (cs.map (·.slots.size)).sum := by
  intro H1 h n hn
  unfold m_sum
  rw [h, List.drop_append_of_le_length (by simpa using hn), List.map_append, List.sum_append]
theorem pw_mula (X : m_in G C own cc nL ret nm F L n0 s0) {index : Nat} {n k : Int32} (hn : ¬ n < 0) (hk : ¬ k < 0) (hf : m_nc M + (1 + n.toNatClampNeg) ≤ m_CM ∧ m_ns M + (n.toNatClampNeg + n.toNatClampNeg * k.toNatClampNeg) ≤ m_SM) (hkn : k.toNatClampNeg ≤ 1000 ∧ n.toNatClampNeg ≤ 1000) (hclink : Cond.classLink own index "[[I" ∈ lw_all) (hover : Cond.arrayOver (.array .int) ∈ lw_tbl) (harr : Cond.arrayClass .int ∈ lw_all) (hdg : decode cc pc = .ok (.multianewarray index 2, 4))
    (kk : ∀ a : Nat, (∀ j : Nat, j ≤ n.toNatClampNeg → m_tg M (a + j) = 0) → pW G C nL n0 s0 M0 Q (m_mu M a n.toNatClampNeg k.toNatClampNeg) (pc + 4) lo (vR (some a) :: st)) : pW G C nL n0 s0 M0 Q M pc lo (vI k :: vI n :: st) := by
  intro hle H locs ls hM hS hl T hT Y
  have hts := X.2.2.2.2.2.2.2.1
  have hR := X.2.2.2.2.2.2.2.2.2.1
  obtain ⟨k1, k2, k3⟩ := m_keep X hM hS
  have h0 := m_s0' X hM hT Y
  obtain ⟨hf1, hf2⟩ := hf
  obtain ⟨hkn1, hkn2⟩ := hkn
  obtain ⟨vm₁, cA, comp, hW1, hfA, hfC, -, -, Y1, step⟩ := Y.multianewarray2F X.1 X.2.2.2.2.2.1 (ty := .int) (hts _ hclink) (X.2.2.2.2.2.2.2.2.1.2.1 _ (m_nst_in hover rfl)) (hts _ harr)
    (g := F0 (m_mi C) pc ls (.int k :: .int n :: st.map m_v)) rfl (by rw [X.2.1]; exact hdg) (n := n) (k := k) (rest := st.map m_v) rfl hn hk
    (by omega) (by show k.toNatClampNeg * 4 ≤ _; omega) (by omega) rfl rfl (by rw [hR]; show _ ≤ m_CM - n0; omega) (by rw [hR]; show _ ≤ m_SM - s0; omega)
  have eA : cA = G.2 14 := Option.some.inj (hfA.symm.trans (m_Ka (k := 4) X rfl).2)
  have eC : comp = G.2 10 := Option.some.inj (hfC.symm.trans (m_Ka (k := 0) X rfl).2)
  subst eA; subst eC
  generalize hN : n.toNatClampNeg = N at *
  generalize hK : k.toNatClampNeg = K at *
  obtain ⟨f1, f2, f3, f4⟩ := Jvm.Free.Multi.fill_facts (T.setVm vm₁) (G.2 14) (G.2 10) N K (defaultValue .int) N
  obtain ⟨o1, o2, o3⟩ := Jvm.Free.Multi.outerC_facts (G.2 14) N (T.setVm vm₁).heap.size N
  have hsz : (T.setVm vm₁).heap.size = H.size := by show T.heap.size = _; rw [hT]
  rw [hsz] at f1 f2 o1 o2 o3
  generalize hT1 : Jvm.Free.Multi.fill (T.setVm vm₁) (G.2 14) (G.2 10) N K (defaultValue .int) N = T1 at *
  have hold : ∀ q : Nat, q < H.size → T1.heap[q]? = H[q]? := fun q hq => by
    rw [← hT1, Jvm.Free.Multi.fill_old (T.setVm vm₁) (G.2 14) (G.2 10) N K (defaultValue .int) (by rw [hsz]; exact hq) N]
    show T.heap[q]? = _
    rw [hT]
  have hrow : ∀ j : Nat, j < N → T1.heap[H.size + 1 + j]? = some (arrV (G.2 10) K (fun _ => .int 0)) := fun j hj => by
    rw [← arrV_new, ← hT1, ← hsz]
    exact Jvm.Free.Multi.fill_inner (T.setVm vm₁) (G.2 14) (G.2 10) N K (defaultValue .int) N j hj
  have hout : T1.heap[H.size]? = some (arrV (G.2 14) N (fun j => .ref (H.size + 1 + j))) := by
    rw [f2]
    congr 1
    have hs : (Jvm.Free.Multi.outerC (G.2 14) N H.size N).slots = (arrV (G.2 14) N (fun j => .ref (H.size + 1 + j))).slots := by
      apply Array.ext_getElem?
      intro j
      by_cases hj : j < N
      · rw [Jvm.Free.Multi.outerC_slot (G.2 14) N H.size N j hj, if_pos hj, arrV_read _ _ hj]
      · rw [Array.getElem?_eq_none (by rw [o3]; omega), Array.getElem?_eq_none (by rw [arrV_size]; omega)]
    have hb : ∀ (i : Nat), Jvm.Free.Multi.outerC (G.2 14) N H.size i = { cls := G.2 14, slots := (Jvm.Free.Multi.outerC (G.2 14) N H.size i).slots, vm := .none } := by
      intro i
      induction i with
      | zero => rfl
      | succ i ih =>
        show (Jvm.Free.Multi.outerC (G.2 14) N H.size i).setSlot i _ = _
        rw [ih]
        rfl
    rw [hb, hs]
    rfl
  obtain ⟨m1, m2, m3, m4, m5, m6, m7, m8, m9, m10⟩ := hM
  have hfree : ∀ j : Nat, m_tg M (H.size + j) = 0 := fun j => by
    apply Classical.byContradiction
    intro h
    have := (m6 _ h).1
    omega
  have hlm : m_le M (m_mu M H.size N K) := m_le_mu (fun j _ => hfree j)
  have hne : ∀ b : Nat, m_tg M b ≠ 0 → b ≠ H.size ∧ ¬ (H.size < b ∧ b ≤ H.size + N) := fun b hb => by have := (m6 b hb).1; exact ⟨by omega, by omega⟩
  have hg : ∀ b : Nat, m_tg M b ≠ 0 → m_gi (m_mu M H.size N K) b = m_gi M b ∧ m_gr (m_mu M H.size N K) b = m_gr M b ∧ m_ln (m_mu M H.size N K) b = m_ln M b := fun b hb => by
    obtain ⟨e1, e2⟩ := hne b hb
    refine ⟨?_, ?_, by rw [m_ln_mu, if_neg e1, if_neg e2]⟩
    · funext j; rw [m_gi_mu, if_neg e1, if_neg e2]
    · funext j; rw [m_gr_mu, if_neg e1, if_neg e2]
  have htag : ∀ b : Nat, m_tg (m_mu M H.size N K) b ≠ 0 → b = H.size ∨ (H.size < b ∧ b ≤ H.size + N) ∨ (m_tg M b ≠ 0 ∧ m_tg (m_mu M H.size N K) b = m_tg M b) := fun b hb => by
    rw [m_tg_mu] at hb ⊢
    by_cases e1 : b = H.size
    · exact Or.inl e1
    · rw [if_neg e1] at hb ⊢
      by_cases e2 : H.size < b ∧ b ≤ H.size + N
      · exact Or.inr (Or.inl e2)
      · rw [if_neg e2] at hb ⊢
        exact Or.inr (Or.inr ⟨hb, rfl⟩)
  have hts2 : ∀ b : Nat, (b = H.size → m_tg (m_mu M H.size N K) b = 105) ∧ ((H.size < b ∧ b ≤ H.size + N) → m_tg (m_mu M H.size N K) b = 101) := fun b => ⟨fun e => by rw [m_tg_mu, if_pos e], fun e => by rw [m_tg_mu, if_neg (by omega), if_pos e]⟩
  have hok : m_ok G (m_mu M H.size N K) T1.heap := by
    refine ⟨fun b ci q hb hq => ?_, fun b kd hb hkd => ?_, ⟨fun b hb => ?_, fun i hi => ?_, ?_, fun i hi => ?_⟩, fun b hb => ?_, fun b i hb hi => ?_, fun b hb => ?_, ?_, ?_, ?_, ?_⟩
    · have hci := m_clsN hq
      rcases htag b (by omega) with e | e | ⟨e, e'⟩
      · rw [(hts2 b).1 e] at hb; omega
      · rw [(hts2 b).2 e] at hb; omega
      · obtain ⟨g1, g2, g3⟩ := hg b e
        rw [g1, g2]
        exact (m1 b ci q (by rw [← e']; exact hb) hq).kept (hold b (m6 b e).1)
    · rcases htag b (by omega) with e | e | ⟨e, e'⟩
      · rw [(hts2 b).1 e] at hb
        have : kd = 4 := by omega
        subst this
        subst e
        rw [hout, m_ln_mu, if_pos rfl]
        congr 2
        funext j
        rw [m_gr_mu, if_pos rfl]
        rfl
      · rw [(hts2 b).2 e] at hb
        have : kd = 0 := by omega
        subst this
        have hb2 : b = H.size + 1 + (b - H.size - 1) := by omega
        rw [hb2, hrow _ (by omega), ← hb2, m_ln_mu, if_neg (by omega), if_pos e]
        congr 2
        funext j
        rw [m_gi_mu, if_neg (by omega), if_pos e]
        rfl
      · obtain ⟨g1, g2, g3⟩ := hg b e
        rw [g1, g2, g3, hold b (m6 b e).1]
        exact m2 b kd (by rw [← e']; exact hb) hkd
    · rcases htag b (by omega) with e | e | ⟨e, e'⟩
      · rw [(hts2 b).1 e] at hb; omega
      · rw [(hts2 b).2 e] at hb; omega
      · exact m3.1 b (by rw [← e']; exact hb)
    · rw [(hlm _ (by rw [m3.2.1 i hi]; decide)).1]
      exact m3.2.1 i hi
    · rw [(hlm _ (by rw [m3.2.2.1]; decide)).1]
      exact m3.2.2.1
    · rw [(hlm _ (by rw [m3.2.2.2 i hi]; omega)).1]
      exact m3.2.2.2 i hi
    · rcases htag b (by omega) with e | e | ⟨e, e'⟩
      · rw [(hts2 b).1 e] at hb; omega
      · rw [(hts2 b).2 e] at hb; omega
      · rw [(hg b e).2.2]
        exact m4 b (by rw [← e']; exact hb)
    · rcases htag b (by omega) with e | e | ⟨e, e'⟩
      · rw [(hts2 b).1 e] at hb; omega
      · rw [(hts2 b).2 e] at hb; omega
      · obtain ⟨g1, g2, g3⟩ := hg b e
        rw [g1, g2, hold b (m6 b e).1]
        exact m5 b i (by rw [← e']; exact hb) hi
    · rcases htag b hb with e | e | ⟨e, e'⟩
      · exact ⟨by omega, fun _ => by omega, fun h9 => by rw [(hts2 b).1 e] at h9; omega⟩
      · exact ⟨by omega, fun _ => by omega, fun h9 => by rw [(hts2 b).2 e] at h9; omega⟩
      · rw [e']
        exact ⟨by have := (m6 b e).1; omega, (m6 b e).2.1, fun h9 c9 hc9 => (m6 b e).2.2 h9 c9 (by rw [← hold b (m6 b e).1]; exact hc9)⟩
    · rw [m_nc_mu]; omega
    · rw [m_ns_mu]
      have hX : m_sum T1.heap (G.2 0) = m_sum H (G.2 0) + m_sum T1.heap H.size := m_sum_split (by omega) (by omega) (fun q c hq => ⟨c, by rw [hold q (Array.getElem?_eq_some_iff.mp hq).1]; exact hq, rfl⟩)
      have hnew : T1.heap.toList.drop H.size = arrV (G.2 14) N (fun j => .ref (H.size + 1 + j)) :: List.replicate N (arrV (G.2 10) K (fun _ => .int 0)) := by
        apply List.ext_getElem?
        intro i
        rw [List.getElem?_drop]
        have e0 : T1.heap.toList[H.size + i]? = T1.heap[H.size + i]? := by simp
        rw [e0]
        cases i with
        | zero => rw [Nat.add_zero, hout]; rfl
        | succ i =>
          rw [List.getElem?_cons_succ]
          by_cases hi : i < N
          · rw [show H.size + (i + 1) = H.size + 1 + i by omega, hrow i hi, List.getElem?_replicate, if_pos hi]
          · rw [Array.getElem?_eq_none (by omega), List.getElem?_replicate, if_neg hi]
      have hs2 : m_sum T1.heap H.size = N + N * K := by
        unfold m_sum
        rw [hnew, List.map_cons, List.sum_cons, arrV_size, List.map_replicate, arrV_size, List.sum_replicate_nat]
      rw [hX, m8, hs2]
    · rw [m_nc_mu]; exact hf1
    · rw [m_ns_mu]; exact hf2
  have hS1 : va_S (m_A G) (m_s C).heap T1.heap locs := ⟨by have := hS.1; omega, fun q h1 h2 => (hold q (Nat.lt_of_lt_of_le h1 hS.1)).trans (hS.2.1 q h1 h2), hS.2.2⟩
  rw [show m_nc M - n0 + 1 + N = m_nc (m_mu M H.size N K) - n0 by rw [m_nc_mu]; omega, show m_ns M - s0 + N + N * K = m_ns (m_mu M H.size N K) - s0 by rw [m_ns_mu]; omega] at Y1
  obtain ⟨t, a1, b1⟩ := kk H.size (fun j _ => hfree j) (m_le_tr hle hlm) T1.heap locs ls hok hS1 hl T1 rfl Y1
  refine ⟨t, step t ?_, b1⟩
  rw [hT]
  exact a1
end
section
variable {G : Gp} {C : m_Cx} {own : String} {cc : ByteArray} {nL : Nat} {ret : Option FieldType} {nm : String} {F L n0 s0 : Nat} {Q : State → Prop} {M0 M : Mem} {pc : Nat} {lo lo2 : m_L} {st : List m_V}
/-- a node is no tree node (ci 17: HashMap.Node, 18: LinkedHashMap.Entry) -/
theorem pw_instNo (X : m_in G C own cc nL ret nm F L n0 s0) {a : Nat} (ci : Nat) {index : Nat} {q : Ce} (hci : ci = 17 ∨ ci = 18) (hc : m_cls[ci]? = some q) (ht : m_tg M a = ci + 1) (hlink : Cond.classLink own index "java/util/HashMap$TreeNode" ∈ lw_all) (hdg : decode cc pc = .ok (.instanceof index, 3)) (kk : pW G C nL n0 s0 M0 Q M (pc + 3) lo (vI 0 :: st)) : pW G C nL n0 s0 M0 Q M pc lo (vR (some a) :: st) := by
  intro hle H locs ls hM hS hl
  have h9 := X.2.2.2.2.2.2.2.2.1.2.2.2.2.2.2.2.2
  have hN : va_Nc q.1 "java/util/HashMap$TreeNode" (m_s C) := by
    rcases hci with rfl | rfl
    · cases hc
      exact h9.2.1
    · cases hc
      exact h9.2.2.1
  exact va_instNo X.1 X.2.1 X.2.2.2.2.2.1 (X.2.2.2.2.2.2.2.1 _ hlink) hN (m_recv X hM ht hc) hdg (kk hle H locs ls hM hS hl)
theorem pw_getE0 (X : m_in G C own cc nL ret nm F L n0 s0) {ref : String} {index : Nat} (hlink : Cond.fieldLink own index ref "DEFAULTCAPACITY_EMPTY_ELEMENTDATA" "[Ljava/lang/Object;" ∈ lw_all) (hsm : m_sm ref "java/util/ArrayList" "DEFAULTCAPACITY_EMPTY_ELEMENTDATA" "[Ljava/lang/Object;") (hdg : decode cc pc = .ok (.getstatic index, 3)) (kk : m_tg M (G.2 1) = 160 → m_ln M (G.2 1) = 0 → pW G C nL n0 s0 M0 Q M (pc + 3) lo (vR (some (G.2 1)) :: st)) : pW G C nL n0 s0 M0 Q M pc lo st := by
  intro hle H locs ls hM hS hl
  have h1 := hM.2.2.1.2.2.1
  exact pw_gets X (vR (some (G.2 1))) (List.mem_of_getElem? (i := 0) rfl) hlink hsm hdg (kk h1 (hM.2.2.2.1 _ h1).2) hle H locs ls hM hS hl
theorem pw_mmax (X : m_in G C own cc nL ret nm F L n0 s0) {index : Nat} {x y : Int32} (hlink : Cond.methodLink own index Lib.Math.max.name ∈ lw_all) (hstat : Cond.static Lib.Math.max.name ∈ lw_all) (hini : Cond.initialized "java/lang/Math" ∈ lw_all) (hcode : Cond.code Lib.Math.max.name Lib.Math.max.code 2 (some .int) ∈ lw_all) (hF : 1 ≤ F) (hL : st.length + 13 ≤ L) (hdg : decode cc pc = .ok (.invokestatic index, 3)) (kk : pW G C nL n0 s0 M0 Q M (pc + 3) lo (vI (if x < y then y else x) :: st)) : pW G C nL n0 s0 M0 Q M pc lo (vI y :: vI x :: st) := by
  intro hle H locs ls hM hS hl
  have hts := X.2.2.2.2.2.2.2.1
  have hR := X.2.2.2.2.2.2.2.2.2.1
  obtain ⟨k1, k2, k3⟩ := m_keep X hM hS
  exact va_mmax X.1 X.2.1 (X.2.2.2.2.1.trans hl.1.symm) X.2.2.2.2.2.1 (hts _ hlink) (hts _ hstat) (hts _ hini) (hts _ hcode) (by rw [hR]; exact hF) (by rw [hR, m_cats]; exact hL) (by rw [hR]; show _ ≤ m_CM - n0; omega) (by rw [hR]; show _ ≤ m_SM - s0; omega) hdg (kk hle H locs ls hM hS hl)
theorem pw_mmin (X : m_in G C own cc nL ret nm F L n0 s0) {index : Nat} {x y : Int32} (hlink : Cond.methodLink own index Lib.Math.min.name ∈ lw_all) (hstat : Cond.static Lib.Math.min.name ∈ lw_all) (hini : Cond.initialized "java/lang/Math" ∈ lw_all) (hcode : Cond.code Lib.Math.min.name Lib.Math.min.code 2 (some .int) ∈ lw_all) (hF : 1 ≤ F) (hL : st.length + 13 ≤ L) (hdg : decode cc pc = .ok (.invokestatic index, 3)) (kk : pW G C nL n0 s0 M0 Q M (pc + 3) lo (vI (if y < x then y else x) :: st)) : pW G C nL n0 s0 M0 Q M pc lo (vI y :: vI x :: st) := by
  intro hle H locs ls hM hS hl
  have hts := X.2.2.2.2.2.2.2.1
  have hR := X.2.2.2.2.2.2.2.2.2.1
  obtain ⟨k1, k2, k3⟩ := m_keep X hM hS
  exact va_mmin X.1 X.2.1 (X.2.2.2.2.1.trans hl.1.symm) X.2.2.2.2.2.1 (hts _ hlink) (hts _ hstat) (hts _ hini) (hts _ hcode) (by rw [hR]; exact hF) (by rw [hR, m_cats]; exact hL) (by rw [hR]; show _ ≤ m_CM - n0; omega) (by rw [hR]; show _ ≤ m_SM - s0; omega) hdg (kk hle H locs ls hM hS hl)
theorem pw_mabs (X : m_in G C own cc nL ret nm F L n0 s0) {index : Nat} {x : Int32} (hlink : Cond.methodLink own index Lib.Math.abs.name ∈ lw_all) (hstat : Cond.static Lib.Math.abs.name ∈ lw_all) (hini : Cond.initialized "java/lang/Math" ∈ lw_all) (hcode : Cond.code Lib.Math.abs.name Lib.Math.abs.code 1 (some .int) ∈ lw_all) (hF : 1 ≤ F) (hL : st.length + 13 ≤ L) (hdg : decode cc pc = .ok (.invokestatic index, 3)) (kk : pW G C nL n0 s0 M0 Q M (pc + 3) lo (vI (if 0 ≤ x then x else 0 - x) :: st)) : pW G C nL n0 s0 M0 Q M pc lo (vI x :: st) := by
  intro hle H locs ls hM hS hl
  have hts := X.2.2.2.2.2.2.2.1
  have hR := X.2.2.2.2.2.2.2.2.2.1
  obtain ⟨k1, k2, k3⟩ := m_keep X hM hS
  exact va_mabs X.1 X.2.1 (X.2.2.2.2.1.trans hl.1.symm) X.2.2.2.2.2.1 (hts _ hlink) (hts _ hstat) (hts _ hini) (hts _ hcode) (by rw [hR]; exact hF) (by rw [hR, m_cats]; exact hL) (by rw [hR]; show _ ≤ m_CM - n0; omega) (by rw [hR]; show _ ≤ m_SM - s0; omega) hdg (kk hle H locs ls hM hS hl)
variable {y : MethodName} {ccy : ByteArray} {nLy Fy Ly index : Nat} {rety : Option FieldType} {av : List m_V} {Qc : Array Value → State → Outcome → State → Prop} {b : Nat} {st0 : List m_V}
/-- a private method of AbstractStringBuilder, on a StringBuilder -/
theorem m_cP (X : m_in G C own cc nL ret nm F L n0 s0) (hK : m_K G C.2.1 y ccy nLy rety Fy Ly (vR (some b) :: av) M Qc) (ht : m_tg M b = 15) (hy : y ∈ m_prv) (hlink : Cond.methodLink own index y ∈ lw_all) (hsame : Cond.sameMethod y.cls y.cls y.name y.desc ∈ lw_all) (hinst : Cond.instanceMethod y ∈ lw_all) (hini : Cond.initialized y.cls ∈ lw_all) (hcode : Cond.code y ccy nLy rety ∈ lw_all) (hd : m_nMH y av.length) (hR : m_rm F L Fy nLy Ly) (hst : st0 = av.reverse ++ vR (some b) :: st) (hw : st.length ≤ 8) (hdg : decode cc pc = .ok (.invokevirtual index, 3)) : m_run G C nL n0 s0 M pc 3 lo st0 st Qc := by
  intro H locs ls hM hS hl T hT Y
  have hts := X.2.2.2.2.2.2.2.1
  have h12 := X.2.2.2.2.2.2.2.2.1.2.2.2.2.2.2.2.2.2.2.2.1 y hy
  have hRR := m_rmR X hR
  have hG := lw_meth hcode
  refine m_runOf (g := fun _ _ _ => True) hT Y (va_runU (C := RJ4) (owner := y.cls) (x := y) (b := b) (As := av.map m_v) (m_fix X) hK ⟨⟨rfl, rfl, hRR.1, hRR.2, pay_in hts hG, List.mem_cons_self⟩, hts _ hcode, hts _ hini, ⟨hd.1, hd.2.1⟩, fun sig h => ?_, hts _ hlink, hts _ hsame, va_Decl.of (hts _ hinst) (hts _ hcode), va_Nw.use rfl h12, hts _ hinst⟩ (m_pV (ci := 14) (q := (RJ4, TJ4, tyJ4, 4)) X hM hS ht rfl) rfl (by rw [List.length_map]) hl.1 (m_st3 hst) (m_wd hw) hdg (m_hf X hM hS (m_s0' X hM hT Y)))
  have h2 := hd.2.2
  rw [h] at h2
  exact (Option.some.inj h2).symm
/-- super.y(..) -/
theorem m_cSU {ci : Nat} {q : Ce} (X : m_in G C own cc nL ret nm F L n0 s0) (hK : m_K G C.2.1 y ccy nLy rety Fy Ly (vR (some b) :: av) M Qc) (ht : m_tg M b = ci + 1) (hc : m_cls[ci]? = some q) (hg : GoodIn lw_all (va_wsSU own index y (ws_ y ccy nLy rety))) (hd : y.name ≠ "<init>" ∧ (parseMethodDescriptor y.desc).map (fun d => d.parameters.length) = some av.length) (hR : m_rm F L Fy nLy Ly) (hst : st0 = av.reverse ++ vR (some b) :: st) (hw : st.length ≤ 8) (hdg : decode cc pc = .ok (.invokespecial index, 3)) : m_run G C nL n0 s0 M pc 3 lo st0 st Qc := by
  intro H locs ls hM hS hl T hT Y
  exact m_runOf (g := fun _ _ _ => True) hT Y (va_runSU (m_Kc X hc).2 (b := b) (As := av.map m_v) (m_fix X) hK (va_cwSU av.length X.2.2.2.2.2.2.2.1 hg rfl rfl rfl hd (m_rmR X hR)) (m_pV X hM hS ht hc) rfl (by rw [List.length_map]) hl.1 (m_st3 hst) (m_wd hw) hdg (m_hf X hM hS (m_s0' X hM hT Y)))
theorem lw_SU {own : String} {idx : Nat} {y : MethodName} (h1 : Cond.methodLink own idx y ∈ lw_all) (h2 : Cond.sameMethod y.cls y.cls y.name y.desc ∈ lw_all) (h3 : Cond.superclass own y.cls ∈ lw_all) (h4 : Cond.instanceMethod y ∈ lw_all) (h5 : Cond.initialized y.cls ∈ lw_all) : ∀ w ∈ ([.methodLink own idx y, .sameMethod y.cls y.cls y.name y.desc, .superclass own y.cls, .instanceMethod y, .initialized y.cls] : List Cond), w ∈ lw_all := by
  intro w hw
  simp only [List.mem_cons, List.not_mem_nil, or_false] at hw
  rcases hw with e | e | e | e | e <;> rw [e] <;> assumption
end
