/-! THE START: what the tables, the statics and the sites say at the law's entry (printed by gen/start.py) -/
set_option maxRecDepth 100000
set_option maxHeartbeats 4000000
section
variable {s : State} {b : Nat}
theorem st_cls (ha : ∀ w ∈ lw_all, w.before #[Value.ref b] s = true) : ∃ D : va_G, ∀ (c : Nat) (q : vw_C), vwCl[c]? = some q → u_Kn s q.1 q.2.1 q.2.2 (D.1 c) (D.2 c) := by
  have h : ∀ c : Nat, ∃ z : ClassId × (Nat → Nat), ∀ q : vw_C, vwCl[c]? = some q → u_Kn s q.1 q.2.1 q.2.2 z.1 z.2 := by
    intro c
    match c with
    | 0 => obtain ⟨cC, iS, h⟩ := u_known ha in_X0 (ha _ q122); exact ⟨(cC, iS), fun q hq => by cases hq; exact h⟩
    | 1 => obtain ⟨cC, iS, h⟩ := u_known ha in_X1 (ha _ q130); exact ⟨(cC, iS), fun q hq => by cases hq; exact h⟩
    | 2 => obtain ⟨cC, iS, h⟩ := u_known ha in_X2 (ha _ q230); exact ⟨(cC, iS), fun q hq => by cases hq; exact h⟩
    | 3 => obtain ⟨cC, iS, h⟩ := u_known ha in_X3 (ha _ q289); exact ⟨(cC, iS), fun q hq => by cases hq; exact h⟩
    | 4 => obtain ⟨cC, iS, h⟩ := u_known ha in_X4 (ha _ q1936); exact ⟨(cC, iS), fun q hq => by cases hq; exact h⟩
    | 5 => obtain ⟨cC, iS, h⟩ := u_known ha in_X5 (ha _ q1046); exact ⟨(cC, iS), fun q hq => by cases hq; exact h⟩
    | 6 => obtain ⟨cC, iS, h⟩ := u_known ha in_X6 (ha _ q1083); exact ⟨(cC, iS), fun q hq => by cases hq; exact h⟩
    | 7 => obtain ⟨cC, iS, h⟩ := u_known ha in_X7 (ha _ q1166); exact ⟨(cC, iS), fun q hq => by cases hq; exact h⟩
    | 8 => obtain ⟨cC, iS, h⟩ := u_known ha in_X8 (ha _ q1202); exact ⟨(cC, iS), fun q hq => by cases hq; exact h⟩
    | 9 => obtain ⟨cC, iS, h⟩ := u_known ha in_X9 (ha _ q1314); exact ⟨(cC, iS), fun q hq => by cases hq; exact h⟩
    | 10 => obtain ⟨cC, iS, h⟩ := u_known ha in_X10 (ha _ q1518); exact ⟨(cC, iS), fun q hq => by cases hq; exact h⟩
    | 11 => obtain ⟨cC, iS, h⟩ := u_known ha in_X11 (ha _ q1750); exact ⟨(cC, iS), fun q hq => by cases hq; exact h⟩
    | 12 => obtain ⟨cC, iS, h⟩ := u_known ha in_X12 (ha _ q1804); exact ⟨(cC, iS), fun q hq => by cases hq; exact h⟩
    | 13 => obtain ⟨cC, iS, h⟩ := u_known ha in_J2 (ha _ q136); exact ⟨(cC, iS), fun q hq => by cases hq; exact h⟩
    | 14 => obtain ⟨cC, iS, h⟩ := u_known ha in_J4 (ha _ q198); exact ⟨(cC, iS), fun q hq => by cases hq; exact h⟩
    | 15 => obtain ⟨cC, iS, h⟩ := u_known ha in_J8 (ha _ q1502); exact ⟨(cC, iS), fun q hq => by cases hq; exact h⟩
    | 16 => obtain ⟨cC, iS, h⟩ := u_known ha in_J9 (ha _ q236); exact ⟨(cC, iS), fun q hq => by cases hq; exact h⟩
    | 17 => obtain ⟨cC, iS, h⟩ := u_known ha in_J18 (ha _ q745); exact ⟨(cC, iS), fun q hq => by cases hq; exact h⟩
    | 18 => obtain ⟨cC, iS, h⟩ := u_known ha in_J19 (ha _ q694); exact ⟨(cC, iS), fun q hq => by cases hq; exact h⟩
    | 19 => obtain ⟨cC, iS, h⟩ := u_known ha in_J26 (ha _ q1493); exact ⟨(cC, iS), fun q hq => by cases hq; exact h⟩
    | n + 20 => exact ⟨(0, fun _ => 0), fun q hq => by cases hq⟩
  obtain ⟨f, hf⟩ := Classical.axiomOfChoice h
  exact ⟨(fun c => (f c).1, fun c => (f c).2), hf⟩
theorem st_aprim {ty : FieldType} (h : (Cond.arrayClass ty).before #[Value.ref b] s = true) (hp : ∀ id : ClassId, s.vm.findClass ("[" ++ ty.toString) = some id → va_RA s id ty) : ∃ id : ClassId, ArrOfT s id ty ∧ va_RA s id ty := by
  obtain ⟨c, k, comp, h1, h2, h3⟩ := Cond.arrayClass_spec h
  exact ⟨c, fun n z => ⟨fun k h => (by cases h), k, h2, comp, h3⟩, hp c h1⟩
theorem st_aobj {n : String} (h : (Cond.arrayOver (.object n)).before #[Value.ref b] s = true) : ∃ id : ClassId, ArrOfT s id (.object n) ∧ va_RA s id (.object n) := by
  obtain ⟨comp, c, k, h1, h2, h3, h4, h5⟩ := Cond.arrayOver_spec h
  exact ⟨c, fun n z => ⟨fun k h => (by cases h), k, h3, comp, h4⟩, k, comp, h3, h4, h1, h5⟩
theorem st_agrid (h : (Cond.arrayOver (.array .int)).before #[Value.ref b] s = true) : ∃ id : ClassId, ArrOfT s id (.array .int) ∧ va_RA s id (.array .int) := by
  have h := h
  simp only [Cond.before, Cond.holds, Cond.value, beq_iff_eq] at h
  cases hc : s.vm.findClass (FieldType.array .int).toString with
  | none => simp [hc] at h
  | some comp =>
    simp only [hc, Option.bind_some, Option.bind_eq_some_iff, Option.map_eq_some_iff] at h
    obtain ⟨c, hi, k, hk, hb⟩ := h
    cases hkind : k.kind with
    | array component ty =>
      rw [hkind] at hb
      simp at hb
      exact ⟨c, fun n z => ⟨fun k h => (by cases h), k, hk, component, by rw [hkind, hb.1]⟩, hb.2⟩
    | _ => rw [hkind] at hb; simp at hb
theorem st_nst (hts : ∀ w ∈ lw_tbl, w.before #[Value.ref b] s = true) : ∀ w ∈ m_nst, va_Nw w s := by
  intro w hw
  obtain ⟨h1, h2⟩ := List.mem_filter.mp hw
  have h3 := hts w h1
  unfold m_nw at h2
  split at h2
  · exact va_Nw.of rfl h3
  · exact va_Nw.of rfl h3
  · exact va_Nw.of rfl h3
  · exact h3
  · exact va_Nw.of rfl h3
  · exact va_Nw.of rfl h3
  · cases h2
theorem st_fws (hts : ∀ w ∈ lw_tbl, w.before #[Value.ref b] s = true) : ∀ t ∈ m_fws, va_Fw t.1 t.2.1 t.2.2 s := by
  intro t ht
  unfold m_fws at ht
  simp only [List.mem_cons, List.not_mem_nil, or_false] at ht
  rcases ht with rfl | rfl | rfl | rfl | rfl | rfl | rfl | rfl | rfl | rfl | rfl | rfl | rfl
  · exact va_Fw.of (hts _ q1610) (hts _ q1609) (hts _ q1614) (hts _ q1612) (hts _ q887)
  · exact va_Fw.of (hts _ q886) (hts _ q885) (hts _ q891) (hts _ q889) (hts _ q887)
  · exact va_Fw.of (hts _ q1030) (hts _ q1029) (hts _ q1034) (hts _ q1032) (hts _ q887)
  · exact va_Fw.of (hts _ q1842) (hts _ q1841) (hts _ q1846) (hts _ q1844) (hts _ q887)
  · exact va_Fw.of (hts _ q1002) (hts _ q1001) (hts _ q1006) (hts _ q1004) (hts _ q887)
  · exact va_Fw.of (hts _ q1548) (hts _ q1547) (hts _ q1552) (hts _ q1550) (hts _ q887)
  · exact va_Fw.of (hts _ q993) (hts _ q992) (hts _ q997) (hts _ q995) (hts _ q887)
  · exact va_Fw.of (hts _ q314) (hts _ q313) (hts _ q640) (hts _ q638) (hts _ q636)
  · exact va_Fw.of (hts _ q655) (hts _ q654) (hts _ q659) (hts _ q858) (hts _ q636)
  · exact va_Fw.of (hts _ q978) (hts _ q977) (hts _ q982) (hts _ q985) (hts _ q636)
  · exact va_Fw.of (hts _ q1530) (hts _ q1529) (hts _ q1535) (hts _ q1533) (hts _ q1531)
  · exact va_Fw.of (hts _ q1791) (hts _ q1790) (hts _ q1795) (hts _ q1793) (hts _ q1784)
  · exact va_Fw.of (hts _ q1783) (hts _ q1782) (hts _ q1787) (hts _ q1786) (hts _ q1784)
theorem st_selP {C : String} {y : MethodName} {n : Nat} {x9 z9 : MethodName} (hz : z9.cls = y.cls) (hy : y.cls ≠ "java/lang/invoke/MethodHandle" ∧ y.cls ≠ "java/lang/invoke/VarHandle") (hins : (Cond.instantiable C n).before #[Value.ref b] s = true) (hsup : (Cond.selects C x9 z9).before #[Value.ref b] s = true) (hpriv : (Cond.privateMethod y).before #[Value.ref b] s = true) (hinst : (Cond.instanceMethod y).before #[Value.ref b] s = true) : va_Nw (.selects C y y) s := by
  obtain ⟨c, k, hc, hk, -, hniab, -, -⟩ := Cond.instantiable_spec hins
  obtain ⟨mk, methM, hnamed, hmethM, -, -⟩ := Cond.instanceMethod_spec hinst
  have hfound : s.methodFound? y.cls y.name y.desc = some mk := State.methodFound?_of_named hnamed hy
  have hcm := findClass_of_methodNamed hnamed
  obtain ⟨c2, r2, m2, p1, p2, p3, p4, k1, hk1, hni⟩ := Cond.selects_spec hsup
  have hm2 : m2.cls = mk.cls := by
    have h9 := findClass_of_methodNamed p3
    rw [hz] at h9
    exact Option.some.inj (h9.symm.trans hcm)
  rw [hm2] at hk1
  have hsel : selectMethod {} s.vm c mk = .method mk := selectMethod_private hmethM (Cond.privateMethod_at hpriv mk methM hnamed hmethM)
  show (Cond.selects C y y).before #[] s = true
  simp only [Cond.before, Cond.holds, Cond.value, hc, hfound, hnamed, hsel, hk1]
  simp; exact hni
theorem st_prv (hts : ∀ w ∈ lw_tbl, w.before #[Value.ref b] s = true) : ∀ y ∈ m_prv, va_Nw (.selects RJ4 y y) s := by
  intro y hy
  unfold m_prv at hy
  simp only [List.mem_cons, List.not_mem_nil, or_false] at hy
  rcases hy with rfl | rfl | rfl
  · exact st_selP (z9 := ⟨RJ3, "isLatin1", "()Z"⟩) rfl ⟨by decide, by decide⟩ (hts _ (lw_all_tbl q198)) (hts _ (lw_all_tbl q477)) (hts _ q1666) (hts _ (lw_all_tbl q1667))
  · exact st_selP (z9 := ⟨RJ3, "isLatin1", "()Z"⟩) rfl ⟨by decide, by decide⟩ (hts _ (lw_all_tbl q198)) (hts _ (lw_all_tbl q477)) (hts _ q1670) (hts _ (lw_all_tbl q1671))
  · exact st_selP (z9 := ⟨RJ3, "isLatin1", "()Z"⟩) rfl ⟨by decide, by decide⟩ (hts _ (lw_all_tbl q198)) (hts _ (lw_all_tbl q477)) (hts _ q1689) (hts _ (lw_all_tbl q1690))
/-- the sites -/
theorem st_site {x : MethodName} {p9 i9 : Nat} {σ : Lambda.Shape} (h : (Cond.lambdaSite x p9 i9 σ).before #[Value.ref b] s = true) : ∃ (c : ClassId) (a : Addr), m_lb s x p9 i9 σ c a ∧ (σ.captured = [] → ∃ cell : Cell, s.heap[a]? = some cell ∧ cell.cls = c ∧ cell.vm = .none ∧ cell.slots = #[]) := by
  obtain ⟨c, one, hat⟩ := Cond.lambdaSite_spec h
  obtain ⟨m, k, cf, i0, p0, lk, h1, h2, h3, h4, h5, h6, h7, h8, h9⟩ := State.lambdaAt?_spec hat
  rcases h9 with ⟨a, cell, e1, e2, e3, e4, e5, e6, e7⟩ | ⟨e1, e2, e3⟩
  · exact ⟨c, a, ⟨m, k, cf, i0, p0, lk, h1, h2, h3, h4, h5, h6, h7, h8, Or.inl ⟨e1, e3⟩⟩, fun _ => ⟨cell, e4, e5, e6, e7⟩⟩
  · exact ⟨c, 0, ⟨m, k, cf, i0, p0, lk, h1, h2, h3, h4, h5, h6, h7, h8, Or.inr ⟨e1, e3⟩⟩, fun h => absurd h e3⟩
theorem st_sites (hn : ∀ w ∈ [siteWord_1_1, siteWord_1_2, siteWord_1_3, siteWord_1_4, siteWord_1_5, siteWord_1_6, siteWord_1_7, siteWord_1_8, siteWord_1_9], w.before #[Value.ref b] s = true) :
    ∃ (lc la : Nat → Nat), ∀ (j : Nat) (σ : MethodName × Nat × Nat × Lambda.Shape), m_lbs[j]? = some σ → m_lb s σ.1 σ.2.1 σ.2.2.1 σ.2.2.2 (lc j) (la j) ∧ (σ.2.2.2.captured = [] → ∃ cell : Cell, s.heap[la j]? = some cell ∧ cell.cls = lc j ∧ cell.vm = .none ∧ cell.slots = #[]) := by
  have h : ∀ j : Nat, ∃ z : Nat × Nat, ∀ σ : MethodName × Nat × Nat × Lambda.Shape, m_lbs[j]? = some σ → m_lb s σ.1 σ.2.1 σ.2.2.1 σ.2.2.2 z.1 z.2 ∧ (σ.2.2.2.captured = [] → ∃ cell : Cell, s.heap[z.2]? = some cell ∧ cell.cls = z.1 ∧ cell.vm = .none ∧ cell.slots = #[]) := by
    intro j
    match j with
    | 0 => obtain ⟨c, a, h⟩ := st_site (hn siteWord_1_1 (List.mem_of_getElem? (i := 0) rfl)); exact ⟨(c, a), fun q hq => by cases hq; exact h⟩
    | 1 => obtain ⟨c, a, h⟩ := st_site (hn siteWord_1_2 (List.mem_of_getElem? (i := 1) rfl)); exact ⟨(c, a), fun q hq => by cases hq; exact h⟩
    | 2 => obtain ⟨c, a, h⟩ := st_site (hn siteWord_1_3 (List.mem_of_getElem? (i := 2) rfl)); exact ⟨(c, a), fun q hq => by cases hq; exact h⟩
    | 3 => obtain ⟨c, a, h⟩ := st_site (hn siteWord_1_4 (List.mem_of_getElem? (i := 3) rfl)); exact ⟨(c, a), fun q hq => by cases hq; exact h⟩
    | 4 => obtain ⟨c, a, h⟩ := st_site (hn siteWord_1_5 (List.mem_of_getElem? (i := 4) rfl)); exact ⟨(c, a), fun q hq => by cases hq; exact h⟩
    | 5 => obtain ⟨c, a, h⟩ := st_site (hn siteWord_1_6 (List.mem_of_getElem? (i := 5) rfl)); exact ⟨(c, a), fun q hq => by cases hq; exact h⟩
    | 6 => obtain ⟨c, a, h⟩ := st_site (hn siteWord_1_7 (List.mem_of_getElem? (i := 6) rfl)); exact ⟨(c, a), fun q hq => by cases hq; exact h⟩
    | 7 => obtain ⟨c, a, h⟩ := st_site (hn siteWord_1_8 (List.mem_of_getElem? (i := 7) rfl)); exact ⟨(c, a), fun q hq => by cases hq; exact h⟩
    | 8 => obtain ⟨c, a, h⟩ := st_site (hn siteWord_1_9 (List.mem_of_getElem? (i := 8) rfl)); exact ⟨(c, a), fun q hq => by cases hq; exact h⟩
    | n + 9 => exact ⟨(0, 0), fun q hq => by cases hq⟩
  obtain ⟨f, hf⟩ := Classical.axiomOfChoice h
  exact ⟨fun j => (f j).1, fun j => (f j).2, hf⟩
end
