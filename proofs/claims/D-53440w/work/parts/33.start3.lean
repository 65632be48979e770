/-! THE START: the world and the first memory -/
set_option maxRecDepth 100000
set_option maxHeartbeats 4000000
section
variable {s : State} {b : Nat}
theorem st_lam (ha : ∀ w ∈ lw_all, w.before #[Value.ref b] s = true) {x : MethodName} {p9 i9 mL mi ci nt cn : Nat} {σ : Lambda.Shape} {code : ByteArray} {c : ClassId} {a : Addr} (h : m_lb s x p9 i9 σ c a) (K : lm_K σ x.cls code mL mi ci nt cn) : ∃ (k : Class) (file : ClassFile), s.vm.classes[c]? = some k ∧ k.name = x.cls ++ "$$Lambda" ∧ k.kind = .ordinary ∧ k.cf = some file ∧ file.constantPool = (lm_D σ x.cls).constantPool := by
  obtain ⟨mS, kS, cfS, i0, p0, lk, hmS, hkS, hcfS, hshS, hinS, hfindS, hmade, hcan, hlk⟩ := h
  obtain ⟨kS', hkS', hnameS⟩ := className_of_methodNamed hmS
  cases hkS.symm.trans hkS'
  obtain ⟨cO, kO, hfO, hkO, -, -, -, hszO⟩ := Cond.instantiable_spec (ha _ q2320)
  obtain ⟨k, tk, file, methk, ck, toy, t9, hk, hkn, hf, hp, -, -, -, -, -, -, -, -, -, -, -, -, -, -, hkind, -⟩ := lm_made K hkS hnameS hmade (fun o ok h1 h2 => by
    cases hfO.symm.trans h1
    cases hkO.symm.trans h2
    exact Array.eq_empty_of_size_eq_zero hszO)
  exact ⟨k, file, hk, hkn, hkind, hf, hp⟩
theorem st_world (hts : ∀ w ∈ lw_tbl, w.before #[Value.ref b] s = true) (hgv : (Jvm.Cond.and given_1 narrow_1).before #[Value.ref b] s = true) : ∃ G : Gp, G.2 0 = s.heap.size ∧ m_gS G s s.heap ∧ m_ok G (m_M0 G.2) s.heap := by
  have ha : ∀ w ∈ lw_all, w.before #[Value.ref b] s = true := fun w h => hts _ (lw_all_tbl h)
  have hs := flat_of_before _ hgv
  obtain ⟨D, hD⟩ := st_cls ha
  obtain ⟨a0, h0, h0'⟩ := st_aprim (ty := .int) (ha _ q194) (fun id h => h)
  obtain ⟨a1, h1, h1'⟩ := st_aprim (ty := .byte) (ha _ q228) (fun id h => h)
  obtain ⟨a2, h2, h2'⟩ := st_aobj (hts _ q921)
  obtain ⟨a3, h3, h3'⟩ := st_aobj (hts _ q677)
  obtain ⟨a4, h4, h4'⟩ := st_agrid (hts _ q285)
  obtain ⟨lc, la, hL⟩ := st_sites (s := s) (b := b) (fun w hw => by
    simp only [List.mem_cons, List.not_mem_nil, or_false] at hw
    rcases hw with rfl | rfl | rfl | rfl | rfl | rfl | rfl | rfl | rfl <;> exact hs _ (by decide +kernel))
  obtain ⟨mi, hMi⟩ := va_Mi.of (hs (.isRef (.mirror "[Ljava/lang/Object;")) (by decide +kernel))
  obtain ⟨e0, pr, ca, un, su, si, ad, hZ, hC, hTc, hT0, hLU, hLS⟩ := st_vals hts hgv
  obtain ⟨ar, har0, har1, har2, har3, har4⟩ : ∃ ar : Nat → Nat, ar 0 = a0 ∧ ar 1 = a1 ∧ ar 2 = a2 ∧ ar 3 = a3 ∧ ar 4 = a4 := ⟨fun k => match k with
    | 0 => a0
    | 1 => a1
    | 2 => a2
    | 3 => a3
    | _ => a4, rfl, rfl, rfl, rfl, rfl⟩
  obtain ⟨g, hg⟩ : ∃ g : Nat → Nat, g = st_g s.heap.size e0 pr (st_ro un) (st_ro su) ca (st_ro si) mi ar lc la ad := ⟨_, rfl⟩
  have g0 : g 0 = s.heap.size := by rw [hg]; rfl
  have g1 : g 1 = e0 := by rw [hg]; rfl
  have g2 : g 2 = pr := by rw [hg]; rfl
  have g3 : m_ro (g 3) = un := by rw [hg]; exact st_ro_ok un
  have g4 : m_ro (g 4) = su := by rw [hg]; exact st_ro_ok su
  have g6 : g 6 = ca := by rw [hg]; rfl
  have g7 : m_ro (g 7) = si := by rw [hg]; exact st_ro_ok si
  have g8 : g 8 = mi := by rw [hg]; rfl
  have g10 : g 10 = a0 := by rw [← har0, hg]; rfl
  have g11 : g 11 = a1 := by rw [← har1, hg]; rfl
  have g12 : g 12 = a2 := by rw [← har2, hg]; rfl
  have g13 : g 13 = a3 := by rw [← har3, hg]; rfl
  have g14 : g 14 = a4 := by rw [← har4, hg]; rfl
  have g20 : ∀ j : Nat, j < 9 → g (20 + j) = la j := fun j hj => by rw [hg]; exact st_g20 hj
  have g40 : ∀ j : Nat, j < 9 → g (40 + j) = lc j := fun j hj => by rw [hg]; exact st_g40 hj
  have g100 : ∀ k : Nat, g (100 + k) = ad k := fun k => by rw [hg]; exact st_g100
  have hlen : ∀ (j : Nat) (σ : MethodName × Nat × Nat × Lambda.Shape), m_lbs[j]? = some σ → j < 9 := fun j σ h => (List.getElem?_eq_some_iff.mp h).1
  have eA : m_A ((D, g) : Gp) = fun q => s.heap.size ≤ q := by
    funext q
    show (g 0 ≤ q) = _
    rw [g0]
  have e100 : (fun k => g (100 + k)) = ad := funext g100
  have e100' : (fun k => Value.ref (g (100 + k))) = fun k => Value.ref (ad k) := funext fun k => by rw [g100]
  refine ⟨(D, g), g0, ?_, ?_⟩
  · refine ⟨⟨hD, fun k q hq => ?_⟩, st_nst hts, st_fws hts, ?_, ?_, ?_, ?_, fun j σ hj => ?_, ?_, va_Nc.of (hs _ (by decide +kernel)), va_Nc.of (hs _ (by decide +kernel)), st_prv hts, va_Nc.of (hs _ (by decide +kernel)), ?_, ?_⟩
    · match k, hq with
      | 0, hq => cases hq; show ArrOfT s (g 10) _ ∧ va_RA s (g 10) _; rw [g10]; exact ⟨h0, h0'⟩
      | 1, hq => cases hq; show ArrOfT s (g 11) _ ∧ va_RA s (g 11) _; rw [g11]; exact ⟨h1, h1'⟩
      | 2, hq => cases hq; show ArrOfT s (g 12) _ ∧ va_RA s (g 12) _; rw [g12]; exact ⟨h2, h2'⟩
      | 3, hq => cases hq; show ArrOfT s (g 13) _ ∧ va_RA s (g 13) _; rw [g13]; exact ⟨h3, h3'⟩
      | 4, hq => cases hq; show ArrOfT s (g 14) _ ∧ va_RA s (g 14) _; rw [g14]; exact ⟨h4, h4'⟩
      | n + 5, hq => cases hq
    · rw [eA]
      unfold m_stz
      dsimp only
      rw [g1, g2, g3, g4, g6, g7]
      exact hZ
    · rw [eA]
      show vb_C (fun k => g (100 + k)) _ s s.heap
      rw [e100]
      exact hC
    · rw [eA]
      show va_T _ (g 6) 256 (fun k => .ref (g (100 + k))) _ s s.heap
      rw [e100', g6]
      exact hTc
    · rw [eA]
      show va_T _ (g 1) 0 _ _ s s.heap
      rw [g1]
      exact hT0
    · show m_lb s σ.1 σ.2.1 σ.2.2.1 σ.2.2.2 (g (40 + j)) (g (20 + j))
      rw [g20 j (hlen j σ hj), g40 j (hlen j σ hj)]
      exact (hL j σ hj).1
    · show va_Mi _ (g 8) s
      rw [g8]
      exact hMi
    · rw [eA]; exact hLU
    · rw [eA]; exact hLS
  · -- the first memory
    obtain ⟨cI, kI, hfI, hkI, hordI, -⟩ := Cond.instantiable_spec (ha _ q866)
    obtain ⟨kI', hkI', hnI⟩ := Vm.findClass_spec hfI
    cases hkI.symm.trans hkI'
    obtain ⟨ce, c1, ⟨-, ke, hke, comp, hkinde⟩, -⟩ := id hT0
    have hbox : ∀ k : Nat, k < 256 → ∃ cell : Cell, s.heap[ad k]? = some cell ∧ cell.cls = cI := fun k hk => by
      obtain ⟨cell, q1, q2, q3, -⟩ := hC.1 k hk
      exact ⟨cell, q1, Option.some.inj (q3.symm.trans hfI)⟩
    have L0 := hL 0 _ lsh0
    have L1 := hL 1 _ lsh1
    have L8 := hL 8 _ lsh8
    obtain ⟨c0, d01, d02, d03, d04⟩ := L0.2 rfl
    obtain ⟨cc1, d11, d12, d13, d14⟩ := L1.2 rfl
    obtain ⟨c8, d81, d82, d83, d84⟩ := L8.2 rfl
    obtain ⟨k0, f0, m01, m02, m03, m04, m05⟩ := st_lam ha L0.1 lsK0
    obtain ⟨k1, f1, m11, m12, m13, m14, m15⟩ := st_lam ha L1.1 lsK1
    obtain ⟨k8, f8, m81, m82, m83, m84, m85⟩ := st_lam ha L8.1 lsK8
    have hbe : ∀ k : Nat, k < 256 → ad k ≠ e0 := fun k hk e => by
      obtain ⟨cell, q1, q2⟩ := hbox k hk
      rw [e] at q1
      cases q1.symm.trans c1
      rw [q2] at hke
      cases hkI.symm.trans hke
      rw [hordI] at hkinde
      cases hkinde
    have hbL : ∀ (j : Nat) (cj : Cell) (kj : Class) (n : String), s.heap[la j]? = some cj → cj.cls = lc j → s.vm.classes[lc j]? = some kj → kj.name = n → n ≠ "java/lang/Integer" → ∀ k : Nat, k < 256 → ad k ≠ la j := fun j cj kj n d1 d2 m1 m2 hne k hk e => by
      obtain ⟨cell, q1, q2⟩ := hbox k hk
      rw [e] at q1
      cases q1.symm.trans d1
      rw [← d2, q2] at m1
      cases hkI.symm.trans m1
      exact hne (m2.symm.trans hnI)
    have heL : ∀ (j : Nat) (cj : Cell) (kj : Class), s.heap[la j]? = some cj → cj.cls = lc j → s.vm.classes[lc j]? = some kj → kj.kind = .ordinary → la j ≠ e0 := fun j cj kj d1 d2 m1 m3 e => by
      rw [e] at d1
      cases d1.symm.trans c1
      rw [← d2] at m1
      cases hke.symm.trans m1
      rw [m3] at hkinde
      cases hkinde
    have b0 := hbL 0 c0 k0 _ d01 d02 m01 m02 (by decide)
    have b1 := hbL 1 cc1 k1 _ d11 d12 m11 m12 (by decide)
    have b8 := hbL 8 c8 k8 _ d81 d82 m81 m82 (by decide)
    have e0' := heL 0 c0 k0 d01 d02 m01 m03
    have e1' := heL 1 cc1 k1 d11 d12 m11 m13
    have e8' := heL 8 c8 k8 d81 d82 m81 m83
    have h01 : la 1 ≠ la 0 := fun e => by
      rw [e] at d11
      cases d11.symm.trans d01
      rw [← d02, d12] at m01
      cases m11.symm.trans m01
      cases m14.symm.trans m04
      have h9 := m15.symm.trans m05
      have n1 : (lm_D ls1 yX1_nearest.cls).constantPool.string? 15 = some "lambda$nearest$1" := by decide +kernel
      have n0 : (lm_D ls0 yX1_nearest.cls).constantPool.string? 15 = some "lambda$nearest$0" := by decide +kernel
      rw [h9, n0] at n1
      exact absurd (Option.some.inj n1) (by decide)
    have h08 : la 8 ≠ la 0 := fun e => by
      rw [e] at d81
      cases d81.symm.trans d01
      rw [← d02, d82] at m01
      cases m81.symm.trans m01
      exact absurd (m82.symm.trans m02) (by decide)
    have h18 : la 8 ≠ la 1 := fun e => by
      rw [e] at d81
      cases d81.symm.trans d11
      rw [← d12, d82] at m11
      cases m81.symm.trans m11
      exact absurd (m82.symm.trans m12) (by decide)
    have q20 : g 20 = la 0 := g20 0 (by omega)
    have q21 : g 21 = la 1 := g20 1 (by omega)
    have q28 : g 28 = la 8 := g20 8 (by omega)
    have hcase : ∀ a : Nat, (m_tg (m_M0 g) a = 150 ∧ ∃ k : Nat, k < 256 ∧ a = g (100 + k)) ∨ (m_tg (m_M0 g) a = 160 ∧ a = g 1) ∨ (m_tg (m_M0 g) a = 201 ∧ a = la 0) ∨ (m_tg (m_M0 g) a = 202 ∧ a = la 1) ∨ (m_tg (m_M0 g) a = 209 ∧ a = la 8) ∨ m_tg (m_M0 g) a = 0 := fun a => by
      rw [m_tg_M0]
      by_cases z1 : ∃ k : Nat, k < 256 ∧ a = g (100 + k)
      · rw [if_pos z1]; exact Or.inl ⟨rfl, z1⟩
      · rw [if_neg z1]
        by_cases z2 : a = g 1
        · rw [if_pos z2]; exact Or.inr (Or.inl ⟨rfl, z2⟩)
        · rw [if_neg z2]
          by_cases z3 : a = g 20
          · rw [if_pos z3]; exact Or.inr (Or.inr (Or.inl ⟨rfl, z3.trans q20⟩))
          · rw [if_neg z3]
            by_cases z4 : a = g 21
            · rw [if_pos z4]; exact Or.inr (Or.inr (Or.inr (Or.inl ⟨rfl, z4.trans q21⟩)))
            · rw [if_neg z4]
              by_cases z5 : a = g 28
              · rw [if_pos z5]; exact Or.inr (Or.inr (Or.inr (Or.inr (Or.inl ⟨rfl, z5.trans q28⟩))))
              · rw [if_neg z5]; exact Or.inr (Or.inr (Or.inr (Or.inr (Or.inr rfl))))
    have hnb : ∀ a : Nat, (∀ k : Nat, k < 256 → ad k ≠ a) → ¬ ∃ k : Nat, k < 256 ∧ a = g (100 + k) := fun a h ⟨k, hk, e⟩ => h k hk (by rw [← g100]; exact e.symm)
    refine ⟨fun a ci q hb hq => ?_, fun a k hb hk => ?_, ⟨fun a hb => ?_, fun k hk => ?_, ?_, fun j hj => ?_⟩, fun a hb => ?_, fun a j hb hj => ?_, fun a hb => ?_, ?_, ?_, ?_, ?_⟩
    · have hci : ci < 20 := (List.getElem?_eq_some_iff.mp hq).1
      have hb : m_tg (m_M0 g) a = ci + 1 := hb
      rcases hcase a with ⟨z, -⟩ | ⟨z, -⟩ | ⟨z, -⟩ | ⟨z, -⟩ | ⟨z, -⟩ | z <;> omega
    · have hb : m_tg (m_M0 g) a = k + 101 := hb
      rcases hcase a with ⟨z, -⟩ | ⟨z, -⟩ | ⟨z, -⟩ | ⟨z, -⟩ | ⟨z, -⟩ | z <;> omega
    · have hb : m_tg (m_M0 g) a = 150 := hb
      rcases hcase a with ⟨z, w⟩ | ⟨z, -⟩ | ⟨z, -⟩ | ⟨z, -⟩ | ⟨z, -⟩ | z
      · exact w
      all_goals omega
    · show m_tg (m_M0 g) (g (100 + k)) = 150
      rw [m_tg_M0, if_pos ⟨k, hk, rfl⟩]
    · show m_tg (m_M0 g) (g 1) = 160
      rw [m_tg_M0, if_neg (hnb _ (by rw [g1]; exact hbe)), if_pos rfl]
    · show m_tg (m_M0 g) (g (20 + j)) = j + 201
      rcases hj with rfl | rfl | rfl
      · rw [m_tg_M0, if_neg (hnb _ (by show ∀ k : Nat, k < 256 → ad k ≠ g 20; rw [q20]; exact b0)), if_neg (by show ¬ g 20 = g 1; rw [q20, g1]; exact e0'), if_pos rfl]
      · rw [m_tg_M0, if_neg (hnb _ (by show ∀ k : Nat, k < 256 → ad k ≠ g 21; rw [q21]; exact b1)), if_neg (by show ¬ g 21 = g 1; rw [q21, g1]; exact e1'), if_neg (by show ¬ g 21 = g 20; rw [q21, q20]; exact h01), if_pos rfl]
      · rw [m_tg_M0, if_neg (hnb _ (by show ∀ k : Nat, k < 256 → ad k ≠ g 28; rw [q28]; exact b8)), if_neg (by show ¬ g 28 = g 1; rw [q28, g1]; exact e8'), if_neg (by show ¬ g 28 = g 20; rw [q28, q20]; exact h08), if_neg (by show ¬ g 28 = g 21; rw [q28, q21]; exact h18), if_pos rfl]
    · have hb : m_tg (m_M0 g) a = 160 := hb
      rcases hcase a with ⟨z, -⟩ | ⟨z, w⟩ | ⟨z, -⟩ | ⟨z, -⟩ | ⟨z, -⟩ | z
      · omega
      · exact ⟨w, rfl⟩
      all_goals omega
    · have hb : m_tg (m_M0 g) a = j + 201 := hb
      rcases hcase a with ⟨z, -⟩ | ⟨z, -⟩ | ⟨z, w⟩ | ⟨z, w⟩ | ⟨z, w⟩ | z
      · omega
      · omega
      · have e : j = 0 := by omega
        subst e
        exact ⟨c0, by rw [w]; exact d01, by rw [d02]; exact (g40 0 (by omega)).symm, d03, d04⟩
      · have e : j = 1 := by omega
        subst e
        exact ⟨cc1, by rw [w]; exact d11, by rw [d12]; exact (g40 1 (by omega)).symm, d13, d14⟩
      · have e : j = 8 := by omega
        subst e
        exact ⟨c8, by rw [w]; exact d81, by rw [d82]; exact (g40 8 (by omega)).symm, d83, d84⟩
      · omega
    · have hb : m_tg (m_M0 g) a ≠ 0 := hb
      show a < s.heap.size ∧ (m_tg (m_M0 g) a < 150 → g 0 ≤ a) ∧ (m_tg (m_M0 g) a = 10 ∨ m_tg (m_M0 g) a = 13 → _)
      have hlt : ∀ (x : Nat) (cx : Cell), s.heap[x]? = some cx → x < s.heap.size := fun x cx h => (Array.getElem?_eq_some_iff.mp h).1
      rcases hcase a with ⟨z, k, hk, w⟩ | ⟨z, w⟩ | ⟨z, w⟩ | ⟨z, w⟩ | ⟨z, w⟩ | z
      · obtain ⟨cell, q1, -⟩ := hbox k hk
        exact ⟨by rw [w, g100]; exact hlt _ _ q1, fun h => by omega, fun h => by omega⟩
      · exact ⟨by rw [w, g1]; exact hlt _ _ c1, fun h => by omega, fun h => by omega⟩
      · exact ⟨by rw [w]; exact hlt _ _ d01, fun h => by omega, fun h => by omega⟩
      · exact ⟨by rw [w]; exact hlt _ _ d11, fun h => by omega, fun h => by omega⟩
      · exact ⟨by rw [w]; exact hlt _ _ d81, fun h => by omega, fun h => by omega⟩
      · exact absurd z hb
    · show s.heap.size = g 0 + 0
      rw [g0]
      rfl
    · show m_sum s.heap (g 0) = 0
      rw [g0]
      unfold m_sum
      rw [List.drop_of_length_le (by simp)]
      rfl
    · exact Nat.zero_le _
    · exact Nat.zero_le _
end
