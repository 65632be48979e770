/-! invokedynamic: constant lambdas, lambdas that catch -/
set_option maxRecDepth 100000
section
theorem lm_inv3 {α : Type} {x : Array Nat} {f : Nat → Nat → Nat → Option α} {r : α} (h : Lambda.shapeOf?.match_15 (fun _ => Option α) x f (fun _ => none) = some r) : ∃ a b c, f a b c = some r := by
  rcases x with ⟨L⟩
  match L, h with
  | [], h => cases h
  | [_], h => cases h
  | [_, _], h => cases h
  | [a, b, c], h => exact ⟨a, b, c, h⟩
  | _ :: _ :: _ :: _ :: _, h => cases h
theorem lm_shape {cf : ClassFile} {index : Nat} {σ : Lambda.Shape} (h : Lambda.shapeOf? cf index = some σ) :
    ∃ (b nt : Nat) (desc : String) (site : MethodDescriptor), cf.constantPool[index]? = some (.invokeDynamic b nt) ∧ cf.constantPool.nameAndType? nt = some (σ.name, desc) ∧ parseMethodDescriptor desc = some site ∧ site.parameters = σ.captured := by
  unfold Lambda.shapeOf? at h
  split at h
  case h_2 => cases h
  rename_i b nt hc
  obtain ⟨entries, -, h⟩ := Option.bind_eq_some_iff.mp h
  obtain ⟨bm, -, h⟩ := Option.bind_eq_some_iff.mp h
  split at h
  case h_2 => cases h
  obtain ⟨_, -, h⟩ := Option.bind_eq_some_iff.mp h
  obtain ⟨a0, a1, a2, h⟩ := lm_inv3 h
  split at h
  case h_2 => cases h
  split at h
  case h_2 => cases h
  split at h
  case h_2 => cases h
  obtain ⟨⟨name, desc⟩, hnt, h⟩ := Option.bind_eq_some_iff.mp h
  obtain ⟨site, hsite, h⟩ := Option.bind_eq_some_iff.mp h
  dsimp only at h
  split at h
  case h_2 => cases h
  obtain ⟨⟨implClass, implName, implDesc, implItf⟩, -, h⟩ := Option.bind_eq_some_iff.mp h
  obtain ⟨x1, -, h⟩ := Option.bind_eq_some_iff.mp h
  obtain ⟨x2, -, h⟩ := Option.bind_eq_some_iff.mp h
  obtain ⟨x3, -, h⟩ := Option.bind_eq_some_iff.mp h
  obtain ⟨x4, -, h⟩ := Option.bind_eq_some_iff.mp h
  obtain ⟨x5, -, h⟩ := Option.bind_eq_some_iff.mp h
  cases h
  exact ⟨b, nt, desc, site, hc, hnt, hsite, rfl⟩
/-- a new lambda object -/
theorem m_ok_lam {G : Gp} {M M' : Mem} {H : Heap} {c : Cell} {j : Nat} (hM : m_ok G M H) (hj : j < 9) (h0 : ∀ b : Nat, b ≠ H.size → M'.1 b = M.1 b) (htg : m_tg M' H.size = j + 201) (hnc : m_nc M' = m_nc M + 1) (hns : m_ns M' = m_ns M + c.slots.size) (hf : m_fits M c.slots.size)
    (hc1 : c.cls = G.2 (40 + j)) (hc2 : c.vm = .none) (hc3 : c.slots = m_ls j (m_gi M' H.size) (m_gr M' H.size)) : m_ok G M' (H.push c) := by
  obtain ⟨m1, m2, m3, m4, m5, m6, m7, m8, m9, m10⟩ := hM
  have ho : ∀ q : Nat, q < H.size → (H.push c)[q]? = H[q]? := fun q hq => by rw [Array.getElem?_push, if_neg (Nat.ne_of_lt hq)]
  have et : ∀ b : Nat, b ≠ H.size → m_tg M' b = m_tg M b := fun b h => by unfold m_tg; rw [h0 b h]
  have ei : ∀ b : Nat, b ≠ H.size → m_gi M' b = m_gi M b := fun b h => by funext k; unfold m_gi; rw [h0 b h]
  have er : ∀ b : Nat, b ≠ H.size → m_gr M' b = m_gr M b := fun b h => by funext k; unfold m_gr; rw [h0 b h]
  have el : ∀ b : Nat, b ≠ H.size → m_ln M' b = m_ln M b := fun b h => by unfold m_ln; rw [h0 b h]
  have hz : m_tg M H.size = 0 := Classical.byContradiction fun h => by have := (m6 _ h).1; omega
  have hro : ∀ b : Nat, m_tg M b ≠ 0 → m_tg M' b = m_tg M b := fun b hb => et b (fun e => hb (by rw [e]; exact hz))
  refine ⟨fun b ci q hb hq => ?_, fun b k hb hk => ?_, ⟨fun b hb => ?_, fun k hk => by rw [hro _ (by rw [m3.2.1 k hk]; decide)]; exact m3.2.1 k hk, by rw [hro _ (by rw [m3.2.2.1]; decide)]; exact m3.2.2.1, fun i hi => by rw [hro _ (by rw [m3.2.2.2 i hi]; omega)]; exact m3.2.2.2 i hi⟩, fun b hb => ?_, fun b i hb hi => ?_, fun b hb => ?_, ?_, ?_, ?_, ?_⟩
  · have hci : ci < 20 := (List.getElem?_eq_some_iff.mp hq).1
    by_cases h : b = H.size
    · rw [h, htg] at hb; omega
    · rw [et b h] at hb
      rw [ei b h, er b h]
      exact (m1 b ci q hb hq).kept (ho b (m6 b (by omega)).1)
  · by_cases h : b = H.size
    · rw [h, htg] at hb; omega
    · rw [et b h] at hb
      rw [ei b h, er b h, el b h, ho b (m6 b (by omega)).1]
      exact m2 b k hb hk
  · by_cases h : b = H.size
    · rw [h, htg] at hb; omega
    · rw [et b h] at hb
      exact m3.1 b hb
  · by_cases h : b = H.size
    · rw [h, htg] at hb; omega
    · rw [et b h] at hb
      rw [el b h]
      exact m4 b hb
  · by_cases h : b = H.size
    · have e : i = j := by rw [h, htg] at hb; omega
      subst e
      subst h
      exact ⟨c, Array.getElem?_push_size, hc1, hc2, hc3⟩
    · rw [et b h] at hb
      rw [ei b h, er b h, ho b (m6 b (by omega)).1]
      exact m5 b i hb hi
  · rw [Array.size_push]
    by_cases h : b = H.size
    · rw [h, htg]
      exact ⟨by omega, fun _ => by omega, fun _ => by omega⟩
    · rw [et b h] at hb ⊢
      refine ⟨by have := (m6 b hb).1; omega, (m6 b hb).2.1, fun h9 c9 hc => ?_⟩
      rw [ho b (m6 b hb).1] at hc
      exact (m6 b hb).2.2 h9 c9 hc
  · rw [Array.size_push, hnc]
    omega
  · rw [m_sum_push H c (by omega), m8, hns]
  · rw [hnc]
    exact hf.1
  · rw [hns]
    exact hf.2
/-- as m_met; the body knows the method's name -/
theorem m_metN {G : Gp} {l : Launch} {y : MethodName} {cc : ByteArray} {nL : Nat} {ret : Option FieldType} {F L : Nat} {av : List m_V} {M : Mem} {Qc : Array Value → State → Outcome → State → Prop} (hy : plainName y.cls = true) (hn : av.length ≤ nL)
    (body : ∀ C : m_Cx, C.2.1 = l → m_in G C y.cls cc nL ret y.name F L (m_nc M) (m_ns M) → (m_s C).methodNamed? y = some (m_mi C) → pW G C nL (m_nc M) (m_ns M) M (m_Q G C (m_nc M) (m_ns M) Qc) M 0 (m_ix 0 av) []) : m_K G l y cc nL ret F L av M Qc := by
  refine Met.ofW (cc := cc) (maxL := nL) (ret := ret) hy rfl ?_
  intro p e s m args below meth c s₁ B hml hv
  obtain ⟨rfl, hM, hG⟩ := hv
  have hts := atoms_spec (ws := ws_ y cc nL ret) B.pre
  have hts : ∀ w ∈ lw_all, w.before _ s = true := fun w h => hts w (List.mem_cons_of_mem _ h)
  have hl := lv_entry (av.map m_v) (n := nL) (by rw [m_sl_len]; exact hn)
  rw [lg_entry_eq]
  rw [m_ix_args] at hl
  generalize (lg_sl (av.map m_v) ++ List.replicate (nL - (lg_sl (av.map m_v)).length) Slot.unset).toArray = ls at hl ⊢
  have K := body (p, l, e, (headSpec (ws_ y cc nL ret) { frames := F, cells := m_CM - m_nc M, slots := m_SM - m_ns M, locals := L }).room, s, m, (av.map m_v).toArray, below, meth, c) rfl ⟨B.exec, B.bytes, B.returns, B.notSynchronized, hml, findClass_of_methodNamed B.named, (name_of_methodNamed B.named B.method).1, hts, hG, rfl, hM.2.2.2.2.2.2.1, hM.2.2.2.2.2.2.2.1⟩ B.named m_le_rf s.heap [] ls hM va_S.rf hl
  rw [Nat.sub_self, Nat.sub_self] at K
  exact K
variable {G : Gp} {C : m_Cx} {own : String} {cc : ByteArray} {nL : Nat} {ret : Option FieldType} {nm : String} {F L n0 s0 : Nat} {Q : State → Prop} {M0 M : Mem} {pc : Nat} {lo lo2 : m_L} {st st0 : List m_V}
theorem pw_lamC {j i9 : Nat} {x : MethodName} {σ : Lambda.Shape} (X : m_in G C own cc nL ret nm F L n0 s0) (hN : (m_s C).methodNamed? x = some (m_mi C)) (hσ : m_lbs[j]? = some (x, pc, i9, σ)) (hj : j = 0 ∨ j = 1 ∨ j = 8) (hcap : σ.captured = []) (hL : st.length + 3072 ≤ L) (hdg : decode cc pc = .ok (.invokedynamic i9, 5))
    (kk : m_tg M (G.2 (20 + j)) = j + 201 → pW G C nL n0 s0 M0 Q M (pc + 5) lo (vR (some (G.2 (20 + j))) :: st)) : pW G C nL n0 s0 M0 Q M pc lo st := by
  intro hle H locs ls hM hS hls T hT Y
  have hlb := X.2.2.2.2.2.2.2.2.1.2.2.2.2.2.2.2.1 j _ hσ
  have hRC := X.2.2.2.2.2.2.2.2.2.1
  obtain ⟨mS, kS, cfS, i0, p0, lk, hmS, hkS, hcfS, hshS, hinS, hfindS, hmade, hcan, hlk⟩ := hlb
  cases hN.symm.trans hmS
  rcases hlk with ⟨rfl, -⟩ | ⟨-, h⟩
  · obtain ⟨t, a1, b1⟩ := kk (hM.2.2.1.2.2.2 j hj) hle H locs ls hM hS hls T hT Y
    exact ⟨t, Y.lambdaConstant X.1 (g := F0 (m_mi C) pc ls (st.map m_v)) rfl (hls.1.trans X.2.2.2.2.1.symm) (by rw [X.2.1]; exact hdg) hkS hfindS (by rw [hRC, Y.admits.platform]; show 2 * 0 + ((st.map m_v).map fun v => v.category).sum + 3072 ≤ L; rw [m_cats]; omega) a1, b1⟩
  · exact absurd hcap h
theorem pw_lamM {j i9 : Nat} {x : MethodName} {σ : Lambda.Shape} {cv : List m_V} {tys : List FieldType} {code : ByteArray} {mL mi ci nt cn : Nat} (fM : Nat → Mem) (X : m_in G C own cc nL ret nm F L n0 s0) (hN : (m_s C).methodNamed? x = some (m_mi C)) (hσ : m_lbs[j]? = some (x, pc, i9, σ)) (hj : j < 9) (K : lm_K σ x.cls code mL mi ci nt cn) (hcap : σ.captured ≠ [] ∧ cv.length = σ.captured.length) (hty : (lm_l σ x.cls).2.1.toList = tys)
    (hzip : ((tys.zip (cv.map m_v)).map fun (t, v) => narrow t v) = cv.map m_v) (hfit : ∀ (i : Nat) (v : Value), (cv.map m_v)[i]? = some v → ∃ t, tys[i]? = some t ∧ fits t v = true) (hL : cv.length + st.length + 3072 ≤ L) (hst : st0 = cv.reverse ++ st) (hdg : decode cc pc = .ok (.invokedynamic i9, 5)) (hf : m_fits M cv.length)
    (h0 : ∀ u b : Nat, b ≠ u → (fM u).1 b = M.1 b) (htg : ∀ u, m_tg (fM u) u = j + 201) (hnc : ∀ u, m_nc (fM u) = m_nc M + 1) (hns : ∀ u, m_ns (fM u) = m_ns M + cv.length) (hsl : ∀ u, m_ls j (m_gi (fM u) u) (m_gr (fM u) u) = (cv.map m_v).toArray) (hle9 : ∀ u, m_tg M u = 0 → m_le M (fM u))
    (kk : ∀ u : Nat, m_tg M u = 0 → pW G C nL n0 s0 M0 Q (fM u) (pc + 5) lo (vR (some u) :: st)) : pW G C nL n0 s0 M0 Q M pc lo st0 := by
  intro hle H locs ls hM hS hls T hT Y
  have hlb := X.2.2.2.2.2.2.2.2.1.2.2.2.2.2.2.2.1 j _ hσ
  have hRC := X.2.2.2.2.2.2.2.2.2.1
  have hts := X.2.2.2.2.2.2.2.1
  obtain ⟨mS, kS, cfS, i0, p0, lk, hmS, hkS, hcfS, hshS, hinS, hfindS, hmade, hcan, hlk⟩ := hlb
  cases hN.symm.trans hmS
  rcases hlk with ⟨-, h⟩ | ⟨rfl, -⟩
  · exact absurd h hcap.1
  obtain ⟨kS', hkS', hnameS⟩ := className_of_methodNamed hmS
  cases hkS.symm.trans hkS'
  obtain ⟨cO, kO, hfO, hkO, -, -, -, hszO⟩ := Cond.instantiable_spec (hts _ q2320)
  obtain ⟨k, tk, file, methk, ck, toy, t9, hk, hkn, -, -, -, -, -, -, -, -, -, -, -, -, -, -, -, htys, hkind, -⟩ := lm_made K hkS hnameS hmade (fun o ok h1 h2 => by
    cases hfO.symm.trans h1
    cases hkO.symm.trans h2
    exact Array.eq_empty_of_size_eq_zero hszO)
  obtain ⟨bsm, nt9, desc, site, hc, hnt, hsite, hpar⟩ := lm_shape hshS
  have hkty : k.instanceTypes.toList = tys := by rw [htys]; exact hty
  have hslE : ((k.instanceTypes.toList.zip (cv.map m_v)).map fun (t, v) => narrow t v) = cv.map m_v := by rw [hkty]; exact hzip
  have hs0 := m_s0' X hM hT Y
  obtain ⟨k1, k2, k3⟩ := m_keep X hM hS
  obtain ⟨X₁, st1⟩ := Y.lambdaMakes X.1 (g := F0 (m_mi C) pc ls (st0.map m_v)) rfl (hls.1.trans X.2.2.2.2.1.symm) (by rw [X.2.1]; exact hdg) (vals := cv.map m_v) (rest := st.map m_v) hkS hfindS hcfS hc hnt (parseLong_of_parse hsite) (by rw [List.length_map, hpar]; exact hcap.2)
    (by show st0.map m_v = _; rw [hst, List.map_append, List.map_reverse]) hk (by rw [hRC, Y.admits.platform]; show 2 * 0 + ((st0.map m_v).map fun v => v.category).sum + 3072 ≤ L; rw [m_cats, hst]; simp; omega)
    (by rw [hRC]; show m_nc M - n0 + 1 ≤ m_CM - n0; have := hf.1; omega) (by rw [hslE, hRC, List.length_map]; show m_ns M - s0 + cv.length ≤ m_SM - s0; have := hf.2; omega)
    (fun i v hv => by
      rw [hslE] at hv
      obtain ⟨t8, ht8, hf8⟩ := hfit i v (by simpa using hv)
      have ht9 : k.instanceTypes[i]? = some t8 := by rw [← Array.getElem?_toList, hkty]; exact ht8
      simp [State.fitsSlot, State.slotType?, hk, hkind, ht9, hf8])
  rw [hslE] at X₁ st1
  have hsz : (cv.map m_v).toArray.size = cv.length := by simp
  rw [hsz] at X₁
  have hfree : m_tg M H.size = 0 := m_free hM
  have hok : m_ok G (fM H.size) (H.push { cls := G.2 (40 + j), slots := (cv.map m_v).toArray, vm := .none }) := m_ok_lam hM hj (h0 _) (htg _) (hnc _) (by rw [hns]; show _ = m_ns M + (cv.map m_v).toArray.size; rw [hsz]) (by show m_fits M (cv.map m_v).toArray.size; rw [hsz]; exact hf) rfl rfl (hsl _).symm
  have K9 := kk H.size hfree (m_le_tr hle (hle9 _ hfree)) _ locs ls hok (m_S_push hS) hls (T.pushCell { cls := G.2 (40 + j), slots := (cv.map m_v).toArray, vm := .none }) (by show T.heap.push _ = _; rw [hT])
  rw [hnc, hns, show m_nc M + 1 - n0 = m_nc M - n0 + 1 by omega, show m_ns M + cv.length - s0 = m_ns M - s0 + cv.length by omega] at K9
  obtain ⟨t, a1, b1⟩ := K9 X₁
  refine ⟨t, st1 t ?_, b1⟩
  rw [hT]
  exact a1
end
