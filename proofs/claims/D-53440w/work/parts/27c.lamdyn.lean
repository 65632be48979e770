/-! invokedynamic at our sites -/
set_option maxRecDepth 100000
section
theorem lm_fit1 {t : FieldType} {v : Value} (h : fits t v = true) : ∀ (i : Nat) (w : Value), [v][i]? = some w → ∃ s, [t][i]? = some s ∧ fits s w = true := fun i w hw => by
  cases i with
  | zero => cases hw; exact ⟨t, rfl, h⟩
  | succ n => simp at hw
theorem lm_fit2 {t t' : FieldType} {v v' : Value} (h : fits t v = true) (h' : fits t' v' = true) : ∀ (i : Nat) (w : Value), [v, v'][i]? = some w → ∃ s, [t, t'][i]? = some s ∧ fits s w = true := fun i w hw => by
  match i, hw with
  | 0, hw => cases hw; exact ⟨t, rfl, h⟩
  | 1, hw => cases hw; exact ⟨t', rfl, h'⟩
  | n + 2, hw => simp at hw
variable {G : Gp} {C : m_Cx} {own : String} {cc : ByteArray} {nL : Nat} {ret : Option FieldType} {nm : String} {F L n0 s0 : Nat} {Q : State → Prop} {M0 M : Mem} {pc : Nat} {lo lo2 : m_L} {st st0 : List m_V}
def m_lmI (M : Mem) (j u : Nat) (x : Int32) : Mem := m_pi (m_al M u (j + 201) 0 1) u 0 x
def m_lmR (M : Mem) (j u a : Nat) : Mem := m_pr (m_al M u (j + 201) 0 1) u 0 (some a)
def m_lmRI (M : Mem) (j u a : Nat) (x : Int32) : Mem := m_pi (m_pr (m_al M u (j + 201) 0 2) u 0 (some a)) u 1 x
theorem m_tg_lmI {j u b : Nat} {x : Int32} : m_tg (m_lmI M j u x) b = if b = u then j + 201 else m_tg M b := by unfold m_lmI; rw [m_tg_pi, m_tg_al]
theorem m_tg_lmR {j u a b : Nat} : m_tg (m_lmR M j u a) b = if b = u then j + 201 else m_tg M b := by unfold m_lmR; rw [m_tg_pr, m_tg_al]
theorem m_tg_lmRI {j u a b : Nat} {x : Int32} : m_tg (m_lmRI M j u a x) b = if b = u then j + 201 else m_tg M b := by unfold m_lmRI; rw [m_tg_pi, m_tg_pr, m_tg_al]
theorem m_le_lmI {j u : Nat} {x : Int32} (h : m_tg M u = 0) : m_le M (m_lmI M j u x) := m_le_tr (m_le_al h) m_le_pi
theorem m_le_lmR {j u a : Nat} (h : m_tg M u = 0) : m_le M (m_lmR M j u a) := m_le_tr (m_le_al h) m_le_pr
theorem m_le_lmRI {j u a : Nat} {x : Int32} (h : m_tg M u = 0) : m_le M (m_lmRI M j u a x) := m_le_tr (m_le_al h) (m_le_tr m_le_pr m_le_pi)
theorem pw_lamI {j i9 : Nat} {x : MethodName} {σ : Lambda.Shape} {code : ByteArray} {mL mi ci nt cn : Nat} {v : Int32} (X : m_in G C own cc nL ret nm F L n0 s0) (hN : (m_s C).methodNamed? x = some (m_mi C)) (hσ : m_lbs[j]? = some (x, pc, i9, σ)) (hj : j = 2 ∨ j = 4 ∨ j = 5 ∨ j = 6) (K : lm_K σ x.cls code mL mi ci nt cn) (hcap : σ.captured = [.int]) (hty : (lm_l σ x.cls).2.1.toList = [.int])
    (hL : 1 + st.length + 3072 ≤ L) (hdg : decode cc pc = .ok (.invokedynamic i9, 5)) (hf : m_fits M 1) (kk : ∀ u : Nat, m_tg M u = 0 → pW G C nL n0 s0 M0 Q (m_lmI M j u v) (pc + 5) lo (vR (some u) :: st)) : pW G C nL n0 s0 M0 Q M pc lo (vI v :: st) := by
  refine pw_lamM (cv := [vI v]) (fun u => m_lmI M j u v) X hN hσ (by omega) K ⟨by rw [hcap]; decide, by rw [hcap]; rfl⟩ hty rfl (lm_fit1 rfl) hL rfl hdg hf (fun u b h => ?_) (fun u => ?_) (fun u => rfl) (fun u => rfl) (fun u => ?_) (fun u h => m_le_lmI h) kk
  · show (m_pi (m_al M u (j + 201) 0 1) u 0 v).1 b = _
    exact (if_neg h).trans (if_neg h)
  · rw [m_tg_lmI, if_pos rfl]
  · have e : m_gi (m_lmI M j u v) u 0 = v := by unfold m_lmI; rw [m_gi_pi, if_pos ⟨rfl, rfl⟩]
    rcases hj with rfl | rfl | rfl | rfl <;> (show #[Value.int (m_gi _ u 0)] = _; rw [e]; rfl)
theorem pw_lamR {i9 : Nat} {x : MethodName} {σ : Lambda.Shape} {code : ByteArray} {mL mi ci nt cn a : Nat} {n9 : String} (X : m_in G C own cc nL ret nm F L n0 s0) (hN : (m_s C).methodNamed? x = some (m_mi C)) (hσ : m_lbs[7]? = some (x, pc, i9, σ)) (K : lm_K σ x.cls code mL mi ci nt cn) (hcap : σ.captured = [.object n9]) (hty : (lm_l σ x.cls).2.1.toList = [.object n9])
    (hL : 1 + st.length + 3072 ≤ L) (hdg : decode cc pc = .ok (.invokedynamic i9, 5)) (hf : m_fits M 1) (kk : ∀ u : Nat, m_tg M u = 0 → pW G C nL n0 s0 M0 Q (m_lmR M 7 u a) (pc + 5) lo (vR (some u) :: st)) : pW G C nL n0 s0 M0 Q M pc lo (vR (some a) :: st) := by
  refine pw_lamM (cv := [vR (some a)]) (fun u => m_lmR M 7 u a) X hN hσ (by omega) K ⟨by rw [hcap]; exact List.cons_ne_nil _ _, by rw [hcap]; rfl⟩ hty rfl (lm_fit1 rfl) hL rfl hdg hf (fun u b h => ?_) (fun u => ?_) (fun u => rfl) (fun u => rfl) (fun u => ?_) (fun u h => m_le_lmR h) kk
  · show (m_pr (m_al M u (7 + 201) 0 1) u 0 (some a)).1 b = _
    exact (if_neg h).trans (if_neg h)
  · rw [m_tg_lmR, if_pos rfl]
  · have e : m_gr (m_lmR M 7 u a) u 0 = some a := by unfold m_lmR; rw [m_gr_pr, if_pos ⟨rfl, rfl⟩]
    show #[va_rf (m_gr _ u 0)] = _
    rw [e]
    rfl
theorem pw_lamRI {i9 : Nat} {x : MethodName} {σ : Lambda.Shape} {code : ByteArray} {mL mi ci nt cn a : Nat} {v : Int32} {n9 : String} (X : m_in G C own cc nL ret nm F L n0 s0) (hN : (m_s C).methodNamed? x = some (m_mi C)) (hσ : m_lbs[3]? = some (x, pc, i9, σ)) (K : lm_K σ x.cls code mL mi ci nt cn) (hcap : σ.captured = [.object n9, .int]) (hty : (lm_l σ x.cls).2.1.toList = [.object n9, .int])
    (hL : 2 + st.length + 3072 ≤ L) (hdg : decode cc pc = .ok (.invokedynamic i9, 5)) (hf : m_fits M 2) (kk : ∀ u : Nat, m_tg M u = 0 → pW G C nL n0 s0 M0 Q (m_lmRI M 3 u a v) (pc + 5) lo (vR (some u) :: st)) : pW G C nL n0 s0 M0 Q M pc lo (vI v :: vR (some a) :: st) := by
  refine pw_lamM (cv := [vR (some a), vI v]) (fun u => m_lmRI M 3 u a v) X hN hσ (by omega) K ⟨by rw [hcap]; exact List.cons_ne_nil _ _, by rw [hcap]; rfl⟩ hty rfl (lm_fit2 rfl rfl) hL rfl hdg hf (fun u b h => ?_) (fun u => ?_) (fun u => rfl) (fun u => rfl) (fun u => ?_) (fun u h => m_le_lmRI h) kk
  · show (m_pi (m_pr (m_al M u (3 + 201) 0 2) u 0 (some a)) u 1 v).1 b = _
    exact (if_neg h).trans ((if_neg h).trans (if_neg h))
  · rw [m_tg_lmRI, if_pos rfl]
  · have e1 : m_gr (m_lmRI M 3 u a v) u 0 = some a := by unfold m_lmRI; rw [m_gr_pi, m_gr_pr, if_pos ⟨rfl, rfl⟩]
    have e2 : m_gi (m_lmRI M 3 u a v) u 1 = v := by unfold m_lmRI; rw [m_gi_pi, if_pos ⟨rfl, rfl⟩]
    show #[va_rf (m_gr _ u 0), Value.int (m_gi _ u 1)] = _
    rw [e1, e2]
    rfl
end
