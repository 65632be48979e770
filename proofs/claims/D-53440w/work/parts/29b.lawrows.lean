/-! rows of the law's own walk: the script, the end -/
set_option maxRecDepth 100000
section
variable {G : Gp} {C : m_Cx} {own : String} {cc : ByteArray} {nL : Nat} {ret9 : Option FieldType} {nm : String} {F L n0 s0 : Nat} {Q : State → Prop} {M0 M : Mem} {pc : Nat} {lo lo2 : m_L} {st st0 : List m_V} {b L9 : Nat} {xs : Nat → Int32}
def m_law (G : Gp) (C : m_Cx) (b L9 : Nat) (xs : Nat → Int32) : Prop :=
  va_X b L9 xs (m_s C) (m_s C).heap ∧ b < (m_s C).heap.size ∧ ¬ m_A G b ∧ m_ar C = #[Value.ref b] ∧ C.2.2.2.1 = room_1 ∧ (m_co C).code = code ∧ (m_me C).sig.returnType = ret ∧ G.2 0 = (m_s C).heap.size
theorem pw_slen (X : m_in G C own cc nL ret9 nm F L n0 s0) (hB : m_law G C b L9 xs) (hdg : decode cc pc = .ok (.arraylength, 1)) (k : pW G C nL n0 s0 M0 Q M (pc + 1) lo (vI (Int32.ofNat L9) :: st)) : pW G C nL n0 s0 M0 Q M pc lo (vR (some b) :: st) :=
  fun hle H locs ls hM hS hl => va_slen X.1 X.2.1 hB.1 hB.2.1 hB.2.2.1 hS hdg (k hle H locs ls hM hS hl)
theorem pw_sld (X : m_in G C own cc nL ret9 nm F L n0 s0) (hB : m_law G C b L9 xs) {i : Int32} (hin : vp_in i L9) (hdg : decode cc pc = .ok (.iaload, 1)) (k : pW G C nL n0 s0 M0 Q M (pc + 1) lo (vI (xs i.toNatClampNeg) :: st)) : pW G C nL n0 s0 M0 Q M pc lo (vI i :: vR (some b) :: st) :=
  fun hle H locs ls hM hS hl => va_sld X.1 X.2.1 hB.1 hB.2.1 hB.2.2.1 hS hin hdg (k hle H locs ls hM hS hl)
theorem pw_lawret (X : m_in G C own cc nL ret9 nm F L n0 s0) (hB : m_law G C b L9 xs) (hdg : decode code pc = .ok (.ireturn, 1)) : pW G C nL n0 s0 M0 (lw_Z (m_be C) #[.ref b] (m_s C)) M pc lo [vI 1] := by
  intro hle H locs ls hM hS hl
  obtain ⟨h1, h2, h3, h4, h5, h6, h7, h8⟩ := hB
  have h9 : ∀ q ∈ locs, (m_s C).heap.size ≤ q.base := fun q hq => by rw [← h8]; exact hS.2.2 q hq
  refine va_forget h9 (W.widen (k := 1200048) (n := 5501818) ?_ ?_ ?_)
  · have := hM.2.2.2.2.2.2.2.2.1
    have e : m_CM = 1200048 := rfl
    omega
  · have := hM.2.2.2.2.2.2.2.2.2
    have e : m_SM = 5501818 := rfl
    omega
  · have K := lw_ret (p := C.1) (l := C.2.1) (e := C.2.2.1) (s := m_s C) (m := m_mi C) (below := m_be C) (meth := m_me C) (c := m_co C) (b := b) X.1 h6 h7 X.2.2.2.1 (H := H) (ls := ls) hdg
    rw [h4, h5]
    exact K
end
