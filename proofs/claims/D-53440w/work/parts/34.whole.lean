/-! FROM THE LAW'S ENTRY: what is left is plain -/
set_option maxRecDepth 100000
set_option maxHeartbeats 4000000
theorem st_whole {p : Program} {e : Env} {s : State} {m : MethodId} {below : List Frame} {meth : Method} {c : Code} (l : Launch) (hflags : l.flags = flags0) {b L : Nat} {xs : Nat → Int32} (C0 : lw_At p s m meth c b L xs) (hpure : ∀ g : Nat → Nat, wp_L_law g (m_M0 g) b L xs) :
    W p l e room_1 s m #[Value.ref b] below meth c s.heap [] 0 0 (lw_Z below #[Value.ref b] s) (entryFrame m ([Value.ref b] : List Value).toArray 4) := by
  obtain ⟨hx, hcode, hret, hml, hown, hts, hX, hbl, hlocks, hgv⟩ := C0
  obtain ⟨G, g0, hG, hok⟩ := st_world hts hgv
  have hst : l.stackTraces = false := by
    unfold Launch.stackTraces
    rw [hflags]
    decide
  have hl := lv_entry (([vR (some b)] : List m_V).map m_v) (n := 4) (by rw [m_sl_len]; exact Nat.le_of_ble_eq_true rfl)
  have X : m_in G (p, l, e, room_1, s, m, #[Value.ref b], below, meth, c) R_law cL_law 4 (some .boolean) meth.name 8192 104096 0 0 :=
    ⟨hx, hcode, hret, hlocks, hml, hown, rfl, fun w h => hts w (lw_all_tbl h), hG, rfl, g0.symm, by
      show m_sum s.heap (G.2 0) = 0
      rw [g0]
      unfold m_sum
      rw [List.drop_of_length_le (by simp)]
      rfl⟩
  have hB : m_law G (p, l, e, room_1, s, m, #[Value.ref b], below, meth, c) b L xs := ⟨hX, hbl, fun h => by
    have h9 : G.2 0 ≤ b := h
    have h8 : b < s.heap.size := hbl
    omega, rfl, rfl, hcode, hret, g0⟩
  rw [show ([Value.ref b] : List Value).toArray = (([vR (some b)] : List m_V).map m_v).toArray from rfl, lg_entry_eq]
  rw [m_ix_args] at hl
  generalize (lg_sl (([vR (some b)] : List m_V).map m_v) ++ List.replicate (4 - (lg_sl (([vR (some b)] : List m_V).map m_v)).length) Slot.unset).toArray = ls at hl ⊢
  have K := bk_L_law_0 G (p, l, e, room_1, s, m, #[Value.ref b], below, meth, c) 0 0 (m_M0 G.2) b L xs X hB hst (m_M0 G.2) (hpure G.2) m_le_rf s.heap [] ls hok va_S.rf hl
  exact K
