/-! PatrolDeskModel: walks (printed by gen/model.py) -/
set_option maxRecDepth 100000
set_option maxHeartbeats 4000000
def wp_X4_laysWays_b196 (g : Nat → Nat) (k188 : Mem → Nat → Int32 → Prop) (Q : Mem → Prop) : Nat → Mem → Nat → Int32 → Int32 → Prop
  | 0 => fun _ _ _ _ => False
  | n + 1 => fun M la0 lx1 lx2 => ((144 ≤ lx2 → k188 M la0 (lx1 + 1)) ∧ (¬ 144 ≤ lx2 → m_tg M la0 = 5 ∧ ∃ u3 : Nat, (m_gr M la0 9) = some u3 ∧ m_tg M u3 = 101 ∧ vp_in (((lx2 / 12) * 12) + lx1) (m_ln M u3) ∧ ∃ u7 : Nat, (m_gr M la0 9) = some u7 ∧ m_tg M u7 = 101 ∧ vp_in ((12 * lx1) + (lx2 - lx2 / 12 * 12)) (m_ln M u7) ∧ ∃ u11 : Nat, (m_gr M la0 9) = some u11 ∧ ∃ u13 : Nat, (m_gr M la0 9) = some u13 ∧ m_tg M u13 = 101 ∧ vp_in lx2 (m_ln M u13) ∧ (((m_gi M u13 (Int32.toNatClampNeg lx2)) ≤ ((m_gi M u3 (Int32.toNatClampNeg (((lx2 / 12) * 12) + lx1))) + (m_gi M u7 (Int32.toNatClampNeg ((12 * lx1) + (lx2 - lx2 / 12 * 12))))) → ∃ u18 : Nat, (m_gr M la0 9) = some u18 ∧ m_tg M u18 = 101 ∧ vp_in lx2 (m_ln M u18) ∧ m_tg M u11 = 101 ∧ vp_in lx2 (m_ln M u11) ∧ ∀ M24 : Mem, M24 = (m_pi M u11 (Int32.toNatClampNeg lx2) (m_gi M u18 (Int32.toNatClampNeg lx2))) → wp_X4_laysWays_b196 g k188 Q n M24 la0 lx1 (lx2 + 1)) ∧ (¬ (m_gi M u13 (Int32.toNatClampNeg lx2)) ≤ ((m_gi M u3 (Int32.toNatClampNeg (((lx2 / 12) * 12) + lx1))) + (m_gi M u7 (Int32.toNatClampNeg ((12 * lx1) + (lx2 - lx2 / 12 * 12))))) → m_tg M u11 = 101 ∧ vp_in lx2 (m_ln M u11) ∧ ∀ M35 : Mem, M35 = (m_pi M u11 (Int32.toNatClampNeg lx2) ((m_gi M u3 (Int32.toNatClampNeg (((lx2 / 12) * 12) + lx1))) + (m_gi M u7 (Int32.toNatClampNeg ((12 * lx1) + (lx2 - lx2 / 12 * 12)))))) → wp_X4_laysWays_b196 g k188 Q n M35 la0 lx1 (lx2 + 1)))))
def wp_X4_laysWays_b188 (g : Nat → Nat) (Q : Mem → Prop) : Nat → Mem → Nat → Int32 → Prop
  | 0 => fun _ _ _ => False
  | n + 1 => fun M la0 lx1 => ((12 ≤ lx1 → Q M) ∧ (¬ 12 ≤ lx1 → ∃ j196 : Nat, wp_X4_laysWays_b196 g (wp_X4_laysWays_b188 g Q n) Q j196 M la0 lx1 0))
def wp_X4_laysWays_b48 (g : Nat → Nat) (Q : Mem → Prop) : Nat → Mem → Nat → Int32 → Prop
  | 0 => fun _ _ _ => False
  | n + 1 => fun M la0 lx1 => m_tg M la0 = 5 ∧ ∃ u2 : Nat, (m_gr M la0 0) = some u2 ∧ m_tg M u2 = 101 ∧ vp_in 5 (m_ln M u2) ∧ (((m_gi M u2 (Int32.toNatClampNeg 5)) ≤ lx1 → ∃ j188 : Nat, wp_X4_laysWays_b188 g Q j188 M la0 0) ∧ (¬ (m_gi M u2 (Int32.toNatClampNeg 5)) ≤ lx1 → ∃ u7 : Nat, (m_gr M la0 0) = some u7 ∧ m_tg M u7 = 101 ∧ vp_in (16 + (3 * lx1)) (m_ln M u7) ∧ ∃ u11 : Nat, (m_gr M la0 0) = some u11 ∧ m_tg M u11 = 101 ∧ vp_in ((16 + (3 * lx1)) + 1) (m_ln M u11) ∧ ∃ u15 : Nat, (m_gr M la0 8) = some u15 ∧ ∃ u17 : Nat, (m_gr M la0 0) = some u17 ∧ m_tg M u17 = 101 ∧ vp_in ((16 + (3 * lx1)) + 2) (m_ln M u17) ∧ m_tg M u15 = 101 ∧ vp_in ((12 * (m_gi M u7 (Int32.toNatClampNeg (16 + (3 * lx1))))) + (m_gi M u11 (Int32.toNatClampNeg ((16 + (3 * lx1)) + 1)))) (m_ln M u15) ∧ ∀ M23 : Mem, M23 = (m_pi M u15 (Int32.toNatClampNeg ((12 * (m_gi M u7 (Int32.toNatClampNeg (16 + (3 * lx1))))) + (m_gi M u11 (Int32.toNatClampNeg ((16 + (3 * lx1)) + 1))))) (m_gi M u17 (Int32.toNatClampNeg ((16 + (3 * lx1)) + 2)))) → ∃ u32 : Nat, (m_gr M23 la0 8) = some u32 ∧ ∃ u34 : Nat, (m_gr M23 la0 0) = some u34 ∧ m_tg M23 u34 = 101 ∧ vp_in ((16 + (3 * lx1)) + 2) (m_ln M23 u34) ∧ m_tg M23 u32 = 101 ∧ vp_in ((12 * (m_gi M u11 (Int32.toNatClampNeg ((16 + (3 * lx1)) + 1)))) + (m_gi M u7 (Int32.toNatClampNeg (16 + (3 * lx1))))) (m_ln M23 u32) ∧ ∀ M40 : Mem, M40 = (m_pi M23 u32 (Int32.toNatClampNeg ((12 * (m_gi M u11 (Int32.toNatClampNeg ((16 + (3 * lx1)) + 1)))) + (m_gi M u7 (Int32.toNatClampNeg (16 + (3 * lx1)))))) (m_gi M23 u34 (Int32.toNatClampNeg ((16 + (3 * lx1)) + 2)))) → ∃ u51 : Nat, (m_gr M40 la0 9) = some u51 ∧ ∃ u53 : Nat, (m_gr M40 la0 0) = some u53 ∧ m_tg M40 u53 = 101 ∧ vp_in ((16 + (3 * lx1)) + 2) (m_ln M40 u53) ∧ m_tg M40 u51 = 101 ∧ vp_in ((12 * (m_gi M u7 (Int32.toNatClampNeg (16 + (3 * lx1))))) + (m_gi M u11 (Int32.toNatClampNeg ((16 + (3 * lx1)) + 1)))) (m_ln M40 u51) ∧ ∀ M59 : Mem, M59 = (m_pi M40 u51 (Int32.toNatClampNeg ((12 * (m_gi M u7 (Int32.toNatClampNeg (16 + (3 * lx1))))) + (m_gi M u11 (Int32.toNatClampNeg ((16 + (3 * lx1)) + 1))))) (m_gi M40 u53 (Int32.toNatClampNeg ((16 + (3 * lx1)) + 2)))) → ∃ u72 : Nat, (m_gr M59 la0 9) = some u72 ∧ ∃ u74 : Nat, (m_gr M59 la0 0) = some u74 ∧ m_tg M59 u74 = 101 ∧ vp_in ((16 + (3 * lx1)) + 2) (m_ln M59 u74) ∧ m_tg M59 u72 = 101 ∧ vp_in ((12 * (m_gi M u11 (Int32.toNatClampNeg ((16 + (3 * lx1)) + 1)))) + (m_gi M u7 (Int32.toNatClampNeg (16 + (3 * lx1))))) (m_ln M59 u72) ∧ ∀ M80 : Mem, M80 = (m_pi M59 u72 (Int32.toNatClampNeg ((12 * (m_gi M u11 (Int32.toNatClampNeg ((16 + (3 * lx1)) + 1)))) + (m_gi M u7 (Int32.toNatClampNeg (16 + (3 * lx1)))))) (m_gi M59 u74 (Int32.toNatClampNeg ((16 + (3 * lx1)) + 2)))) → wp_X4_laysWays_b48 g Q n M80 la0 (lx1 + 1)))
def wp_X4_laysWays_b2 (g : Nat → Nat) (Q : Mem → Prop) : Nat → Mem → Nat → Int32 → Prop
  | 0 => fun _ _ _ => False
  | n + 1 => fun M la0 lx1 => ((144 ≤ lx1 → ∃ j48 : Nat, wp_X4_laysWays_b48 g Q j48 M la0 0) ∧ (¬ 144 ≤ lx1 → m_tg M la0 = 5 ∧ ∃ u3 : Nat, (m_gr M la0 8) = some u3 ∧ m_tg M u3 = 101 ∧ vp_in lx1 (m_ln M u3) ∧ ∀ M7 : Mem, M7 = (m_pi M u3 (Int32.toNatClampNeg lx1) 100000) → ∃ u12 : Nat, (m_gr M7 la0 9) = some u12 ∧ ((¬ (lx1 / 12) = (lx1 - lx1 / 12 * 12) → m_tg M7 u12 = 101 ∧ vp_in lx1 (m_ln M7 u12) ∧ ∀ M17 : Mem, M17 = (m_pi M7 u12 (Int32.toNatClampNeg lx1) 100000) → wp_X4_laysWays_b2 g Q n M17 la0 (lx1 + 1)) ∧ ((lx1 / 12) = (lx1 - lx1 / 12 * 12) → m_tg M7 u12 = 101 ∧ vp_in lx1 (m_ln M7 u12) ∧ ∀ M25 : Mem, M25 = (m_pi M7 u12 (Int32.toNatClampNeg lx1) 0) → wp_X4_laysWays_b2 g Q n M25 la0 (lx1 + 1)))))
def wp_X4_laysWays (g : Nat → Nat) (M : Mem) (a0 : Nat) (Q : Mem → Prop) : Prop := ∃ j2 : Nat, wp_X4_laysWays_b2 g Q j2 M a0 0
theorem bk_X4_laysWays_196 (G : Gp) (C : m_Cx) (n0 s0 : Nat) (M0 : Mem) (Q : Mem → Prop) (X : m_in G C RX4 cX4_laysWays 4 none "laysWays" 0 0 n0 s0) (k188 : Mem → Nat → Int32 → Prop) (hk188 : ∀ (M : Mem) (la0 : Nat) (lx1 : Int32), k188 M la0 lx1 → pW G C 4 n0 s0 M0 (m_Q G C n0 s0 (va_Qv (m_q0 M0 Q) (m_W G) (m_A G))) M 188 [(0, vR (some la0)), (1, vI lx1)] []) : ∀ (n : Nat) (M : Mem) (la0 : Nat) (lx1 : Int32) (lx2 : Int32) (hw : wp_X4_laysWays_b196 G.2 k188 Q n M la0 lx1 lx2), pW G C 4 n0 s0 M0 (m_Q G C n0 s0 (va_Qv (m_q0 M0 Q) (m_W G) (m_A G))) M 196 [(0, vR (some la0)), (1, vI lx1), (2, vI lx2)] [] := by
  intro n
  induction n with
  | zero => intro M la0 lx1 lx2 hw; exact hw.elim
  | succ n ih =>
    intro M la0 lx1 lx2 hw
    refine pw_iload_n X dX4_laysWays_196 rfl rfl ?_
    refine pw_sipush X 144 dX4_laysWays_197 (by decide) ?_
    refine pw_icmp_ge X 265 dX4_laysWays_200 (by decide) (fun c1 => ?_) (fun c1 => ?_)
    · replace hw := hw.1 c1
      refine pw_iinc X (lx1 + 1) [(0, vR (some la0)), (1, vI (lx1 + 1))] [1, 0] dX4_laysWays_265 rfl (by first | rfl | decide) (by decide) rfl ?_
      refine pw_goto X 188 dX4_laysWays_268 (by decide) ?_
      exact hk188 _ la0 (lx1 + 1) hw
    · replace hw := hw.2 c1
      refine pw_aload_n X dX4_laysWays_203 rfl rfl ?_
      obtain ⟨ht2, hw⟩ := hw
      obtain ⟨u3, he4, hw⟩ := hw
      refine pw_get X (q := (RX4, TX4, tyX4, 15)) (ci := 4) (k := 9) (ref := "PatrolDeskModel") (vR (some u3)) ht2 rfl (by decide) in_X4 q1955 (Or.inl rfl) (by rw [he4]; rfl) dX4_laysWays_204 ?_
      refine pw_iload_n X dX4_laysWays_207 rfl rfl ?_
      refine pw_bipush X 12 dX4_laysWays_208 (by decide) ?_
      refine pw_idiv X dX4_laysWays_210 (by decide) ?_
      refine pw_bipush X 12 dX4_laysWays_211 (by decide) ?_
      refine pw_imul X dX4_laysWays_213 ?_
      refine pw_iload_n X dX4_laysWays_214 rfl rfl ?_
      refine pw_iadd X dX4_laysWays_215 ?_
      obtain ⟨ht5, hw⟩ := hw
      obtain ⟨hi6, hw⟩ := hw
      refine pw_iald X ht5 hi6 dX4_laysWays_216 ?_
      refine pw_aload_n X dX4_laysWays_217 rfl rfl ?_
      obtain ⟨u7, he8, hw⟩ := hw
      refine pw_get X (q := (RX4, TX4, tyX4, 15)) (ci := 4) (k := 9) (ref := "PatrolDeskModel") (vR (some u7)) ht2 rfl (by decide) in_X4 q1955 (Or.inl rfl) (by rw [he8]; rfl) dX4_laysWays_218 ?_
      refine pw_bipush X 12 dX4_laysWays_221 (by decide) ?_
      refine pw_iload_n X dX4_laysWays_223 rfl rfl ?_
      refine pw_imul X dX4_laysWays_224 ?_
      refine pw_iload_n X dX4_laysWays_225 rfl rfl ?_
      refine pw_bipush X 12 dX4_laysWays_226 (by decide) ?_
      refine pw_irem X dX4_laysWays_228 (by decide) ?_
      refine pw_iadd X dX4_laysWays_229 ?_
      obtain ⟨ht9, hw⟩ := hw
      obtain ⟨hi10, hw⟩ := hw
      refine pw_iald X ht9 hi10 dX4_laysWays_230 ?_
      refine pw_iadd X dX4_laysWays_231 ?_
      refine pw_istore_n X [(0, vR (some la0)), (1, vI lx1), (2, vI lx2), (3, vI ((m_gi M u3 (Int32.toNatClampNeg (((lx2 / 12) * 12) + lx1))) + (m_gi M u7 (Int32.toNatClampNeg ((12 * lx1) + (lx2 - lx2 / 12 * 12))))))] [1, 2, 3, 0] dX4_laysWays_232 rfl (by decide) rfl ?_
      refine pw_aload_n X dX4_laysWays_233 rfl rfl ?_
      obtain ⟨u11, he12, hw⟩ := hw
      refine pw_get X (q := (RX4, TX4, tyX4, 15)) (ci := 4) (k := 9) (ref := "PatrolDeskModel") (vR (some u11)) ht2 rfl (by decide) in_X4 q1955 (Or.inl rfl) (by rw [he12]; rfl) dX4_laysWays_234 ?_
      refine pw_iload_n X dX4_laysWays_237 rfl rfl ?_
      refine pw_iload_n X dX4_laysWays_238 rfl rfl ?_
      refine pw_aload_n X dX4_laysWays_239 rfl rfl ?_
      obtain ⟨u13, he14, hw⟩ := hw
      refine pw_get X (q := (RX4, TX4, tyX4, 15)) (ci := 4) (k := 9) (ref := "PatrolDeskModel") (vR (some u13)) ht2 rfl (by decide) in_X4 q1955 (Or.inl rfl) (by rw [he14]; rfl) dX4_laysWays_240 ?_
      refine pw_iload_n X dX4_laysWays_243 rfl rfl ?_
      obtain ⟨ht15, hw⟩ := hw
      obtain ⟨hi16, hw⟩ := hw
      refine pw_iald X ht15 hi16 dX4_laysWays_244 ?_
      refine pw_icmp_ge X 252 dX4_laysWays_245 (by decide) (fun c17 => ?_) (fun c17 => ?_)
      · replace hw := hw.1 c17
        refine pw_aload_n X dX4_laysWays_252 rfl rfl ?_
        obtain ⟨u18, he19, hw⟩ := hw
        refine pw_get X (q := (RX4, TX4, tyX4, 15)) (ci := 4) (k := 9) (ref := "PatrolDeskModel") (vR (some u18)) ht2 rfl (by decide) in_X4 q1955 (Or.inl rfl) (by rw [he19]; rfl) dX4_laysWays_253 ?_
        refine pw_iload_n X dX4_laysWays_256 rfl rfl ?_
        obtain ⟨ht20, hw⟩ := hw
        obtain ⟨hi21, hw⟩ := hw
        refine pw_iald X ht20 hi21 dX4_laysWays_257 ?_
        obtain ⟨ht22, hw⟩ := hw
        obtain ⟨hi23, hw⟩ := hw
        obtain ⟨M24, hM25⟩ : ∃ z : Mem, z = (m_pi M u11 (Int32.toNatClampNeg lx2) (m_gi M u18 (Int32.toNatClampNeg lx2))) := ⟨_, rfl⟩
        replace hw := hw M24 hM25
        have hle26 : m_le M M24 := by rw [hM25]; exact m_le_pi
        refine pw_iast X ht22 hi23 dX4_laysWays_258 ?_
        rw [← hM25]
        have ht27 : m_tg M24 la0 = 5 := m_le_tg hle26 ht2
        have ht28 : m_tg M24 u3 = 101 := m_le_tg hle26 ht5
        have ht29 : m_tg M24 u7 = 101 := m_le_tg hle26 ht9
        have ht30 : m_tg M24 u13 = 101 := m_le_tg hle26 ht15
        have ht31 : m_tg M24 u18 = 101 := m_le_tg hle26 ht20
        have ht32 : m_tg M24 u11 = 101 := m_le_tg hle26 ht22
        refine pw_iinc X (lx2 + 1) [(0, vR (some la0)), (1, vI lx1), (2, vI (lx2 + 1))] [1, 2, 0] dX4_laysWays_259 rfl (by first | rfl | decide) (by decide) rfl ?_
        refine pw_goto X 196 dX4_laysWays_262 (by decide) ?_
        exact ih _ la0 lx1 (lx2 + 1) hw
      · replace hw := hw.2 c17
        refine pw_iload_n X dX4_laysWays_248 rfl rfl ?_
        refine pw_goto X 258 dX4_laysWays_249 (by decide) ?_
        obtain ⟨ht33, hw⟩ := hw
        obtain ⟨hi34, hw⟩ := hw
        obtain ⟨M35, hM36⟩ : ∃ z : Mem, z = (m_pi M u11 (Int32.toNatClampNeg lx2) ((m_gi M u3 (Int32.toNatClampNeg (((lx2 / 12) * 12) + lx1))) + (m_gi M u7 (Int32.toNatClampNeg ((12 * lx1) + (lx2 - lx2 / 12 * 12)))))) := ⟨_, rfl⟩
        replace hw := hw M35 hM36
        have hle37 : m_le M M35 := by rw [hM36]; exact m_le_pi
        refine pw_iast X ht33 hi34 dX4_laysWays_258 ?_
        rw [← hM36]
        have ht38 : m_tg M35 la0 = 5 := m_le_tg hle37 ht2
        have ht39 : m_tg M35 u3 = 101 := m_le_tg hle37 ht5
        have ht40 : m_tg M35 u7 = 101 := m_le_tg hle37 ht9
        have ht41 : m_tg M35 u13 = 101 := m_le_tg hle37 ht15
        have ht42 : m_tg M35 u11 = 101 := m_le_tg hle37 ht33
        refine pw_iinc X (lx2 + 1) [(0, vR (some la0)), (1, vI lx1), (2, vI (lx2 + 1))] [1, 2, 0] dX4_laysWays_259 rfl (by first | rfl | decide) (by decide) rfl ?_
        refine pw_goto X 196 dX4_laysWays_262 (by decide) ?_
        exact ih _ la0 lx1 (lx2 + 1) hw
theorem bk_X4_laysWays_188 (G : Gp) (C : m_Cx) (n0 s0 : Nat) (M0 : Mem) (Q : Mem → Prop) (X : m_in G C RX4 cX4_laysWays 4 none "laysWays" 0 0 n0 s0) : ∀ (n : Nat) (M : Mem) (la0 : Nat) (lx1 : Int32) (hw : wp_X4_laysWays_b188 G.2 Q n M la0 lx1), pW G C 4 n0 s0 M0 (m_Q G C n0 s0 (va_Qv (m_q0 M0 Q) (m_W G) (m_A G))) M 188 [(0, vR (some la0)), (1, vI lx1)] [] := by
  intro n
  induction n with
  | zero => intro M la0 lx1 hw; exact hw.elim
  | succ n ih =>
    intro M la0 lx1 hw
    refine pw_iload_n X dX4_laysWays_188 rfl rfl ?_
    refine pw_bipush X 12 dX4_laysWays_189 (by decide) ?_
    refine pw_icmp_ge X 271 dX4_laysWays_191 (by decide) (fun c1 => ?_) (fun c1 => ?_)
    · replace hw := hw.1 c1
      exact pw_vret X hw dX4_laysWays_271
    · replace hw := hw.2 c1
      refine pw_iconst X 0 dX4_laysWays_194 (by decide) ?_
      refine pw_istore_n X [(0, vR (some la0)), (1, vI lx1), (2, vI 0)] [1, 2, 0] dX4_laysWays_195 rfl (by decide) rfl ?_
      obtain ⟨n196, hw⟩ := hw
      exact bk_X4_laysWays_196 G C n0 s0 M0 Q X (wp_X4_laysWays_b188 G.2 Q n) ih n196 _ la0 lx1 0 hw
theorem bk_X4_laysWays_48 (G : Gp) (C : m_Cx) (n0 s0 : Nat) (M0 : Mem) (Q : Mem → Prop) (X : m_in G C RX4 cX4_laysWays 4 none "laysWays" 0 0 n0 s0) : ∀ (n : Nat) (M : Mem) (la0 : Nat) (lx1 : Int32) (hw : wp_X4_laysWays_b48 G.2 Q n M la0 lx1), pW G C 4 n0 s0 M0 (m_Q G C n0 s0 (va_Qv (m_q0 M0 Q) (m_W G) (m_A G))) M 48 [(0, vR (some la0)), (1, vI lx1)] [] := by
  intro n
  induction n with
  | zero => intro M la0 lx1 hw; exact hw.elim
  | succ n ih =>
    intro M la0 lx1 hw
    refine pw_iload_n X dX4_laysWays_48 rfl rfl ?_
    refine pw_aload_n X dX4_laysWays_49 rfl rfl ?_
    obtain ⟨ht1, hw⟩ := hw
    obtain ⟨u2, he3, hw⟩ := hw
    refine pw_get X (q := (RX4, TX4, tyX4, 15)) (ci := 4) (k := 0) (ref := "PatrolDeskModel") (vR (some u2)) ht1 rfl (by decide) in_X4 q1946 (Or.inl rfl) (by rw [he3]; rfl) dX4_laysWays_50 ?_
    refine pw_iconst X 5 dX4_laysWays_53 (by decide) ?_
    obtain ⟨ht4, hw⟩ := hw
    obtain ⟨hi5, hw⟩ := hw
    refine pw_iald X ht4 hi5 dX4_laysWays_54 ?_
    refine pw_icmp_ge X 186 dX4_laysWays_55 (by decide) (fun c6 => ?_) (fun c6 => ?_)
    · replace hw := hw.1 c6
      refine pw_iconst X 0 dX4_laysWays_186 (by decide) ?_
      refine pw_istore_n X [(0, vR (some la0)), (1, vI 0)] [1, 0] dX4_laysWays_187 rfl (by decide) rfl ?_
      obtain ⟨n188, hw⟩ := hw
      exact bk_X4_laysWays_188 G C n0 s0 M0 Q X n188 _ la0 0 hw
    · replace hw := hw.2 c6
      refine pw_aload_n X dX4_laysWays_58 rfl rfl ?_
      obtain ⟨u7, he8, hw⟩ := hw
      refine pw_get X (q := (RX4, TX4, tyX4, 15)) (ci := 4) (k := 0) (ref := "PatrolDeskModel") (vR (some u7)) ht1 rfl (by decide) in_X4 q1946 (Or.inl rfl) (by rw [he8]; rfl) dX4_laysWays_59 ?_
      refine pw_bipush X 16 dX4_laysWays_62 (by decide) ?_
      refine pw_iconst X 3 dX4_laysWays_64 (by decide) ?_
      refine pw_iload_n X dX4_laysWays_65 rfl rfl ?_
      refine pw_imul X dX4_laysWays_66 ?_
      refine pw_iadd X dX4_laysWays_67 ?_
      obtain ⟨ht9, hw⟩ := hw
      obtain ⟨hi10, hw⟩ := hw
      refine pw_iald X ht9 hi10 dX4_laysWays_68 ?_
      refine pw_istore_n X [(0, vR (some la0)), (1, vI lx1), (2, vI (m_gi M u7 (Int32.toNatClampNeg (16 + (3 * lx1)))))] [1, 2, 0] dX4_laysWays_69 rfl (by decide) rfl ?_
      refine pw_aload_n X dX4_laysWays_70 rfl rfl ?_
      obtain ⟨u11, he12, hw⟩ := hw
      refine pw_get X (q := (RX4, TX4, tyX4, 15)) (ci := 4) (k := 0) (ref := "PatrolDeskModel") (vR (some u11)) ht1 rfl (by decide) in_X4 q1946 (Or.inl rfl) (by rw [he12]; rfl) dX4_laysWays_71 ?_
      refine pw_bipush X 16 dX4_laysWays_74 (by decide) ?_
      refine pw_iconst X 3 dX4_laysWays_76 (by decide) ?_
      refine pw_iload_n X dX4_laysWays_77 rfl rfl ?_
      refine pw_imul X dX4_laysWays_78 ?_
      refine pw_iadd X dX4_laysWays_79 ?_
      refine pw_iconst X 1 dX4_laysWays_80 (by decide) ?_
      refine pw_iadd X dX4_laysWays_81 ?_
      obtain ⟨ht13, hw⟩ := hw
      obtain ⟨hi14, hw⟩ := hw
      refine pw_iald X ht13 hi14 dX4_laysWays_82 ?_
      refine pw_istore_n X [(0, vR (some la0)), (1, vI lx1), (2, vI (m_gi M u7 (Int32.toNatClampNeg (16 + (3 * lx1))))), (3, vI (m_gi M u11 (Int32.toNatClampNeg ((16 + (3 * lx1)) + 1))))] [1, 2, 3, 0] dX4_laysWays_83 rfl (by decide) rfl ?_
      refine pw_aload_n X dX4_laysWays_84 rfl rfl ?_
      obtain ⟨u15, he16, hw⟩ := hw
      refine pw_get X (q := (RX4, TX4, tyX4, 15)) (ci := 4) (k := 8) (ref := "PatrolDeskModel") (vR (some u15)) ht1 rfl (by decide) in_X4 q1954 (Or.inl rfl) (by rw [he16]; rfl) dX4_laysWays_85 ?_
      refine pw_bipush X 12 dX4_laysWays_88 (by decide) ?_
      refine pw_iload_n X dX4_laysWays_90 rfl rfl ?_
      refine pw_imul X dX4_laysWays_91 ?_
      refine pw_iload_n X dX4_laysWays_92 rfl rfl ?_
      refine pw_iadd X dX4_laysWays_93 ?_
      refine pw_aload_n X dX4_laysWays_94 rfl rfl ?_
      obtain ⟨u17, he18, hw⟩ := hw
      refine pw_get X (q := (RX4, TX4, tyX4, 15)) (ci := 4) (k := 0) (ref := "PatrolDeskModel") (vR (some u17)) ht1 rfl (by decide) in_X4 q1946 (Or.inl rfl) (by rw [he18]; rfl) dX4_laysWays_95 ?_
      refine pw_bipush X 16 dX4_laysWays_98 (by decide) ?_
      refine pw_iconst X 3 dX4_laysWays_100 (by decide) ?_
      refine pw_iload_n X dX4_laysWays_101 rfl rfl ?_
      refine pw_imul X dX4_laysWays_102 ?_
      refine pw_iadd X dX4_laysWays_103 ?_
      refine pw_iconst X 2 dX4_laysWays_104 (by decide) ?_
      refine pw_iadd X dX4_laysWays_105 ?_
      obtain ⟨ht19, hw⟩ := hw
      obtain ⟨hi20, hw⟩ := hw
      refine pw_iald X ht19 hi20 dX4_laysWays_106 ?_
      obtain ⟨ht21, hw⟩ := hw
      obtain ⟨hi22, hw⟩ := hw
      obtain ⟨M23, hM24⟩ : ∃ z : Mem, z = (m_pi M u15 (Int32.toNatClampNeg ((12 * (m_gi M u7 (Int32.toNatClampNeg (16 + (3 * lx1))))) + (m_gi M u11 (Int32.toNatClampNeg ((16 + (3 * lx1)) + 1))))) (m_gi M u17 (Int32.toNatClampNeg ((16 + (3 * lx1)) + 2)))) := ⟨_, rfl⟩
      replace hw := hw M23 hM24
      have hle25 : m_le M M23 := by rw [hM24]; exact m_le_pi
      refine pw_iast X ht21 hi22 dX4_laysWays_107 ?_
      rw [← hM24]
      have ht26 : m_tg M23 la0 = 5 := m_le_tg hle25 ht1
      have ht27 : m_tg M23 u2 = 101 := m_le_tg hle25 ht4
      have ht28 : m_tg M23 u7 = 101 := m_le_tg hle25 ht9
      have ht29 : m_tg M23 u11 = 101 := m_le_tg hle25 ht13
      have ht30 : m_tg M23 u17 = 101 := m_le_tg hle25 ht19
      have ht31 : m_tg M23 u15 = 101 := m_le_tg hle25 ht21
      refine pw_aload_n X dX4_laysWays_108 rfl rfl ?_
      obtain ⟨u32, he33, hw⟩ := hw
      refine pw_get X (q := (RX4, TX4, tyX4, 15)) (ci := 4) (k := 8) (ref := "PatrolDeskModel") (vR (some u32)) ht26 rfl (by decide) in_X4 q1954 (Or.inl rfl) (by rw [he33]; rfl) dX4_laysWays_109 ?_
      refine pw_bipush X 12 dX4_laysWays_112 (by decide) ?_
      refine pw_iload_n X dX4_laysWays_114 rfl rfl ?_
      refine pw_imul X dX4_laysWays_115 ?_
      refine pw_iload_n X dX4_laysWays_116 rfl rfl ?_
      refine pw_iadd X dX4_laysWays_117 ?_
      refine pw_aload_n X dX4_laysWays_118 rfl rfl ?_
      obtain ⟨u34, he35, hw⟩ := hw
      refine pw_get X (q := (RX4, TX4, tyX4, 15)) (ci := 4) (k := 0) (ref := "PatrolDeskModel") (vR (some u34)) ht26 rfl (by decide) in_X4 q1946 (Or.inl rfl) (by rw [he35]; rfl) dX4_laysWays_119 ?_
      refine pw_bipush X 16 dX4_laysWays_122 (by decide) ?_
      refine pw_iconst X 3 dX4_laysWays_124 (by decide) ?_
      refine pw_iload_n X dX4_laysWays_125 rfl rfl ?_
      refine pw_imul X dX4_laysWays_126 ?_
      refine pw_iadd X dX4_laysWays_127 ?_
      refine pw_iconst X 2 dX4_laysWays_128 (by decide) ?_
      refine pw_iadd X dX4_laysWays_129 ?_
      obtain ⟨ht36, hw⟩ := hw
      obtain ⟨hi37, hw⟩ := hw
      refine pw_iald X ht36 hi37 dX4_laysWays_130 ?_
      obtain ⟨ht38, hw⟩ := hw
      obtain ⟨hi39, hw⟩ := hw
      obtain ⟨M40, hM41⟩ : ∃ z : Mem, z = (m_pi M23 u32 (Int32.toNatClampNeg ((12 * (m_gi M u11 (Int32.toNatClampNeg ((16 + (3 * lx1)) + 1)))) + (m_gi M u7 (Int32.toNatClampNeg (16 + (3 * lx1)))))) (m_gi M23 u34 (Int32.toNatClampNeg ((16 + (3 * lx1)) + 2)))) := ⟨_, rfl⟩
      replace hw := hw M40 hM41
      have hle42 : m_le M23 M40 := by rw [hM41]; exact m_le_pi
      refine pw_iast X ht38 hi39 dX4_laysWays_131 ?_
      rw [← hM41]
      have ht43 : m_tg M40 la0 = 5 := m_le_tg hle42 ht26
      have ht44 : m_tg M40 u2 = 101 := m_le_tg hle42 ht27
      have ht45 : m_tg M40 u7 = 101 := m_le_tg hle42 ht28
      have ht46 : m_tg M40 u11 = 101 := m_le_tg hle42 ht29
      have ht47 : m_tg M40 u17 = 101 := m_le_tg hle42 ht30
      have ht48 : m_tg M40 u15 = 101 := m_le_tg hle42 ht31
      have ht49 : m_tg M40 u34 = 101 := m_le_tg hle42 ht36
      have ht50 : m_tg M40 u32 = 101 := m_le_tg hle42 ht38
      refine pw_aload_n X dX4_laysWays_132 rfl rfl ?_
      obtain ⟨u51, he52, hw⟩ := hw
      refine pw_get X (q := (RX4, TX4, tyX4, 15)) (ci := 4) (k := 9) (ref := "PatrolDeskModel") (vR (some u51)) ht43 rfl (by decide) in_X4 q1955 (Or.inl rfl) (by rw [he52]; rfl) dX4_laysWays_133 ?_
      refine pw_bipush X 12 dX4_laysWays_136 (by decide) ?_
      refine pw_iload_n X dX4_laysWays_138 rfl rfl ?_
      refine pw_imul X dX4_laysWays_139 ?_
      refine pw_iload_n X dX4_laysWays_140 rfl rfl ?_
      refine pw_iadd X dX4_laysWays_141 ?_
      refine pw_aload_n X dX4_laysWays_142 rfl rfl ?_
      obtain ⟨u53, he54, hw⟩ := hw
      refine pw_get X (q := (RX4, TX4, tyX4, 15)) (ci := 4) (k := 0) (ref := "PatrolDeskModel") (vR (some u53)) ht43 rfl (by decide) in_X4 q1946 (Or.inl rfl) (by rw [he54]; rfl) dX4_laysWays_143 ?_
      refine pw_bipush X 16 dX4_laysWays_146 (by decide) ?_
      refine pw_iconst X 3 dX4_laysWays_148 (by decide) ?_
      refine pw_iload_n X dX4_laysWays_149 rfl rfl ?_
      refine pw_imul X dX4_laysWays_150 ?_
      refine pw_iadd X dX4_laysWays_151 ?_
      refine pw_iconst X 2 dX4_laysWays_152 (by decide) ?_
      refine pw_iadd X dX4_laysWays_153 ?_
      obtain ⟨ht55, hw⟩ := hw
      obtain ⟨hi56, hw⟩ := hw
      refine pw_iald X ht55 hi56 dX4_laysWays_154 ?_
      obtain ⟨ht57, hw⟩ := hw
      obtain ⟨hi58, hw⟩ := hw
      obtain ⟨M59, hM60⟩ : ∃ z : Mem, z = (m_pi M40 u51 (Int32.toNatClampNeg ((12 * (m_gi M u7 (Int32.toNatClampNeg (16 + (3 * lx1))))) + (m_gi M u11 (Int32.toNatClampNeg ((16 + (3 * lx1)) + 1))))) (m_gi M40 u53 (Int32.toNatClampNeg ((16 + (3 * lx1)) + 2)))) := ⟨_, rfl⟩
      replace hw := hw M59 hM60
      have hle61 : m_le M40 M59 := by rw [hM60]; exact m_le_pi
      refine pw_iast X ht57 hi58 dX4_laysWays_155 ?_
      rw [← hM60]
      have ht62 : m_tg M59 la0 = 5 := m_le_tg hle61 ht43
      have ht63 : m_tg M59 u2 = 101 := m_le_tg hle61 ht44
      have ht64 : m_tg M59 u7 = 101 := m_le_tg hle61 ht45
      have ht65 : m_tg M59 u11 = 101 := m_le_tg hle61 ht46
      have ht66 : m_tg M59 u17 = 101 := m_le_tg hle61 ht47
      have ht67 : m_tg M59 u15 = 101 := m_le_tg hle61 ht48
      have ht68 : m_tg M59 u34 = 101 := m_le_tg hle61 ht49
      have ht69 : m_tg M59 u32 = 101 := m_le_tg hle61 ht50
      have ht70 : m_tg M59 u53 = 101 := m_le_tg hle61 ht55
      have ht71 : m_tg M59 u51 = 101 := m_le_tg hle61 ht57
      refine pw_aload_n X dX4_laysWays_156 rfl rfl ?_
      obtain ⟨u72, he73, hw⟩ := hw
      refine pw_get X (q := (RX4, TX4, tyX4, 15)) (ci := 4) (k := 9) (ref := "PatrolDeskModel") (vR (some u72)) ht62 rfl (by decide) in_X4 q1955 (Or.inl rfl) (by rw [he73]; rfl) dX4_laysWays_157 ?_
      refine pw_bipush X 12 dX4_laysWays_160 (by decide) ?_
      refine pw_iload_n X dX4_laysWays_162 rfl rfl ?_
      refine pw_imul X dX4_laysWays_163 ?_
      refine pw_iload_n X dX4_laysWays_164 rfl rfl ?_
      refine pw_iadd X dX4_laysWays_165 ?_
      refine pw_aload_n X dX4_laysWays_166 rfl rfl ?_
      obtain ⟨u74, he75, hw⟩ := hw
      refine pw_get X (q := (RX4, TX4, tyX4, 15)) (ci := 4) (k := 0) (ref := "PatrolDeskModel") (vR (some u74)) ht62 rfl (by decide) in_X4 q1946 (Or.inl rfl) (by rw [he75]; rfl) dX4_laysWays_167 ?_
      refine pw_bipush X 16 dX4_laysWays_170 (by decide) ?_
      refine pw_iconst X 3 dX4_laysWays_172 (by decide) ?_
      refine pw_iload_n X dX4_laysWays_173 rfl rfl ?_
      refine pw_imul X dX4_laysWays_174 ?_
      refine pw_iadd X dX4_laysWays_175 ?_
      refine pw_iconst X 2 dX4_laysWays_176 (by decide) ?_
      refine pw_iadd X dX4_laysWays_177 ?_
      obtain ⟨ht76, hw⟩ := hw
      obtain ⟨hi77, hw⟩ := hw
      refine pw_iald X ht76 hi77 dX4_laysWays_178 ?_
      obtain ⟨ht78, hw⟩ := hw
      obtain ⟨hi79, hw⟩ := hw
      obtain ⟨M80, hM81⟩ : ∃ z : Mem, z = (m_pi M59 u72 (Int32.toNatClampNeg ((12 * (m_gi M u11 (Int32.toNatClampNeg ((16 + (3 * lx1)) + 1)))) + (m_gi M u7 (Int32.toNatClampNeg (16 + (3 * lx1)))))) (m_gi M59 u74 (Int32.toNatClampNeg ((16 + (3 * lx1)) + 2)))) := ⟨_, rfl⟩
      replace hw := hw M80 hM81
      have hle82 : m_le M59 M80 := by rw [hM81]; exact m_le_pi
      refine pw_iast X ht78 hi79 dX4_laysWays_179 ?_
      rw [← hM81]
      have ht83 : m_tg M80 la0 = 5 := m_le_tg hle82 ht62
      have ht84 : m_tg M80 u2 = 101 := m_le_tg hle82 ht63
      have ht85 : m_tg M80 u7 = 101 := m_le_tg hle82 ht64
      have ht86 : m_tg M80 u11 = 101 := m_le_tg hle82 ht65
      have ht87 : m_tg M80 u17 = 101 := m_le_tg hle82 ht66
      have ht88 : m_tg M80 u15 = 101 := m_le_tg hle82 ht67
      have ht89 : m_tg M80 u34 = 101 := m_le_tg hle82 ht68
      have ht90 : m_tg M80 u32 = 101 := m_le_tg hle82 ht69
      have ht91 : m_tg M80 u53 = 101 := m_le_tg hle82 ht70
      have ht92 : m_tg M80 u51 = 101 := m_le_tg hle82 ht71
      have ht93 : m_tg M80 u74 = 101 := m_le_tg hle82 ht76
      have ht94 : m_tg M80 u72 = 101 := m_le_tg hle82 ht78
      refine pw_iinc X (lx1 + 1) [(0, vR (some la0)), (1, vI (lx1 + 1))] [1, 0] dX4_laysWays_180 rfl (by first | rfl | decide) (by decide) rfl ?_
      refine pw_goto X 48 dX4_laysWays_183 (by decide) ?_
      exact ih _ la0 (lx1 + 1) hw
theorem bk_X4_laysWays_2 (G : Gp) (C : m_Cx) (n0 s0 : Nat) (M0 : Mem) (Q : Mem → Prop) (X : m_in G C RX4 cX4_laysWays 4 none "laysWays" 0 0 n0 s0) : ∀ (n : Nat) (M : Mem) (la0 : Nat) (lx1 : Int32) (hw : wp_X4_laysWays_b2 G.2 Q n M la0 lx1), pW G C 4 n0 s0 M0 (m_Q G C n0 s0 (va_Qv (m_q0 M0 Q) (m_W G) (m_A G))) M 2 [(0, vR (some la0)), (1, vI lx1)] [] := by
  intro n
  induction n with
  | zero => intro M la0 lx1 hw; exact hw.elim
  | succ n ih =>
    intro M la0 lx1 hw
    refine pw_iload_n X dX4_laysWays_2 rfl rfl ?_
    refine pw_sipush X 144 dX4_laysWays_3 (by decide) ?_
    refine pw_icmp_ge X 46 dX4_laysWays_6 (by decide) (fun c1 => ?_) (fun c1 => ?_)
    · replace hw := hw.1 c1
      refine pw_iconst X 0 dX4_laysWays_46 (by decide) ?_
      refine pw_istore_n X [(0, vR (some la0)), (1, vI 0)] [1, 0] dX4_laysWays_47 rfl (by decide) rfl ?_
      obtain ⟨n48, hw⟩ := hw
      exact bk_X4_laysWays_48 G C n0 s0 M0 Q X n48 _ la0 0 hw
    · replace hw := hw.2 c1
      refine pw_aload_n X dX4_laysWays_9 rfl rfl ?_
      obtain ⟨ht2, hw⟩ := hw
      obtain ⟨u3, he4, hw⟩ := hw
      refine pw_get X (q := (RX4, TX4, tyX4, 15)) (ci := 4) (k := 8) (ref := "PatrolDeskModel") (vR (some u3)) ht2 rfl (by decide) in_X4 q1954 (Or.inl rfl) (by rw [he4]; rfl) dX4_laysWays_10 ?_
      refine pw_iload_n X dX4_laysWays_13 rfl rfl ?_
      refine pw_ldc X 100000 q1945 dX4_laysWays_14 ?_
      obtain ⟨ht5, hw⟩ := hw
      obtain ⟨hi6, hw⟩ := hw
      obtain ⟨M7, hM8⟩ : ∃ z : Mem, z = (m_pi M u3 (Int32.toNatClampNeg lx1) 100000) := ⟨_, rfl⟩
      replace hw := hw M7 hM8
      have hle9 : m_le M M7 := by rw [hM8]; exact m_le_pi
      refine pw_iast X ht5 hi6 dX4_laysWays_16 ?_
      rw [← hM8]
      have ht10 : m_tg M7 la0 = 5 := m_le_tg hle9 ht2
      have ht11 : m_tg M7 u3 = 101 := m_le_tg hle9 ht5
      refine pw_aload_n X dX4_laysWays_17 rfl rfl ?_
      obtain ⟨u12, he13, hw⟩ := hw
      refine pw_get X (q := (RX4, TX4, tyX4, 15)) (ci := 4) (k := 9) (ref := "PatrolDeskModel") (vR (some u12)) ht10 rfl (by decide) in_X4 q1955 (Or.inl rfl) (by rw [he13]; rfl) dX4_laysWays_18 ?_
      refine pw_iload_n X dX4_laysWays_21 rfl rfl ?_
      refine pw_iload_n X dX4_laysWays_22 rfl rfl ?_
      refine pw_bipush X 12 dX4_laysWays_23 (by decide) ?_
      refine pw_idiv X dX4_laysWays_25 (by decide) ?_
      refine pw_iload_n X dX4_laysWays_26 rfl rfl ?_
      refine pw_bipush X 12 dX4_laysWays_27 (by decide) ?_
      refine pw_irem X dX4_laysWays_29 (by decide) ?_
      refine pw_icmp_ne X 37 dX4_laysWays_30 (by decide) (fun c14 => ?_) (fun c14 => ?_)
      · replace hw := hw.1 c14
        refine pw_ldc X 100000 q1945 dX4_laysWays_37 ?_
        obtain ⟨ht15, hw⟩ := hw
        obtain ⟨hi16, hw⟩ := hw
        obtain ⟨M17, hM18⟩ : ∃ z : Mem, z = (m_pi M7 u12 (Int32.toNatClampNeg lx1) 100000) := ⟨_, rfl⟩
        replace hw := hw M17 hM18
        have hle19 : m_le M7 M17 := by rw [hM18]; exact m_le_pi
        refine pw_iast X ht15 hi16 dX4_laysWays_39 ?_
        rw [← hM18]
        have ht20 : m_tg M17 la0 = 5 := m_le_tg hle19 ht10
        have ht21 : m_tg M17 u3 = 101 := m_le_tg hle19 ht11
        have ht22 : m_tg M17 u12 = 101 := m_le_tg hle19 ht15
        refine pw_iinc X (lx1 + 1) [(0, vR (some la0)), (1, vI (lx1 + 1))] [1, 0] dX4_laysWays_40 rfl (by first | rfl | decide) (by decide) rfl ?_
        refine pw_goto X 2 dX4_laysWays_43 (by decide) ?_
        exact ih _ la0 (lx1 + 1) hw
      · replace hw := hw.2 c14
        refine pw_iconst X 0 dX4_laysWays_33 (by decide) ?_
        refine pw_goto X 39 dX4_laysWays_34 (by decide) ?_
        obtain ⟨ht23, hw⟩ := hw
        obtain ⟨hi24, hw⟩ := hw
        obtain ⟨M25, hM26⟩ : ∃ z : Mem, z = (m_pi M7 u12 (Int32.toNatClampNeg lx1) 0) := ⟨_, rfl⟩
        replace hw := hw M25 hM26
        have hle27 : m_le M7 M25 := by rw [hM26]; exact m_le_pi
        refine pw_iast X ht23 hi24 dX4_laysWays_39 ?_
        rw [← hM26]
        have ht28 : m_tg M25 la0 = 5 := m_le_tg hle27 ht10
        have ht29 : m_tg M25 u3 = 101 := m_le_tg hle27 ht11
        have ht30 : m_tg M25 u12 = 101 := m_le_tg hle27 ht23
        refine pw_iinc X (lx1 + 1) [(0, vR (some la0)), (1, vI (lx1 + 1))] [1, 0] dX4_laysWays_40 rfl (by first | rfl | decide) (by decide) rfl ?_
        refine pw_goto X 2 dX4_laysWays_43 (by decide) ?_
        exact ih _ la0 (lx1 + 1) hw
theorem bk_X4_laysWays_0 (G : Gp) (C : m_Cx) (n0 s0 : Nat) (M0 : Mem) (Q : Mem → Prop) (X : m_in G C RX4 cX4_laysWays 4 none "laysWays" 0 0 n0 s0) (M : Mem) (a0 : Nat) (hw : wp_X4_laysWays G.2 M a0 Q) : pW G C 4 n0 s0 M0 (m_Q G C n0 s0 (va_Qv (m_q0 M0 Q) (m_W G) (m_A G))) M 0 [(0, vR (some a0))] [] := by
  refine pw_iconst X 0 dX4_laysWays_0 (by decide) ?_
  refine pw_istore_n X [(0, vR (some a0)), (1, vI 0)] [1, 0] dX4_laysWays_1 rfl (by decide) rfl ?_
  obtain ⟨n2, hw⟩ := hw
  exact bk_X4_laysWays_2 G C n0 s0 M0 Q X n2 _ a0 0 hw
theorem met_X4_laysWays (G : Gp) (l : Launch) (M : Mem) (a0 : Nat) (Q : Mem → Prop) (hw : wp_X4_laysWays G.2 M a0 Q) : m_K G l yX4_laysWays cX4_laysWays 4 none 0 0 [vR (some a0)] M (va_Qv (m_q0 M Q) (m_W G) (m_A G)) := by
  refine m_met (by decide) (Nat.le_of_ble_eq_true rfl) (fun C e X => ?_)
  exact bk_X4_laysWays_0 G C _ _ M Q X M a0 hw
theorem nh_X4_laysWays : m_nMH yX4_laysWays 0 := by decide +kernel

def wp_X4_init (g : Nat → Nat) (M : Mem) (a0 : Nat) (Q : Mem → Prop) : Prop := ¬ (810 : Int32) < 0 ∧ m_fits M (Int32.toNatClampNeg 810) ∧ ∀ u3 : Nat, m_tg M u3 = 0 → ∀ M5 : Mem, M5 = (m_al M u3 101 (Int32.toNatClampNeg 810) (Int32.toNatClampNeg 810)) → m_tg M5 a0 = 5 ∧ ∀ M10 : Mem, M10 = (m_pr M5 a0 0 (some u3)) → ¬ (3240 : Int32) < 0 ∧ m_fits M10 (Int32.toNatClampNeg 3240) ∧ ∀ u17 : Nat, m_tg M10 u17 = 0 → ∀ M19 : Mem, M19 = (m_al M10 u17 101 (Int32.toNatClampNeg 3240) (Int32.toNatClampNeg 3240)) → ∀ M25 : Mem, M25 = (m_pr M19 a0 1 (some u17)) → ¬ (810 : Int32) < 0 ∧ m_fits M25 (Int32.toNatClampNeg 810) ∧ ∀ u33 : Nat, m_tg M25 u33 = 0 → ∀ M35 : Mem, M35 = (m_al M25 u33 101 (Int32.toNatClampNeg 810) (Int32.toNatClampNeg 810)) → ∀ M42 : Mem, M42 = (m_pr M35 a0 3 (some u33)) → ¬ (810 : Int32) < 0 ∧ m_fits M42 (Int32.toNatClampNeg 810) ∧ ∀ u51 : Nat, m_tg M42 u51 = 0 → ∀ M53 : Mem, M53 = (m_al M42 u51 101 (Int32.toNatClampNeg 810) (Int32.toNatClampNeg 810)) → ∀ M61 : Mem, M61 = (m_pr M53 a0 5 (some u51)) → ¬ (60 : Int32) < 0 ∧ m_fits M61 (Int32.toNatClampNeg 60) ∧ ∀ u71 : Nat, m_tg M61 u71 = 0 → ∀ M73 : Mem, M73 = (m_al M61 u71 101 (Int32.toNatClampNeg 60) (Int32.toNatClampNeg 60)) → ∀ M82 : Mem, M82 = (m_pr M73 a0 6 (some u71)) → ¬ (144 : Int32) < 0 ∧ m_fits M82 (Int32.toNatClampNeg 144) ∧ ∀ u93 : Nat, m_tg M82 u93 = 0 → ∀ M95 : Mem, M95 = (m_al M82 u93 101 (Int32.toNatClampNeg 144) (Int32.toNatClampNeg 144)) → ∀ M105 : Mem, M105 = (m_pr M95 a0 8 (some u93)) → ¬ (144 : Int32) < 0 ∧ m_fits M105 (Int32.toNatClampNeg 144) ∧ ∀ u117 : Nat, m_tg M105 u117 = 0 → ∀ M119 : Mem, M119 = (m_al M105 u117 101 (Int32.toNatClampNeg 144) (Int32.toNatClampNeg 144)) → ∀ M130 : Mem, M130 = (m_pr M119 a0 9 (some u117)) → ¬ (40 : Int32) < 0 ∧ m_fits M130 (Int32.toNatClampNeg 40) ∧ ∀ u143 : Nat, m_tg M130 u143 = 0 → ∀ M145 : Mem, M145 = (m_al M130 u143 101 (Int32.toNatClampNeg 40) (Int32.toNatClampNeg 40)) → ∀ M157 : Mem, M157 = (m_pr M145 a0 10 (some u143)) → ¬ (60 : Int32) < 0 ∧ m_fits M157 (Int32.toNatClampNeg 60) ∧ ∀ u171 : Nat, m_tg M157 u171 = 0 → ∀ M173 : Mem, M173 = (m_al M157 u171 101 (Int32.toNatClampNeg 60) (Int32.toNatClampNeg 60)) → ∀ M186 : Mem, M186 = (m_pr M173 a0 12 (some u171)) → ∃ u199 : Nat, (m_gr M186 a0 0) = some u199 ∧ m_tg M186 u199 = 101 ∧ vp_in 2 (m_ln M186 u199) ∧ ∀ M203 : Mem, M203 = (m_pi M186 u199 (Int32.toNatClampNeg 2) 90) → ∃ u217 : Nat, (m_gr M203 a0 0) = some u217 ∧ m_tg M203 u217 = 101 ∧ vp_in 3 (m_ln M203 u217) ∧ ∀ M221 : Mem, M221 = (m_pi M203 u217 (Int32.toNatClampNeg 3) 60) → ∃ u236 : Nat, (m_gr M221 a0 0) = some u236 ∧ m_tg M221 u236 = 101 ∧ vp_in 4 (m_ln M221 u236) ∧ ∀ M240 : Mem, M240 = (m_pi M221 u236 (Int32.toNatClampNeg 4) 40) → wp_X4_laysWays g M240 a0 (fun (M256 : Mem) => m_le M240 M256 → Q M256)
theorem bk_X4_init_0 (G : Gp) (C : m_Cx) (n0 s0 : Nat) (M0 : Mem) (Q : Mem → Prop) (X : m_in G C RX4 cX4_init 1 none "<init>" 1 23 n0 s0) (M : Mem) (a0 : Nat) (hw : wp_X4_init G.2 M a0 Q) : pW G C 1 n0 s0 M0 (m_Q G C n0 s0 (va_Qv (m_q0 M0 Q) (m_W G) (m_A G))) M 0 [(0, vR (some a0))] [] := by
  refine pw_aload_n X dX4_init_0 rfl rfl ?_
  refine pw_objInit X rfl q1940 q127 q128 dX4_init_1 (Nat.le_of_ble_eq_true rfl) (Nat.le_of_ble_eq_true rfl) ?_
  refine pw_aload_n X dX4_init_4 rfl rfl ?_
  refine pw_sipush X 810 dX4_init_5 (by decide) ?_
  obtain ⟨hn2, hf1, hw⟩ := hw
  refine pw_newa X (atype := .int) 0 (by decide) hf1 hn2 rfl q194 dX4_init_8 (fun u3 h04 => ?_)
  obtain ⟨M5, hM6⟩ : ∃ z : Mem, z = (m_al M u3 101 (Int32.toNatClampNeg 810) (Int32.toNatClampNeg 810)) := ⟨_, rfl⟩
  replace hw := hw u3 h04 M5 hM6
  have hle7 : m_le M M5 := by rw [hM6]; exact m_le_al h04
  change pW _ _ _ _ _ _ _ (m_al M u3 101 (Int32.toNatClampNeg 810) (Int32.toNatClampNeg 810)) _ _ _
  rw [← hM6]
  have ht8 : m_tg M5 u3 = 101 := by rw [hM6, m_tg_al, if_pos rfl]
  obtain ⟨ht9, hw⟩ := hw
  obtain ⟨M10, hM11⟩ : ∃ z : Mem, z = (m_pr M5 a0 0 (some u3)) := ⟨_, rfl⟩
  replace hw := hw M10 hM11
  refine pw_putF X (q := (RX4, TX4, tyX4, 15)) (ci := 4) (k := 0) (ref := "PatrolDeskModel") M10 hM11.symm ht9 rfl (by decide) in_X4 tyX4_ok nmX4 q1946 (Or.inl rfl) rfl rfl rfl (m_kd_r (fun _ _ => rfl)) m_na m_fa dX4_init_10 ?_
  have hle12 : m_le M5 M10 := by rw [hM11]; exact m_le_pr
  have ht13 : m_tg M10 u3 = 101 := m_le_tg hle12 ht8
  have ht14 : m_tg M10 a0 = 5 := m_le_tg hle12 ht9
  refine pw_aload_n X dX4_init_13 rfl rfl ?_
  refine pw_sipush X 3240 dX4_init_14 (by decide) ?_
  obtain ⟨hn16, hf15, hw⟩ := hw
  refine pw_newa X (atype := .int) 0 (by decide) hf15 hn16 rfl q194 dX4_init_17 (fun u17 h018 => ?_)
  obtain ⟨M19, hM20⟩ : ∃ z : Mem, z = (m_al M10 u17 101 (Int32.toNatClampNeg 3240) (Int32.toNatClampNeg 3240)) := ⟨_, rfl⟩
  replace hw := hw u17 h018 M19 hM20
  have hle21 : m_le M10 M19 := by rw [hM20]; exact m_le_al h018
  change pW _ _ _ _ _ _ _ (m_al M10 u17 101 (Int32.toNatClampNeg 3240) (Int32.toNatClampNeg 3240)) _ _ _
  rw [← hM20]
  have ht22 : m_tg M19 u3 = 101 := m_le_tg hle21 ht13
  have ht23 : m_tg M19 a0 = 5 := m_le_tg hle21 ht14
  have ht24 : m_tg M19 u17 = 101 := by rw [hM20, m_tg_al, if_pos rfl]
  obtain ⟨M25, hM26⟩ : ∃ z : Mem, z = (m_pr M19 a0 1 (some u17)) := ⟨_, rfl⟩
  replace hw := hw M25 hM26
  refine pw_putF X (q := (RX4, TX4, tyX4, 15)) (ci := 4) (k := 1) (ref := "PatrolDeskModel") M25 hM26.symm ht23 rfl (by decide) in_X4 tyX4_ok nmX4 q1947 (Or.inl rfl) rfl rfl rfl (m_kd_r (fun _ _ => rfl)) m_na m_fa dX4_init_19 ?_
  have hle27 : m_le M19 M25 := by rw [hM26]; exact m_le_pr
  have ht28 : m_tg M25 u3 = 101 := m_le_tg hle27 ht22
  have ht29 : m_tg M25 a0 = 5 := m_le_tg hle27 ht23
  have ht30 : m_tg M25 u17 = 101 := m_le_tg hle27 ht24
  refine pw_aload_n X dX4_init_22 rfl rfl ?_
  refine pw_sipush X 810 dX4_init_23 (by decide) ?_
  obtain ⟨hn32, hf31, hw⟩ := hw
  refine pw_newa X (atype := .int) 0 (by decide) hf31 hn32 rfl q194 dX4_init_26 (fun u33 h034 => ?_)
  obtain ⟨M35, hM36⟩ : ∃ z : Mem, z = (m_al M25 u33 101 (Int32.toNatClampNeg 810) (Int32.toNatClampNeg 810)) := ⟨_, rfl⟩
  replace hw := hw u33 h034 M35 hM36
  have hle37 : m_le M25 M35 := by rw [hM36]; exact m_le_al h034
  change pW _ _ _ _ _ _ _ (m_al M25 u33 101 (Int32.toNatClampNeg 810) (Int32.toNatClampNeg 810)) _ _ _
  rw [← hM36]
  have ht38 : m_tg M35 u3 = 101 := m_le_tg hle37 ht28
  have ht39 : m_tg M35 a0 = 5 := m_le_tg hle37 ht29
  have ht40 : m_tg M35 u17 = 101 := m_le_tg hle37 ht30
  have ht41 : m_tg M35 u33 = 101 := by rw [hM36, m_tg_al, if_pos rfl]
  obtain ⟨M42, hM43⟩ : ∃ z : Mem, z = (m_pr M35 a0 3 (some u33)) := ⟨_, rfl⟩
  replace hw := hw M42 hM43
  refine pw_putF X (q := (RX4, TX4, tyX4, 15)) (ci := 4) (k := 3) (ref := "PatrolDeskModel") M42 hM43.symm ht39 rfl (by decide) in_X4 tyX4_ok nmX4 q1949 (Or.inl rfl) rfl rfl rfl (m_kd_r (fun _ _ => rfl)) m_na m_fa dX4_init_28 ?_
  have hle44 : m_le M35 M42 := by rw [hM43]; exact m_le_pr
  have ht45 : m_tg M42 u3 = 101 := m_le_tg hle44 ht38
  have ht46 : m_tg M42 a0 = 5 := m_le_tg hle44 ht39
  have ht47 : m_tg M42 u17 = 101 := m_le_tg hle44 ht40
  have ht48 : m_tg M42 u33 = 101 := m_le_tg hle44 ht41
  refine pw_aload_n X dX4_init_31 rfl rfl ?_
  refine pw_sipush X 810 dX4_init_32 (by decide) ?_
  obtain ⟨hn50, hf49, hw⟩ := hw
  refine pw_newa X (atype := .int) 0 (by decide) hf49 hn50 rfl q194 dX4_init_35 (fun u51 h052 => ?_)
  obtain ⟨M53, hM54⟩ : ∃ z : Mem, z = (m_al M42 u51 101 (Int32.toNatClampNeg 810) (Int32.toNatClampNeg 810)) := ⟨_, rfl⟩
  replace hw := hw u51 h052 M53 hM54
  have hle55 : m_le M42 M53 := by rw [hM54]; exact m_le_al h052
  change pW _ _ _ _ _ _ _ (m_al M42 u51 101 (Int32.toNatClampNeg 810) (Int32.toNatClampNeg 810)) _ _ _
  rw [← hM54]
  have ht56 : m_tg M53 u3 = 101 := m_le_tg hle55 ht45
  have ht57 : m_tg M53 a0 = 5 := m_le_tg hle55 ht46
  have ht58 : m_tg M53 u17 = 101 := m_le_tg hle55 ht47
  have ht59 : m_tg M53 u33 = 101 := m_le_tg hle55 ht48
  have ht60 : m_tg M53 u51 = 101 := by rw [hM54, m_tg_al, if_pos rfl]
  obtain ⟨M61, hM62⟩ : ∃ z : Mem, z = (m_pr M53 a0 5 (some u51)) := ⟨_, rfl⟩
  replace hw := hw M61 hM62
  refine pw_putF X (q := (RX4, TX4, tyX4, 15)) (ci := 4) (k := 5) (ref := "PatrolDeskModel") M61 hM62.symm ht57 rfl (by decide) in_X4 tyX4_ok nmX4 q1951 (Or.inl rfl) rfl rfl rfl (m_kd_r (fun _ _ => rfl)) m_na m_fa dX4_init_37 ?_
  have hle63 : m_le M53 M61 := by rw [hM62]; exact m_le_pr
  have ht64 : m_tg M61 u3 = 101 := m_le_tg hle63 ht56
  have ht65 : m_tg M61 a0 = 5 := m_le_tg hle63 ht57
  have ht66 : m_tg M61 u17 = 101 := m_le_tg hle63 ht58
  have ht67 : m_tg M61 u33 = 101 := m_le_tg hle63 ht59
  have ht68 : m_tg M61 u51 = 101 := m_le_tg hle63 ht60
  refine pw_aload_n X dX4_init_40 rfl rfl ?_
  refine pw_bipush X 60 dX4_init_41 (by decide) ?_
  obtain ⟨hn70, hf69, hw⟩ := hw
  refine pw_newa X (atype := .int) 0 (by decide) hf69 hn70 rfl q194 dX4_init_43 (fun u71 h072 => ?_)
  obtain ⟨M73, hM74⟩ : ∃ z : Mem, z = (m_al M61 u71 101 (Int32.toNatClampNeg 60) (Int32.toNatClampNeg 60)) := ⟨_, rfl⟩
  replace hw := hw u71 h072 M73 hM74
  have hle75 : m_le M61 M73 := by rw [hM74]; exact m_le_al h072
  change pW _ _ _ _ _ _ _ (m_al M61 u71 101 (Int32.toNatClampNeg 60) (Int32.toNatClampNeg 60)) _ _ _
  rw [← hM74]
  have ht76 : m_tg M73 u3 = 101 := m_le_tg hle75 ht64
  have ht77 : m_tg M73 a0 = 5 := m_le_tg hle75 ht65
  have ht78 : m_tg M73 u17 = 101 := m_le_tg hle75 ht66
  have ht79 : m_tg M73 u33 = 101 := m_le_tg hle75 ht67
  have ht80 : m_tg M73 u51 = 101 := m_le_tg hle75 ht68
  have ht81 : m_tg M73 u71 = 101 := by rw [hM74, m_tg_al, if_pos rfl]
  obtain ⟨M82, hM83⟩ : ∃ z : Mem, z = (m_pr M73 a0 6 (some u71)) := ⟨_, rfl⟩
  replace hw := hw M82 hM83
  refine pw_putF X (q := (RX4, TX4, tyX4, 15)) (ci := 4) (k := 6) (ref := "PatrolDeskModel") M82 hM83.symm ht77 rfl (by decide) in_X4 tyX4_ok nmX4 q1952 (Or.inl rfl) rfl rfl rfl (m_kd_r (fun _ _ => rfl)) m_na m_fa dX4_init_45 ?_
  have hle84 : m_le M73 M82 := by rw [hM83]; exact m_le_pr
  have ht85 : m_tg M82 u3 = 101 := m_le_tg hle84 ht76
  have ht86 : m_tg M82 a0 = 5 := m_le_tg hle84 ht77
  have ht87 : m_tg M82 u17 = 101 := m_le_tg hle84 ht78
  have ht88 : m_tg M82 u33 = 101 := m_le_tg hle84 ht79
  have ht89 : m_tg M82 u51 = 101 := m_le_tg hle84 ht80
  have ht90 : m_tg M82 u71 = 101 := m_le_tg hle84 ht81
  refine pw_aload_n X dX4_init_48 rfl rfl ?_
  refine pw_sipush X 144 dX4_init_49 (by decide) ?_
  obtain ⟨hn92, hf91, hw⟩ := hw
  refine pw_newa X (atype := .int) 0 (by decide) hf91 hn92 rfl q194 dX4_init_52 (fun u93 h094 => ?_)
  obtain ⟨M95, hM96⟩ : ∃ z : Mem, z = (m_al M82 u93 101 (Int32.toNatClampNeg 144) (Int32.toNatClampNeg 144)) := ⟨_, rfl⟩
  replace hw := hw u93 h094 M95 hM96
  have hle97 : m_le M82 M95 := by rw [hM96]; exact m_le_al h094
  change pW _ _ _ _ _ _ _ (m_al M82 u93 101 (Int32.toNatClampNeg 144) (Int32.toNatClampNeg 144)) _ _ _
  rw [← hM96]
  have ht98 : m_tg M95 u3 = 101 := m_le_tg hle97 ht85
  have ht99 : m_tg M95 a0 = 5 := m_le_tg hle97 ht86
  have ht100 : m_tg M95 u17 = 101 := m_le_tg hle97 ht87
  have ht101 : m_tg M95 u33 = 101 := m_le_tg hle97 ht88
  have ht102 : m_tg M95 u51 = 101 := m_le_tg hle97 ht89
  have ht103 : m_tg M95 u71 = 101 := m_le_tg hle97 ht90
  have ht104 : m_tg M95 u93 = 101 := by rw [hM96, m_tg_al, if_pos rfl]
  obtain ⟨M105, hM106⟩ : ∃ z : Mem, z = (m_pr M95 a0 8 (some u93)) := ⟨_, rfl⟩
  replace hw := hw M105 hM106
  refine pw_putF X (q := (RX4, TX4, tyX4, 15)) (ci := 4) (k := 8) (ref := "PatrolDeskModel") M105 hM106.symm ht99 rfl (by decide) in_X4 tyX4_ok nmX4 q1954 (Or.inl rfl) rfl rfl rfl (m_kd_r (fun _ _ => rfl)) m_na m_fa dX4_init_54 ?_
  have hle107 : m_le M95 M105 := by rw [hM106]; exact m_le_pr
  have ht108 : m_tg M105 u3 = 101 := m_le_tg hle107 ht98
  have ht109 : m_tg M105 a0 = 5 := m_le_tg hle107 ht99
  have ht110 : m_tg M105 u17 = 101 := m_le_tg hle107 ht100
  have ht111 : m_tg M105 u33 = 101 := m_le_tg hle107 ht101
  have ht112 : m_tg M105 u51 = 101 := m_le_tg hle107 ht102
  have ht113 : m_tg M105 u71 = 101 := m_le_tg hle107 ht103
  have ht114 : m_tg M105 u93 = 101 := m_le_tg hle107 ht104
  refine pw_aload_n X dX4_init_57 rfl rfl ?_
  refine pw_sipush X 144 dX4_init_58 (by decide) ?_
  obtain ⟨hn116, hf115, hw⟩ := hw
  refine pw_newa X (atype := .int) 0 (by decide) hf115 hn116 rfl q194 dX4_init_61 (fun u117 h0118 => ?_)
  obtain ⟨M119, hM120⟩ : ∃ z : Mem, z = (m_al M105 u117 101 (Int32.toNatClampNeg 144) (Int32.toNatClampNeg 144)) := ⟨_, rfl⟩
  replace hw := hw u117 h0118 M119 hM120
  have hle121 : m_le M105 M119 := by rw [hM120]; exact m_le_al h0118
  change pW _ _ _ _ _ _ _ (m_al M105 u117 101 (Int32.toNatClampNeg 144) (Int32.toNatClampNeg 144)) _ _ _
  rw [← hM120]
  have ht122 : m_tg M119 u3 = 101 := m_le_tg hle121 ht108
  have ht123 : m_tg M119 a0 = 5 := m_le_tg hle121 ht109
  have ht124 : m_tg M119 u17 = 101 := m_le_tg hle121 ht110
  have ht125 : m_tg M119 u33 = 101 := m_le_tg hle121 ht111
  have ht126 : m_tg M119 u51 = 101 := m_le_tg hle121 ht112
  have ht127 : m_tg M119 u71 = 101 := m_le_tg hle121 ht113
  have ht128 : m_tg M119 u93 = 101 := m_le_tg hle121 ht114
  have ht129 : m_tg M119 u117 = 101 := by rw [hM120, m_tg_al, if_pos rfl]
  obtain ⟨M130, hM131⟩ : ∃ z : Mem, z = (m_pr M119 a0 9 (some u117)) := ⟨_, rfl⟩
  replace hw := hw M130 hM131
  refine pw_putF X (q := (RX4, TX4, tyX4, 15)) (ci := 4) (k := 9) (ref := "PatrolDeskModel") M130 hM131.symm ht123 rfl (by decide) in_X4 tyX4_ok nmX4 q1955 (Or.inl rfl) rfl rfl rfl (m_kd_r (fun _ _ => rfl)) m_na m_fa dX4_init_63 ?_
  have hle132 : m_le M119 M130 := by rw [hM131]; exact m_le_pr
  have ht133 : m_tg M130 u3 = 101 := m_le_tg hle132 ht122
  have ht134 : m_tg M130 a0 = 5 := m_le_tg hle132 ht123
  have ht135 : m_tg M130 u17 = 101 := m_le_tg hle132 ht124
  have ht136 : m_tg M130 u33 = 101 := m_le_tg hle132 ht125
  have ht137 : m_tg M130 u51 = 101 := m_le_tg hle132 ht126
  have ht138 : m_tg M130 u71 = 101 := m_le_tg hle132 ht127
  have ht139 : m_tg M130 u93 = 101 := m_le_tg hle132 ht128
  have ht140 : m_tg M130 u117 = 101 := m_le_tg hle132 ht129
  refine pw_aload_n X dX4_init_66 rfl rfl ?_
  refine pw_bipush X 40 dX4_init_67 (by decide) ?_
  obtain ⟨hn142, hf141, hw⟩ := hw
  refine pw_newa X (atype := .int) 0 (by decide) hf141 hn142 rfl q194 dX4_init_69 (fun u143 h0144 => ?_)
  obtain ⟨M145, hM146⟩ : ∃ z : Mem, z = (m_al M130 u143 101 (Int32.toNatClampNeg 40) (Int32.toNatClampNeg 40)) := ⟨_, rfl⟩
  replace hw := hw u143 h0144 M145 hM146
  have hle147 : m_le M130 M145 := by rw [hM146]; exact m_le_al h0144
  change pW _ _ _ _ _ _ _ (m_al M130 u143 101 (Int32.toNatClampNeg 40) (Int32.toNatClampNeg 40)) _ _ _
  rw [← hM146]
  have ht148 : m_tg M145 u3 = 101 := m_le_tg hle147 ht133
  have ht149 : m_tg M145 a0 = 5 := m_le_tg hle147 ht134
  have ht150 : m_tg M145 u17 = 101 := m_le_tg hle147 ht135
  have ht151 : m_tg M145 u33 = 101 := m_le_tg hle147 ht136
  have ht152 : m_tg M145 u51 = 101 := m_le_tg hle147 ht137
  have ht153 : m_tg M145 u71 = 101 := m_le_tg hle147 ht138
  have ht154 : m_tg M145 u93 = 101 := m_le_tg hle147 ht139
  have ht155 : m_tg M145 u117 = 101 := m_le_tg hle147 ht140
  have ht156 : m_tg M145 u143 = 101 := by rw [hM146, m_tg_al, if_pos rfl]
  obtain ⟨M157, hM158⟩ : ∃ z : Mem, z = (m_pr M145 a0 10 (some u143)) := ⟨_, rfl⟩
  replace hw := hw M157 hM158
  refine pw_putF X (q := (RX4, TX4, tyX4, 15)) (ci := 4) (k := 10) (ref := "PatrolDeskModel") M157 hM158.symm ht149 rfl (by decide) in_X4 tyX4_ok nmX4 q1956 (Or.inl rfl) rfl rfl rfl (m_kd_r (fun _ _ => rfl)) m_na m_fa dX4_init_71 ?_
  have hle159 : m_le M145 M157 := by rw [hM158]; exact m_le_pr
  have ht160 : m_tg M157 u3 = 101 := m_le_tg hle159 ht148
  have ht161 : m_tg M157 a0 = 5 := m_le_tg hle159 ht149
  have ht162 : m_tg M157 u17 = 101 := m_le_tg hle159 ht150
  have ht163 : m_tg M157 u33 = 101 := m_le_tg hle159 ht151
  have ht164 : m_tg M157 u51 = 101 := m_le_tg hle159 ht152
  have ht165 : m_tg M157 u71 = 101 := m_le_tg hle159 ht153
  have ht166 : m_tg M157 u93 = 101 := m_le_tg hle159 ht154
  have ht167 : m_tg M157 u117 = 101 := m_le_tg hle159 ht155
  have ht168 : m_tg M157 u143 = 101 := m_le_tg hle159 ht156
  refine pw_aload_n X dX4_init_74 rfl rfl ?_
  refine pw_bipush X 60 dX4_init_75 (by decide) ?_
  obtain ⟨hn170, hf169, hw⟩ := hw
  refine pw_newa X (atype := .int) 0 (by decide) hf169 hn170 rfl q194 dX4_init_77 (fun u171 h0172 => ?_)
  obtain ⟨M173, hM174⟩ : ∃ z : Mem, z = (m_al M157 u171 101 (Int32.toNatClampNeg 60) (Int32.toNatClampNeg 60)) := ⟨_, rfl⟩
  replace hw := hw u171 h0172 M173 hM174
  have hle175 : m_le M157 M173 := by rw [hM174]; exact m_le_al h0172
  change pW _ _ _ _ _ _ _ (m_al M157 u171 101 (Int32.toNatClampNeg 60) (Int32.toNatClampNeg 60)) _ _ _
  rw [← hM174]
  have ht176 : m_tg M173 u3 = 101 := m_le_tg hle175 ht160
  have ht177 : m_tg M173 a0 = 5 := m_le_tg hle175 ht161
  have ht178 : m_tg M173 u17 = 101 := m_le_tg hle175 ht162
  have ht179 : m_tg M173 u33 = 101 := m_le_tg hle175 ht163
  have ht180 : m_tg M173 u51 = 101 := m_le_tg hle175 ht164
  have ht181 : m_tg M173 u71 = 101 := m_le_tg hle175 ht165
  have ht182 : m_tg M173 u93 = 101 := m_le_tg hle175 ht166
  have ht183 : m_tg M173 u117 = 101 := m_le_tg hle175 ht167
  have ht184 : m_tg M173 u143 = 101 := m_le_tg hle175 ht168
  have ht185 : m_tg M173 u171 = 101 := by rw [hM174, m_tg_al, if_pos rfl]
  obtain ⟨M186, hM187⟩ : ∃ z : Mem, z = (m_pr M173 a0 12 (some u171)) := ⟨_, rfl⟩
  replace hw := hw M186 hM187
  refine pw_putF X (q := (RX4, TX4, tyX4, 15)) (ci := 4) (k := 12) (ref := "PatrolDeskModel") M186 hM187.symm ht177 rfl (by decide) in_X4 tyX4_ok nmX4 q1958 (Or.inl rfl) rfl rfl rfl (m_kd_r (fun _ _ => rfl)) m_na m_fa dX4_init_79 ?_
  have hle188 : m_le M173 M186 := by rw [hM187]; exact m_le_pr
  have ht189 : m_tg M186 u3 = 101 := m_le_tg hle188 ht176
  have ht190 : m_tg M186 a0 = 5 := m_le_tg hle188 ht177
  have ht191 : m_tg M186 u17 = 101 := m_le_tg hle188 ht178
  have ht192 : m_tg M186 u33 = 101 := m_le_tg hle188 ht179
  have ht193 : m_tg M186 u51 = 101 := m_le_tg hle188 ht180
  have ht194 : m_tg M186 u71 = 101 := m_le_tg hle188 ht181
  have ht195 : m_tg M186 u93 = 101 := m_le_tg hle188 ht182
  have ht196 : m_tg M186 u117 = 101 := m_le_tg hle188 ht183
  have ht197 : m_tg M186 u143 = 101 := m_le_tg hle188 ht184
  have ht198 : m_tg M186 u171 = 101 := m_le_tg hle188 ht185
  refine pw_aload_n X dX4_init_82 rfl rfl ?_
  obtain ⟨u199, he200, hw⟩ := hw
  refine pw_get X (q := (RX4, TX4, tyX4, 15)) (ci := 4) (k := 0) (ref := "PatrolDeskModel") (vR (some u199)) ht190 rfl (by decide) in_X4 q1946 (Or.inl rfl) (by rw [he200]; rfl) dX4_init_83 ?_
  refine pw_iconst X 2 dX4_init_86 (by decide) ?_
  refine pw_bipush X 90 dX4_init_87 (by decide) ?_
  obtain ⟨ht201, hw⟩ := hw
  obtain ⟨hi202, hw⟩ := hw
  obtain ⟨M203, hM204⟩ : ∃ z : Mem, z = (m_pi M186 u199 (Int32.toNatClampNeg 2) 90) := ⟨_, rfl⟩
  replace hw := hw M203 hM204
  have hle205 : m_le M186 M203 := by rw [hM204]; exact m_le_pi
  refine pw_iast X ht201 hi202 dX4_init_89 ?_
  rw [← hM204]
  have ht206 : m_tg M203 u3 = 101 := m_le_tg hle205 ht189
  have ht207 : m_tg M203 a0 = 5 := m_le_tg hle205 ht190
  have ht208 : m_tg M203 u17 = 101 := m_le_tg hle205 ht191
  have ht209 : m_tg M203 u33 = 101 := m_le_tg hle205 ht192
  have ht210 : m_tg M203 u51 = 101 := m_le_tg hle205 ht193
  have ht211 : m_tg M203 u71 = 101 := m_le_tg hle205 ht194
  have ht212 : m_tg M203 u93 = 101 := m_le_tg hle205 ht195
  have ht213 : m_tg M203 u117 = 101 := m_le_tg hle205 ht196
  have ht214 : m_tg M203 u143 = 101 := m_le_tg hle205 ht197
  have ht215 : m_tg M203 u171 = 101 := m_le_tg hle205 ht198
  have ht216 : m_tg M203 u199 = 101 := m_le_tg hle205 ht201
  refine pw_aload_n X dX4_init_90 rfl rfl ?_
  obtain ⟨u217, he218, hw⟩ := hw
  refine pw_get X (q := (RX4, TX4, tyX4, 15)) (ci := 4) (k := 0) (ref := "PatrolDeskModel") (vR (some u217)) ht207 rfl (by decide) in_X4 q1946 (Or.inl rfl) (by rw [he218]; rfl) dX4_init_91 ?_
  refine pw_iconst X 3 dX4_init_94 (by decide) ?_
  refine pw_bipush X 60 dX4_init_95 (by decide) ?_
  obtain ⟨ht219, hw⟩ := hw
  obtain ⟨hi220, hw⟩ := hw
  obtain ⟨M221, hM222⟩ : ∃ z : Mem, z = (m_pi M203 u217 (Int32.toNatClampNeg 3) 60) := ⟨_, rfl⟩
  replace hw := hw M221 hM222
  have hle223 : m_le M203 M221 := by rw [hM222]; exact m_le_pi
  refine pw_iast X ht219 hi220 dX4_init_97 ?_
  rw [← hM222]
  have ht224 : m_tg M221 u3 = 101 := m_le_tg hle223 ht206
  have ht225 : m_tg M221 a0 = 5 := m_le_tg hle223 ht207
  have ht226 : m_tg M221 u17 = 101 := m_le_tg hle223 ht208
  have ht227 : m_tg M221 u33 = 101 := m_le_tg hle223 ht209
  have ht228 : m_tg M221 u51 = 101 := m_le_tg hle223 ht210
  have ht229 : m_tg M221 u71 = 101 := m_le_tg hle223 ht211
  have ht230 : m_tg M221 u93 = 101 := m_le_tg hle223 ht212
  have ht231 : m_tg M221 u117 = 101 := m_le_tg hle223 ht213
  have ht232 : m_tg M221 u143 = 101 := m_le_tg hle223 ht214
  have ht233 : m_tg M221 u171 = 101 := m_le_tg hle223 ht215
  have ht234 : m_tg M221 u199 = 101 := m_le_tg hle223 ht216
  have ht235 : m_tg M221 u217 = 101 := m_le_tg hle223 ht219
  refine pw_aload_n X dX4_init_98 rfl rfl ?_
  obtain ⟨u236, he237, hw⟩ := hw
  refine pw_get X (q := (RX4, TX4, tyX4, 15)) (ci := 4) (k := 0) (ref := "PatrolDeskModel") (vR (some u236)) ht225 rfl (by decide) in_X4 q1946 (Or.inl rfl) (by rw [he237]; rfl) dX4_init_99 ?_
  refine pw_iconst X 4 dX4_init_102 (by decide) ?_
  refine pw_bipush X 40 dX4_init_103 (by decide) ?_
  obtain ⟨ht238, hw⟩ := hw
  obtain ⟨hi239, hw⟩ := hw
  obtain ⟨M240, hM241⟩ : ∃ z : Mem, z = (m_pi M221 u236 (Int32.toNatClampNeg 4) 40) := ⟨_, rfl⟩
  replace hw := hw M240 hM241
  have hle242 : m_le M221 M240 := by rw [hM241]; exact m_le_pi
  refine pw_iast X ht238 hi239 dX4_init_105 ?_
  rw [← hM241]
  have ht243 : m_tg M240 u3 = 101 := m_le_tg hle242 ht224
  have ht244 : m_tg M240 a0 = 5 := m_le_tg hle242 ht225
  have ht245 : m_tg M240 u17 = 101 := m_le_tg hle242 ht226
  have ht246 : m_tg M240 u33 = 101 := m_le_tg hle242 ht227
  have ht247 : m_tg M240 u51 = 101 := m_le_tg hle242 ht228
  have ht248 : m_tg M240 u71 = 101 := m_le_tg hle242 ht229
  have ht249 : m_tg M240 u93 = 101 := m_le_tg hle242 ht230
  have ht250 : m_tg M240 u117 = 101 := m_le_tg hle242 ht231
  have ht251 : m_tg M240 u143 = 101 := m_le_tg hle242 ht232
  have ht252 : m_tg M240 u171 = 101 := m_le_tg hle242 ht233
  have ht253 : m_tg M240 u199 = 101 := m_le_tg hle242 ht234
  have ht254 : m_tg M240 u217 = 101 := m_le_tg hle242 ht235
  have ht255 : m_tg M240 u236 = 101 := m_le_tg hle242 ht238
  refine pw_aload_n X dX4_init_106 rfl rfl ?_
  refine pw_runv X (m_cV X (b := a0) (ci := 4) (q := (RX4, TX4, tyX4, 15)) (met_X4_laysWays G C.2.1 M240 a0 _ hw) ht244 rfl (lw_V q1941 q1943 qs37 q107 q1944) ⟨rfl, nh_X4_laysWays⟩ ⟨Nat.le_of_ble_eq_true rfl, Nat.le_of_ble_eq_true rfl⟩ rfl (Nat.le_of_ble_eq_true rfl) dX4_init_107) (fun M256 hle257 hx => ?_)
  replace hw := hx hle257
  clear hx
  have ht258 : m_tg M256 u3 = 101 := m_le_tg hle257 ht243
  have ht259 : m_tg M256 a0 = 5 := m_le_tg hle257 ht244
  have ht260 : m_tg M256 u17 = 101 := m_le_tg hle257 ht245
  have ht261 : m_tg M256 u33 = 101 := m_le_tg hle257 ht246
  have ht262 : m_tg M256 u51 = 101 := m_le_tg hle257 ht247
  have ht263 : m_tg M256 u71 = 101 := m_le_tg hle257 ht248
  have ht264 : m_tg M256 u93 = 101 := m_le_tg hle257 ht249
  have ht265 : m_tg M256 u117 = 101 := m_le_tg hle257 ht250
  have ht266 : m_tg M256 u143 = 101 := m_le_tg hle257 ht251
  have ht267 : m_tg M256 u171 = 101 := m_le_tg hle257 ht252
  have ht268 : m_tg M256 u199 = 101 := m_le_tg hle257 ht253
  have ht269 : m_tg M256 u217 = 101 := m_le_tg hle257 ht254
  have ht270 : m_tg M256 u236 = 101 := m_le_tg hle257 ht255
  exact pw_vret X hw dX4_init_110
theorem met_X4_init (G : Gp) (l : Launch) (M : Mem) (a0 : Nat) (Q : Mem → Prop) (hw : wp_X4_init G.2 M a0 Q) : m_K G l yX4_init cX4_init 1 none 1 23 [vR (some a0)] M (va_Qv (m_q0 M Q) (m_W G) (m_A G)) := by
  refine m_met (by decide) (Nat.le_of_ble_eq_true rfl) (fun C e X => ?_)
  exact bk_X4_init_0 G C _ _ M Q X M a0 hw
theorem nh_X4_init : m_nMH yX4_init 0 := by decide +kernel

def wp_X4_in (g : Nat → Nat) (M : Mem) (x0 : Int32) (x1 : Int32) (x2 : Int32) (Q : Int32 → Mem → Prop) : Prop := ((x0 < x1 → Q 0 M) ∧ (¬ x0 < x1 → ((x2 < x0 → Q 0 M) ∧ (¬ x2 < x0 → Q 1 M))))
theorem bk_X4_in_0 (G : Gp) (C : m_Cx) (n0 s0 : Nat) (M0 : Mem) (Q : Int32 → Mem → Prop) (X : m_in G C RX4 cX4_in 3 (some .boolean) "in" 0 0 n0 s0) (M : Mem) (x0 : Int32) (x1 : Int32) (x2 : Int32) (hw : wp_X4_in G.2 M x0 x1 x2 Q) : pW G C 3 n0 s0 M0 (m_Q G C n0 s0 (va_Qi (m_q1 M0 Q) (m_W G) (m_A G))) M 0 [(0, vI x0), (1, vI x1), (2, vI x2)] [] := by
  refine pw_iload_n X dX4_in_0 rfl rfl ?_
  refine pw_iload_n X dX4_in_1 rfl rfl ?_
  refine pw_icmp_lt X 14 dX4_in_2 (by decide) (fun c1 => ?_) (fun c1 => ?_)
  · replace hw := hw.1 c1
    refine pw_iconst X 0 dX4_in_14 (by decide) ?_
    exact pw_zret X (by decide) hw dX4_in_15
  · replace hw := hw.2 c1
    refine pw_iload_n X dX4_in_5 rfl rfl ?_
    refine pw_iload_n X dX4_in_6 rfl rfl ?_
    refine pw_icmp_gt X 14 dX4_in_7 (by decide) (fun c2 => ?_) (fun c2 => ?_)
    · replace hw := hw.1 c2
      refine pw_iconst X 0 dX4_in_14 (by decide) ?_
      exact pw_zret X (by decide) hw dX4_in_15
    · replace hw := hw.2 c2
      refine pw_iconst X 1 dX4_in_10 (by decide) ?_
      refine pw_goto X 15 dX4_in_11 (by decide) ?_
      exact pw_zret X (by decide) hw dX4_in_15
theorem met_X4_in (G : Gp) (l : Launch) (M : Mem) (x0 : Int32) (x1 : Int32) (x2 : Int32) (Q : Int32 → Mem → Prop) (hw : wp_X4_in G.2 M x0 x1 x2 Q) : m_K G l yX4_in cX4_in 3 (some .boolean) 0 0 [vI x0, vI x1, vI x2] M (va_Qi (m_q1 M Q) (m_W G) (m_A G)) := by
  refine m_met (by decide) (Nat.le_of_ble_eq_true rfl) (fun C e X => ?_)
  exact bk_X4_in_0 G C _ _ M Q X M x0 x1 x2 hw
theorem nh_X4_in : m_nMH yX4_in 3 := by decide +kernel

def wp_X4_isArea (g : Nat → Nat) (M : Mem) (x0 : Int32) (Q : Int32 → Mem → Prop) : Prop := wp_X4_in g M x0 0 11 (fun (r3 : Int32) (M1 : Mem) => m_le M M1 → ((r3 = 0 ∨ r3 = 1) ∧ Q r3 M1))
theorem bk_X4_isArea_0 (G : Gp) (C : m_Cx) (n0 s0 : Nat) (M0 : Mem) (Q : Int32 → Mem → Prop) (X : m_in G C RX4 cX4_isArea 1 (some .boolean) "isArea" 1 22 n0 s0) (M : Mem) (x0 : Int32) (hw : wp_X4_isArea G.2 M x0 Q) : pW G C 1 n0 s0 M0 (m_Q G C n0 s0 (va_Qi (m_q1 M0 Q) (m_W G) (m_A G))) M 0 [(0, vI x0)] [] := by
  refine pw_iload_n X dX4_isArea_0 rfl rfl ?_
  refine pw_iconst X 0 dX4_isArea_1 (by decide) ?_
  refine pw_bipush X 11 dX4_isArea_2 (by decide) ?_
  refine pw_runi X (m_cS X (met_X4_in G C.2.1 M x0 0 11 _ hw) (lw_S q1999 q2000 q107 q2001) nh_X4_in ⟨Nat.le_of_ble_eq_true rfl, Nat.le_of_ble_eq_true rfl⟩ rfl (Nat.le_of_ble_eq_true rfl) dX4_isArea_4) (fun r3 M1 hle2 hx => ?_)
  replace hw := hx hle2
  clear hx
  exact pw_zret X (m_nz hw.1) hw.2 dX4_isArea_7
theorem met_X4_isArea (G : Gp) (l : Launch) (M : Mem) (x0 : Int32) (Q : Int32 → Mem → Prop) (hw : wp_X4_isArea G.2 M x0 Q) : m_K G l yX4_isArea cX4_isArea 1 (some .boolean) 1 22 [vI x0] M (va_Qi (m_q1 M Q) (m_W G) (m_A G)) := by
  refine m_met (by decide) (Nat.le_of_ble_eq_true rfl) (fun C e X => ?_)
  exact bk_X4_isArea_0 G C _ _ M Q X M x0 hw
theorem nh_X4_isArea : m_nMH yX4_isArea 1 := by decide +kernel

def wp_X4_copies_b3 (g : Nat → Nat) (Q : Mem → Prop) : Nat → Mem → Nat → Int32 → Nat → Int32 → Int32 → Prop
  | 0 => fun _ _ _ _ _ _ => False
  | n + 1 => fun M la0 lx1 la2 lx3 lx4 => ((810 ≤ lx4 → Q M) ∧ (¬ 810 ≤ lx4 → m_tg M la0 = 101 ∧ vp_in (lx1 + lx4) (m_ln M la0) ∧ m_tg M la2 = 101 ∧ vp_in (lx3 + lx4) (m_ln M la2) ∧ ∀ M6 : Mem, M6 = (m_pi M la2 (Int32.toNatClampNeg (lx3 + lx4)) (m_gi M la0 (Int32.toNatClampNeg (lx1 + lx4)))) → wp_X4_copies_b3 g Q n M6 la0 lx1 la2 lx3 (lx4 + 1)))
def wp_X4_copies (g : Nat → Nat) (M : Mem) (a0 : Nat) (x1 : Int32) (a2 : Nat) (x3 : Int32) (Q : Mem → Prop) : Prop := ∃ j3 : Nat, wp_X4_copies_b3 g Q j3 M a0 x1 a2 x3 0
theorem bk_X4_copies_3 (G : Gp) (C : m_Cx) (n0 s0 : Nat) (M0 : Mem) (Q : Mem → Prop) (X : m_in G C RX4 cX4_copies 5 none "copies" 0 0 n0 s0) : ∀ (n : Nat) (M : Mem) (la0 : Nat) (lx1 : Int32) (la2 : Nat) (lx3 : Int32) (lx4 : Int32) (hw : wp_X4_copies_b3 G.2 Q n M la0 lx1 la2 lx3 lx4), pW G C 5 n0 s0 M0 (m_Q G C n0 s0 (va_Qv (m_q0 M0 Q) (m_W G) (m_A G))) M 3 [(0, vR (some la0)), (1, vI lx1), (2, vR (some la2)), (3, vI lx3), (4, vI lx4)] [] := by
  intro n
  induction n with
  | zero => intro M la0 lx1 la2 lx3 lx4 hw; exact hw.elim
  | succ n ih =>
    intro M la0 lx1 la2 lx3 lx4 hw
    refine pw_iload X dX4_copies_3 rfl ?_
    refine pw_sipush X 810 dX4_copies_5 (by decide) ?_
    refine pw_icmp_ge X 29 dX4_copies_8 (by decide) (fun c1 => ?_) (fun c1 => ?_)
    · replace hw := hw.1 c1
      exact pw_vret X hw dX4_copies_29
    · replace hw := hw.2 c1
      refine pw_aload_n X dX4_copies_11 rfl rfl ?_
      refine pw_iload_n X dX4_copies_12 rfl rfl ?_
      refine pw_iload X dX4_copies_13 rfl ?_
      refine pw_iadd X dX4_copies_15 ?_
      refine pw_aload_n X dX4_copies_16 rfl rfl ?_
      refine pw_iload_n X dX4_copies_17 rfl rfl ?_
      refine pw_iload X dX4_copies_18 rfl ?_
      refine pw_iadd X dX4_copies_20 ?_
      obtain ⟨ht2, hw⟩ := hw
      obtain ⟨hi3, hw⟩ := hw
      refine pw_iald X ht2 hi3 dX4_copies_21 ?_
      obtain ⟨ht4, hw⟩ := hw
      obtain ⟨hi5, hw⟩ := hw
      obtain ⟨M6, hM7⟩ : ∃ z : Mem, z = (m_pi M la2 (Int32.toNatClampNeg (lx3 + lx4)) (m_gi M la0 (Int32.toNatClampNeg (lx1 + lx4)))) := ⟨_, rfl⟩
      replace hw := hw M6 hM7
      have hle8 : m_le M M6 := by rw [hM7]; exact m_le_pi
      refine pw_iast X ht4 hi5 dX4_copies_22 ?_
      rw [← hM7]
      have ht9 : m_tg M6 la0 = 101 := m_le_tg hle8 ht2
      have ht10 : m_tg M6 la2 = 101 := m_le_tg hle8 ht4
      refine pw_iinc X (lx4 + 1) [(0, vR (some la0)), (1, vI lx1), (2, vR (some la2)), (3, vI lx3), (4, vI (lx4 + 1))] [1, 2, 3, 4, 0] dX4_copies_23 rfl (by first | rfl | decide) (by decide) rfl ?_
      refine pw_goto X 3 dX4_copies_26 (by decide) ?_
      exact ih _ la0 lx1 la2 lx3 (lx4 + 1) hw
theorem bk_X4_copies_0 (G : Gp) (C : m_Cx) (n0 s0 : Nat) (M0 : Mem) (Q : Mem → Prop) (X : m_in G C RX4 cX4_copies 5 none "copies" 0 0 n0 s0) (M : Mem) (a0 : Nat) (x1 : Int32) (a2 : Nat) (x3 : Int32) (hw : wp_X4_copies G.2 M a0 x1 a2 x3 Q) : pW G C 5 n0 s0 M0 (m_Q G C n0 s0 (va_Qv (m_q0 M0 Q) (m_W G) (m_A G))) M 0 [(0, vR (some a0)), (1, vI x1), (2, vR (some a2)), (3, vI x3)] [] := by
  refine pw_iconst X 0 dX4_copies_0 (by decide) ?_
  refine pw_istore X [(0, vR (some a0)), (1, vI x1), (2, vR (some a2)), (3, vI x3), (4, vI 0)] [1, 2, 3, 4, 0] dX4_copies_1 (by decide) rfl ?_
  obtain ⟨n3, hw⟩ := hw
  exact bk_X4_copies_3 G C n0 s0 M0 Q X n3 _ a0 x1 a2 x3 0 hw
theorem met_X4_copies (G : Gp) (l : Launch) (M : Mem) (a0 : Nat) (x1 : Int32) (a2 : Nat) (x3 : Int32) (Q : Mem → Prop) (hw : wp_X4_copies G.2 M a0 x1 a2 x3 Q) : m_K G l yX4_copies cX4_copies 5 none 0 0 [vR (some a0), vI x1, vR (some a2), vI x3] M (va_Qv (m_q0 M Q) (m_W G) (m_A G)) := by
  refine m_met (by decide) (Nat.le_of_ble_eq_true rfl) (fun C e X => ?_)
  exact bk_X4_copies_0 G C _ _ M Q X M a0 x1 a2 x3 hw
theorem nh_X4_copies : m_nMH yX4_copies 4 := by decide +kernel

def wp_X4_records_b44 (g : Nat → Nat) (M : Mem) (la0 : Nat) (Q : Mem → Prop) : Prop := m_tg M la0 = 5 ∧ ∃ u2 : Nat, (m_gr M la0 0) = some u2 ∧ ∃ u4 : Nat, (m_gr M la0 1) = some u4 ∧ wp_X4_copies g M u2 0 u4 ((m_gi M la0 2) * 810) (fun (M6 : Mem) => m_le M M6 → ∀ M9 : Mem, M9 = (m_pi M6 la0 2 ((m_gi M6 la0 2) + 1)) → Q M9)
def wp_X4_records_b10 (g : Nat → Nat) (Q : Mem → Prop) : Nat → Mem → Nat → Int32 → Prop
  | 0 => fun _ _ _ => False
  | n + 1 => fun M la0 lx1 => ((2430 ≤ lx1 → m_tg M la0 = 5 ∧ ∀ M3 : Mem, M3 = (m_pi M la0 2 3) → wp_X4_records_b44 g M3 la0 Q) ∧ (¬ 2430 ≤ lx1 → m_tg M la0 = 5 ∧ ∃ u8 : Nat, (m_gr M la0 1) = some u8 ∧ ∃ u10 : Nat, (m_gr M la0 1) = some u10 ∧ m_tg M u10 = 101 ∧ vp_in (lx1 + 810) (m_ln M u10) ∧ m_tg M u8 = 101 ∧ vp_in lx1 (m_ln M u8) ∧ ∀ M16 : Mem, M16 = (m_pi M u8 (Int32.toNatClampNeg lx1) (m_gi M u10 (Int32.toNatClampNeg (lx1 + 810)))) → wp_X4_records_b10 g Q n M16 la0 (lx1 + 1)))
def wp_X4_records (g : Nat → Nat) (M : Mem) (a0 : Nat) (Q : Mem → Prop) : Prop := m_tg M a0 = 5 ∧ ((¬ (m_gi M a0 2) = 4 → wp_X4_records_b44 g M a0 Q) ∧ ((m_gi M a0 2) = 4 → ∃ j10 : Nat, wp_X4_records_b10 g Q j10 M a0 0))
theorem bk_X4_records_44 (G : Gp) (C : m_Cx) (n0 s0 : Nat) (M0 : Mem) (Q : Mem → Prop) (X : m_in G C RX4 cX4_records 2 none "records" 1 24 n0 s0) (M : Mem) (la0 : Nat) (hw : wp_X4_records_b44 G.2 M la0 Q) : pW G C 2 n0 s0 M0 (m_Q G C n0 s0 (va_Qv (m_q0 M0 Q) (m_W G) (m_A G))) M 44 [(0, vR (some la0))] [] := by
  refine pw_aload_n X dX4_records_44 rfl rfl ?_
  obtain ⟨ht1, hw⟩ := hw
  obtain ⟨u2, he3, hw⟩ := hw
  refine pw_get X (q := (RX4, TX4, tyX4, 15)) (ci := 4) (k := 0) (ref := "PatrolDeskModel") (vR (some u2)) ht1 rfl (by decide) in_X4 q1946 (Or.inl rfl) (by rw [he3]; rfl) dX4_records_45 ?_
  refine pw_iconst X 0 dX4_records_48 (by decide) ?_
  refine pw_aload_n X dX4_records_49 rfl rfl ?_
  obtain ⟨u4, he5, hw⟩ := hw
  refine pw_get X (q := (RX4, TX4, tyX4, 15)) (ci := 4) (k := 1) (ref := "PatrolDeskModel") (vR (some u4)) ht1 rfl (by decide) in_X4 q1947 (Or.inl rfl) (by rw [he5]; rfl) dX4_records_50 ?_
  refine pw_aload_n X dX4_records_53 rfl rfl ?_
  refine pw_get X (q := (RX4, TX4, tyX4, 15)) (ci := 4) (k := 2) (ref := "PatrolDeskModel") (vI (m_gi M la0 2)) ht1 rfl (by decide) in_X4 q1948 (Or.inl rfl) rfl dX4_records_54 ?_
  refine pw_sipush X 810 dX4_records_57 (by decide) ?_
  refine pw_imul X dX4_records_60 ?_
  refine pw_runv X (m_cS X (met_X4_copies G C.2.1 M u2 0 u4 ((m_gi M la0 2) * 810) _ hw) (lw_S q2006 q2007 q107 q2008) nh_X4_copies ⟨Nat.le_of_ble_eq_true rfl, Nat.le_of_ble_eq_true rfl⟩ rfl (Nat.le_of_ble_eq_true rfl) dX4_records_61) (fun M6 hle7 hx => ?_)
  replace hw := hx hle7
  clear hx
  have ht8 : m_tg M6 la0 = 5 := m_le_tg hle7 ht1
  refine pw_aload_n X dX4_records_64 rfl rfl ?_
  refine pw_dup X dX4_records_65 ?_
  refine pw_get X (q := (RX4, TX4, tyX4, 15)) (ci := 4) (k := 2) (ref := "PatrolDeskModel") (vI (m_gi M6 la0 2)) ht8 rfl (by decide) in_X4 q1948 (Or.inl rfl) rfl dX4_records_66 ?_
  refine pw_iconst X 1 dX4_records_69 (by decide) ?_
  refine pw_iadd X dX4_records_70 ?_
  obtain ⟨M9, hM10⟩ : ∃ z : Mem, z = (m_pi M6 la0 2 ((m_gi M6 la0 2) + 1)) := ⟨_, rfl⟩
  replace hw := hw M9 hM10
  refine pw_put X (q := (RX4, TX4, tyX4, 15)) (ci := 4) (k := 2) (ref := "PatrolDeskModel") M9 hM10.symm ht8 rfl (by decide) in_X4 tyX4_ok nmX4 q1948 (Or.inl rfl) rfl (m_kd_i (fun _ _ => rfl)) rfl rfl dX4_records_71 ?_
  have hle11 : m_le M6 M9 := by rw [hM10]; exact m_le_pi
  have ht12 : m_tg M9 la0 = 5 := m_le_tg hle11 ht8
  exact pw_vret X hw dX4_records_74
theorem bk_X4_records_10 (G : Gp) (C : m_Cx) (n0 s0 : Nat) (M0 : Mem) (Q : Mem → Prop) (X : m_in G C RX4 cX4_records 2 none "records" 1 24 n0 s0) : ∀ (n : Nat) (M : Mem) (la0 : Nat) (lx1 : Int32) (hw : wp_X4_records_b10 G.2 Q n M la0 lx1), pW G C 2 n0 s0 M0 (m_Q G C n0 s0 (va_Qv (m_q0 M0 Q) (m_W G) (m_A G))) M 10 [(0, vR (some la0)), (1, vI lx1)] [] := by
  intro n
  induction n with
  | zero => intro M la0 lx1 hw; exact hw.elim
  | succ n ih =>
    intro M la0 lx1 hw
    refine pw_iload_n X dX4_records_10 rfl rfl ?_
    refine pw_sipush X 2430 dX4_records_11 (by decide) ?_
    refine pw_icmp_ge X 39 dX4_records_14 (by decide) (fun c1 => ?_) (fun c1 => ?_)
    · replace hw := hw.1 c1
      refine pw_aload_n X dX4_records_39 rfl rfl ?_
      refine pw_iconst X 3 dX4_records_40 (by decide) ?_
      obtain ⟨ht2, hw⟩ := hw
      obtain ⟨M3, hM4⟩ : ∃ z : Mem, z = (m_pi M la0 2 3) := ⟨_, rfl⟩
      replace hw := hw M3 hM4
      refine pw_put X (q := (RX4, TX4, tyX4, 15)) (ci := 4) (k := 2) (ref := "PatrolDeskModel") M3 hM4.symm ht2 rfl (by decide) in_X4 tyX4_ok nmX4 q1948 (Or.inl rfl) rfl (m_kd_i (fun _ _ => rfl)) rfl rfl dX4_records_41 ?_
      have hle5 : m_le M M3 := by rw [hM4]; exact m_le_pi
      have ht6 : m_tg M3 la0 = 5 := m_le_tg hle5 ht2
      refine pw_lo [0] rfl ?_
      exact bk_X4_records_44 G C n0 s0 M0 Q X _ la0 hw
    · replace hw := hw.2 c1
      refine pw_aload_n X dX4_records_17 rfl rfl ?_
      obtain ⟨ht7, hw⟩ := hw
      obtain ⟨u8, he9, hw⟩ := hw
      refine pw_get X (q := (RX4, TX4, tyX4, 15)) (ci := 4) (k := 1) (ref := "PatrolDeskModel") (vR (some u8)) ht7 rfl (by decide) in_X4 q1947 (Or.inl rfl) (by rw [he9]; rfl) dX4_records_18 ?_
      refine pw_iload_n X dX4_records_21 rfl rfl ?_
      refine pw_aload_n X dX4_records_22 rfl rfl ?_
      obtain ⟨u10, he11, hw⟩ := hw
      refine pw_get X (q := (RX4, TX4, tyX4, 15)) (ci := 4) (k := 1) (ref := "PatrolDeskModel") (vR (some u10)) ht7 rfl (by decide) in_X4 q1947 (Or.inl rfl) (by rw [he11]; rfl) dX4_records_23 ?_
      refine pw_iload_n X dX4_records_26 rfl rfl ?_
      refine pw_sipush X 810 dX4_records_27 (by decide) ?_
      refine pw_iadd X dX4_records_30 ?_
      obtain ⟨ht12, hw⟩ := hw
      obtain ⟨hi13, hw⟩ := hw
      refine pw_iald X ht12 hi13 dX4_records_31 ?_
      obtain ⟨ht14, hw⟩ := hw
      obtain ⟨hi15, hw⟩ := hw
      obtain ⟨M16, hM17⟩ : ∃ z : Mem, z = (m_pi M u8 (Int32.toNatClampNeg lx1) (m_gi M u10 (Int32.toNatClampNeg (lx1 + 810)))) := ⟨_, rfl⟩
      replace hw := hw M16 hM17
      have hle18 : m_le M M16 := by rw [hM17]; exact m_le_pi
      refine pw_iast X ht14 hi15 dX4_records_32 ?_
      rw [← hM17]
      have ht19 : m_tg M16 la0 = 5 := m_le_tg hle18 ht7
      have ht20 : m_tg M16 u10 = 101 := m_le_tg hle18 ht12
      have ht21 : m_tg M16 u8 = 101 := m_le_tg hle18 ht14
      refine pw_iinc X (lx1 + 1) [(0, vR (some la0)), (1, vI (lx1 + 1))] [1, 0] dX4_records_33 rfl (by first | rfl | decide) (by decide) rfl ?_
      refine pw_goto X 10 dX4_records_36 (by decide) ?_
      exact ih _ la0 (lx1 + 1) hw
theorem bk_X4_records_0 (G : Gp) (C : m_Cx) (n0 s0 : Nat) (M0 : Mem) (Q : Mem → Prop) (X : m_in G C RX4 cX4_records 2 none "records" 1 24 n0 s0) (M : Mem) (a0 : Nat) (hw : wp_X4_records G.2 M a0 Q) : pW G C 2 n0 s0 M0 (m_Q G C n0 s0 (va_Qv (m_q0 M0 Q) (m_W G) (m_A G))) M 0 [(0, vR (some a0))] [] := by
  refine pw_aload_n X dX4_records_0 rfl rfl ?_
  obtain ⟨ht1, hw⟩ := hw
  refine pw_get X (q := (RX4, TX4, tyX4, 15)) (ci := 4) (k := 2) (ref := "PatrolDeskModel") (vI (m_gi M a0 2)) ht1 rfl (by decide) in_X4 q1948 (Or.inl rfl) rfl dX4_records_1 ?_
  refine pw_iconst X 4 dX4_records_4 (by decide) ?_
  refine pw_icmp_ne X 44 dX4_records_5 (by decide) (fun c2 => ?_) (fun c2 => ?_)
  · replace hw := hw.1 c2
    exact bk_X4_records_44 G C n0 s0 M0 Q X _ a0 hw
  · replace hw := hw.2 c2
    refine pw_iconst X 0 dX4_records_8 (by decide) ?_
    refine pw_istore_n X [(0, vR (some a0)), (1, vI 0)] [1, 0] dX4_records_9 rfl (by decide) rfl ?_
    obtain ⟨n10, hw⟩ := hw
    exact bk_X4_records_10 G C n0 s0 M0 Q X n10 _ a0 0 hw
theorem met_X4_records (G : Gp) (l : Launch) (M : Mem) (a0 : Nat) (Q : Mem → Prop) (hw : wp_X4_records G.2 M a0 Q) : m_K G l yX4_records cX4_records 2 none 1 24 [vR (some a0)] M (va_Qv (m_q0 M Q) (m_W G) (m_A G)) := by
  refine m_met (by decide) (Nat.le_of_ble_eq_true rfl) (fun C e X => ?_)
  exact bk_X4_records_0 G C _ _ M Q X M a0 hw
theorem nh_X4_records : m_nMH yX4_records 0 := by decide +kernel

def wp_X4_addRoad (g : Nat → Nat) (M : Mem) (a0 : Nat) (x1 : Int32) (x2 : Int32) (x3 : Int32) (Q : Int32 → Mem → Prop) : Prop := wp_X4_isArea g M x1 (fun (r3 : Int32) (M1 : Mem) => m_le M M1 → ((r3 = 0 → Q (-1) M1) ∧ (¬ r3 = 0 → wp_X4_isArea g M1 x2 (fun (r7 : Int32) (M5 : Mem) => m_le M1 M5 → ((¬ r7 = 0 → wp_X4_in g M5 x3 1 60 (fun (r11 : Int32) (M9 : Mem) => m_le M5 M9 → ((r11 = 0 → Q (-2) M9) ∧ (¬ r11 = 0 → ((¬ x1 = x2 → m_tg M9 a0 = 5 ∧ ∃ u15 : Nat, (m_gr M9 a0 8) = some u15 ∧ m_tg M9 u15 = 101 ∧ vp_in ((12 * x1) + x2) (m_ln M9 u15) ∧ ((100000 ≤ (m_gi M9 u15 (Int32.toNatClampNeg ((12 * x1) + x2))) → ∃ u20 : Nat, (m_gr M9 a0 0) = some u20 ∧ m_tg M9 u20 = 101 ∧ vp_in 5 (m_ln M9 u20) ∧ ((¬ (m_gi M9 u20 (Int32.toNatClampNeg 5)) = 30 → wp_X4_records g M9 a0 (fun (M25 : Mem) => m_le M9 M25 → ∃ u30 : Nat, (m_gr M25 a0 0) = some u30 ∧ m_tg M25 u30 = 101 ∧ vp_in 5 (m_ln M25 u30) ∧ ∃ u34 : Nat, (m_gr M25 a0 0) = some u34 ∧ m_tg M25 u34 = 101 ∧ vp_in (16 + (3 * (m_gi M25 u30 (Int32.toNatClampNeg 5)))) (m_ln M25 u34) ∧ ∀ M38 : Mem, M38 = (m_pi M25 u34 (Int32.toNatClampNeg (16 + (3 * (m_gi M25 u30 (Int32.toNatClampNeg 5))))) x1) → ∃ u46 : Nat, (m_gr M38 a0 0) = some u46 ∧ m_tg M38 u46 = 101 ∧ vp_in ((16 + (3 * (m_gi M25 u30 (Int32.toNatClampNeg 5)))) + 1) (m_ln M38 u46) ∧ ∀ M50 : Mem, M50 = (m_pi M38 u46 (Int32.toNatClampNeg ((16 + (3 * (m_gi M25 u30 (Int32.toNatClampNeg 5)))) + 1)) x2) → ∃ u59 : Nat, (m_gr M50 a0 0) = some u59 ∧ m_tg M50 u59 = 101 ∧ vp_in ((16 + (3 * (m_gi M25 u30 (Int32.toNatClampNeg 5)))) + 2) (m_ln M50 u59) ∧ ∀ M63 : Mem, M63 = (m_pi M50 u59 (Int32.toNatClampNeg ((16 + (3 * (m_gi M25 u30 (Int32.toNatClampNeg 5)))) + 2)) x3) → ∃ u73 : Nat, (m_gr M63 a0 0) = some u73 ∧ m_tg M63 u73 = 101 ∧ vp_in 5 (m_ln M63 u73) ∧ vp_in 5 (m_ln M63 u73) ∧ ∀ M78 : Mem, M78 = (m_pi M63 u73 (Int32.toNatClampNeg 5) ((m_gi M63 u73 (Int32.toNatClampNeg 5)) + 1)) → wp_X4_laysWays g M78 a0 (fun (M89 : Mem) => m_le M78 M89 → Q (m_gi M25 u30 (Int32.toNatClampNeg 5)) M89))) ∧ ((m_gi M9 u20 (Int32.toNatClampNeg 5)) = 30 → Q (-3) M9))) ∧ (¬ 100000 ≤ (m_gi M9 u15 (Int32.toNatClampNeg ((12 * x1) + x2))) → Q (-4) M9))) ∧ (x1 = x2 → Q (-2) M9)))))) ∧ (r7 = 0 → Q (-1) M5))))))
theorem bk_X4_addRoad_0 (G : Gp) (C : m_Cx) (n0 s0 : Nat) (M0 : Mem) (Q : Int32 → Mem → Prop) (X : m_in G C RX4 cX4_addRoad 5 (some .int) "addRoad" 2 45 n0 s0) (M : Mem) (a0 : Nat) (x1 : Int32) (x2 : Int32) (x3 : Int32) (hw : wp_X4_addRoad G.2 M a0 x1 x2 x3 Q) : pW G C 5 n0 s0 M0 (m_Q G C n0 s0 (va_Qi (m_q1 M0 Q) (m_W G) (m_A G))) M 0 [(0, vR (some a0)), (1, vI x1), (2, vI x2), (3, vI x3)] [] := by
  refine pw_iload_n X dX4_addRoad_0 rfl rfl ?_
  refine pw_runi X (m_cS X (met_X4_isArea G C.2.1 M x1 _ hw) (lw_S q1996 q1997 q107 q1998) nh_X4_isArea ⟨Nat.le_of_ble_eq_true rfl, Nat.le_of_ble_eq_true rfl⟩ rfl (Nat.le_of_ble_eq_true rfl) dX4_addRoad_1) (fun r3 M1 hle2 hx => ?_)
  replace hw := hx hle2
  clear hx
  refine pw_if_eq X 14 dX4_addRoad_4 (by decide) (fun c4 => ?_) (fun c4 => ?_)
  · replace hw := hw.1 c4
    refine pw_iconst X (-1) dX4_addRoad_14 (by decide) ?_
    exact pw_iret X hw dX4_addRoad_15
  · replace hw := hw.2 c4
    refine pw_iload_n X dX4_addRoad_7 rfl rfl ?_
    refine pw_runi X (m_cS X (met_X4_isArea G C.2.1 M1 x2 _ hw) (lw_S q1996 q1997 q107 q1998) nh_X4_isArea ⟨Nat.le_of_ble_eq_true rfl, Nat.le_of_ble_eq_true rfl⟩ rfl (Nat.le_of_ble_eq_true rfl) dX4_addRoad_8) (fun r7 M5 hle6 hx => ?_)
    replace hw := hx hle6
    clear hx
    refine pw_if_ne X 16 dX4_addRoad_11 (by decide) (fun c8 => ?_) (fun c8 => ?_)
    · replace hw := hw.1 c8
      refine pw_iload_n X dX4_addRoad_16 rfl rfl ?_
      refine pw_iconst X 1 dX4_addRoad_17 (by decide) ?_
      refine pw_bipush X 60 dX4_addRoad_18 (by decide) ?_
      refine pw_runi X (m_cS X (met_X4_in G C.2.1 M5 x3 1 60 _ hw) (lw_S q1999 q2000 q107 q2001) nh_X4_in ⟨Nat.le_of_ble_eq_true rfl, Nat.le_of_ble_eq_true rfl⟩ rfl (Nat.le_of_ble_eq_true rfl) dX4_addRoad_20) (fun r11 M9 hle10 hx => ?_)
      replace hw := hx hle10
      clear hx
      refine pw_if_eq X 31 dX4_addRoad_23 (by decide) (fun c12 => ?_) (fun c12 => ?_)
      · replace hw := hw.1 c12
        refine pw_bipush X (-2) dX4_addRoad_31 (by decide) ?_
        exact pw_iret X hw dX4_addRoad_33
      · replace hw := hw.2 c12
        refine pw_iload_n X dX4_addRoad_26 rfl rfl ?_
        refine pw_iload_n X dX4_addRoad_27 rfl rfl ?_
        refine pw_icmp_ne X 34 dX4_addRoad_28 (by decide) (fun c13 => ?_) (fun c13 => ?_)
        · replace hw := hw.1 c13
          refine pw_aload_n X dX4_addRoad_34 rfl rfl ?_
          obtain ⟨ht14, hw⟩ := hw
          obtain ⟨u15, he16, hw⟩ := hw
          refine pw_get X (q := (RX4, TX4, tyX4, 15)) (ci := 4) (k := 8) (ref := "PatrolDeskModel") (vR (some u15)) ht14 rfl (by decide) in_X4 q1954 (Or.inl rfl) (by rw [he16]; rfl) dX4_addRoad_35 ?_
          refine pw_bipush X 12 dX4_addRoad_38 (by decide) ?_
          refine pw_iload_n X dX4_addRoad_40 rfl rfl ?_
          refine pw_imul X dX4_addRoad_41 ?_
          refine pw_iload_n X dX4_addRoad_42 rfl rfl ?_
          refine pw_iadd X dX4_addRoad_43 ?_
          obtain ⟨ht17, hw⟩ := hw
          obtain ⟨hi18, hw⟩ := hw
          refine pw_iald X ht17 hi18 dX4_addRoad_44 ?_
          refine pw_ldc X 100000 q1945 dX4_addRoad_45 ?_
          refine pw_icmp_ge X 53 dX4_addRoad_47 (by decide) (fun c19 => ?_) (fun c19 => ?_)
          · replace hw := hw.1 c19
            refine pw_aload_n X dX4_addRoad_53 rfl rfl ?_
            obtain ⟨u20, he21, hw⟩ := hw
            refine pw_get X (q := (RX4, TX4, tyX4, 15)) (ci := 4) (k := 0) (ref := "PatrolDeskModel") (vR (some u20)) ht14 rfl (by decide) in_X4 q1946 (Or.inl rfl) (by rw [he21]; rfl) dX4_addRoad_54 ?_
            refine pw_iconst X 5 dX4_addRoad_57 (by decide) ?_
            obtain ⟨ht22, hw⟩ := hw
            obtain ⟨hi23, hw⟩ := hw
            refine pw_iald X ht22 hi23 dX4_addRoad_58 ?_
            refine pw_bipush X 30 dX4_addRoad_59 (by decide) ?_
            refine pw_icmp_ne X 67 dX4_addRoad_61 (by decide) (fun c24 => ?_) (fun c24 => ?_)
            · replace hw := hw.1 c24
              refine pw_aload_n X dX4_addRoad_67 rfl rfl ?_
              refine pw_runv X (m_cV X (b := a0) (ci := 4) (q := (RX4, TX4, tyX4, 15)) (met_X4_records G C.2.1 M9 a0 _ hw) ht14 rfl (lw_V q2002 q2004 qs38 q107 q2005) ⟨rfl, nh_X4_records⟩ ⟨Nat.le_of_ble_eq_true rfl, Nat.le_of_ble_eq_true rfl⟩ rfl (Nat.le_of_ble_eq_true rfl) dX4_addRoad_68) (fun M25 hle26 hx => ?_)
              replace hw := hx hle26
              clear hx
              have ht27 : m_tg M25 a0 = 5 := m_le_tg hle26 ht14
              have ht28 : m_tg M25 u15 = 101 := m_le_tg hle26 ht17
              have ht29 : m_tg M25 u20 = 101 := m_le_tg hle26 ht22
              refine pw_aload_n X dX4_addRoad_71 rfl rfl ?_
              obtain ⟨u30, he31, hw⟩ := hw
              refine pw_get X (q := (RX4, TX4, tyX4, 15)) (ci := 4) (k := 0) (ref := "PatrolDeskModel") (vR (some u30)) ht27 rfl (by decide) in_X4 q1946 (Or.inl rfl) (by rw [he31]; rfl) dX4_addRoad_72 ?_
              refine pw_iconst X 5 dX4_addRoad_75 (by decide) ?_
              obtain ⟨ht32, hw⟩ := hw
              obtain ⟨hi33, hw⟩ := hw
              refine pw_iald X ht32 hi33 dX4_addRoad_76 ?_
              refine pw_istore X [(0, vR (some a0)), (1, vI x1), (2, vI x2), (3, vI x3), (4, vI (m_gi M25 u30 (Int32.toNatClampNeg 5)))] [1, 2, 3, 4, 0] dX4_addRoad_77 (by decide) rfl ?_
              refine pw_aload_n X dX4_addRoad_79 rfl rfl ?_
              obtain ⟨u34, he35, hw⟩ := hw
              refine pw_get X (q := (RX4, TX4, tyX4, 15)) (ci := 4) (k := 0) (ref := "PatrolDeskModel") (vR (some u34)) ht27 rfl (by decide) in_X4 q1946 (Or.inl rfl) (by rw [he35]; rfl) dX4_addRoad_80 ?_
              refine pw_bipush X 16 dX4_addRoad_83 (by decide) ?_
              refine pw_iconst X 3 dX4_addRoad_85 (by decide) ?_
              refine pw_iload X dX4_addRoad_86 rfl ?_
              refine pw_imul X dX4_addRoad_88 ?_
              refine pw_iadd X dX4_addRoad_89 ?_
              refine pw_iload_n X dX4_addRoad_90 rfl rfl ?_
              obtain ⟨ht36, hw⟩ := hw
              obtain ⟨hi37, hw⟩ := hw
              obtain ⟨M38, hM39⟩ : ∃ z : Mem, z = (m_pi M25 u34 (Int32.toNatClampNeg (16 + (3 * (m_gi M25 u30 (Int32.toNatClampNeg 5))))) x1) := ⟨_, rfl⟩
              replace hw := hw M38 hM39
              have hle40 : m_le M25 M38 := by rw [hM39]; exact m_le_pi
              refine pw_iast X ht36 hi37 dX4_addRoad_91 ?_
              rw [← hM39]
              have ht41 : m_tg M38 a0 = 5 := m_le_tg hle40 ht27
              have ht42 : m_tg M38 u15 = 101 := m_le_tg hle40 ht28
              have ht43 : m_tg M38 u20 = 101 := m_le_tg hle40 ht29
              have ht44 : m_tg M38 u30 = 101 := m_le_tg hle40 ht32
              have ht45 : m_tg M38 u34 = 101 := m_le_tg hle40 ht36
              refine pw_aload_n X dX4_addRoad_92 rfl rfl ?_
              obtain ⟨u46, he47, hw⟩ := hw
              refine pw_get X (q := (RX4, TX4, tyX4, 15)) (ci := 4) (k := 0) (ref := "PatrolDeskModel") (vR (some u46)) ht41 rfl (by decide) in_X4 q1946 (Or.inl rfl) (by rw [he47]; rfl) dX4_addRoad_93 ?_
              refine pw_bipush X 16 dX4_addRoad_96 (by decide) ?_
              refine pw_iconst X 3 dX4_addRoad_98 (by decide) ?_
              refine pw_iload X dX4_addRoad_99 rfl ?_
              refine pw_imul X dX4_addRoad_101 ?_
              refine pw_iadd X dX4_addRoad_102 ?_
              refine pw_iconst X 1 dX4_addRoad_103 (by decide) ?_
              refine pw_iadd X dX4_addRoad_104 ?_
              refine pw_iload_n X dX4_addRoad_105 rfl rfl ?_
              obtain ⟨ht48, hw⟩ := hw
              obtain ⟨hi49, hw⟩ := hw
              obtain ⟨M50, hM51⟩ : ∃ z : Mem, z = (m_pi M38 u46 (Int32.toNatClampNeg ((16 + (3 * (m_gi M25 u30 (Int32.toNatClampNeg 5)))) + 1)) x2) := ⟨_, rfl⟩
              replace hw := hw M50 hM51
              have hle52 : m_le M38 M50 := by rw [hM51]; exact m_le_pi
              refine pw_iast X ht48 hi49 dX4_addRoad_106 ?_
              rw [← hM51]
              have ht53 : m_tg M50 a0 = 5 := m_le_tg hle52 ht41
              have ht54 : m_tg M50 u15 = 101 := m_le_tg hle52 ht42
              have ht55 : m_tg M50 u20 = 101 := m_le_tg hle52 ht43
              have ht56 : m_tg M50 u30 = 101 := m_le_tg hle52 ht44
              have ht57 : m_tg M50 u34 = 101 := m_le_tg hle52 ht45
              have ht58 : m_tg M50 u46 = 101 := m_le_tg hle52 ht48
              refine pw_aload_n X dX4_addRoad_107 rfl rfl ?_
              obtain ⟨u59, he60, hw⟩ := hw
              refine pw_get X (q := (RX4, TX4, tyX4, 15)) (ci := 4) (k := 0) (ref := "PatrolDeskModel") (vR (some u59)) ht53 rfl (by decide) in_X4 q1946 (Or.inl rfl) (by rw [he60]; rfl) dX4_addRoad_108 ?_
              refine pw_bipush X 16 dX4_addRoad_111 (by decide) ?_
              refine pw_iconst X 3 dX4_addRoad_113 (by decide) ?_
              refine pw_iload X dX4_addRoad_114 rfl ?_
              refine pw_imul X dX4_addRoad_116 ?_
              refine pw_iadd X dX4_addRoad_117 ?_
              refine pw_iconst X 2 dX4_addRoad_118 (by decide) ?_
              refine pw_iadd X dX4_addRoad_119 ?_
              refine pw_iload_n X dX4_addRoad_120 rfl rfl ?_
              obtain ⟨ht61, hw⟩ := hw
              obtain ⟨hi62, hw⟩ := hw
              obtain ⟨M63, hM64⟩ : ∃ z : Mem, z = (m_pi M50 u59 (Int32.toNatClampNeg ((16 + (3 * (m_gi M25 u30 (Int32.toNatClampNeg 5)))) + 2)) x3) := ⟨_, rfl⟩
              replace hw := hw M63 hM64
              have hle65 : m_le M50 M63 := by rw [hM64]; exact m_le_pi
              refine pw_iast X ht61 hi62 dX4_addRoad_121 ?_
              rw [← hM64]
              have ht66 : m_tg M63 a0 = 5 := m_le_tg hle65 ht53
              have ht67 : m_tg M63 u15 = 101 := m_le_tg hle65 ht54
              have ht68 : m_tg M63 u20 = 101 := m_le_tg hle65 ht55
              have ht69 : m_tg M63 u30 = 101 := m_le_tg hle65 ht56
              have ht70 : m_tg M63 u34 = 101 := m_le_tg hle65 ht57
              have ht71 : m_tg M63 u46 = 101 := m_le_tg hle65 ht58
              have ht72 : m_tg M63 u59 = 101 := m_le_tg hle65 ht61
              refine pw_aload_n X dX4_addRoad_122 rfl rfl ?_
              obtain ⟨u73, he74, hw⟩ := hw
              refine pw_get X (q := (RX4, TX4, tyX4, 15)) (ci := 4) (k := 0) (ref := "PatrolDeskModel") (vR (some u73)) ht66 rfl (by decide) in_X4 q1946 (Or.inl rfl) (by rw [he74]; rfl) dX4_addRoad_123 ?_
              refine pw_iconst X 5 dX4_addRoad_126 (by decide) ?_
              refine pw_dup2 X dX4_addRoad_127 ?_
              obtain ⟨ht75, hw⟩ := hw
              obtain ⟨hi76, hw⟩ := hw
              refine pw_iald X ht75 hi76 dX4_addRoad_128 ?_
              refine pw_iconst X 1 dX4_addRoad_129 (by decide) ?_
              refine pw_iadd X dX4_addRoad_130 ?_
              obtain ⟨hi77, hw⟩ := hw
              obtain ⟨M78, hM79⟩ : ∃ z : Mem, z = (m_pi M63 u73 (Int32.toNatClampNeg 5) ((m_gi M63 u73 (Int32.toNatClampNeg 5)) + 1)) := ⟨_, rfl⟩
              replace hw := hw M78 hM79
              have hle80 : m_le M63 M78 := by rw [hM79]; exact m_le_pi
              refine pw_iast X ht75 hi77 dX4_addRoad_131 ?_
              rw [← hM79]
              have ht81 : m_tg M78 a0 = 5 := m_le_tg hle80 ht66
              have ht82 : m_tg M78 u15 = 101 := m_le_tg hle80 ht67
              have ht83 : m_tg M78 u20 = 101 := m_le_tg hle80 ht68
              have ht84 : m_tg M78 u30 = 101 := m_le_tg hle80 ht69
              have ht85 : m_tg M78 u34 = 101 := m_le_tg hle80 ht70
              have ht86 : m_tg M78 u46 = 101 := m_le_tg hle80 ht71
              have ht87 : m_tg M78 u59 = 101 := m_le_tg hle80 ht72
              have ht88 : m_tg M78 u73 = 101 := m_le_tg hle80 ht75
              refine pw_aload_n X dX4_addRoad_132 rfl rfl ?_
              refine pw_runv X (m_cV X (b := a0) (ci := 4) (q := (RX4, TX4, tyX4, 15)) (met_X4_laysWays G C.2.1 M78 a0 _ hw) ht81 rfl (lw_V q1941 q1943 qs37 q107 q1944) ⟨rfl, nh_X4_laysWays⟩ ⟨Nat.le_of_ble_eq_true rfl, Nat.le_of_ble_eq_true rfl⟩ rfl (Nat.le_of_ble_eq_true rfl) dX4_addRoad_133) (fun M89 hle90 hx => ?_)
              replace hw := hx hle90
              clear hx
              have ht91 : m_tg M89 a0 = 5 := m_le_tg hle90 ht81
              have ht92 : m_tg M89 u15 = 101 := m_le_tg hle90 ht82
              have ht93 : m_tg M89 u20 = 101 := m_le_tg hle90 ht83
              have ht94 : m_tg M89 u30 = 101 := m_le_tg hle90 ht84
              have ht95 : m_tg M89 u34 = 101 := m_le_tg hle90 ht85
              have ht96 : m_tg M89 u46 = 101 := m_le_tg hle90 ht86
              have ht97 : m_tg M89 u59 = 101 := m_le_tg hle90 ht87
              have ht98 : m_tg M89 u73 = 101 := m_le_tg hle90 ht88
              refine pw_iload X dX4_addRoad_136 rfl ?_
              exact pw_iret X hw dX4_addRoad_138
            · replace hw := hw.2 c24
              refine pw_bipush X (-3) dX4_addRoad_64 (by decide) ?_
              exact pw_iret X hw dX4_addRoad_66
          · replace hw := hw.2 c19
            refine pw_bipush X (-4) dX4_addRoad_50 (by decide) ?_
            exact pw_iret X hw dX4_addRoad_52
        · replace hw := hw.2 c13
          refine pw_bipush X (-2) dX4_addRoad_31 (by decide) ?_
          exact pw_iret X hw dX4_addRoad_33
    · replace hw := hw.2 c8
      refine pw_iconst X (-1) dX4_addRoad_14 (by decide) ?_
      exact pw_iret X hw dX4_addRoad_15
theorem met_X4_addRoad (G : Gp) (l : Launch) (M : Mem) (a0 : Nat) (x1 : Int32) (x2 : Int32) (x3 : Int32) (Q : Int32 → Mem → Prop) (hw : wp_X4_addRoad G.2 M a0 x1 x2 x3 Q) : m_K G l yX4_addRoad cX4_addRoad 5 (some .int) 2 45 [vR (some a0), vI x1, vI x2, vI x3] M (va_Qi (m_q1 M Q) (m_W G) (m_A G)) := by
  refine m_met (by decide) (Nat.le_of_ble_eq_true rfl) (fun C e X => ?_)
  exact bk_X4_addRoad_0 G C _ _ M Q X M a0 x1 x2 x3 hw
theorem nh_X4_addRoad : m_nMH yX4_addRoad 3 := by decide +kernel

def wp_X4_addMember (g : Nat → Nat) (M : Mem) (a0 : Nat) (x1 : Int32) (Q : Int32 → Mem → Prop) : Prop := wp_X4_in g M x1 0 2 (fun (r3 : Int32) (M1 : Mem) => m_le M M1 → ((¬ r3 = 0 → m_tg M1 a0 = 5 ∧ ∃ u6 : Nat, (m_gr M1 a0 0) = some u6 ∧ m_tg M1 u6 = 101 ∧ vp_in 6 (m_ln M1 u6) ∧ ((¬ (m_gi M1 u6 (Int32.toNatClampNeg 6)) = 20 → wp_X4_records g M1 a0 (fun (M11 : Mem) => m_le M1 M11 → ∃ u15 : Nat, (m_gr M11 a0 0) = some u15 ∧ ∃ u17 : Nat, (m_gr M11 a0 0) = some u17 ∧ m_tg M11 u17 = 101 ∧ vp_in 6 (m_ln M11 u17) ∧ m_tg M11 u15 = 101 ∧ vp_in (106 + (4 * (m_gi M11 u17 (Int32.toNatClampNeg 6)))) (m_ln M11 u15) ∧ ∀ M23 : Mem, M23 = (m_pi M11 u15 (Int32.toNatClampNeg (106 + (4 * (m_gi M11 u17 (Int32.toNatClampNeg 6))))) x1) → ∃ u30 : Nat, (m_gr M23 a0 0) = some u30 ∧ m_tg M23 u30 = 101 ∧ vp_in 6 (m_ln M23 u30) ∧ vp_in 6 (m_ln M23 u30) ∧ ∀ M35 : Mem, M35 = (m_pi M23 u30 (Int32.toNatClampNeg 6) ((m_gi M23 u30 (Int32.toNatClampNeg 6)) + 1)) → ∃ u43 : Nat, (m_gr M35 a0 0) = some u43 ∧ m_tg M35 u43 = 101 ∧ vp_in 6 (m_ln M35 u43) ∧ Q ((m_gi M35 u43 (Int32.toNatClampNeg 6)) - 1) M35)) ∧ ((m_gi M1 u6 (Int32.toNatClampNeg 6)) = 20 → Q (-3) M1))) ∧ (r3 = 0 → Q (-2) M1)))
theorem bk_X4_addMember_0 (G : Gp) (C : m_Cx) (n0 s0 : Nat) (M0 : Mem) (Q : Int32 → Mem → Prop) (X : m_in G C RX4 cX4_addMember 2 (some .int) "addMember" 2 45 n0 s0) (M : Mem) (a0 : Nat) (x1 : Int32) (hw : wp_X4_addMember G.2 M a0 x1 Q) : pW G C 2 n0 s0 M0 (m_Q G C n0 s0 (va_Qi (m_q1 M0 Q) (m_W G) (m_A G))) M 0 [(0, vR (some a0)), (1, vI x1)] [] := by
  refine pw_iload_n X dX4_addMember_0 rfl rfl ?_
  refine pw_iconst X 0 dX4_addMember_1 (by decide) ?_
  refine pw_iconst X 2 dX4_addMember_2 (by decide) ?_
  refine pw_runi X (m_cS X (met_X4_in G C.2.1 M x1 0 2 _ hw) (lw_S q1999 q2000 q107 q2001) nh_X4_in ⟨Nat.le_of_ble_eq_true rfl, Nat.le_of_ble_eq_true rfl⟩ rfl (Nat.le_of_ble_eq_true rfl) dX4_addMember_3) (fun r3 M1 hle2 hx => ?_)
  replace hw := hx hle2
  clear hx
  refine pw_if_ne X 12 dX4_addMember_6 (by decide) (fun c4 => ?_) (fun c4 => ?_)
  · replace hw := hw.1 c4
    refine pw_aload_n X dX4_addMember_12 rfl rfl ?_
    obtain ⟨ht5, hw⟩ := hw
    obtain ⟨u6, he7, hw⟩ := hw
    refine pw_get X (q := (RX4, TX4, tyX4, 15)) (ci := 4) (k := 0) (ref := "PatrolDeskModel") (vR (some u6)) ht5 rfl (by decide) in_X4 q1946 (Or.inl rfl) (by rw [he7]; rfl) dX4_addMember_13 ?_
    refine pw_bipush X 6 dX4_addMember_16 (by decide) ?_
    obtain ⟨ht8, hw⟩ := hw
    obtain ⟨hi9, hw⟩ := hw
    refine pw_iald X ht8 hi9 dX4_addMember_18 ?_
    refine pw_bipush X 20 dX4_addMember_19 (by decide) ?_
    refine pw_icmp_ne X 27 dX4_addMember_21 (by decide) (fun c10 => ?_) (fun c10 => ?_)
    · replace hw := hw.1 c10
      refine pw_aload_n X dX4_addMember_27 rfl rfl ?_
      refine pw_runv X (m_cV X (b := a0) (ci := 4) (q := (RX4, TX4, tyX4, 15)) (met_X4_records G C.2.1 M1 a0 _ hw) ht5 rfl (lw_V q2002 q2004 qs38 q107 q2005) ⟨rfl, nh_X4_records⟩ ⟨Nat.le_of_ble_eq_true rfl, Nat.le_of_ble_eq_true rfl⟩ rfl (Nat.le_of_ble_eq_true rfl) dX4_addMember_28) (fun M11 hle12 hx => ?_)
      replace hw := hx hle12
      clear hx
      have ht13 : m_tg M11 a0 = 5 := m_le_tg hle12 ht5
      have ht14 : m_tg M11 u6 = 101 := m_le_tg hle12 ht8
      refine pw_aload_n X dX4_addMember_31 rfl rfl ?_
      obtain ⟨u15, he16, hw⟩ := hw
      refine pw_get X (q := (RX4, TX4, tyX4, 15)) (ci := 4) (k := 0) (ref := "PatrolDeskModel") (vR (some u15)) ht13 rfl (by decide) in_X4 q1946 (Or.inl rfl) (by rw [he16]; rfl) dX4_addMember_32 ?_
      refine pw_bipush X 106 dX4_addMember_35 (by decide) ?_
      refine pw_iconst X 4 dX4_addMember_37 (by decide) ?_
      refine pw_aload_n X dX4_addMember_38 rfl rfl ?_
      obtain ⟨u17, he18, hw⟩ := hw
      refine pw_get X (q := (RX4, TX4, tyX4, 15)) (ci := 4) (k := 0) (ref := "PatrolDeskModel") (vR (some u17)) ht13 rfl (by decide) in_X4 q1946 (Or.inl rfl) (by rw [he18]; rfl) dX4_addMember_39 ?_
      refine pw_bipush X 6 dX4_addMember_42 (by decide) ?_
      obtain ⟨ht19, hw⟩ := hw
      obtain ⟨hi20, hw⟩ := hw
      refine pw_iald X ht19 hi20 dX4_addMember_44 ?_
      refine pw_imul X dX4_addMember_45 ?_
      refine pw_iadd X dX4_addMember_46 ?_
      refine pw_iload_n X dX4_addMember_47 rfl rfl ?_
      obtain ⟨ht21, hw⟩ := hw
      obtain ⟨hi22, hw⟩ := hw
      obtain ⟨M23, hM24⟩ : ∃ z : Mem, z = (m_pi M11 u15 (Int32.toNatClampNeg (106 + (4 * (m_gi M11 u17 (Int32.toNatClampNeg 6))))) x1) := ⟨_, rfl⟩
      replace hw := hw M23 hM24
      have hle25 : m_le M11 M23 := by rw [hM24]; exact m_le_pi
      refine pw_iast X ht21 hi22 dX4_addMember_48 ?_
      rw [← hM24]
      have ht26 : m_tg M23 a0 = 5 := m_le_tg hle25 ht13
      have ht27 : m_tg M23 u6 = 101 := m_le_tg hle25 ht14
      have ht28 : m_tg M23 u17 = 101 := m_le_tg hle25 ht19
      have ht29 : m_tg M23 u15 = 101 := m_le_tg hle25 ht21
      refine pw_aload_n X dX4_addMember_49 rfl rfl ?_
      obtain ⟨u30, he31, hw⟩ := hw
      refine pw_get X (q := (RX4, TX4, tyX4, 15)) (ci := 4) (k := 0) (ref := "PatrolDeskModel") (vR (some u30)) ht26 rfl (by decide) in_X4 q1946 (Or.inl rfl) (by rw [he31]; rfl) dX4_addMember_50 ?_
      refine pw_bipush X 6 dX4_addMember_53 (by decide) ?_
      refine pw_dup2 X dX4_addMember_55 ?_
      obtain ⟨ht32, hw⟩ := hw
      obtain ⟨hi33, hw⟩ := hw
      refine pw_iald X ht32 hi33 dX4_addMember_56 ?_
      refine pw_iconst X 1 dX4_addMember_57 (by decide) ?_
      refine pw_iadd X dX4_addMember_58 ?_
      obtain ⟨hi34, hw⟩ := hw
      obtain ⟨M35, hM36⟩ : ∃ z : Mem, z = (m_pi M23 u30 (Int32.toNatClampNeg 6) ((m_gi M23 u30 (Int32.toNatClampNeg 6)) + 1)) := ⟨_, rfl⟩
      replace hw := hw M35 hM36
      have hle37 : m_le M23 M35 := by rw [hM36]; exact m_le_pi
      refine pw_iast X ht32 hi34 dX4_addMember_59 ?_
      rw [← hM36]
      have ht38 : m_tg M35 a0 = 5 := m_le_tg hle37 ht26
      have ht39 : m_tg M35 u6 = 101 := m_le_tg hle37 ht27
      have ht40 : m_tg M35 u17 = 101 := m_le_tg hle37 ht28
      have ht41 : m_tg M35 u15 = 101 := m_le_tg hle37 ht29
      have ht42 : m_tg M35 u30 = 101 := m_le_tg hle37 ht32
      refine pw_aload_n X dX4_addMember_60 rfl rfl ?_
      obtain ⟨u43, he44, hw⟩ := hw
      refine pw_get X (q := (RX4, TX4, tyX4, 15)) (ci := 4) (k := 0) (ref := "PatrolDeskModel") (vR (some u43)) ht38 rfl (by decide) in_X4 q1946 (Or.inl rfl) (by rw [he44]; rfl) dX4_addMember_61 ?_
      refine pw_bipush X 6 dX4_addMember_64 (by decide) ?_
      obtain ⟨ht45, hw⟩ := hw
      obtain ⟨hi46, hw⟩ := hw
      refine pw_iald X ht45 hi46 dX4_addMember_66 ?_
      refine pw_iconst X 1 dX4_addMember_67 (by decide) ?_
      refine pw_isub X dX4_addMember_68 ?_
      exact pw_iret X hw dX4_addMember_69
    · replace hw := hw.2 c10
      refine pw_bipush X (-3) dX4_addMember_24 (by decide) ?_
      exact pw_iret X hw dX4_addMember_26
  · replace hw := hw.2 c4
    refine pw_bipush X (-2) dX4_addMember_9 (by decide) ?_
    exact pw_iret X hw dX4_addMember_11
theorem met_X4_addMember (G : Gp) (l : Launch) (M : Mem) (a0 : Nat) (x1 : Int32) (Q : Int32 → Mem → Prop) (hw : wp_X4_addMember G.2 M a0 x1 Q) : m_K G l yX4_addMember cX4_addMember 2 (some .int) 2 45 [vR (some a0), vI x1] M (va_Qi (m_q1 M Q) (m_W G) (m_A G)) := by
  refine m_met (by decide) (Nat.le_of_ble_eq_true rfl) (fun C e X => ?_)
  exact bk_X4_addMember_0 G C _ _ M Q X M a0 x1 hw
theorem nh_X4_addMember : m_nMH yX4_addMember 1 := by decide +kernel

def wp_X4_laysPatrol (g : Nat → Nat) (M : Mem) (a0 : Nat) (x1 : Int32) (x2 : Int32) (x3 : Int32) (Q : Mem → Prop) : Prop := m_tg M a0 = 5 ∧ ∃ u2 : Nat, (m_gr M a0 0) = some u2 ∧ m_tg M u2 = 101 ∧ vp_in ((186 + (14 * x1)) + x2) (m_ln M u2) ∧ ∀ M6 : Mem, M6 = (m_pi M u2 (Int32.toNatClampNeg ((186 + (14 * x1)) + x2)) x3) → Q M6
theorem bk_X4_laysPatrol_0 (G : Gp) (C : m_Cx) (n0 s0 : Nat) (M0 : Mem) (Q : Mem → Prop) (X : m_in G C RX4 cX4_laysPatrol 4 none "laysPatrol" 0 0 n0 s0) (M : Mem) (a0 : Nat) (x1 : Int32) (x2 : Int32) (x3 : Int32) (hw : wp_X4_laysPatrol G.2 M a0 x1 x2 x3 Q) : pW G C 4 n0 s0 M0 (m_Q G C n0 s0 (va_Qv (m_q0 M0 Q) (m_W G) (m_A G))) M 0 [(0, vR (some a0)), (1, vI x1), (2, vI x2), (3, vI x3)] [] := by
  refine pw_aload_n X dX4_laysPatrol_0 rfl rfl ?_
  obtain ⟨ht1, hw⟩ := hw
  obtain ⟨u2, he3, hw⟩ := hw
  refine pw_get X (q := (RX4, TX4, tyX4, 15)) (ci := 4) (k := 0) (ref := "PatrolDeskModel") (vR (some u2)) ht1 rfl (by decide) in_X4 q1946 (Or.inl rfl) (by rw [he3]; rfl) dX4_laysPatrol_1 ?_
  refine pw_sipush X 186 dX4_laysPatrol_4 (by decide) ?_
  refine pw_bipush X 14 dX4_laysPatrol_7 (by decide) ?_
  refine pw_iload_n X dX4_laysPatrol_9 rfl rfl ?_
  refine pw_imul X dX4_laysPatrol_10 ?_
  refine pw_iadd X dX4_laysPatrol_11 ?_
  refine pw_iload_n X dX4_laysPatrol_12 rfl rfl ?_
  refine pw_iadd X dX4_laysPatrol_13 ?_
  refine pw_iload_n X dX4_laysPatrol_14 rfl rfl ?_
  obtain ⟨ht4, hw⟩ := hw
  obtain ⟨hi5, hw⟩ := hw
  obtain ⟨M6, hM7⟩ : ∃ z : Mem, z = (m_pi M u2 (Int32.toNatClampNeg ((186 + (14 * x1)) + x2)) x3) := ⟨_, rfl⟩
  replace hw := hw M6 hM7
  have hle8 : m_le M M6 := by rw [hM7]; exact m_le_pi
  refine pw_iast X ht4 hi5 dX4_laysPatrol_15 ?_
  rw [← hM7]
  have ht9 : m_tg M6 a0 = 5 := m_le_tg hle8 ht1
  have ht10 : m_tg M6 u2 = 101 := m_le_tg hle8 ht4
  exact pw_vret X hw dX4_laysPatrol_16
theorem met_X4_laysPatrol (G : Gp) (l : Launch) (M : Mem) (a0 : Nat) (x1 : Int32) (x2 : Int32) (x3 : Int32) (Q : Mem → Prop) (hw : wp_X4_laysPatrol G.2 M a0 x1 x2 x3 Q) : m_K G l yX4_laysPatrol cX4_laysPatrol 4 none 0 0 [vR (some a0), vI x1, vI x2, vI x3] M (va_Qv (m_q0 M Q) (m_W G) (m_A G)) := by
  refine m_met (by decide) (Nat.le_of_ble_eq_true rfl) (fun C e X => ?_)
  exact bk_X4_laysPatrol_0 G C _ _ M Q X M a0 x1 x2 x3 hw
theorem nh_X4_laysPatrol : m_nMH yX4_laysPatrol 3 := by decide +kernel

def wp_X4_frees (g : Nat → Nat) (M : Mem) (a0 : Nat) (x1 : Int32) (Q : Mem → Prop) : Prop := m_tg M a0 = 5 ∧ wp_X4_laysPatrol g M a0 x1 3 0 (fun (M2 : Mem) => m_le M M2 → wp_X4_laysPatrol g M2 a0 x1 5 (-5) (fun (M5 : Mem) => m_le M2 M5 → wp_X4_laysPatrol g M5 a0 x1 6 (-5) (fun (M8 : Mem) => m_le M5 M8 → Q M8)))
theorem bk_X4_frees_0 (G : Gp) (C : m_Cx) (n0 s0 : Nat) (M0 : Mem) (Q : Mem → Prop) (X : m_in G C RX4 cX4_frees 2 none "frees" 1 23 n0 s0) (M : Mem) (a0 : Nat) (x1 : Int32) (hw : wp_X4_frees G.2 M a0 x1 Q) : pW G C 2 n0 s0 M0 (m_Q G C n0 s0 (va_Qv (m_q0 M0 Q) (m_W G) (m_A G))) M 0 [(0, vR (some a0)), (1, vI x1)] [] := by
  refine pw_aload_n X dX4_frees_0 rfl rfl ?_
  refine pw_iload_n X dX4_frees_1 rfl rfl ?_
  refine pw_iconst X 3 dX4_frees_2 (by decide) ?_
  refine pw_iconst X 0 dX4_frees_3 (by decide) ?_
  obtain ⟨ht1, hw⟩ := hw
  refine pw_runv X (m_cV X (b := a0) (ci := 4) (q := (RX4, TX4, tyX4, 15)) (met_X4_laysPatrol G C.2.1 M a0 x1 3 0 _ hw) ht1 rfl (lw_V q2017 q2019 qs39 q107 q2020) ⟨rfl, nh_X4_laysPatrol⟩ ⟨Nat.le_of_ble_eq_true rfl, Nat.le_of_ble_eq_true rfl⟩ rfl (Nat.le_of_ble_eq_true rfl) dX4_frees_4) (fun M2 hle3 hx => ?_)
  replace hw := hx hle3
  clear hx
  have ht4 : m_tg M2 a0 = 5 := m_le_tg hle3 ht1
  refine pw_aload_n X dX4_frees_7 rfl rfl ?_
  refine pw_iload_n X dX4_frees_8 rfl rfl ?_
  refine pw_iconst X 5 dX4_frees_9 (by decide) ?_
  refine pw_bipush X (-5) dX4_frees_10 (by decide) ?_
  refine pw_runv X (m_cV X (b := a0) (ci := 4) (q := (RX4, TX4, tyX4, 15)) (met_X4_laysPatrol G C.2.1 M2 a0 x1 5 (-5) _ hw) ht4 rfl (lw_V q2017 q2019 qs39 q107 q2020) ⟨rfl, nh_X4_laysPatrol⟩ ⟨Nat.le_of_ble_eq_true rfl, Nat.le_of_ble_eq_true rfl⟩ rfl (Nat.le_of_ble_eq_true rfl) dX4_frees_12) (fun M5 hle6 hx => ?_)
  replace hw := hx hle6
  clear hx
  have ht7 : m_tg M5 a0 = 5 := m_le_tg hle6 ht4
  refine pw_aload_n X dX4_frees_15 rfl rfl ?_
  refine pw_iload_n X dX4_frees_16 rfl rfl ?_
  refine pw_bipush X 6 dX4_frees_17 (by decide) ?_
  refine pw_bipush X (-5) dX4_frees_19 (by decide) ?_
  refine pw_runv X (m_cV X (b := a0) (ci := 4) (q := (RX4, TX4, tyX4, 15)) (met_X4_laysPatrol G C.2.1 M5 a0 x1 6 (-5) _ hw) ht7 rfl (lw_V q2017 q2019 qs39 q107 q2020) ⟨rfl, nh_X4_laysPatrol⟩ ⟨Nat.le_of_ble_eq_true rfl, Nat.le_of_ble_eq_true rfl⟩ rfl (Nat.le_of_ble_eq_true rfl) dX4_frees_21) (fun M8 hle9 hx => ?_)
  replace hw := hx hle9
  clear hx
  have ht10 : m_tg M8 a0 = 5 := m_le_tg hle9 ht7
  exact pw_vret X hw dX4_frees_24
theorem met_X4_frees (G : Gp) (l : Launch) (M : Mem) (a0 : Nat) (x1 : Int32) (Q : Mem → Prop) (hw : wp_X4_frees G.2 M a0 x1 Q) : m_K G l yX4_frees cX4_frees 2 none 1 23 [vR (some a0), vI x1] M (va_Qv (m_q0 M Q) (m_W G) (m_A G)) := by
  refine m_met (by decide) (Nat.le_of_ble_eq_true rfl) (fun C e X => ?_)
  exact bk_X4_frees_0 G C _ _ M Q X M a0 x1 hw
theorem nh_X4_frees : m_nMH yX4_frees 1 := by decide +kernel

def wp_X4_addPatrol_b79 (g : Nat → Nat) (M : Mem) (la0 : Nat) (lx1 : Int32) (lx4 : Int32) (sa0 : Nat) (sx1 : Int32) (sx2 : Int32) (sx3 : Int32) (Q : Int32 → Mem → Prop) : Prop := m_tg M sa0 = 5 ∧ wp_X4_laysPatrol g M sa0 sx1 sx2 sx3 (fun (M2 : Mem) => m_le M M2 → m_tg M2 la0 = 5 ∧ wp_X4_laysPatrol g M2 la0 lx4 4 lx1 (fun (M6 : Mem) => m_le M2 M6 → wp_X4_frees g M6 la0 lx4 (fun (M10 : Mem) => m_le M6 M10 → ∃ u14 : Nat, (m_gr M10 la0 0) = some u14 ∧ m_tg M10 u14 = 101 ∧ vp_in 7 (m_ln M10 u14) ∧ vp_in 7 (m_ln M10 u14) ∧ ∀ M19 : Mem, M19 = (m_pi M10 u14 (Int32.toNatClampNeg 7) ((m_gi M10 u14 (Int32.toNatClampNeg 7)) + 1)) → Q lx4 M19)))
def wp_X4_addPatrol (g : Nat → Nat) (M : Mem) (a0 : Nat) (x1 : Int32) (x2 : Int32) (x3 : Int32) (Q : Int32 → Mem → Prop) : Prop := wp_X4_isArea g M x1 (fun (r3 : Int32) (M1 : Mem) => m_le M M1 → ((¬ r3 = 0 → wp_X4_in g M1 x2 1 9 (fun (r7 : Int32) (M5 : Mem) => m_le M1 M5 → ((¬ r7 = 0 → m_tg M5 a0 = 5 ∧ ∃ u10 : Nat, (m_gr M5 a0 0) = some u10 ∧ m_tg M5 u10 = 101 ∧ vp_in 7 (m_ln M5 u10) ∧ ((¬ (m_gi M5 u10 (Int32.toNatClampNeg 7)) = 6 → wp_X4_records g M5 a0 (fun (M15 : Mem) => m_le M5 M15 → ∃ u19 : Nat, (m_gr M15 a0 0) = some u19 ∧ m_tg M15 u19 = 101 ∧ vp_in 7 (m_ln M15 u19) ∧ wp_X4_laysPatrol g M15 a0 (m_gi M15 u19 (Int32.toNatClampNeg 7)) 0 x1 (fun (M23 : Mem) => m_le M15 M23 → wp_X4_laysPatrol g M23 a0 (m_gi M15 u19 (Int32.toNatClampNeg 7)) 1 x2 (fun (M28 : Mem) => m_le M23 M28 → ((x3 = 0 → wp_X4_addPatrol_b79 g M28 a0 x1 (m_gi M15 u19 (Int32.toNatClampNeg 7)) a0 (m_gi M15 u19 (Int32.toNatClampNeg 7)) 2 0 Q) ∧ (¬ x3 = 0 → wp_X4_addPatrol_b79 g M28 a0 x1 (m_gi M15 u19 (Int32.toNatClampNeg 7)) a0 (m_gi M15 u19 (Int32.toNatClampNeg 7)) 2 1 Q)))))) ∧ ((m_gi M5 u10 (Int32.toNatClampNeg 7)) = 6 → Q (-3) M5))) ∧ (r7 = 0 → Q (-2) M5)))) ∧ (r3 = 0 → Q (-1) M1)))
theorem bk_X4_addPatrol_79 (G : Gp) (C : m_Cx) (n0 s0 : Nat) (M0 : Mem) (Q : Int32 → Mem → Prop) (X : m_in G C RX4 cX4_addPatrol 5 (some .int) "addPatrol" 2 45 n0 s0) (M : Mem) (la0 : Nat) (lx1 : Int32) (lx4 : Int32) (sa0 : Nat) (sx1 : Int32) (sx2 : Int32) (sx3 : Int32) (hw : wp_X4_addPatrol_b79 G.2 M la0 lx1 lx4 sa0 sx1 sx2 sx3 Q) : pW G C 5 n0 s0 M0 (m_Q G C n0 s0 (va_Qi (m_q1 M0 Q) (m_W G) (m_A G))) M 79 [(0, vR (some la0)), (1, vI lx1), (4, vI lx4)] [vI sx3, vI sx2, vI sx1, vR (some sa0)] := by
  obtain ⟨ht1, hw⟩ := hw
  refine pw_runv X (m_cV X (b := sa0) (ci := 4) (q := (RX4, TX4, tyX4, 15)) (met_X4_laysPatrol G C.2.1 M sa0 sx1 sx2 sx3 _ hw) ht1 rfl (lw_V q2017 q2019 qs39 q107 q2020) ⟨rfl, nh_X4_laysPatrol⟩ ⟨Nat.le_of_ble_eq_true rfl, Nat.le_of_ble_eq_true rfl⟩ rfl (Nat.le_of_ble_eq_true rfl) dX4_addPatrol_79) (fun M2 hle3 hx => ?_)
  replace hw := hx hle3
  clear hx
  have ht4 : m_tg M2 sa0 = 5 := m_le_tg hle3 ht1
  refine pw_aload_n X dX4_addPatrol_82 rfl rfl ?_
  refine pw_iload X dX4_addPatrol_83 rfl ?_
  refine pw_iconst X 4 dX4_addPatrol_85 (by decide) ?_
  refine pw_iload_n X dX4_addPatrol_86 rfl rfl ?_
  obtain ⟨ht5, hw⟩ := hw
  refine pw_runv X (m_cV X (b := la0) (ci := 4) (q := (RX4, TX4, tyX4, 15)) (met_X4_laysPatrol G C.2.1 M2 la0 lx4 4 lx1 _ hw) ht5 rfl (lw_V q2017 q2019 qs39 q107 q2020) ⟨rfl, nh_X4_laysPatrol⟩ ⟨Nat.le_of_ble_eq_true rfl, Nat.le_of_ble_eq_true rfl⟩ rfl (Nat.le_of_ble_eq_true rfl) dX4_addPatrol_87) (fun M6 hle7 hx => ?_)
  replace hw := hx hle7
  clear hx
  have ht8 : m_tg M6 sa0 = 5 := m_le_tg hle7 ht4
  have ht9 : m_tg M6 la0 = 5 := m_le_tg hle7 ht5
  refine pw_aload_n X dX4_addPatrol_90 rfl rfl ?_
  refine pw_iload X dX4_addPatrol_91 rfl ?_
  refine pw_runv X (m_cV X (b := la0) (ci := 4) (q := (RX4, TX4, tyX4, 15)) (met_X4_frees G C.2.1 M6 la0 lx4 _ hw) ht9 rfl (lw_V q2021 q2023 qs40 q107 q2024) ⟨rfl, nh_X4_frees⟩ ⟨Nat.le_of_ble_eq_true rfl, Nat.le_of_ble_eq_true rfl⟩ rfl (Nat.le_of_ble_eq_true rfl) dX4_addPatrol_93) (fun M10 hle11 hx => ?_)
  replace hw := hx hle11
  clear hx
  have ht12 : m_tg M10 sa0 = 5 := m_le_tg hle11 ht8
  have ht13 : m_tg M10 la0 = 5 := m_le_tg hle11 ht9
  refine pw_aload_n X dX4_addPatrol_96 rfl rfl ?_
  obtain ⟨u14, he15, hw⟩ := hw
  refine pw_get X (q := (RX4, TX4, tyX4, 15)) (ci := 4) (k := 0) (ref := "PatrolDeskModel") (vR (some u14)) ht13 rfl (by decide) in_X4 q1946 (Or.inl rfl) (by rw [he15]; rfl) dX4_addPatrol_97 ?_
  refine pw_bipush X 7 dX4_addPatrol_100 (by decide) ?_
  refine pw_dup2 X dX4_addPatrol_102 ?_
  obtain ⟨ht16, hw⟩ := hw
  obtain ⟨hi17, hw⟩ := hw
  refine pw_iald X ht16 hi17 dX4_addPatrol_103 ?_
  refine pw_iconst X 1 dX4_addPatrol_104 (by decide) ?_
  refine pw_iadd X dX4_addPatrol_105 ?_
  obtain ⟨hi18, hw⟩ := hw
  obtain ⟨M19, hM20⟩ : ∃ z : Mem, z = (m_pi M10 u14 (Int32.toNatClampNeg 7) ((m_gi M10 u14 (Int32.toNatClampNeg 7)) + 1)) := ⟨_, rfl⟩
  replace hw := hw M19 hM20
  have hle21 : m_le M10 M19 := by rw [hM20]; exact m_le_pi
  refine pw_iast X ht16 hi18 dX4_addPatrol_106 ?_
  rw [← hM20]
  have ht22 : m_tg M19 sa0 = 5 := m_le_tg hle21 ht12
  have ht23 : m_tg M19 la0 = 5 := m_le_tg hle21 ht13
  have ht24 : m_tg M19 u14 = 101 := m_le_tg hle21 ht16
  refine pw_iload X dX4_addPatrol_107 rfl ?_
  exact pw_iret X hw dX4_addPatrol_109
theorem bk_X4_addPatrol_0 (G : Gp) (C : m_Cx) (n0 s0 : Nat) (M0 : Mem) (Q : Int32 → Mem → Prop) (X : m_in G C RX4 cX4_addPatrol 5 (some .int) "addPatrol" 2 45 n0 s0) (M : Mem) (a0 : Nat) (x1 : Int32) (x2 : Int32) (x3 : Int32) (hw : wp_X4_addPatrol G.2 M a0 x1 x2 x3 Q) : pW G C 5 n0 s0 M0 (m_Q G C n0 s0 (va_Qi (m_q1 M0 Q) (m_W G) (m_A G))) M 0 [(0, vR (some a0)), (1, vI x1), (2, vI x2), (3, vI x3)] [] := by
  refine pw_iload_n X dX4_addPatrol_0 rfl rfl ?_
  refine pw_runi X (m_cS X (met_X4_isArea G C.2.1 M x1 _ hw) (lw_S q1996 q1997 q107 q1998) nh_X4_isArea ⟨Nat.le_of_ble_eq_true rfl, Nat.le_of_ble_eq_true rfl⟩ rfl (Nat.le_of_ble_eq_true rfl) dX4_addPatrol_1) (fun r3 M1 hle2 hx => ?_)
  replace hw := hx hle2
  clear hx
  refine pw_if_ne X 9 dX4_addPatrol_4 (by decide) (fun c4 => ?_) (fun c4 => ?_)
  · replace hw := hw.1 c4
    refine pw_iload_n X dX4_addPatrol_9 rfl rfl ?_
    refine pw_iconst X 1 dX4_addPatrol_10 (by decide) ?_
    refine pw_bipush X 9 dX4_addPatrol_11 (by decide) ?_
    refine pw_runi X (m_cS X (met_X4_in G C.2.1 M1 x2 1 9 _ hw) (lw_S q1999 q2000 q107 q2001) nh_X4_in ⟨Nat.le_of_ble_eq_true rfl, Nat.le_of_ble_eq_true rfl⟩ rfl (Nat.le_of_ble_eq_true rfl) dX4_addPatrol_13) (fun r7 M5 hle6 hx => ?_)
    replace hw := hx hle6
    clear hx
    refine pw_if_ne X 22 dX4_addPatrol_16 (by decide) (fun c8 => ?_) (fun c8 => ?_)
    · replace hw := hw.1 c8
      refine pw_aload_n X dX4_addPatrol_22 rfl rfl ?_
      obtain ⟨ht9, hw⟩ := hw
      obtain ⟨u10, he11, hw⟩ := hw
      refine pw_get X (q := (RX4, TX4, tyX4, 15)) (ci := 4) (k := 0) (ref := "PatrolDeskModel") (vR (some u10)) ht9 rfl (by decide) in_X4 q1946 (Or.inl rfl) (by rw [he11]; rfl) dX4_addPatrol_23 ?_
      refine pw_bipush X 7 dX4_addPatrol_26 (by decide) ?_
      obtain ⟨ht12, hw⟩ := hw
      obtain ⟨hi13, hw⟩ := hw
      refine pw_iald X ht12 hi13 dX4_addPatrol_28 ?_
      refine pw_bipush X 6 dX4_addPatrol_29 (by decide) ?_
      refine pw_icmp_ne X 37 dX4_addPatrol_31 (by decide) (fun c14 => ?_) (fun c14 => ?_)
      · replace hw := hw.1 c14
        refine pw_aload_n X dX4_addPatrol_37 rfl rfl ?_
        refine pw_runv X (m_cV X (b := a0) (ci := 4) (q := (RX4, TX4, tyX4, 15)) (met_X4_records G C.2.1 M5 a0 _ hw) ht9 rfl (lw_V q2002 q2004 qs38 q107 q2005) ⟨rfl, nh_X4_records⟩ ⟨Nat.le_of_ble_eq_true rfl, Nat.le_of_ble_eq_true rfl⟩ rfl (Nat.le_of_ble_eq_true rfl) dX4_addPatrol_38) (fun M15 hle16 hx => ?_)
        replace hw := hx hle16
        clear hx
        have ht17 : m_tg M15 a0 = 5 := m_le_tg hle16 ht9
        have ht18 : m_tg M15 u10 = 101 := m_le_tg hle16 ht12
        refine pw_aload_n X dX4_addPatrol_41 rfl rfl ?_
        obtain ⟨u19, he20, hw⟩ := hw
        refine pw_get X (q := (RX4, TX4, tyX4, 15)) (ci := 4) (k := 0) (ref := "PatrolDeskModel") (vR (some u19)) ht17 rfl (by decide) in_X4 q1946 (Or.inl rfl) (by rw [he20]; rfl) dX4_addPatrol_42 ?_
        refine pw_bipush X 7 dX4_addPatrol_45 (by decide) ?_
        obtain ⟨ht21, hw⟩ := hw
        obtain ⟨hi22, hw⟩ := hw
        refine pw_iald X ht21 hi22 dX4_addPatrol_47 ?_
        refine pw_istore X [(0, vR (some a0)), (1, vI x1), (2, vI x2), (3, vI x3), (4, vI (m_gi M15 u19 (Int32.toNatClampNeg 7)))] [1, 2, 3, 4, 0] dX4_addPatrol_48 (by decide) rfl ?_
        refine pw_aload_n X dX4_addPatrol_50 rfl rfl ?_
        refine pw_iload X dX4_addPatrol_51 rfl ?_
        refine pw_iconst X 0 dX4_addPatrol_53 (by decide) ?_
        refine pw_iload_n X dX4_addPatrol_54 rfl rfl ?_
        refine pw_runv X (m_cV X (b := a0) (ci := 4) (q := (RX4, TX4, tyX4, 15)) (met_X4_laysPatrol G C.2.1 M15 a0 (m_gi M15 u19 (Int32.toNatClampNeg 7)) 0 x1 _ hw) ht17 rfl (lw_V q2017 q2019 qs39 q107 q2020) ⟨rfl, nh_X4_laysPatrol⟩ ⟨Nat.le_of_ble_eq_true rfl, Nat.le_of_ble_eq_true rfl⟩ rfl (Nat.le_of_ble_eq_true rfl) dX4_addPatrol_55) (fun M23 hle24 hx => ?_)
        replace hw := hx hle24
        clear hx
        have ht25 : m_tg M23 a0 = 5 := m_le_tg hle24 ht17
        have ht26 : m_tg M23 u10 = 101 := m_le_tg hle24 ht18
        have ht27 : m_tg M23 u19 = 101 := m_le_tg hle24 ht21
        refine pw_aload_n X dX4_addPatrol_58 rfl rfl ?_
        refine pw_iload X dX4_addPatrol_59 rfl ?_
        refine pw_iconst X 1 dX4_addPatrol_61 (by decide) ?_
        refine pw_iload_n X dX4_addPatrol_62 rfl rfl ?_
        refine pw_runv X (m_cV X (b := a0) (ci := 4) (q := (RX4, TX4, tyX4, 15)) (met_X4_laysPatrol G C.2.1 M23 a0 (m_gi M15 u19 (Int32.toNatClampNeg 7)) 1 x2 _ hw) ht25 rfl (lw_V q2017 q2019 qs39 q107 q2020) ⟨rfl, nh_X4_laysPatrol⟩ ⟨Nat.le_of_ble_eq_true rfl, Nat.le_of_ble_eq_true rfl⟩ rfl (Nat.le_of_ble_eq_true rfl) dX4_addPatrol_63) (fun M28 hle29 hx => ?_)
        replace hw := hx hle29
        clear hx
        have ht30 : m_tg M28 a0 = 5 := m_le_tg hle29 ht25
        have ht31 : m_tg M28 u10 = 101 := m_le_tg hle29 ht26
        have ht32 : m_tg M28 u19 = 101 := m_le_tg hle29 ht27
        refine pw_aload_n X dX4_addPatrol_66 rfl rfl ?_
        refine pw_iload X dX4_addPatrol_67 rfl ?_
        refine pw_iconst X 2 dX4_addPatrol_69 (by decide) ?_
        refine pw_iload_n X dX4_addPatrol_70 rfl rfl ?_
        refine pw_if_eq X 78 dX4_addPatrol_71 (by decide) (fun c33 => ?_) (fun c33 => ?_)
        · replace hw := hw.1 c33
          refine pw_iconst X 0 dX4_addPatrol_78 (by decide) ?_
          refine pw_lo [0, 1, 4] rfl ?_
          exact bk_X4_addPatrol_79 G C n0 s0 M0 Q X _ a0 x1 (m_gi M15 u19 (Int32.toNatClampNeg 7)) a0 (m_gi M15 u19 (Int32.toNatClampNeg 7)) 2 0 hw
        · replace hw := hw.2 c33
          refine pw_iconst X 1 dX4_addPatrol_74 (by decide) ?_
          refine pw_goto X 79 dX4_addPatrol_75 (by decide) ?_
          refine pw_lo [0, 1, 4] rfl ?_
          exact bk_X4_addPatrol_79 G C n0 s0 M0 Q X _ a0 x1 (m_gi M15 u19 (Int32.toNatClampNeg 7)) a0 (m_gi M15 u19 (Int32.toNatClampNeg 7)) 2 1 hw
      · replace hw := hw.2 c14
        refine pw_bipush X (-3) dX4_addPatrol_34 (by decide) ?_
        exact pw_iret X hw dX4_addPatrol_36
    · replace hw := hw.2 c8
      refine pw_bipush X (-2) dX4_addPatrol_19 (by decide) ?_
      exact pw_iret X hw dX4_addPatrol_21
  · replace hw := hw.2 c4
    refine pw_iconst X (-1) dX4_addPatrol_7 (by decide) ?_
    exact pw_iret X hw dX4_addPatrol_8
theorem met_X4_addPatrol (G : Gp) (l : Launch) (M : Mem) (a0 : Nat) (x1 : Int32) (x2 : Int32) (x3 : Int32) (Q : Int32 → Mem → Prop) (hw : wp_X4_addPatrol G.2 M a0 x1 x2 x3 Q) : m_K G l yX4_addPatrol cX4_addPatrol 5 (some .int) 2 45 [vR (some a0), vI x1, vI x2, vI x3] M (va_Qi (m_q1 M Q) (m_W G) (m_A G)) := by
  refine m_met (by decide) (Nat.le_of_ble_eq_true rfl) (fun C e X => ?_)
  exact bk_X4_addPatrol_0 G C _ _ M Q X M a0 x1 x2 x3 hw
theorem nh_X4_addPatrol : m_nMH yX4_addPatrol 3 := by decide +kernel

def wp_X4_addGarage (g : Nat → Nat) (M : Mem) (a0 : Nat) (x1 : Int32) (x2 : Int32) (Q : Int32 → Mem → Prop) : Prop := wp_X4_isArea g M x1 (fun (r3 : Int32) (M1 : Mem) => m_le M M1 → ((¬ r3 = 0 → wp_X4_in g M1 x2 1 9 (fun (r7 : Int32) (M5 : Mem) => m_le M1 M5 → ((¬ r7 = 0 → m_tg M5 a0 = 5 ∧ ∃ u10 : Nat, (m_gr M5 a0 0) = some u10 ∧ m_tg M5 u10 = 101 ∧ vp_in 8 (m_ln M5 u10) ∧ ((¬ (m_gi M5 u10 (Int32.toNatClampNeg 8)) = 5 → wp_X4_records g M5 a0 (fun (M15 : Mem) => m_le M5 M15 → ∃ u19 : Nat, (m_gr M15 a0 0) = some u19 ∧ m_tg M15 u19 = 101 ∧ vp_in 8 (m_ln M15 u19) ∧ ∃ u23 : Nat, (m_gr M15 a0 0) = some u23 ∧ m_tg M15 u23 = 101 ∧ vp_in (270 + (4 * (m_gi M15 u19 (Int32.toNatClampNeg 8)))) (m_ln M15 u23) ∧ ∀ M27 : Mem, M27 = (m_pi M15 u23 (Int32.toNatClampNeg (270 + (4 * (m_gi M15 u19 (Int32.toNatClampNeg 8))))) x1) → ∃ u34 : Nat, (m_gr M27 a0 0) = some u34 ∧ m_tg M27 u34 = 101 ∧ vp_in ((270 + (4 * (m_gi M15 u19 (Int32.toNatClampNeg 8)))) + 1) (m_ln M27 u34) ∧ ∀ M38 : Mem, M38 = (m_pi M27 u34 (Int32.toNatClampNeg ((270 + (4 * (m_gi M15 u19 (Int32.toNatClampNeg 8)))) + 1)) x2) → ∃ u46 : Nat, (m_gr M38 a0 0) = some u46 ∧ m_tg M38 u46 = 101 ∧ vp_in 8 (m_ln M38 u46) ∧ vp_in 8 (m_ln M38 u46) ∧ ∀ M51 : Mem, M51 = (m_pi M38 u46 (Int32.toNatClampNeg 8) ((m_gi M38 u46 (Int32.toNatClampNeg 8)) + 1)) → ∃ u60 : Nat, (m_gr M51 a0 0) = some u60 ∧ m_tg M51 u60 = 101 ∧ vp_in 8 (m_ln M51 u60) ∧ Q ((m_gi M51 u60 (Int32.toNatClampNeg 8)) - 1) M51)) ∧ ((m_gi M5 u10 (Int32.toNatClampNeg 8)) = 5 → Q (-3) M5))) ∧ (r7 = 0 → Q (-2) M5)))) ∧ (r3 = 0 → Q (-1) M1)))
theorem bk_X4_addGarage_0 (G : Gp) (C : m_Cx) (n0 s0 : Nat) (M0 : Mem) (Q : Int32 → Mem → Prop) (X : m_in G C RX4 cX4_addGarage 4 (some .int) "addGarage" 2 45 n0 s0) (M : Mem) (a0 : Nat) (x1 : Int32) (x2 : Int32) (hw : wp_X4_addGarage G.2 M a0 x1 x2 Q) : pW G C 4 n0 s0 M0 (m_Q G C n0 s0 (va_Qi (m_q1 M0 Q) (m_W G) (m_A G))) M 0 [(0, vR (some a0)), (1, vI x1), (2, vI x2)] [] := by
  refine pw_iload_n X dX4_addGarage_0 rfl rfl ?_
  refine pw_runi X (m_cS X (met_X4_isArea G C.2.1 M x1 _ hw) (lw_S q1996 q1997 q107 q1998) nh_X4_isArea ⟨Nat.le_of_ble_eq_true rfl, Nat.le_of_ble_eq_true rfl⟩ rfl (Nat.le_of_ble_eq_true rfl) dX4_addGarage_1) (fun r3 M1 hle2 hx => ?_)
  replace hw := hx hle2
  clear hx
  refine pw_if_ne X 9 dX4_addGarage_4 (by decide) (fun c4 => ?_) (fun c4 => ?_)
  · replace hw := hw.1 c4
    refine pw_iload_n X dX4_addGarage_9 rfl rfl ?_
    refine pw_iconst X 1 dX4_addGarage_10 (by decide) ?_
    refine pw_bipush X 9 dX4_addGarage_11 (by decide) ?_
    refine pw_runi X (m_cS X (met_X4_in G C.2.1 M1 x2 1 9 _ hw) (lw_S q1999 q2000 q107 q2001) nh_X4_in ⟨Nat.le_of_ble_eq_true rfl, Nat.le_of_ble_eq_true rfl⟩ rfl (Nat.le_of_ble_eq_true rfl) dX4_addGarage_13) (fun r7 M5 hle6 hx => ?_)
    replace hw := hx hle6
    clear hx
    refine pw_if_ne X 22 dX4_addGarage_16 (by decide) (fun c8 => ?_) (fun c8 => ?_)
    · replace hw := hw.1 c8
      refine pw_aload_n X dX4_addGarage_22 rfl rfl ?_
      obtain ⟨ht9, hw⟩ := hw
      obtain ⟨u10, he11, hw⟩ := hw
      refine pw_get X (q := (RX4, TX4, tyX4, 15)) (ci := 4) (k := 0) (ref := "PatrolDeskModel") (vR (some u10)) ht9 rfl (by decide) in_X4 q1946 (Or.inl rfl) (by rw [he11]; rfl) dX4_addGarage_23 ?_
      refine pw_bipush X 8 dX4_addGarage_26 (by decide) ?_
      obtain ⟨ht12, hw⟩ := hw
      obtain ⟨hi13, hw⟩ := hw
      refine pw_iald X ht12 hi13 dX4_addGarage_28 ?_
      refine pw_iconst X 5 dX4_addGarage_29 (by decide) ?_
      refine pw_icmp_ne X 36 dX4_addGarage_30 (by decide) (fun c14 => ?_) (fun c14 => ?_)
      · replace hw := hw.1 c14
        refine pw_aload_n X dX4_addGarage_36 rfl rfl ?_
        refine pw_runv X (m_cV X (b := a0) (ci := 4) (q := (RX4, TX4, tyX4, 15)) (met_X4_records G C.2.1 M5 a0 _ hw) ht9 rfl (lw_V q2002 q2004 qs38 q107 q2005) ⟨rfl, nh_X4_records⟩ ⟨Nat.le_of_ble_eq_true rfl, Nat.le_of_ble_eq_true rfl⟩ rfl (Nat.le_of_ble_eq_true rfl) dX4_addGarage_37) (fun M15 hle16 hx => ?_)
        replace hw := hx hle16
        clear hx
        have ht17 : m_tg M15 a0 = 5 := m_le_tg hle16 ht9
        have ht18 : m_tg M15 u10 = 101 := m_le_tg hle16 ht12
        refine pw_sipush X 270 dX4_addGarage_40 (by decide) ?_
        refine pw_iconst X 4 dX4_addGarage_43 (by decide) ?_
        refine pw_aload_n X dX4_addGarage_44 rfl rfl ?_
        obtain ⟨u19, he20, hw⟩ := hw
        refine pw_get X (q := (RX4, TX4, tyX4, 15)) (ci := 4) (k := 0) (ref := "PatrolDeskModel") (vR (some u19)) ht17 rfl (by decide) in_X4 q1946 (Or.inl rfl) (by rw [he20]; rfl) dX4_addGarage_45 ?_
        refine pw_bipush X 8 dX4_addGarage_48 (by decide) ?_
        obtain ⟨ht21, hw⟩ := hw
        obtain ⟨hi22, hw⟩ := hw
        refine pw_iald X ht21 hi22 dX4_addGarage_50 ?_
        refine pw_imul X dX4_addGarage_51 ?_
        refine pw_iadd X dX4_addGarage_52 ?_
        refine pw_istore_n X [(0, vR (some a0)), (1, vI x1), (2, vI x2), (3, vI (270 + (4 * (m_gi M15 u19 (Int32.toNatClampNeg 8)))))] [1, 2, 3, 0] dX4_addGarage_53 rfl (by decide) rfl ?_
        refine pw_aload_n X dX4_addGarage_54 rfl rfl ?_
        obtain ⟨u23, he24, hw⟩ := hw
        refine pw_get X (q := (RX4, TX4, tyX4, 15)) (ci := 4) (k := 0) (ref := "PatrolDeskModel") (vR (some u23)) ht17 rfl (by decide) in_X4 q1946 (Or.inl rfl) (by rw [he24]; rfl) dX4_addGarage_55 ?_
        refine pw_iload_n X dX4_addGarage_58 rfl rfl ?_
        refine pw_iload_n X dX4_addGarage_59 rfl rfl ?_
        obtain ⟨ht25, hw⟩ := hw
        obtain ⟨hi26, hw⟩ := hw
        obtain ⟨M27, hM28⟩ : ∃ z : Mem, z = (m_pi M15 u23 (Int32.toNatClampNeg (270 + (4 * (m_gi M15 u19 (Int32.toNatClampNeg 8))))) x1) := ⟨_, rfl⟩
        replace hw := hw M27 hM28
        have hle29 : m_le M15 M27 := by rw [hM28]; exact m_le_pi
        refine pw_iast X ht25 hi26 dX4_addGarage_60 ?_
        rw [← hM28]
        have ht30 : m_tg M27 a0 = 5 := m_le_tg hle29 ht17
        have ht31 : m_tg M27 u10 = 101 := m_le_tg hle29 ht18
        have ht32 : m_tg M27 u19 = 101 := m_le_tg hle29 ht21
        have ht33 : m_tg M27 u23 = 101 := m_le_tg hle29 ht25
        refine pw_aload_n X dX4_addGarage_61 rfl rfl ?_
        obtain ⟨u34, he35, hw⟩ := hw
        refine pw_get X (q := (RX4, TX4, tyX4, 15)) (ci := 4) (k := 0) (ref := "PatrolDeskModel") (vR (some u34)) ht30 rfl (by decide) in_X4 q1946 (Or.inl rfl) (by rw [he35]; rfl) dX4_addGarage_62 ?_
        refine pw_iload_n X dX4_addGarage_65 rfl rfl ?_
        refine pw_iconst X 1 dX4_addGarage_66 (by decide) ?_
        refine pw_iadd X dX4_addGarage_67 ?_
        refine pw_iload_n X dX4_addGarage_68 rfl rfl ?_
        obtain ⟨ht36, hw⟩ := hw
        obtain ⟨hi37, hw⟩ := hw
        obtain ⟨M38, hM39⟩ : ∃ z : Mem, z = (m_pi M27 u34 (Int32.toNatClampNeg ((270 + (4 * (m_gi M15 u19 (Int32.toNatClampNeg 8)))) + 1)) x2) := ⟨_, rfl⟩
        replace hw := hw M38 hM39
        have hle40 : m_le M27 M38 := by rw [hM39]; exact m_le_pi
        refine pw_iast X ht36 hi37 dX4_addGarage_69 ?_
        rw [← hM39]
        have ht41 : m_tg M38 a0 = 5 := m_le_tg hle40 ht30
        have ht42 : m_tg M38 u10 = 101 := m_le_tg hle40 ht31
        have ht43 : m_tg M38 u19 = 101 := m_le_tg hle40 ht32
        have ht44 : m_tg M38 u23 = 101 := m_le_tg hle40 ht33
        have ht45 : m_tg M38 u34 = 101 := m_le_tg hle40 ht36
        refine pw_aload_n X dX4_addGarage_70 rfl rfl ?_
        obtain ⟨u46, he47, hw⟩ := hw
        refine pw_get X (q := (RX4, TX4, tyX4, 15)) (ci := 4) (k := 0) (ref := "PatrolDeskModel") (vR (some u46)) ht41 rfl (by decide) in_X4 q1946 (Or.inl rfl) (by rw [he47]; rfl) dX4_addGarage_71 ?_
        refine pw_bipush X 8 dX4_addGarage_74 (by decide) ?_
        refine pw_dup2 X dX4_addGarage_76 ?_
        obtain ⟨ht48, hw⟩ := hw
        obtain ⟨hi49, hw⟩ := hw
        refine pw_iald X ht48 hi49 dX4_addGarage_77 ?_
        refine pw_iconst X 1 dX4_addGarage_78 (by decide) ?_
        refine pw_iadd X dX4_addGarage_79 ?_
        obtain ⟨hi50, hw⟩ := hw
        obtain ⟨M51, hM52⟩ : ∃ z : Mem, z = (m_pi M38 u46 (Int32.toNatClampNeg 8) ((m_gi M38 u46 (Int32.toNatClampNeg 8)) + 1)) := ⟨_, rfl⟩
        replace hw := hw M51 hM52
        have hle53 : m_le M38 M51 := by rw [hM52]; exact m_le_pi
        refine pw_iast X ht48 hi50 dX4_addGarage_80 ?_
        rw [← hM52]
        have ht54 : m_tg M51 a0 = 5 := m_le_tg hle53 ht41
        have ht55 : m_tg M51 u10 = 101 := m_le_tg hle53 ht42
        have ht56 : m_tg M51 u19 = 101 := m_le_tg hle53 ht43
        have ht57 : m_tg M51 u23 = 101 := m_le_tg hle53 ht44
        have ht58 : m_tg M51 u34 = 101 := m_le_tg hle53 ht45
        have ht59 : m_tg M51 u46 = 101 := m_le_tg hle53 ht48
        refine pw_aload_n X dX4_addGarage_81 rfl rfl ?_
        obtain ⟨u60, he61, hw⟩ := hw
        refine pw_get X (q := (RX4, TX4, tyX4, 15)) (ci := 4) (k := 0) (ref := "PatrolDeskModel") (vR (some u60)) ht54 rfl (by decide) in_X4 q1946 (Or.inl rfl) (by rw [he61]; rfl) dX4_addGarage_82 ?_
        refine pw_bipush X 8 dX4_addGarage_85 (by decide) ?_
        obtain ⟨ht62, hw⟩ := hw
        obtain ⟨hi63, hw⟩ := hw
        refine pw_iald X ht62 hi63 dX4_addGarage_87 ?_
        refine pw_iconst X 1 dX4_addGarage_88 (by decide) ?_
        refine pw_isub X dX4_addGarage_89 ?_
        exact pw_iret X hw dX4_addGarage_90
      · replace hw := hw.2 c14
        refine pw_bipush X (-3) dX4_addGarage_33 (by decide) ?_
        exact pw_iret X hw dX4_addGarage_35
    · replace hw := hw.2 c8
      refine pw_bipush X (-2) dX4_addGarage_19 (by decide) ?_
      exact pw_iret X hw dX4_addGarage_21
  · replace hw := hw.2 c4
    refine pw_iconst X (-1) dX4_addGarage_7 (by decide) ?_
    exact pw_iret X hw dX4_addGarage_8
theorem met_X4_addGarage (G : Gp) (l : Launch) (M : Mem) (a0 : Nat) (x1 : Int32) (x2 : Int32) (Q : Int32 → Mem → Prop) (hw : wp_X4_addGarage G.2 M a0 x1 x2 Q) : m_K G l yX4_addGarage cX4_addGarage 4 (some .int) 2 45 [vR (some a0), vI x1, vI x2] M (va_Qi (m_q1 M Q) (m_W G) (m_A G)) := by
  refine m_met (by decide) (Nat.le_of_ble_eq_true rfl) (fun C e X => ?_)
  exact bk_X4_addGarage_0 G C _ _ M Q X M a0 x1 x2 hw
theorem nh_X4_addGarage : m_nMH yX4_addGarage 2 := by decide +kernel

def wp_X4_setPromise (g : Nat → Nat) (M : Mem) (a0 : Nat) (x1 : Int32) (x2 : Int32) (Q : Int32 → Mem → Prop) : Prop := wp_X4_in g M x1 0 2 (fun (r3 : Int32) (M1 : Mem) => m_le M M1 → ((r3 = 0 → Q (-2) M1) ∧ (¬ r3 = 0 → wp_X4_in g M1 x2 10 240 (fun (r7 : Int32) (M5 : Mem) => m_le M1 M5 → ((¬ r7 = 0 → m_tg M5 a0 = 5 ∧ ∃ u10 : Nat, (m_gr M5 a0 0) = some u10 ∧ m_tg M5 u10 = 101 ∧ vp_in (2 + x1) (m_ln M5 u10) ∧ ((¬ (m_gi M5 u10 (Int32.toNatClampNeg (2 + x1))) = x2 → wp_X4_records g M5 a0 (fun (M15 : Mem) => m_le M5 M15 → ∃ u19 : Nat, (m_gr M15 a0 0) = some u19 ∧ m_tg M15 u19 = 101 ∧ vp_in (2 + x1) (m_ln M15 u19) ∧ ∀ M23 : Mem, M23 = (m_pi M15 u19 (Int32.toNatClampNeg (2 + x1)) x2) → Q (m_gi M5 u10 (Int32.toNatClampNeg (2 + x1))) M23)) ∧ ((m_gi M5 u10 (Int32.toNatClampNeg (2 + x1))) = x2 → Q (-5) M5))) ∧ (r7 = 0 → Q (-2) M5))))))
theorem bk_X4_setPromise_0 (G : Gp) (C : m_Cx) (n0 s0 : Nat) (M0 : Mem) (Q : Int32 → Mem → Prop) (X : m_in G C RX4 cX4_setPromise 4 (some .int) "setPromise" 2 45 n0 s0) (M : Mem) (a0 : Nat) (x1 : Int32) (x2 : Int32) (hw : wp_X4_setPromise G.2 M a0 x1 x2 Q) : pW G C 4 n0 s0 M0 (m_Q G C n0 s0 (va_Qi (m_q1 M0 Q) (m_W G) (m_A G))) M 0 [(0, vR (some a0)), (1, vI x1), (2, vI x2)] [] := by
  refine pw_iload_n X dX4_setPromise_0 rfl rfl ?_
  refine pw_iconst X 0 dX4_setPromise_1 (by decide) ?_
  refine pw_iconst X 2 dX4_setPromise_2 (by decide) ?_
  refine pw_runi X (m_cS X (met_X4_in G C.2.1 M x1 0 2 _ hw) (lw_S q1999 q2000 q107 q2001) nh_X4_in ⟨Nat.le_of_ble_eq_true rfl, Nat.le_of_ble_eq_true rfl⟩ rfl (Nat.le_of_ble_eq_true rfl) dX4_setPromise_3) (fun r3 M1 hle2 hx => ?_)
  replace hw := hx hle2
  clear hx
  refine pw_if_eq X 21 dX4_setPromise_6 (by decide) (fun c4 => ?_) (fun c4 => ?_)
  · replace hw := hw.1 c4
    refine pw_bipush X (-2) dX4_setPromise_21 (by decide) ?_
    exact pw_iret X hw dX4_setPromise_23
  · replace hw := hw.2 c4
    refine pw_iload_n X dX4_setPromise_9 rfl rfl ?_
    refine pw_bipush X 10 dX4_setPromise_10 (by decide) ?_
    refine pw_sipush X 240 dX4_setPromise_12 (by decide) ?_
    refine pw_runi X (m_cS X (met_X4_in G C.2.1 M1 x2 10 240 _ hw) (lw_S q1999 q2000 q107 q2001) nh_X4_in ⟨Nat.le_of_ble_eq_true rfl, Nat.le_of_ble_eq_true rfl⟩ rfl (Nat.le_of_ble_eq_true rfl) dX4_setPromise_15) (fun r7 M5 hle6 hx => ?_)
    replace hw := hx hle6
    clear hx
    refine pw_if_ne X 24 dX4_setPromise_18 (by decide) (fun c8 => ?_) (fun c8 => ?_)
    · replace hw := hw.1 c8
      refine pw_aload_n X dX4_setPromise_24 rfl rfl ?_
      obtain ⟨ht9, hw⟩ := hw
      obtain ⟨u10, he11, hw⟩ := hw
      refine pw_get X (q := (RX4, TX4, tyX4, 15)) (ci := 4) (k := 0) (ref := "PatrolDeskModel") (vR (some u10)) ht9 rfl (by decide) in_X4 q1946 (Or.inl rfl) (by rw [he11]; rfl) dX4_setPromise_25 ?_
      refine pw_iconst X 2 dX4_setPromise_28 (by decide) ?_
      refine pw_iload_n X dX4_setPromise_29 rfl rfl ?_
      refine pw_iadd X dX4_setPromise_30 ?_
      obtain ⟨ht12, hw⟩ := hw
      obtain ⟨hi13, hw⟩ := hw
      refine pw_iald X ht12 hi13 dX4_setPromise_31 ?_
      refine pw_istore_n X [(0, vR (some a0)), (1, vI x1), (2, vI x2), (3, vI (m_gi M5 u10 (Int32.toNatClampNeg (2 + x1))))] [1, 2, 3, 0] dX4_setPromise_32 rfl (by decide) rfl ?_
      refine pw_iload_n X dX4_setPromise_33 rfl rfl ?_
      refine pw_iload_n X dX4_setPromise_34 rfl rfl ?_
      refine pw_icmp_ne X 41 dX4_setPromise_35 (by decide) (fun c14 => ?_) (fun c14 => ?_)
      · replace hw := hw.1 c14
        refine pw_aload_n X dX4_setPromise_41 rfl rfl ?_
        refine pw_runv X (m_cV X (b := a0) (ci := 4) (q := (RX4, TX4, tyX4, 15)) (met_X4_records G C.2.1 M5 a0 _ hw) ht9 rfl (lw_V q2002 q2004 qs38 q107 q2005) ⟨rfl, nh_X4_records⟩ ⟨Nat.le_of_ble_eq_true rfl, Nat.le_of_ble_eq_true rfl⟩ rfl (Nat.le_of_ble_eq_true rfl) dX4_setPromise_42) (fun M15 hle16 hx => ?_)
        replace hw := hx hle16
        clear hx
        have ht17 : m_tg M15 a0 = 5 := m_le_tg hle16 ht9
        have ht18 : m_tg M15 u10 = 101 := m_le_tg hle16 ht12
        refine pw_aload_n X dX4_setPromise_45 rfl rfl ?_
        obtain ⟨u19, he20, hw⟩ := hw
        refine pw_get X (q := (RX4, TX4, tyX4, 15)) (ci := 4) (k := 0) (ref := "PatrolDeskModel") (vR (some u19)) ht17 rfl (by decide) in_X4 q1946 (Or.inl rfl) (by rw [he20]; rfl) dX4_setPromise_46 ?_
        refine pw_iconst X 2 dX4_setPromise_49 (by decide) ?_
        refine pw_iload_n X dX4_setPromise_50 rfl rfl ?_
        refine pw_iadd X dX4_setPromise_51 ?_
        refine pw_iload_n X dX4_setPromise_52 rfl rfl ?_
        obtain ⟨ht21, hw⟩ := hw
        obtain ⟨hi22, hw⟩ := hw
        obtain ⟨M23, hM24⟩ : ∃ z : Mem, z = (m_pi M15 u19 (Int32.toNatClampNeg (2 + x1)) x2) := ⟨_, rfl⟩
        replace hw := hw M23 hM24
        have hle25 : m_le M15 M23 := by rw [hM24]; exact m_le_pi
        refine pw_iast X ht21 hi22 dX4_setPromise_53 ?_
        rw [← hM24]
        have ht26 : m_tg M23 a0 = 5 := m_le_tg hle25 ht17
        have ht27 : m_tg M23 u10 = 101 := m_le_tg hle25 ht18
        have ht28 : m_tg M23 u19 = 101 := m_le_tg hle25 ht21
        refine pw_iload_n X dX4_setPromise_54 rfl rfl ?_
        exact pw_iret X hw dX4_setPromise_55
      · replace hw := hw.2 c14
        refine pw_bipush X (-5) dX4_setPromise_38 (by decide) ?_
        exact pw_iret X hw dX4_setPromise_40
    · replace hw := hw.2 c8
      refine pw_bipush X (-2) dX4_setPromise_21 (by decide) ?_
      exact pw_iret X hw dX4_setPromise_23
theorem met_X4_setPromise (G : Gp) (l : Launch) (M : Mem) (a0 : Nat) (x1 : Int32) (x2 : Int32) (Q : Int32 → Mem → Prop) (hw : wp_X4_setPromise G.2 M a0 x1 x2 Q) : m_K G l yX4_setPromise cX4_setPromise 4 (some .int) 2 45 [vR (some a0), vI x1, vI x2] M (va_Qi (m_q1 M Q) (m_W G) (m_A G)) := by
  refine m_met (by decide) (Nat.le_of_ble_eq_true rfl) (fun C e X => ?_)
  exact bk_X4_setPromise_0 G C _ _ M Q X M a0 x1 x2 hw
theorem nh_X4_setPromise : m_nMH yX4_setPromise 2 := by decide +kernel

def wp_X4_setWeather (g : Nat → Nat) (M : Mem) (a0 : Nat) (x1 : Int32) (Q : Int32 → Mem → Prop) : Prop := wp_X4_in g M x1 0 5 (fun (r3 : Int32) (M1 : Mem) => m_le M M1 → ((¬ r3 = 0 → m_tg M1 a0 = 5 ∧ ∃ u6 : Nat, (m_gr M1 a0 0) = some u6 ∧ m_tg M1 u6 = 101 ∧ vp_in 1 (m_ln M1 u6) ∧ ((¬ (m_gi M1 u6 (Int32.toNatClampNeg 1)) = x1 → wp_X4_records g M1 a0 (fun (M11 : Mem) => m_le M1 M11 → ∃ u15 : Nat, (m_gr M11 a0 0) = some u15 ∧ m_tg M11 u15 = 101 ∧ vp_in 1 (m_ln M11 u15) ∧ ∀ M19 : Mem, M19 = (m_pi M11 u15 (Int32.toNatClampNeg 1) x1) → Q (m_gi M1 u6 (Int32.toNatClampNeg 1)) M19)) ∧ ((m_gi M1 u6 (Int32.toNatClampNeg 1)) = x1 → Q (-5) M1))) ∧ (r3 = 0 → Q (-2) M1)))
theorem bk_X4_setWeather_0 (G : Gp) (C : m_Cx) (n0 s0 : Nat) (M0 : Mem) (Q : Int32 → Mem → Prop) (X : m_in G C RX4 cX4_setWeather 3 (some .int) "setWeather" 2 45 n0 s0) (M : Mem) (a0 : Nat) (x1 : Int32) (hw : wp_X4_setWeather G.2 M a0 x1 Q) : pW G C 3 n0 s0 M0 (m_Q G C n0 s0 (va_Qi (m_q1 M0 Q) (m_W G) (m_A G))) M 0 [(0, vR (some a0)), (1, vI x1)] [] := by
  refine pw_iload_n X dX4_setWeather_0 rfl rfl ?_
  refine pw_iconst X 0 dX4_setWeather_1 (by decide) ?_
  refine pw_iconst X 5 dX4_setWeather_2 (by decide) ?_
  refine pw_runi X (m_cS X (met_X4_in G C.2.1 M x1 0 5 _ hw) (lw_S q1999 q2000 q107 q2001) nh_X4_in ⟨Nat.le_of_ble_eq_true rfl, Nat.le_of_ble_eq_true rfl⟩ rfl (Nat.le_of_ble_eq_true rfl) dX4_setWeather_3) (fun r3 M1 hle2 hx => ?_)
  replace hw := hx hle2
  clear hx
  refine pw_if_ne X 12 dX4_setWeather_6 (by decide) (fun c4 => ?_) (fun c4 => ?_)
  · replace hw := hw.1 c4
    refine pw_aload_n X dX4_setWeather_12 rfl rfl ?_
    obtain ⟨ht5, hw⟩ := hw
    obtain ⟨u6, he7, hw⟩ := hw
    refine pw_get X (q := (RX4, TX4, tyX4, 15)) (ci := 4) (k := 0) (ref := "PatrolDeskModel") (vR (some u6)) ht5 rfl (by decide) in_X4 q1946 (Or.inl rfl) (by rw [he7]; rfl) dX4_setWeather_13 ?_
    refine pw_iconst X 1 dX4_setWeather_16 (by decide) ?_
    obtain ⟨ht8, hw⟩ := hw
    obtain ⟨hi9, hw⟩ := hw
    refine pw_iald X ht8 hi9 dX4_setWeather_17 ?_
    refine pw_istore_n X [(0, vR (some a0)), (1, vI x1), (2, vI (m_gi M1 u6 (Int32.toNatClampNeg 1)))] [1, 2, 0] dX4_setWeather_18 rfl (by decide) rfl ?_
    refine pw_iload_n X dX4_setWeather_19 rfl rfl ?_
    refine pw_iload_n X dX4_setWeather_20 rfl rfl ?_
    refine pw_icmp_ne X 27 dX4_setWeather_21 (by decide) (fun c10 => ?_) (fun c10 => ?_)
    · replace hw := hw.1 c10
      refine pw_aload_n X dX4_setWeather_27 rfl rfl ?_
      refine pw_runv X (m_cV X (b := a0) (ci := 4) (q := (RX4, TX4, tyX4, 15)) (met_X4_records G C.2.1 M1 a0 _ hw) ht5 rfl (lw_V q2002 q2004 qs38 q107 q2005) ⟨rfl, nh_X4_records⟩ ⟨Nat.le_of_ble_eq_true rfl, Nat.le_of_ble_eq_true rfl⟩ rfl (Nat.le_of_ble_eq_true rfl) dX4_setWeather_28) (fun M11 hle12 hx => ?_)
      replace hw := hx hle12
      clear hx
      have ht13 : m_tg M11 a0 = 5 := m_le_tg hle12 ht5
      have ht14 : m_tg M11 u6 = 101 := m_le_tg hle12 ht8
      refine pw_aload_n X dX4_setWeather_31 rfl rfl ?_
      obtain ⟨u15, he16, hw⟩ := hw
      refine pw_get X (q := (RX4, TX4, tyX4, 15)) (ci := 4) (k := 0) (ref := "PatrolDeskModel") (vR (some u15)) ht13 rfl (by decide) in_X4 q1946 (Or.inl rfl) (by rw [he16]; rfl) dX4_setWeather_32 ?_
      refine pw_iconst X 1 dX4_setWeather_35 (by decide) ?_
      refine pw_iload_n X dX4_setWeather_36 rfl rfl ?_
      obtain ⟨ht17, hw⟩ := hw
      obtain ⟨hi18, hw⟩ := hw
      obtain ⟨M19, hM20⟩ : ∃ z : Mem, z = (m_pi M11 u15 (Int32.toNatClampNeg 1) x1) := ⟨_, rfl⟩
      replace hw := hw M19 hM20
      have hle21 : m_le M11 M19 := by rw [hM20]; exact m_le_pi
      refine pw_iast X ht17 hi18 dX4_setWeather_37 ?_
      rw [← hM20]
      have ht22 : m_tg M19 a0 = 5 := m_le_tg hle21 ht13
      have ht23 : m_tg M19 u6 = 101 := m_le_tg hle21 ht14
      have ht24 : m_tg M19 u15 = 101 := m_le_tg hle21 ht17
      refine pw_iload_n X dX4_setWeather_38 rfl rfl ?_
      exact pw_iret X hw dX4_setWeather_39
    · replace hw := hw.2 c10
      refine pw_bipush X (-5) dX4_setWeather_24 (by decide) ?_
      exact pw_iret X hw dX4_setWeather_26
  · replace hw := hw.2 c4
    refine pw_bipush X (-2) dX4_setWeather_9 (by decide) ?_
    exact pw_iret X hw dX4_setWeather_11
theorem met_X4_setWeather (G : Gp) (l : Launch) (M : Mem) (a0 : Nat) (x1 : Int32) (Q : Int32 → Mem → Prop) (hw : wp_X4_setWeather G.2 M a0 x1 Q) : m_K G l yX4_setWeather cX4_setWeather 3 (some .int) 2 45 [vR (some a0), vI x1] M (va_Qi (m_q1 M Q) (m_W G) (m_A G)) := by
  refine m_met (by decide) (Nat.le_of_ble_eq_true rfl) (fun C e X => ?_)
  exact bk_X4_setWeather_0 G C _ _ M Q X M a0 x1 hw
theorem nh_X4_setWeather : m_nMH yX4_setWeather 1 := by decide +kernel

def wp_X4_isMember (g : Nat → Nat) (M : Mem) (a0 : Nat) (x1 : Int32) (Q : Int32 → Mem → Prop) : Prop := m_tg M a0 = 5 ∧ ∃ u2 : Nat, (m_gr M a0 0) = some u2 ∧ m_tg M u2 = 101 ∧ vp_in 6 (m_ln M u2) ∧ wp_X4_in g M x1 0 ((m_gi M u2 (Int32.toNatClampNeg 6)) - 1) (fun (r8 : Int32) (M6 : Mem) => m_le M M6 → ((r8 = 0 ∨ r8 = 1) ∧ Q r8 M6))
theorem bk_X4_isMember_0 (G : Gp) (C : m_Cx) (n0 s0 : Nat) (M0 : Mem) (Q : Int32 → Mem → Prop) (X : m_in G C RX4 cX4_isMember 2 (some .boolean) "isMember" 1 22 n0 s0) (M : Mem) (a0 : Nat) (x1 : Int32) (hw : wp_X4_isMember G.2 M a0 x1 Q) : pW G C 2 n0 s0 M0 (m_Q G C n0 s0 (va_Qi (m_q1 M0 Q) (m_W G) (m_A G))) M 0 [(0, vR (some a0)), (1, vI x1)] [] := by
  refine pw_iload_n X dX4_isMember_0 rfl rfl ?_
  refine pw_iconst X 0 dX4_isMember_1 (by decide) ?_
  refine pw_aload_n X dX4_isMember_2 rfl rfl ?_
  obtain ⟨ht1, hw⟩ := hw
  obtain ⟨u2, he3, hw⟩ := hw
  refine pw_get X (q := (RX4, TX4, tyX4, 15)) (ci := 4) (k := 0) (ref := "PatrolDeskModel") (vR (some u2)) ht1 rfl (by decide) in_X4 q1946 (Or.inl rfl) (by rw [he3]; rfl) dX4_isMember_3 ?_
  refine pw_bipush X 6 dX4_isMember_6 (by decide) ?_
  obtain ⟨ht4, hw⟩ := hw
  obtain ⟨hi5, hw⟩ := hw
  refine pw_iald X ht4 hi5 dX4_isMember_8 ?_
  refine pw_iconst X 1 dX4_isMember_9 (by decide) ?_
  refine pw_isub X dX4_isMember_10 ?_
  refine pw_runi X (m_cS X (met_X4_in G C.2.1 M x1 0 ((m_gi M u2 (Int32.toNatClampNeg 6)) - 1) _ hw) (lw_S q1999 q2000 q107 q2001) nh_X4_in ⟨Nat.le_of_ble_eq_true rfl, Nat.le_of_ble_eq_true rfl⟩ rfl (Nat.le_of_ble_eq_true rfl) dX4_isMember_11) (fun r8 M6 hle7 hx => ?_)
  replace hw := hx hle7
  clear hx
  have ht9 : m_tg M6 a0 = 5 := m_le_tg hle7 ht1
  have ht10 : m_tg M6 u2 = 101 := m_le_tg hle7 ht4
  exact pw_zret X (m_nz hw.1) hw.2 dX4_isMember_14
theorem met_X4_isMember (G : Gp) (l : Launch) (M : Mem) (a0 : Nat) (x1 : Int32) (Q : Int32 → Mem → Prop) (hw : wp_X4_isMember G.2 M a0 x1 Q) : m_K G l yX4_isMember cX4_isMember 2 (some .boolean) 1 22 [vR (some a0), vI x1] M (va_Qi (m_q1 M Q) (m_W G) (m_A G)) := by
  refine m_met (by decide) (Nat.le_of_ble_eq_true rfl) (fun C e X => ?_)
  exact bk_X4_isMember_0 G C _ _ M Q X M a0 x1 hw
theorem nh_X4_isMember : m_nMH yX4_isMember 1 := by decide +kernel

def wp_X4_ofCall (g : Nat → Nat) (M : Mem) (a0 : Nat) (x1 : Int32) (x2 : Int32) (Q : Int32 → Mem → Prop) : Prop := m_tg M a0 = 5 ∧ ∃ u2 : Nat, (m_gr M a0 0) = some u2 ∧ m_tg M u2 = 101 ∧ vp_in ((290 + (13 * x1)) + x2) (m_ln M u2) ∧ Q (m_gi M u2 (Int32.toNatClampNeg ((290 + (13 * x1)) + x2))) M
theorem bk_X4_ofCall_0 (G : Gp) (C : m_Cx) (n0 s0 : Nat) (M0 : Mem) (Q : Int32 → Mem → Prop) (X : m_in G C RX4 cX4_ofCall 3 (some .int) "ofCall" 0 0 n0 s0) (M : Mem) (a0 : Nat) (x1 : Int32) (x2 : Int32) (hw : wp_X4_ofCall G.2 M a0 x1 x2 Q) : pW G C 3 n0 s0 M0 (m_Q G C n0 s0 (va_Qi (m_q1 M0 Q) (m_W G) (m_A G))) M 0 [(0, vR (some a0)), (1, vI x1), (2, vI x2)] [] := by
  refine pw_aload_n X dX4_ofCall_0 rfl rfl ?_
  obtain ⟨ht1, hw⟩ := hw
  obtain ⟨u2, he3, hw⟩ := hw
  refine pw_get X (q := (RX4, TX4, tyX4, 15)) (ci := 4) (k := 0) (ref := "PatrolDeskModel") (vR (some u2)) ht1 rfl (by decide) in_X4 q1946 (Or.inl rfl) (by rw [he3]; rfl) dX4_ofCall_1 ?_
  refine pw_sipush X 290 dX4_ofCall_4 (by decide) ?_
  refine pw_bipush X 13 dX4_ofCall_7 (by decide) ?_
  refine pw_iload_n X dX4_ofCall_9 rfl rfl ?_
  refine pw_imul X dX4_ofCall_10 ?_
  refine pw_iadd X dX4_ofCall_11 ?_
  refine pw_iload_n X dX4_ofCall_12 rfl rfl ?_
  refine pw_iadd X dX4_ofCall_13 ?_
  obtain ⟨ht4, hw⟩ := hw
  obtain ⟨hi5, hw⟩ := hw
  refine pw_iald X ht4 hi5 dX4_ofCall_14 ?_
  exact pw_iret X hw dX4_ofCall_15
theorem met_X4_ofCall (G : Gp) (l : Launch) (M : Mem) (a0 : Nat) (x1 : Int32) (x2 : Int32) (Q : Int32 → Mem → Prop) (hw : wp_X4_ofCall G.2 M a0 x1 x2 Q) : m_K G l yX4_ofCall cX4_ofCall 3 (some .int) 0 0 [vR (some a0), vI x1, vI x2] M (va_Qi (m_q1 M Q) (m_W G) (m_A G)) := by
  refine m_met (by decide) (Nat.le_of_ble_eq_true rfl) (fun C e X => ?_)
  exact bk_X4_ofCall_0 G C _ _ M Q X M a0 x1 x2 hw
theorem nh_X4_ofCall : m_nMH yX4_ofCall 2 := by decide +kernel

def wp_X4_openOf_b2 (g : Nat → Nat) (Q : Int32 → Mem → Prop) : Nat → Mem → Nat → Int32 → Int32 → Prop
  | 0 => fun _ _ _ _ => False
  | n + 1 => fun M la0 lx1 lx2 => m_tg M la0 = 5 ∧ ∃ u2 : Nat, (m_gr M la0 0) = some u2 ∧ m_tg M u2 = 101 ∧ vp_in 9 (m_ln M u2) ∧ (((m_gi M u2 (Int32.toNatClampNeg 9)) ≤ lx2 → Q (-5) M) ∧ (¬ (m_gi M u2 (Int32.toNatClampNeg 9)) ≤ lx2 → wp_X4_ofCall g M la0 lx2 0 (fun (r9 : Int32) (M7 : Mem) => m_le M M7 → ((¬ r9 = lx1 → wp_X4_openOf_b2 g Q n M7 la0 lx1 (lx2 + 1)) ∧ (r9 = lx1 → wp_X4_ofCall g M7 la0 lx2 5 (fun (r15 : Int32) (M13 : Mem) => m_le M7 M13 → ((5 ≤ r15 → wp_X4_openOf_b2 g Q n M13 la0 lx1 (lx2 + 1)) ∧ (¬ 5 ≤ r15 → Q lx2 M13))))))))
def wp_X4_openOf (g : Nat → Nat) (M : Mem) (a0 : Nat) (x1 : Int32) (Q : Int32 → Mem → Prop) : Prop := ∃ j2 : Nat, wp_X4_openOf_b2 g Q j2 M a0 x1 0
theorem bk_X4_openOf_2 (G : Gp) (C : m_Cx) (n0 s0 : Nat) (M0 : Mem) (Q : Int32 → Mem → Prop) (X : m_in G C RX4 cX4_openOf 3 (some .int) "openOf" 1 22 n0 s0) : ∀ (n : Nat) (M : Mem) (la0 : Nat) (lx1 : Int32) (lx2 : Int32) (hw : wp_X4_openOf_b2 G.2 Q n M la0 lx1 lx2), pW G C 3 n0 s0 M0 (m_Q G C n0 s0 (va_Qi (m_q1 M0 Q) (m_W G) (m_A G))) M 2 [(0, vR (some la0)), (1, vI lx1), (2, vI lx2)] [] := by
  intro n
  induction n with
  | zero => intro M la0 lx1 lx2 hw; exact hw.elim
  | succ n ih =>
    intro M la0 lx1 lx2 hw
    refine pw_iload_n X dX4_openOf_2 rfl rfl ?_
    refine pw_aload_n X dX4_openOf_3 rfl rfl ?_
    obtain ⟨ht1, hw⟩ := hw
    obtain ⟨u2, he3, hw⟩ := hw
    refine pw_get X (q := (RX4, TX4, tyX4, 15)) (ci := 4) (k := 0) (ref := "PatrolDeskModel") (vR (some u2)) ht1 rfl (by decide) in_X4 q1946 (Or.inl rfl) (by rw [he3]; rfl) dX4_openOf_4 ?_
    refine pw_bipush X 9 dX4_openOf_7 (by decide) ?_
    obtain ⟨ht4, hw⟩ := hw
    obtain ⟨hi5, hw⟩ := hw
    refine pw_iald X ht4 hi5 dX4_openOf_9 ?_
    refine pw_icmp_ge X 41 dX4_openOf_10 (by decide) (fun c6 => ?_) (fun c6 => ?_)
    · replace hw := hw.1 c6
      refine pw_bipush X (-5) dX4_openOf_41 (by decide) ?_
      exact pw_iret X hw dX4_openOf_43
    · replace hw := hw.2 c6
      refine pw_aload_n X dX4_openOf_13 rfl rfl ?_
      refine pw_iload_n X dX4_openOf_14 rfl rfl ?_
      refine pw_iconst X 0 dX4_openOf_15 (by decide) ?_
      refine pw_runi X (m_cV X (b := la0) (ci := 4) (q := (RX4, TX4, tyX4, 15)) (met_X4_ofCall G C.2.1 M la0 lx2 0 _ hw) ht1 rfl (lw_V q2053 q2055 qs44 q107 q2056) ⟨rfl, nh_X4_ofCall⟩ ⟨Nat.le_of_ble_eq_true rfl, Nat.le_of_ble_eq_true rfl⟩ rfl (Nat.le_of_ble_eq_true rfl) dX4_openOf_16) (fun r9 M7 hle8 hx => ?_)
      replace hw := hx hle8
      clear hx
      have ht10 : m_tg M7 la0 = 5 := m_le_tg hle8 ht1
      have ht11 : m_tg M7 u2 = 101 := m_le_tg hle8 ht4
      refine pw_iload_n X dX4_openOf_19 rfl rfl ?_
      refine pw_icmp_ne X 35 dX4_openOf_20 (by decide) (fun c12 => ?_) (fun c12 => ?_)
      · replace hw := hw.1 c12
        refine pw_iinc X (lx2 + 1) [(0, vR (some la0)), (1, vI lx1), (2, vI (lx2 + 1))] [1, 2, 0] dX4_openOf_35 rfl (by first | rfl | decide) (by decide) rfl ?_
        refine pw_goto X 2 dX4_openOf_38 (by decide) ?_
        exact ih _ la0 lx1 (lx2 + 1) hw
      · replace hw := hw.2 c12
        refine pw_aload_n X dX4_openOf_23 rfl rfl ?_
        refine pw_iload_n X dX4_openOf_24 rfl rfl ?_
        refine pw_iconst X 5 dX4_openOf_25 (by decide) ?_
        refine pw_runi X (m_cV X (b := la0) (ci := 4) (q := (RX4, TX4, tyX4, 15)) (met_X4_ofCall G C.2.1 M7 la0 lx2 5 _ hw) ht10 rfl (lw_V q2053 q2055 qs44 q107 q2056) ⟨rfl, nh_X4_ofCall⟩ ⟨Nat.le_of_ble_eq_true rfl, Nat.le_of_ble_eq_true rfl⟩ rfl (Nat.le_of_ble_eq_true rfl) dX4_openOf_26) (fun r15 M13 hle14 hx => ?_)
        replace hw := hx hle14
        clear hx
        have ht16 : m_tg M13 la0 = 5 := m_le_tg hle14 ht10
        have ht17 : m_tg M13 u2 = 101 := m_le_tg hle14 ht11
        refine pw_iconst X 5 dX4_openOf_29 (by decide) ?_
        refine pw_icmp_ge X 35 dX4_openOf_30 (by decide) (fun c18 => ?_) (fun c18 => ?_)
        · replace hw := hw.1 c18
          refine pw_iinc X (lx2 + 1) [(0, vR (some la0)), (1, vI lx1), (2, vI (lx2 + 1))] [1, 2, 0] dX4_openOf_35 rfl (by first | rfl | decide) (by decide) rfl ?_
          refine pw_goto X 2 dX4_openOf_38 (by decide) ?_
          exact ih _ la0 lx1 (lx2 + 1) hw
        · replace hw := hw.2 c18
          refine pw_iload_n X dX4_openOf_33 rfl rfl ?_
          exact pw_iret X hw dX4_openOf_34
theorem bk_X4_openOf_0 (G : Gp) (C : m_Cx) (n0 s0 : Nat) (M0 : Mem) (Q : Int32 → Mem → Prop) (X : m_in G C RX4 cX4_openOf 3 (some .int) "openOf" 1 22 n0 s0) (M : Mem) (a0 : Nat) (x1 : Int32) (hw : wp_X4_openOf G.2 M a0 x1 Q) : pW G C 3 n0 s0 M0 (m_Q G C n0 s0 (va_Qi (m_q1 M0 Q) (m_W G) (m_A G))) M 0 [(0, vR (some a0)), (1, vI x1)] [] := by
  refine pw_iconst X 0 dX4_openOf_0 (by decide) ?_
  refine pw_istore_n X [(0, vR (some a0)), (1, vI x1), (2, vI 0)] [1, 2, 0] dX4_openOf_1 rfl (by decide) rfl ?_
  obtain ⟨n2, hw⟩ := hw
  exact bk_X4_openOf_2 G C n0 s0 M0 Q X n2 _ a0 x1 0 hw
theorem met_X4_openOf (G : Gp) (l : Launch) (M : Mem) (a0 : Nat) (x1 : Int32) (Q : Int32 → Mem → Prop) (hw : wp_X4_openOf G.2 M a0 x1 Q) : m_K G l yX4_openOf cX4_openOf 3 (some .int) 1 22 [vR (some a0), vI x1] M (va_Qi (m_q1 M Q) (m_W G) (m_A G)) := by
  refine m_met (by decide) (Nat.le_of_ble_eq_true rfl) (fun C e X => ?_)
  exact bk_X4_openOf_0 G C _ _ M Q X M a0 x1 hw
theorem nh_X4_openOf : m_nMH yX4_openOf 1 := by decide +kernel

def wp_X4_against (g : Nat → Nat) (M : Mem) (a0 : Nat) (x1 : Int32) (x2 : Int32) (x3 : Int32) (Q : Int32 → Mem → Prop) : Prop := m_tg M a0 = 5 ∧ wp_X4_isMember g M a0 x1 (fun (r4 : Int32) (M2 : Mem) => m_le M M2 → ((r4 = 0 → Q (-1) M2) ∧ (¬ r4 = 0 → wp_X4_isArea g M2 x2 (fun (r9 : Int32) (M7 : Mem) => m_le M2 M7 → ((¬ r9 = 0 → wp_X4_in g M7 x3 1 12 (fun (r14 : Int32) (M12 : Mem) => m_le M7 M12 → ((¬ r14 = 0 → wp_X4_openOf g M12 a0 x1 (fun (r19 : Int32) (M17 : Mem) => m_le M12 M17 → ((r19 = (-5) → ∃ u22 : Nat, (m_gr M17 a0 0) = some u22 ∧ m_tg M17 u22 = 101 ∧ vp_in 9 (m_ln M17 u22) ∧ ((¬ (m_gi M17 u22 (Int32.toNatClampNeg 9)) = 40 → Q 0 M17) ∧ ((m_gi M17 u22 (Int32.toNatClampNeg 9)) = 40 → Q (-3) M17))) ∧ (¬ r19 = (-5) → Q (-4) M17)))) ∧ (r14 = 0 → Q (-2) M12)))) ∧ (r9 = 0 → Q (-1) M7))))))
theorem bk_X4_against_0 (G : Gp) (C : m_Cx) (n0 s0 : Nat) (M0 : Mem) (Q : Int32 → Mem → Prop) (X : m_in G C RX4 cX4_against 4 (some .int) "against" 2 44 n0 s0) (M : Mem) (a0 : Nat) (x1 : Int32) (x2 : Int32) (x3 : Int32) (hw : wp_X4_against G.2 M a0 x1 x2 x3 Q) : pW G C 4 n0 s0 M0 (m_Q G C n0 s0 (va_Qi (m_q1 M0 Q) (m_W G) (m_A G))) M 0 [(0, vR (some a0)), (1, vI x1), (2, vI x2), (3, vI x3)] [] := by
  refine pw_aload_n X dX4_against_0 rfl rfl ?_
  refine pw_iload_n X dX4_against_1 rfl rfl ?_
  obtain ⟨ht1, hw⟩ := hw
  refine pw_runi X (m_cV X (b := a0) (ci := 4) (q := (RX4, TX4, tyX4, 15)) (met_X4_isMember G C.2.1 M a0 x1 _ hw) ht1 rfl (lw_V q2045 q2047 qs42 q107 q2048) ⟨rfl, nh_X4_isMember⟩ ⟨Nat.le_of_ble_eq_true rfl, Nat.le_of_ble_eq_true rfl⟩ rfl (Nat.le_of_ble_eq_true rfl) dX4_against_2) (fun r4 M2 hle3 hx => ?_)
  replace hw := hx hle3
  clear hx
  have ht5 : m_tg M2 a0 = 5 := m_le_tg hle3 ht1
  refine pw_if_eq X 15 dX4_against_5 (by decide) (fun c6 => ?_) (fun c6 => ?_)
  · replace hw := hw.1 c6
    refine pw_iconst X (-1) dX4_against_15 (by decide) ?_
    exact pw_iret X hw dX4_against_16
  · replace hw := hw.2 c6
    refine pw_iload_n X dX4_against_8 rfl rfl ?_
    refine pw_runi X (m_cS X (met_X4_isArea G C.2.1 M2 x2 _ hw) (lw_S q1996 q1997 q107 q1998) nh_X4_isArea ⟨Nat.le_of_ble_eq_true rfl, Nat.le_of_ble_eq_true rfl⟩ rfl (Nat.le_of_ble_eq_true rfl) dX4_against_9) (fun r9 M7 hle8 hx => ?_)
    replace hw := hx hle8
    clear hx
    have ht10 : m_tg M7 a0 = 5 := m_le_tg hle8 ht5
    refine pw_if_ne X 17 dX4_against_12 (by decide) (fun c11 => ?_) (fun c11 => ?_)
    · replace hw := hw.1 c11
      refine pw_iload_n X dX4_against_17 rfl rfl ?_
      refine pw_iconst X 1 dX4_against_18 (by decide) ?_
      refine pw_bipush X 12 dX4_against_19 (by decide) ?_
      refine pw_runi X (m_cS X (met_X4_in G C.2.1 M7 x3 1 12 _ hw) (lw_S q1999 q2000 q107 q2001) nh_X4_in ⟨Nat.le_of_ble_eq_true rfl, Nat.le_of_ble_eq_true rfl⟩ rfl (Nat.le_of_ble_eq_true rfl) dX4_against_21) (fun r14 M12 hle13 hx => ?_)
      replace hw := hx hle13
      clear hx
      have ht15 : m_tg M12 a0 = 5 := m_le_tg hle13 ht10
      refine pw_if_ne X 30 dX4_against_24 (by decide) (fun c16 => ?_) (fun c16 => ?_)
      · replace hw := hw.1 c16
        refine pw_aload_n X dX4_against_30 rfl rfl ?_
        refine pw_iload_n X dX4_against_31 rfl rfl ?_
        refine pw_runi X (m_cV X (b := a0) (ci := 4) (q := (RX4, TX4, tyX4, 15)) (met_X4_openOf G C.2.1 M12 a0 x1 _ hw) ht15 rfl (lw_V q2049 q2051 qs43 q107 q2052) ⟨rfl, nh_X4_openOf⟩ ⟨Nat.le_of_ble_eq_true rfl, Nat.le_of_ble_eq_true rfl⟩ rfl (Nat.le_of_ble_eq_true rfl) dX4_against_32) (fun r19 M17 hle18 hx => ?_)
        replace hw := hx hle18
        clear hx
        have ht20 : m_tg M17 a0 = 5 := m_le_tg hle18 ht15
        refine pw_bipush X (-5) dX4_against_35 (by decide) ?_
        refine pw_icmp_eq X 43 dX4_against_37 (by decide) (fun c21 => ?_) (fun c21 => ?_)
        · replace hw := hw.1 c21
          refine pw_aload_n X dX4_against_43 rfl rfl ?_
          obtain ⟨u22, he23, hw⟩ := hw
          refine pw_get X (q := (RX4, TX4, tyX4, 15)) (ci := 4) (k := 0) (ref := "PatrolDeskModel") (vR (some u22)) ht20 rfl (by decide) in_X4 q1946 (Or.inl rfl) (by rw [he23]; rfl) dX4_against_44 ?_
          refine pw_bipush X 9 dX4_against_47 (by decide) ?_
          obtain ⟨ht24, hw⟩ := hw
          obtain ⟨hi25, hw⟩ := hw
          refine pw_iald X ht24 hi25 dX4_against_49 ?_
          refine pw_bipush X 40 dX4_against_50 (by decide) ?_
          refine pw_icmp_ne X 60 dX4_against_52 (by decide) (fun c26 => ?_) (fun c26 => ?_)
          · replace hw := hw.1 c26
            refine pw_iconst X 0 dX4_against_60 (by decide) ?_
            exact pw_iret X hw dX4_against_61
          · replace hw := hw.2 c26
            refine pw_bipush X (-3) dX4_against_55 (by decide) ?_
            refine pw_goto X 61 dX4_against_57 (by decide) ?_
            exact pw_iret X hw dX4_against_61
        · replace hw := hw.2 c21
          refine pw_bipush X (-4) dX4_against_40 (by decide) ?_
          exact pw_iret X hw dX4_against_42
      · replace hw := hw.2 c16
        refine pw_bipush X (-2) dX4_against_27 (by decide) ?_
        exact pw_iret X hw dX4_against_29
    · replace hw := hw.2 c11
      refine pw_iconst X (-1) dX4_against_15 (by decide) ?_
      exact pw_iret X hw dX4_against_16
theorem met_X4_against (G : Gp) (l : Launch) (M : Mem) (a0 : Nat) (x1 : Int32) (x2 : Int32) (x3 : Int32) (Q : Int32 → Mem → Prop) (hw : wp_X4_against G.2 M a0 x1 x2 x3 Q) : m_K G l yX4_against cX4_against 4 (some .int) 2 44 [vR (some a0), vI x1, vI x2, vI x3] M (va_Qi (m_q1 M Q) (m_W G) (m_A G)) := by
  refine m_met (by decide) (Nat.le_of_ble_eq_true rfl) (fun C e X => ?_)
  exact bk_X4_against_0 G C _ _ M Q X M a0 x1 x2 x3 hw
theorem nh_X4_against : m_nMH yX4_against 3 := by decide +kernel

def wp_X4_laysCall (g : Nat → Nat) (M : Mem) (a0 : Nat) (x1 : Int32) (x2 : Int32) (x3 : Int32) (Q : Mem → Prop) : Prop := m_tg M a0 = 5 ∧ ∃ u2 : Nat, (m_gr M a0 0) = some u2 ∧ m_tg M u2 = 101 ∧ vp_in ((290 + (13 * x1)) + x2) (m_ln M u2) ∧ ∀ M6 : Mem, M6 = (m_pi M u2 (Int32.toNatClampNeg ((290 + (13 * x1)) + x2)) x3) → Q M6
theorem bk_X4_laysCall_0 (G : Gp) (C : m_Cx) (n0 s0 : Nat) (M0 : Mem) (Q : Mem → Prop) (X : m_in G C RX4 cX4_laysCall 4 none "laysCall" 0 0 n0 s0) (M : Mem) (a0 : Nat) (x1 : Int32) (x2 : Int32) (x3 : Int32) (hw : wp_X4_laysCall G.2 M a0 x1 x2 x3 Q) : pW G C 4 n0 s0 M0 (m_Q G C n0 s0 (va_Qv (m_q0 M0 Q) (m_W G) (m_A G))) M 0 [(0, vR (some a0)), (1, vI x1), (2, vI x2), (3, vI x3)] [] := by
  refine pw_aload_n X dX4_laysCall_0 rfl rfl ?_
  obtain ⟨ht1, hw⟩ := hw
  obtain ⟨u2, he3, hw⟩ := hw
  refine pw_get X (q := (RX4, TX4, tyX4, 15)) (ci := 4) (k := 0) (ref := "PatrolDeskModel") (vR (some u2)) ht1 rfl (by decide) in_X4 q1946 (Or.inl rfl) (by rw [he3]; rfl) dX4_laysCall_1 ?_
  refine pw_sipush X 290 dX4_laysCall_4 (by decide) ?_
  refine pw_bipush X 13 dX4_laysCall_7 (by decide) ?_
  refine pw_iload_n X dX4_laysCall_9 rfl rfl ?_
  refine pw_imul X dX4_laysCall_10 ?_
  refine pw_iadd X dX4_laysCall_11 ?_
  refine pw_iload_n X dX4_laysCall_12 rfl rfl ?_
  refine pw_iadd X dX4_laysCall_13 ?_
  refine pw_iload_n X dX4_laysCall_14 rfl rfl ?_
  obtain ⟨ht4, hw⟩ := hw
  obtain ⟨hi5, hw⟩ := hw
  obtain ⟨M6, hM7⟩ : ∃ z : Mem, z = (m_pi M u2 (Int32.toNatClampNeg ((290 + (13 * x1)) + x2)) x3) := ⟨_, rfl⟩
  replace hw := hw M6 hM7
  have hle8 : m_le M M6 := by rw [hM7]; exact m_le_pi
  refine pw_iast X ht4 hi5 dX4_laysCall_15 ?_
  rw [← hM7]
  have ht9 : m_tg M6 a0 = 5 := m_le_tg hle8 ht1
  have ht10 : m_tg M6 u2 = 101 := m_le_tg hle8 ht4
  exact pw_vret X hw dX4_laysCall_16
theorem met_X4_laysCall (G : Gp) (l : Launch) (M : Mem) (a0 : Nat) (x1 : Int32) (x2 : Int32) (x3 : Int32) (Q : Mem → Prop) (hw : wp_X4_laysCall G.2 M a0 x1 x2 x3 Q) : m_K G l yX4_laysCall cX4_laysCall 4 none 0 0 [vR (some a0), vI x1, vI x2, vI x3] M (va_Qv (m_q0 M Q) (m_W G) (m_A G)) := by
  refine m_met (by decide) (Nat.le_of_ble_eq_true rfl) (fun C e X => ?_)
  exact bk_X4_laysCall_0 G C _ _ M Q X M a0 x1 x2 x3 hw
theorem nh_X4_laysCall : m_nMH yX4_laysCall 3 := by decide +kernel

def wp_X4_ofMember (g : Nat → Nat) (M : Mem) (a0 : Nat) (x1 : Int32) (x2 : Int32) (Q : Int32 → Mem → Prop) : Prop := m_tg M a0 = 5 ∧ ∃ u2 : Nat, (m_gr M a0 0) = some u2 ∧ m_tg M u2 = 101 ∧ vp_in ((106 + (4 * x1)) + x2) (m_ln M u2) ∧ Q (m_gi M u2 (Int32.toNatClampNeg ((106 + (4 * x1)) + x2))) M
theorem bk_X4_ofMember_0 (G : Gp) (C : m_Cx) (n0 s0 : Nat) (M0 : Mem) (Q : Int32 → Mem → Prop) (X : m_in G C RX4 cX4_ofMember 3 (some .int) "ofMember" 0 0 n0 s0) (M : Mem) (a0 : Nat) (x1 : Int32) (x2 : Int32) (hw : wp_X4_ofMember G.2 M a0 x1 x2 Q) : pW G C 3 n0 s0 M0 (m_Q G C n0 s0 (va_Qi (m_q1 M0 Q) (m_W G) (m_A G))) M 0 [(0, vR (some a0)), (1, vI x1), (2, vI x2)] [] := by
  refine pw_aload_n X dX4_ofMember_0 rfl rfl ?_
  obtain ⟨ht1, hw⟩ := hw
  obtain ⟨u2, he3, hw⟩ := hw
  refine pw_get X (q := (RX4, TX4, tyX4, 15)) (ci := 4) (k := 0) (ref := "PatrolDeskModel") (vR (some u2)) ht1 rfl (by decide) in_X4 q1946 (Or.inl rfl) (by rw [he3]; rfl) dX4_ofMember_1 ?_
  refine pw_bipush X 106 dX4_ofMember_4 (by decide) ?_
  refine pw_iconst X 4 dX4_ofMember_6 (by decide) ?_
  refine pw_iload_n X dX4_ofMember_7 rfl rfl ?_
  refine pw_imul X dX4_ofMember_8 ?_
  refine pw_iadd X dX4_ofMember_9 ?_
  refine pw_iload_n X dX4_ofMember_10 rfl rfl ?_
  refine pw_iadd X dX4_ofMember_11 ?_
  obtain ⟨ht4, hw⟩ := hw
  obtain ⟨hi5, hw⟩ := hw
  refine pw_iald X ht4 hi5 dX4_ofMember_12 ?_
  exact pw_iret X hw dX4_ofMember_13
theorem met_X4_ofMember (G : Gp) (l : Launch) (M : Mem) (a0 : Nat) (x1 : Int32) (x2 : Int32) (Q : Int32 → Mem → Prop) (hw : wp_X4_ofMember G.2 M a0 x1 x2 Q) : m_K G l yX4_ofMember cX4_ofMember 3 (some .int) 0 0 [vR (some a0), vI x1, vI x2] M (va_Qi (m_q1 M Q) (m_W G) (m_A G)) := by
  refine m_met (by decide) (Nat.le_of_ble_eq_true rfl) (fun C e X => ?_)
  exact bk_X4_ofMember_0 G C _ _ M Q X M a0 x1 x2 hw
theorem nh_X4_ofMember : m_nMH yX4_ofMember 2 := by decide +kernel

def wp_X4_ofPatrol (g : Nat → Nat) (M : Mem) (a0 : Nat) (x1 : Int32) (x2 : Int32) (Q : Int32 → Mem → Prop) : Prop := m_tg M a0 = 5 ∧ ∃ u2 : Nat, (m_gr M a0 0) = some u2 ∧ m_tg M u2 = 101 ∧ vp_in ((186 + (14 * x1)) + x2) (m_ln M u2) ∧ Q (m_gi M u2 (Int32.toNatClampNeg ((186 + (14 * x1)) + x2))) M
theorem bk_X4_ofPatrol_0 (G : Gp) (C : m_Cx) (n0 s0 : Nat) (M0 : Mem) (Q : Int32 → Mem → Prop) (X : m_in G C RX4 cX4_ofPatrol 3 (some .int) "ofPatrol" 0 0 n0 s0) (M : Mem) (a0 : Nat) (x1 : Int32) (x2 : Int32) (hw : wp_X4_ofPatrol G.2 M a0 x1 x2 Q) : pW G C 3 n0 s0 M0 (m_Q G C n0 s0 (va_Qi (m_q1 M0 Q) (m_W G) (m_A G))) M 0 [(0, vR (some a0)), (1, vI x1), (2, vI x2)] [] := by
  refine pw_aload_n X dX4_ofPatrol_0 rfl rfl ?_
  obtain ⟨ht1, hw⟩ := hw
  obtain ⟨u2, he3, hw⟩ := hw
  refine pw_get X (q := (RX4, TX4, tyX4, 15)) (ci := 4) (k := 0) (ref := "PatrolDeskModel") (vR (some u2)) ht1 rfl (by decide) in_X4 q1946 (Or.inl rfl) (by rw [he3]; rfl) dX4_ofPatrol_1 ?_
  refine pw_sipush X 186 dX4_ofPatrol_4 (by decide) ?_
  refine pw_bipush X 14 dX4_ofPatrol_7 (by decide) ?_
  refine pw_iload_n X dX4_ofPatrol_9 rfl rfl ?_
  refine pw_imul X dX4_ofPatrol_10 ?_
  refine pw_iadd X dX4_ofPatrol_11 ?_
  refine pw_iload_n X dX4_ofPatrol_12 rfl rfl ?_
  refine pw_iadd X dX4_ofPatrol_13 ?_
  obtain ⟨ht4, hw⟩ := hw
  obtain ⟨hi5, hw⟩ := hw
  refine pw_iald X ht4 hi5 dX4_ofPatrol_14 ?_
  exact pw_iret X hw dX4_ofPatrol_15
theorem met_X4_ofPatrol (G : Gp) (l : Launch) (M : Mem) (a0 : Nat) (x1 : Int32) (x2 : Int32) (Q : Int32 → Mem → Prop) (hw : wp_X4_ofPatrol G.2 M a0 x1 x2 Q) : m_K G l yX4_ofPatrol cX4_ofPatrol 3 (some .int) 0 0 [vR (some a0), vI x1, vI x2] M (va_Qi (m_q1 M Q) (m_W G) (m_A G)) := by
  refine m_met (by decide) (Nat.le_of_ble_eq_true rfl) (fun C e X => ?_)
  exact bk_X4_ofPatrol_0 G C _ _ M Q X M a0 x1 x2 hw
theorem nh_X4_ofPatrol : m_nMH yX4_ofPatrol 2 := by decide +kernel

def wp_X4_addsMember (g : Nat → Nat) (M : Mem) (a0 : Nat) (x1 : Int32) (x2 : Int32) (x3 : Int32) (Q : Mem → Prop) : Prop := m_tg M a0 = 5 ∧ ∃ u2 : Nat, (m_gr M a0 0) = some u2 ∧ m_tg M u2 = 101 ∧ vp_in ((106 + (4 * x1)) + x2) (m_ln M u2) ∧ vp_in ((106 + (4 * x1)) + x2) (m_ln M u2) ∧ ∀ M7 : Mem, M7 = (m_pi M u2 (Int32.toNatClampNeg ((106 + (4 * x1)) + x2)) ((m_gi M u2 (Int32.toNatClampNeg ((106 + (4 * x1)) + x2))) + x3)) → Q M7
theorem bk_X4_addsMember_0 (G : Gp) (C : m_Cx) (n0 s0 : Nat) (M0 : Mem) (Q : Mem → Prop) (X : m_in G C RX4 cX4_addsMember 4 none "addsMember" 0 0 n0 s0) (M : Mem) (a0 : Nat) (x1 : Int32) (x2 : Int32) (x3 : Int32) (hw : wp_X4_addsMember G.2 M a0 x1 x2 x3 Q) : pW G C 4 n0 s0 M0 (m_Q G C n0 s0 (va_Qv (m_q0 M0 Q) (m_W G) (m_A G))) M 0 [(0, vR (some a0)), (1, vI x1), (2, vI x2), (3, vI x3)] [] := by
  refine pw_aload_n X dX4_addsMember_0 rfl rfl ?_
  obtain ⟨ht1, hw⟩ := hw
  obtain ⟨u2, he3, hw⟩ := hw
  refine pw_get X (q := (RX4, TX4, tyX4, 15)) (ci := 4) (k := 0) (ref := "PatrolDeskModel") (vR (some u2)) ht1 rfl (by decide) in_X4 q1946 (Or.inl rfl) (by rw [he3]; rfl) dX4_addsMember_1 ?_
  refine pw_bipush X 106 dX4_addsMember_4 (by decide) ?_
  refine pw_iconst X 4 dX4_addsMember_6 (by decide) ?_
  refine pw_iload_n X dX4_addsMember_7 rfl rfl ?_
  refine pw_imul X dX4_addsMember_8 ?_
  refine pw_iadd X dX4_addsMember_9 ?_
  refine pw_iload_n X dX4_addsMember_10 rfl rfl ?_
  refine pw_iadd X dX4_addsMember_11 ?_
  refine pw_dup2 X dX4_addsMember_12 ?_
  obtain ⟨ht4, hw⟩ := hw
  obtain ⟨hi5, hw⟩ := hw
  refine pw_iald X ht4 hi5 dX4_addsMember_13 ?_
  refine pw_iload_n X dX4_addsMember_14 rfl rfl ?_
  refine pw_iadd X dX4_addsMember_15 ?_
  obtain ⟨hi6, hw⟩ := hw
  obtain ⟨M7, hM8⟩ : ∃ z : Mem, z = (m_pi M u2 (Int32.toNatClampNeg ((106 + (4 * x1)) + x2)) ((m_gi M u2 (Int32.toNatClampNeg ((106 + (4 * x1)) + x2))) + x3)) := ⟨_, rfl⟩
  replace hw := hw M7 hM8
  have hle9 : m_le M M7 := by rw [hM8]; exact m_le_pi
  refine pw_iast X ht4 hi6 dX4_addsMember_16 ?_
  rw [← hM8]
  have ht10 : m_tg M7 a0 = 5 := m_le_tg hle9 ht1
  have ht11 : m_tg M7 u2 = 101 := m_le_tg hle9 ht4
  exact pw_vret X hw dX4_addsMember_17
theorem met_X4_addsMember (G : Gp) (l : Launch) (M : Mem) (a0 : Nat) (x1 : Int32) (x2 : Int32) (x3 : Int32) (Q : Mem → Prop) (hw : wp_X4_addsMember G.2 M a0 x1 x2 x3 Q) : m_K G l yX4_addsMember cX4_addsMember 4 none 0 0 [vR (some a0), vI x1, vI x2, vI x3] M (va_Qv (m_q0 M Q) (m_W G) (m_A G)) := by
  refine m_met (by decide) (Nat.le_of_ble_eq_true rfl) (fun C e X => ?_)
  exact bk_X4_addsMember_0 G C _ _ M Q X M a0 x1 x2 x3 hw
theorem nh_X4_addsMember : m_nMH yX4_addsMember 3 := by decide +kernel

def wp_X4_comes_b16 (g : Nat → Nat) (Q : Mem → Prop) : Nat → Mem → Nat → Int32 → Int32 → Int32 → Int32 → Int32 → Int32 → Prop
  | 0 => fun _ _ _ _ _ _ _ _ => False
  | n + 1 => fun M la0 lx1 lx2 lx3 lx4 lx5 lx6 => ((lx4 ≤ lx6 → m_tg M la0 = 5 ∧ wp_X4_laysCall g M la0 lx4 0 lx1 (fun (M3 : Mem) => m_le M M3 → wp_X4_laysCall g M3 la0 lx4 1 lx2 (fun (M6 : Mem) => m_le M3 M6 → wp_X4_laysCall g M6 la0 lx4 2 lx3 (fun (M9 : Mem) => m_le M6 M9 → ∃ u12 : Nat, (m_gr M9 la0 0) = some u12 ∧ wp_X4_ofMember g M9 la0 lx1 0 (fun (r16 : Int32) (M14 : Mem) => m_le M9 M14 → m_tg M14 u12 = 101 ∧ vp_in (2 + r16) (m_ln M14 u12) ∧ ∃ u20 : Nat, (m_gr M14 la0 0) = some u20 ∧ m_tg M14 u20 = 101 ∧ vp_in 1 (m_ln M14 u20) ∧ wp_X4_laysCall g M14 la0 lx4 3 ((m_gi M14 u12 (Int32.toNatClampNeg (2 + r16))) + (10 * (m_gi M14 u20 (Int32.toNatClampNeg 1)))) (fun (M24 : Mem) => m_le M14 M24 → ∃ u29 : Nat, (m_gr M24 la0 0) = some u29 ∧ m_tg M24 u29 = 101 ∧ vp_in 0 (m_ln M24 u29) ∧ wp_X4_laysCall g M24 la0 lx4 4 (m_gi M24 u29 (Int32.toNatClampNeg 0)) (fun (M33 : Mem) => m_le M24 M33 → wp_X4_laysCall g M33 la0 lx4 5 0 (fun (M39 : Mem) => m_le M33 M39 → wp_X4_laysCall g M39 la0 lx4 6 (-5) (fun (M45 : Mem) => m_le M39 M45 → wp_X4_laysCall g M45 la0 lx4 7 0 (fun (M51 : Mem) => m_le M45 M51 → wp_X4_laysCall g M51 la0 lx4 8 (-5) (fun (M57 : Mem) => m_le M51 M57 → wp_X4_laysCall g M57 la0 lx4 9 (-5) (fun (M63 : Mem) => m_le M57 M63 → wp_X4_laysCall g M63 la0 lx4 10 0 (fun (M69 : Mem) => m_le M63 M69 → wp_X4_laysCall g M69 la0 lx4 11 (-5) (fun (M75 : Mem) => m_le M69 M75 → ∃ u81 : Nat, (m_gr M75 la0 0) = some u81 ∧ m_tg M75 u81 = 101 ∧ vp_in 9 (m_ln M75 u81) ∧ vp_in 9 (m_ln M75 u81) ∧ ∀ M86 : Mem, M86 = (m_pi M75 u81 (Int32.toNatClampNeg 9) ((m_gi M75 u81 (Int32.toNatClampNeg 9)) + 1)) → ((lx5 = (-5) → Q M86) ∧ (¬ lx5 = (-5) → ∃ u95 : Nat, (m_gr M86 la0 0) = some u95 ∧ m_tg M86 u95 = 101 ∧ vp_in 0 (m_ln M86 u95) ∧ wp_X4_ofCall g M86 la0 lx5 9 (fun (r101 : Int32) (M99 : Mem) => m_le M86 M99 → ((120 < ((m_gi M86 u95 (Int32.toNatClampNeg 0)) - r101) → Q M99) ∧ (¬ 120 < ((m_gi M86 u95 (Int32.toNatClampNeg 0)) - r101) → wp_X4_ofCall g M99 la0 lx5 8 (fun (r111 : Int32) (M109 : Mem) => m_le M99 M109 → wp_X4_laysCall g M109 la0 lx4 10 1 (fun (M118 : Mem) => m_le M109 M118 → wp_X4_ofPatrol g M118 la0 r111 9 (fun (r128 : Int32) (M126 : Mem) => m_le M118 M126 → wp_X4_laysPatrol g M126 la0 r111 9 (r128 + 1) (fun (M135 : Mem) => m_le M126 M135 → wp_X4_addsMember g M135 la0 lx1 2 1 (fun (M143 : Mem) => m_le M135 M143 → ∃ u151 : Nat, (m_gr M143 la0 0) = some u151 ∧ m_tg M143 u151 = 101 ∧ vp_in 12 (m_ln M143 u151) ∧ vp_in 12 (m_ln M143 u151) ∧ ∀ M156 : Mem, M156 = (m_pi M143 u151 (Int32.toNatClampNeg 12) ((m_gi M143 u151 (Int32.toNatClampNeg 12)) + 1)) → Q M156)))))))))))))))))))))))) ∧ (¬ lx4 ≤ lx6 → m_tg M la0 = 5 ∧ wp_X4_ofCall g M la0 lx6 0 (fun (r169 : Int32) (M167 : Mem) => m_le M M167 → ((¬ r169 = lx1 → wp_X4_comes_b16 g Q n M167 la0 lx1 lx2 lx3 lx4 lx5 (lx6 + 1)) ∧ (r169 = lx1 → wp_X4_ofCall g M167 la0 lx6 5 (fun (r174 : Int32) (M172 : Mem) => m_le M167 M172 → ((¬ r174 = 5 → wp_X4_comes_b16 g Q n M172 la0 lx1 lx2 lx3 lx4 lx5 (lx6 + 1)) ∧ (r174 = 5 → wp_X4_comes_b16 g Q n M172 la0 lx1 lx2 lx3 lx4 lx6 (lx6 + 1)))))))))
def wp_X4_comes (g : Nat → Nat) (M : Mem) (a0 : Nat) (x1 : Int32) (x2 : Int32) (x3 : Int32) (Q : Mem → Prop) : Prop := m_tg M a0 = 5 ∧ ∃ u2 : Nat, (m_gr M a0 0) = some u2 ∧ m_tg M u2 = 101 ∧ vp_in 9 (m_ln M u2) ∧ ∃ j16 : Nat, wp_X4_comes_b16 g Q j16 M a0 x1 x2 x3 (m_gi M u2 (Int32.toNatClampNeg 9)) (-5) 0
theorem bk_X4_comes_16 (G : Gp) (C : m_Cx) (n0 s0 : Nat) (M0 : Mem) (Q : Mem → Prop) (X : m_in G C RX4 cX4_comes 7 none "comes" 1 23 n0 s0) : ∀ (n : Nat) (M : Mem) (la0 : Nat) (lx1 : Int32) (lx2 : Int32) (lx3 : Int32) (lx4 : Int32) (lx5 : Int32) (lx6 : Int32) (hw : wp_X4_comes_b16 G.2 Q n M la0 lx1 lx2 lx3 lx4 lx5 lx6), pW G C 7 n0 s0 M0 (m_Q G C n0 s0 (va_Qv (m_q0 M0 Q) (m_W G) (m_A G))) M 16 [(0, vR (some la0)), (1, vI lx1), (2, vI lx2), (3, vI lx3), (4, vI lx4), (5, vI lx5), (6, vI lx6)] [] := by
  intro n
  induction n with
  | zero => intro M la0 lx1 lx2 lx3 lx4 lx5 lx6 hw; exact hw.elim
  | succ n ih =>
    intro M la0 lx1 lx2 lx3 lx4 lx5 lx6 hw
    refine pw_iload X dX4_comes_16 rfl ?_
    refine pw_iload X dX4_comes_18 rfl ?_
    refine pw_icmp_ge X 60 dX4_comes_20 (by decide) (fun c1 => ?_) (fun c1 => ?_)
    · replace hw := hw.1 c1
      refine pw_aload_n X dX4_comes_60 rfl rfl ?_
      refine pw_iload X dX4_comes_61 rfl ?_
      refine pw_iconst X 0 dX4_comes_63 (by decide) ?_
      refine pw_iload_n X dX4_comes_64 rfl rfl ?_
      obtain ⟨ht2, hw⟩ := hw
      refine pw_runv X (m_cV X (b := la0) (ci := 4) (q := (RX4, TX4, tyX4, 15)) (met_X4_laysCall G C.2.1 M la0 lx4 0 lx1 _ hw) ht2 rfl (lw_V q2061 q2063 qs46 q107 q2064) ⟨rfl, nh_X4_laysCall⟩ ⟨Nat.le_of_ble_eq_true rfl, Nat.le_of_ble_eq_true rfl⟩ rfl (Nat.le_of_ble_eq_true rfl) dX4_comes_65) (fun M3 hle4 hx => ?_)
      replace hw := hx hle4
      clear hx
      have ht5 : m_tg M3 la0 = 5 := m_le_tg hle4 ht2
      refine pw_aload_n X dX4_comes_68 rfl rfl ?_
      refine pw_iload X dX4_comes_69 rfl ?_
      refine pw_iconst X 1 dX4_comes_71 (by decide) ?_
      refine pw_iload_n X dX4_comes_72 rfl rfl ?_
      refine pw_runv X (m_cV X (b := la0) (ci := 4) (q := (RX4, TX4, tyX4, 15)) (met_X4_laysCall G C.2.1 M3 la0 lx4 1 lx2 _ hw) ht5 rfl (lw_V q2061 q2063 qs46 q107 q2064) ⟨rfl, nh_X4_laysCall⟩ ⟨Nat.le_of_ble_eq_true rfl, Nat.le_of_ble_eq_true rfl⟩ rfl (Nat.le_of_ble_eq_true rfl) dX4_comes_73) (fun M6 hle7 hx => ?_)
      replace hw := hx hle7
      clear hx
      have ht8 : m_tg M6 la0 = 5 := m_le_tg hle7 ht5
      refine pw_aload_n X dX4_comes_76 rfl rfl ?_
      refine pw_iload X dX4_comes_77 rfl ?_
      refine pw_iconst X 2 dX4_comes_79 (by decide) ?_
      refine pw_iload_n X dX4_comes_80 rfl rfl ?_
      refine pw_runv X (m_cV X (b := la0) (ci := 4) (q := (RX4, TX4, tyX4, 15)) (met_X4_laysCall G C.2.1 M6 la0 lx4 2 lx3 _ hw) ht8 rfl (lw_V q2061 q2063 qs46 q107 q2064) ⟨rfl, nh_X4_laysCall⟩ ⟨Nat.le_of_ble_eq_true rfl, Nat.le_of_ble_eq_true rfl⟩ rfl (Nat.le_of_ble_eq_true rfl) dX4_comes_81) (fun M9 hle10 hx => ?_)
      replace hw := hx hle10
      clear hx
      have ht11 : m_tg M9 la0 = 5 := m_le_tg hle10 ht8
      refine pw_aload_n X dX4_comes_84 rfl rfl ?_
      refine pw_iload X dX4_comes_85 rfl ?_
      refine pw_iconst X 3 dX4_comes_87 (by decide) ?_
      refine pw_aload_n X dX4_comes_88 rfl rfl ?_
      obtain ⟨u12, he13, hw⟩ := hw
      refine pw_get X (q := (RX4, TX4, tyX4, 15)) (ci := 4) (k := 0) (ref := "PatrolDeskModel") (vR (some u12)) ht11 rfl (by decide) in_X4 q1946 (Or.inl rfl) (by rw [he13]; rfl) dX4_comes_89 ?_
      refine pw_iconst X 2 dX4_comes_92 (by decide) ?_
      refine pw_aload_n X dX4_comes_93 rfl rfl ?_
      refine pw_iload_n X dX4_comes_94 rfl rfl ?_
      refine pw_iconst X 0 dX4_comes_95 (by decide) ?_
      refine pw_runi X (m_cV X (b := la0) (ci := 4) (q := (RX4, TX4, tyX4, 15)) (met_X4_ofMember G C.2.1 M9 la0 lx1 0 _ hw) ht11 rfl (lw_V q2065 q2067 qs47 q107 q2068) ⟨rfl, nh_X4_ofMember⟩ ⟨Nat.le_of_ble_eq_true rfl, Nat.le_of_ble_eq_true rfl⟩ rfl (Nat.le_of_ble_eq_true rfl) dX4_comes_96) (fun r16 M14 hle15 hx => ?_)
      replace hw := hx hle15
      clear hx
      have ht17 : m_tg M14 la0 = 5 := m_le_tg hle15 ht11
      refine pw_iadd X dX4_comes_99 ?_
      obtain ⟨ht18, hw⟩ := hw
      obtain ⟨hi19, hw⟩ := hw
      refine pw_iald X ht18 hi19 dX4_comes_100 ?_
      refine pw_bipush X 10 dX4_comes_101 (by decide) ?_
      refine pw_aload_n X dX4_comes_103 rfl rfl ?_
      obtain ⟨u20, he21, hw⟩ := hw
      refine pw_get X (q := (RX4, TX4, tyX4, 15)) (ci := 4) (k := 0) (ref := "PatrolDeskModel") (vR (some u20)) ht17 rfl (by decide) in_X4 q1946 (Or.inl rfl) (by rw [he21]; rfl) dX4_comes_104 ?_
      refine pw_iconst X 1 dX4_comes_107 (by decide) ?_
      obtain ⟨ht22, hw⟩ := hw
      obtain ⟨hi23, hw⟩ := hw
      refine pw_iald X ht22 hi23 dX4_comes_108 ?_
      refine pw_imul X dX4_comes_109 ?_
      refine pw_iadd X dX4_comes_110 ?_
      refine pw_runv X (m_cV X (b := la0) (ci := 4) (q := (RX4, TX4, tyX4, 15)) (met_X4_laysCall G C.2.1 M14 la0 lx4 3 ((m_gi M14 u12 (Int32.toNatClampNeg (2 + r16))) + (10 * (m_gi M14 u20 (Int32.toNatClampNeg 1)))) _ hw) ht17 rfl (lw_V q2061 q2063 qs46 q107 q2064) ⟨rfl, nh_X4_laysCall⟩ ⟨Nat.le_of_ble_eq_true rfl, Nat.le_of_ble_eq_true rfl⟩ rfl (Nat.le_of_ble_eq_true rfl) dX4_comes_111) (fun M24 hle25 hx => ?_)
      replace hw := hx hle25
      clear hx
      have ht26 : m_tg M24 la0 = 5 := m_le_tg hle25 ht17
      have ht27 : m_tg M24 u12 = 101 := m_le_tg hle25 ht18
      have ht28 : m_tg M24 u20 = 101 := m_le_tg hle25 ht22
      refine pw_aload_n X dX4_comes_114 rfl rfl ?_
      refine pw_iload X dX4_comes_115 rfl ?_
      refine pw_iconst X 4 dX4_comes_117 (by decide) ?_
      refine pw_aload_n X dX4_comes_118 rfl rfl ?_
      obtain ⟨u29, he30, hw⟩ := hw
      refine pw_get X (q := (RX4, TX4, tyX4, 15)) (ci := 4) (k := 0) (ref := "PatrolDeskModel") (vR (some u29)) ht26 rfl (by decide) in_X4 q1946 (Or.inl rfl) (by rw [he30]; rfl) dX4_comes_119 ?_
      refine pw_iconst X 0 dX4_comes_122 (by decide) ?_
      obtain ⟨ht31, hw⟩ := hw
      obtain ⟨hi32, hw⟩ := hw
      refine pw_iald X ht31 hi32 dX4_comes_123 ?_
      refine pw_runv X (m_cV X (b := la0) (ci := 4) (q := (RX4, TX4, tyX4, 15)) (met_X4_laysCall G C.2.1 M24 la0 lx4 4 (m_gi M24 u29 (Int32.toNatClampNeg 0)) _ hw) ht26 rfl (lw_V q2061 q2063 qs46 q107 q2064) ⟨rfl, nh_X4_laysCall⟩ ⟨Nat.le_of_ble_eq_true rfl, Nat.le_of_ble_eq_true rfl⟩ rfl (Nat.le_of_ble_eq_true rfl) dX4_comes_124) (fun M33 hle34 hx => ?_)
      replace hw := hx hle34
      clear hx
      have ht35 : m_tg M33 la0 = 5 := m_le_tg hle34 ht26
      have ht36 : m_tg M33 u12 = 101 := m_le_tg hle34 ht27
      have ht37 : m_tg M33 u20 = 101 := m_le_tg hle34 ht28
      have ht38 : m_tg M33 u29 = 101 := m_le_tg hle34 ht31
      refine pw_aload_n X dX4_comes_127 rfl rfl ?_
      refine pw_iload X dX4_comes_128 rfl ?_
      refine pw_iconst X 5 dX4_comes_130 (by decide) ?_
      refine pw_iconst X 0 dX4_comes_131 (by decide) ?_
      refine pw_runv X (m_cV X (b := la0) (ci := 4) (q := (RX4, TX4, tyX4, 15)) (met_X4_laysCall G C.2.1 M33 la0 lx4 5 0 _ hw) ht35 rfl (lw_V q2061 q2063 qs46 q107 q2064) ⟨rfl, nh_X4_laysCall⟩ ⟨Nat.le_of_ble_eq_true rfl, Nat.le_of_ble_eq_true rfl⟩ rfl (Nat.le_of_ble_eq_true rfl) dX4_comes_132) (fun M39 hle40 hx => ?_)
      replace hw := hx hle40
      clear hx
      have ht41 : m_tg M39 la0 = 5 := m_le_tg hle40 ht35
      have ht42 : m_tg M39 u12 = 101 := m_le_tg hle40 ht36
      have ht43 : m_tg M39 u20 = 101 := m_le_tg hle40 ht37
      have ht44 : m_tg M39 u29 = 101 := m_le_tg hle40 ht38
      refine pw_aload_n X dX4_comes_135 rfl rfl ?_
      refine pw_iload X dX4_comes_136 rfl ?_
      refine pw_bipush X 6 dX4_comes_138 (by decide) ?_
      refine pw_bipush X (-5) dX4_comes_140 (by decide) ?_
      refine pw_runv X (m_cV X (b := la0) (ci := 4) (q := (RX4, TX4, tyX4, 15)) (met_X4_laysCall G C.2.1 M39 la0 lx4 6 (-5) _ hw) ht41 rfl (lw_V q2061 q2063 qs46 q107 q2064) ⟨rfl, nh_X4_laysCall⟩ ⟨Nat.le_of_ble_eq_true rfl, Nat.le_of_ble_eq_true rfl⟩ rfl (Nat.le_of_ble_eq_true rfl) dX4_comes_142) (fun M45 hle46 hx => ?_)
      replace hw := hx hle46
      clear hx
      have ht47 : m_tg M45 la0 = 5 := m_le_tg hle46 ht41
      have ht48 : m_tg M45 u12 = 101 := m_le_tg hle46 ht42
      have ht49 : m_tg M45 u20 = 101 := m_le_tg hle46 ht43
      have ht50 : m_tg M45 u29 = 101 := m_le_tg hle46 ht44
      refine pw_aload_n X dX4_comes_145 rfl rfl ?_
      refine pw_iload X dX4_comes_146 rfl ?_
      refine pw_bipush X 7 dX4_comes_148 (by decide) ?_
      refine pw_iconst X 0 dX4_comes_150 (by decide) ?_
      refine pw_runv X (m_cV X (b := la0) (ci := 4) (q := (RX4, TX4, tyX4, 15)) (met_X4_laysCall G C.2.1 M45 la0 lx4 7 0 _ hw) ht47 rfl (lw_V q2061 q2063 qs46 q107 q2064) ⟨rfl, nh_X4_laysCall⟩ ⟨Nat.le_of_ble_eq_true rfl, Nat.le_of_ble_eq_true rfl⟩ rfl (Nat.le_of_ble_eq_true rfl) dX4_comes_151) (fun M51 hle52 hx => ?_)
      replace hw := hx hle52
      clear hx
      have ht53 : m_tg M51 la0 = 5 := m_le_tg hle52 ht47
      have ht54 : m_tg M51 u12 = 101 := m_le_tg hle52 ht48
      have ht55 : m_tg M51 u20 = 101 := m_le_tg hle52 ht49
      have ht56 : m_tg M51 u29 = 101 := m_le_tg hle52 ht50
      refine pw_aload_n X dX4_comes_154 rfl rfl ?_
      refine pw_iload X dX4_comes_155 rfl ?_
      refine pw_bipush X 8 dX4_comes_157 (by decide) ?_
      refine pw_bipush X (-5) dX4_comes_159 (by decide) ?_
      refine pw_runv X (m_cV X (b := la0) (ci := 4) (q := (RX4, TX4, tyX4, 15)) (met_X4_laysCall G C.2.1 M51 la0 lx4 8 (-5) _ hw) ht53 rfl (lw_V q2061 q2063 qs46 q107 q2064) ⟨rfl, nh_X4_laysCall⟩ ⟨Nat.le_of_ble_eq_true rfl, Nat.le_of_ble_eq_true rfl⟩ rfl (Nat.le_of_ble_eq_true rfl) dX4_comes_161) (fun M57 hle58 hx => ?_)
      replace hw := hx hle58
      clear hx
      have ht59 : m_tg M57 la0 = 5 := m_le_tg hle58 ht53
      have ht60 : m_tg M57 u12 = 101 := m_le_tg hle58 ht54
      have ht61 : m_tg M57 u20 = 101 := m_le_tg hle58 ht55
      have ht62 : m_tg M57 u29 = 101 := m_le_tg hle58 ht56
      refine pw_aload_n X dX4_comes_164 rfl rfl ?_
      refine pw_iload X dX4_comes_165 rfl ?_
      refine pw_bipush X 9 dX4_comes_167 (by decide) ?_
      refine pw_bipush X (-5) dX4_comes_169 (by decide) ?_
      refine pw_runv X (m_cV X (b := la0) (ci := 4) (q := (RX4, TX4, tyX4, 15)) (met_X4_laysCall G C.2.1 M57 la0 lx4 9 (-5) _ hw) ht59 rfl (lw_V q2061 q2063 qs46 q107 q2064) ⟨rfl, nh_X4_laysCall⟩ ⟨Nat.le_of_ble_eq_true rfl, Nat.le_of_ble_eq_true rfl⟩ rfl (Nat.le_of_ble_eq_true rfl) dX4_comes_171) (fun M63 hle64 hx => ?_)
      replace hw := hx hle64
      clear hx
      have ht65 : m_tg M63 la0 = 5 := m_le_tg hle64 ht59
      have ht66 : m_tg M63 u12 = 101 := m_le_tg hle64 ht60
      have ht67 : m_tg M63 u20 = 101 := m_le_tg hle64 ht61
      have ht68 : m_tg M63 u29 = 101 := m_le_tg hle64 ht62
      refine pw_aload_n X dX4_comes_174 rfl rfl ?_
      refine pw_iload X dX4_comes_175 rfl ?_
      refine pw_bipush X 10 dX4_comes_177 (by decide) ?_
      refine pw_iconst X 0 dX4_comes_179 (by decide) ?_
      refine pw_runv X (m_cV X (b := la0) (ci := 4) (q := (RX4, TX4, tyX4, 15)) (met_X4_laysCall G C.2.1 M63 la0 lx4 10 0 _ hw) ht65 rfl (lw_V q2061 q2063 qs46 q107 q2064) ⟨rfl, nh_X4_laysCall⟩ ⟨Nat.le_of_ble_eq_true rfl, Nat.le_of_ble_eq_true rfl⟩ rfl (Nat.le_of_ble_eq_true rfl) dX4_comes_180) (fun M69 hle70 hx => ?_)
      replace hw := hx hle70
      clear hx
      have ht71 : m_tg M69 la0 = 5 := m_le_tg hle70 ht65
      have ht72 : m_tg M69 u12 = 101 := m_le_tg hle70 ht66
      have ht73 : m_tg M69 u20 = 101 := m_le_tg hle70 ht67
      have ht74 : m_tg M69 u29 = 101 := m_le_tg hle70 ht68
      refine pw_aload_n X dX4_comes_183 rfl rfl ?_
      refine pw_iload X dX4_comes_184 rfl ?_
      refine pw_bipush X 11 dX4_comes_186 (by decide) ?_
      refine pw_bipush X (-5) dX4_comes_188 (by decide) ?_
      refine pw_runv X (m_cV X (b := la0) (ci := 4) (q := (RX4, TX4, tyX4, 15)) (met_X4_laysCall G C.2.1 M69 la0 lx4 11 (-5) _ hw) ht71 rfl (lw_V q2061 q2063 qs46 q107 q2064) ⟨rfl, nh_X4_laysCall⟩ ⟨Nat.le_of_ble_eq_true rfl, Nat.le_of_ble_eq_true rfl⟩ rfl (Nat.le_of_ble_eq_true rfl) dX4_comes_190) (fun M75 hle76 hx => ?_)
      replace hw := hx hle76
      clear hx
      have ht77 : m_tg M75 la0 = 5 := m_le_tg hle76 ht71
      have ht78 : m_tg M75 u12 = 101 := m_le_tg hle76 ht72
      have ht79 : m_tg M75 u20 = 101 := m_le_tg hle76 ht73
      have ht80 : m_tg M75 u29 = 101 := m_le_tg hle76 ht74
      refine pw_aload_n X dX4_comes_193 rfl rfl ?_
      obtain ⟨u81, he82, hw⟩ := hw
      refine pw_get X (q := (RX4, TX4, tyX4, 15)) (ci := 4) (k := 0) (ref := "PatrolDeskModel") (vR (some u81)) ht77 rfl (by decide) in_X4 q1946 (Or.inl rfl) (by rw [he82]; rfl) dX4_comes_194 ?_
      refine pw_bipush X 9 dX4_comes_197 (by decide) ?_
      refine pw_dup2 X dX4_comes_199 ?_
      obtain ⟨ht83, hw⟩ := hw
      obtain ⟨hi84, hw⟩ := hw
      refine pw_iald X ht83 hi84 dX4_comes_200 ?_
      refine pw_iconst X 1 dX4_comes_201 (by decide) ?_
      refine pw_iadd X dX4_comes_202 ?_
      obtain ⟨hi85, hw⟩ := hw
      obtain ⟨M86, hM87⟩ : ∃ z : Mem, z = (m_pi M75 u81 (Int32.toNatClampNeg 9) ((m_gi M75 u81 (Int32.toNatClampNeg 9)) + 1)) := ⟨_, rfl⟩
      replace hw := hw M86 hM87
      have hle88 : m_le M75 M86 := by rw [hM87]; exact m_le_pi
      refine pw_iast X ht83 hi85 dX4_comes_203 ?_
      rw [← hM87]
      have ht89 : m_tg M86 la0 = 5 := m_le_tg hle88 ht77
      have ht90 : m_tg M86 u12 = 101 := m_le_tg hle88 ht78
      have ht91 : m_tg M86 u20 = 101 := m_le_tg hle88 ht79
      have ht92 : m_tg M86 u29 = 101 := m_le_tg hle88 ht80
      have ht93 : m_tg M86 u81 = 101 := m_le_tg hle88 ht83
      refine pw_iload X dX4_comes_204 rfl ?_
      refine pw_bipush X (-5) dX4_comes_206 (by decide) ?_
      refine pw_icmp_eq X 286 dX4_comes_208 (by decide) (fun c94 => ?_) (fun c94 => ?_)
      · replace hw := hw.1 c94
        exact pw_vret X hw dX4_comes_286
      · replace hw := hw.2 c94
        refine pw_aload_n X dX4_comes_211 rfl rfl ?_
        obtain ⟨u95, he96, hw⟩ := hw
        refine pw_get X (q := (RX4, TX4, tyX4, 15)) (ci := 4) (k := 0) (ref := "PatrolDeskModel") (vR (some u95)) ht89 rfl (by decide) in_X4 q1946 (Or.inl rfl) (by rw [he96]; rfl) dX4_comes_212 ?_
        refine pw_iconst X 0 dX4_comes_215 (by decide) ?_
        obtain ⟨ht97, hw⟩ := hw
        obtain ⟨hi98, hw⟩ := hw
        refine pw_iald X ht97 hi98 dX4_comes_216 ?_
        refine pw_aload_n X dX4_comes_217 rfl rfl ?_
        refine pw_iload X dX4_comes_218 rfl ?_
        refine pw_bipush X 9 dX4_comes_220 (by decide) ?_
        refine pw_runi X (m_cV X (b := la0) (ci := 4) (q := (RX4, TX4, tyX4, 15)) (met_X4_ofCall G C.2.1 M86 la0 lx5 9 _ hw) ht89 rfl (lw_V q2053 q2055 qs44 q107 q2056) ⟨rfl, nh_X4_ofCall⟩ ⟨Nat.le_of_ble_eq_true rfl, Nat.le_of_ble_eq_true rfl⟩ rfl (Nat.le_of_ble_eq_true rfl) dX4_comes_222) (fun r101 M99 hle100 hx => ?_)
        replace hw := hx hle100
        clear hx
        have ht102 : m_tg M99 la0 = 5 := m_le_tg hle100 ht89
        have ht103 : m_tg M99 u12 = 101 := m_le_tg hle100 ht90
        have ht104 : m_tg M99 u20 = 101 := m_le_tg hle100 ht91
        have ht105 : m_tg M99 u29 = 101 := m_le_tg hle100 ht92
        have ht106 : m_tg M99 u81 = 101 := m_le_tg hle100 ht93
        have ht107 : m_tg M99 u95 = 101 := m_le_tg hle100 ht97
        refine pw_isub X dX4_comes_225 ?_
        refine pw_bipush X 120 dX4_comes_226 (by decide) ?_
        refine pw_icmp_gt X 286 dX4_comes_228 (by decide) (fun c108 => ?_) (fun c108 => ?_)
        · replace hw := hw.1 c108
          exact pw_vret X hw dX4_comes_286
        · replace hw := hw.2 c108
          refine pw_aload_n X dX4_comes_231 rfl rfl ?_
          refine pw_iload X dX4_comes_232 rfl ?_
          refine pw_bipush X 8 dX4_comes_234 (by decide) ?_
          refine pw_runi X (m_cV X (b := la0) (ci := 4) (q := (RX4, TX4, tyX4, 15)) (met_X4_ofCall G C.2.1 M99 la0 lx5 8 _ hw) ht102 rfl (lw_V q2053 q2055 qs44 q107 q2056) ⟨rfl, nh_X4_ofCall⟩ ⟨Nat.le_of_ble_eq_true rfl, Nat.le_of_ble_eq_true rfl⟩ rfl (Nat.le_of_ble_eq_true rfl) dX4_comes_236) (fun r111 M109 hle110 hx => ?_)
          replace hw := hx hle110
          clear hx
          have ht112 : m_tg M109 la0 = 5 := m_le_tg hle110 ht102
          have ht113 : m_tg M109 u12 = 101 := m_le_tg hle110 ht103
          have ht114 : m_tg M109 u20 = 101 := m_le_tg hle110 ht104
          have ht115 : m_tg M109 u29 = 101 := m_le_tg hle110 ht105
          have ht116 : m_tg M109 u81 = 101 := m_le_tg hle110 ht106
          have ht117 : m_tg M109 u95 = 101 := m_le_tg hle110 ht107
          refine pw_istore X [(0, vR (some la0)), (1, vI lx1), (4, vI lx4), (6, vI r111)] [1, 2, 5, 0] dX4_comes_239 (by decide) rfl ?_
          refine pw_aload_n X dX4_comes_241 rfl rfl ?_
          refine pw_iload X dX4_comes_242 rfl ?_
          refine pw_bipush X 10 dX4_comes_244 (by decide) ?_
          refine pw_iconst X 1 dX4_comes_246 (by decide) ?_
          refine pw_runv X (m_cV X (b := la0) (ci := 4) (q := (RX4, TX4, tyX4, 15)) (met_X4_laysCall G C.2.1 M109 la0 lx4 10 1 _ hw) ht112 rfl (lw_V q2061 q2063 qs46 q107 q2064) ⟨rfl, nh_X4_laysCall⟩ ⟨Nat.le_of_ble_eq_true rfl, Nat.le_of_ble_eq_true rfl⟩ rfl (Nat.le_of_ble_eq_true rfl) dX4_comes_247) (fun M118 hle119 hx => ?_)
          replace hw := hx hle119
          clear hx
          have ht120 : m_tg M118 la0 = 5 := m_le_tg hle119 ht112
          have ht121 : m_tg M118 u12 = 101 := m_le_tg hle119 ht113
          have ht122 : m_tg M118 u20 = 101 := m_le_tg hle119 ht114
          have ht123 : m_tg M118 u29 = 101 := m_le_tg hle119 ht115
          have ht124 : m_tg M118 u81 = 101 := m_le_tg hle119 ht116
          have ht125 : m_tg M118 u95 = 101 := m_le_tg hle119 ht117
          refine pw_aload_n X dX4_comes_250 rfl rfl ?_
          refine pw_iload X dX4_comes_251 rfl ?_
          refine pw_bipush X 9 dX4_comes_253 (by decide) ?_
          refine pw_aload_n X dX4_comes_255 rfl rfl ?_
          refine pw_iload X dX4_comes_256 rfl ?_
          refine pw_bipush X 9 dX4_comes_258 (by decide) ?_
          refine pw_runi X (m_cV X (b := la0) (ci := 4) (q := (RX4, TX4, tyX4, 15)) (met_X4_ofPatrol G C.2.1 M118 la0 r111 9 _ hw) ht120 rfl (lw_V q2069 q2071 qs48 q107 q2072) ⟨rfl, nh_X4_ofPatrol⟩ ⟨Nat.le_of_ble_eq_true rfl, Nat.le_of_ble_eq_true rfl⟩ rfl (Nat.le_of_ble_eq_true rfl) dX4_comes_260) (fun r128 M126 hle127 hx => ?_)
          replace hw := hx hle127
          clear hx
          have ht129 : m_tg M126 la0 = 5 := m_le_tg hle127 ht120
          have ht130 : m_tg M126 u12 = 101 := m_le_tg hle127 ht121
          have ht131 : m_tg M126 u20 = 101 := m_le_tg hle127 ht122
          have ht132 : m_tg M126 u29 = 101 := m_le_tg hle127 ht123
          have ht133 : m_tg M126 u81 = 101 := m_le_tg hle127 ht124
          have ht134 : m_tg M126 u95 = 101 := m_le_tg hle127 ht125
          refine pw_iconst X 1 dX4_comes_263 (by decide) ?_
          refine pw_iadd X dX4_comes_264 ?_
          refine pw_runv X (m_cV X (b := la0) (ci := 4) (q := (RX4, TX4, tyX4, 15)) (met_X4_laysPatrol G C.2.1 M126 la0 r111 9 (r128 + 1) _ hw) ht129 rfl (lw_V q2017 q2019 qs39 q107 q2020) ⟨rfl, nh_X4_laysPatrol⟩ ⟨Nat.le_of_ble_eq_true rfl, Nat.le_of_ble_eq_true rfl⟩ rfl (Nat.le_of_ble_eq_true rfl) dX4_comes_265) (fun M135 hle136 hx => ?_)
          replace hw := hx hle136
          clear hx
          have ht137 : m_tg M135 la0 = 5 := m_le_tg hle136 ht129
          have ht138 : m_tg M135 u12 = 101 := m_le_tg hle136 ht130
          have ht139 : m_tg M135 u20 = 101 := m_le_tg hle136 ht131
          have ht140 : m_tg M135 u29 = 101 := m_le_tg hle136 ht132
          have ht141 : m_tg M135 u81 = 101 := m_le_tg hle136 ht133
          have ht142 : m_tg M135 u95 = 101 := m_le_tg hle136 ht134
          refine pw_aload_n X dX4_comes_268 rfl rfl ?_
          refine pw_iload_n X dX4_comes_269 rfl rfl ?_
          refine pw_iconst X 2 dX4_comes_270 (by decide) ?_
          refine pw_iconst X 1 dX4_comes_271 (by decide) ?_
          refine pw_runv X (m_cV X (b := la0) (ci := 4) (q := (RX4, TX4, tyX4, 15)) (met_X4_addsMember G C.2.1 M135 la0 lx1 2 1 _ hw) ht137 rfl (lw_V q2073 q2075 qs49 q107 q2076) ⟨rfl, nh_X4_addsMember⟩ ⟨Nat.le_of_ble_eq_true rfl, Nat.le_of_ble_eq_true rfl⟩ rfl (Nat.le_of_ble_eq_true rfl) dX4_comes_272) (fun M143 hle144 hx => ?_)
          replace hw := hx hle144
          clear hx
          have ht145 : m_tg M143 la0 = 5 := m_le_tg hle144 ht137
          have ht146 : m_tg M143 u12 = 101 := m_le_tg hle144 ht138
          have ht147 : m_tg M143 u20 = 101 := m_le_tg hle144 ht139
          have ht148 : m_tg M143 u29 = 101 := m_le_tg hle144 ht140
          have ht149 : m_tg M143 u81 = 101 := m_le_tg hle144 ht141
          have ht150 : m_tg M143 u95 = 101 := m_le_tg hle144 ht142
          refine pw_aload_n X dX4_comes_275 rfl rfl ?_
          obtain ⟨u151, he152, hw⟩ := hw
          refine pw_get X (q := (RX4, TX4, tyX4, 15)) (ci := 4) (k := 0) (ref := "PatrolDeskModel") (vR (some u151)) ht145 rfl (by decide) in_X4 q1946 (Or.inl rfl) (by rw [he152]; rfl) dX4_comes_276 ?_
          refine pw_bipush X 12 dX4_comes_279 (by decide) ?_
          refine pw_dup2 X dX4_comes_281 ?_
          obtain ⟨ht153, hw⟩ := hw
          obtain ⟨hi154, hw⟩ := hw
          refine pw_iald X ht153 hi154 dX4_comes_282 ?_
          refine pw_iconst X 1 dX4_comes_283 (by decide) ?_
          refine pw_iadd X dX4_comes_284 ?_
          obtain ⟨hi155, hw⟩ := hw
          obtain ⟨M156, hM157⟩ : ∃ z : Mem, z = (m_pi M143 u151 (Int32.toNatClampNeg 12) ((m_gi M143 u151 (Int32.toNatClampNeg 12)) + 1)) := ⟨_, rfl⟩
          replace hw := hw M156 hM157
          have hle158 : m_le M143 M156 := by rw [hM157]; exact m_le_pi
          refine pw_iast X ht153 hi155 dX4_comes_285 ?_
          rw [← hM157]
          have ht159 : m_tg M156 la0 = 5 := m_le_tg hle158 ht145
          have ht160 : m_tg M156 u12 = 101 := m_le_tg hle158 ht146
          have ht161 : m_tg M156 u20 = 101 := m_le_tg hle158 ht147
          have ht162 : m_tg M156 u29 = 101 := m_le_tg hle158 ht148
          have ht163 : m_tg M156 u81 = 101 := m_le_tg hle158 ht149
          have ht164 : m_tg M156 u95 = 101 := m_le_tg hle158 ht150
          have ht165 : m_tg M156 u151 = 101 := m_le_tg hle158 ht153
          exact pw_vret X hw dX4_comes_286
    · replace hw := hw.2 c1
      refine pw_aload_n X dX4_comes_23 rfl rfl ?_
      refine pw_iload X dX4_comes_24 rfl ?_
      refine pw_iconst X 0 dX4_comes_26 (by decide) ?_
      obtain ⟨ht166, hw⟩ := hw
      refine pw_runi X (m_cV X (b := la0) (ci := 4) (q := (RX4, TX4, tyX4, 15)) (met_X4_ofCall G C.2.1 M la0 lx6 0 _ hw) ht166 rfl (lw_V q2053 q2055 qs44 q107 q2056) ⟨rfl, nh_X4_ofCall⟩ ⟨Nat.le_of_ble_eq_true rfl, Nat.le_of_ble_eq_true rfl⟩ rfl (Nat.le_of_ble_eq_true rfl) dX4_comes_27) (fun r169 M167 hle168 hx => ?_)
      replace hw := hx hle168
      clear hx
      have ht170 : m_tg M167 la0 = 5 := m_le_tg hle168 ht166
      refine pw_iload_n X dX4_comes_30 rfl rfl ?_
      refine pw_icmp_ne X 50 dX4_comes_31 (by decide) (fun c171 => ?_) (fun c171 => ?_)
      · replace hw := hw.1 c171
        refine pw_iload X dX4_comes_50 rfl ?_
        refine pw_istore X [(0, vR (some la0)), (1, vI lx1), (2, vI lx2), (3, vI lx3), (4, vI lx4), (5, vI lx5), (6, vI lx6)] [1, 2, 3, 4, 5, 0, 6] dX4_comes_52 (by decide) rfl ?_
        refine pw_iinc X (lx6 + 1) [(0, vR (some la0)), (1, vI lx1), (2, vI lx2), (3, vI lx3), (4, vI lx4), (5, vI lx5), (6, vI (lx6 + 1))] [1, 2, 3, 4, 5, 6, 0] dX4_comes_54 rfl (by first | rfl | decide) (by decide) rfl ?_
        refine pw_goto X 16 dX4_comes_57 (by decide) ?_
        exact ih _ la0 lx1 lx2 lx3 lx4 lx5 (lx6 + 1) hw
      · replace hw := hw.2 c171
        refine pw_aload_n X dX4_comes_34 rfl rfl ?_
        refine pw_iload X dX4_comes_35 rfl ?_
        refine pw_iconst X 5 dX4_comes_37 (by decide) ?_
        refine pw_runi X (m_cV X (b := la0) (ci := 4) (q := (RX4, TX4, tyX4, 15)) (met_X4_ofCall G C.2.1 M167 la0 lx6 5 _ hw) ht170 rfl (lw_V q2053 q2055 qs44 q107 q2056) ⟨rfl, nh_X4_ofCall⟩ ⟨Nat.le_of_ble_eq_true rfl, Nat.le_of_ble_eq_true rfl⟩ rfl (Nat.le_of_ble_eq_true rfl) dX4_comes_38) (fun r174 M172 hle173 hx => ?_)
        replace hw := hx hle173
        clear hx
        have ht175 : m_tg M172 la0 = 5 := m_le_tg hle173 ht170
        refine pw_iconst X 5 dX4_comes_41 (by decide) ?_
        refine pw_icmp_ne X 50 dX4_comes_42 (by decide) (fun c176 => ?_) (fun c176 => ?_)
        · replace hw := hw.1 c176
          refine pw_iload X dX4_comes_50 rfl ?_
          refine pw_istore X [(0, vR (some la0)), (1, vI lx1), (2, vI lx2), (3, vI lx3), (4, vI lx4), (5, vI lx5), (6, vI lx6)] [1, 2, 3, 4, 5, 0, 6] dX4_comes_52 (by decide) rfl ?_
          refine pw_iinc X (lx6 + 1) [(0, vR (some la0)), (1, vI lx1), (2, vI lx2), (3, vI lx3), (4, vI lx4), (5, vI lx5), (6, vI (lx6 + 1))] [1, 2, 3, 4, 5, 6, 0] dX4_comes_54 rfl (by first | rfl | decide) (by decide) rfl ?_
          refine pw_goto X 16 dX4_comes_57 (by decide) ?_
          exact ih _ la0 lx1 lx2 lx3 lx4 lx5 (lx6 + 1) hw
        · replace hw := hw.2 c176
          refine pw_iload X dX4_comes_45 rfl ?_
          refine pw_goto X 52 dX4_comes_47 (by decide) ?_
          refine pw_istore X [(0, vR (some la0)), (1, vI lx1), (2, vI lx2), (3, vI lx3), (4, vI lx4), (5, vI lx6), (6, vI lx6)] [1, 2, 3, 4, 5, 0, 6] dX4_comes_52 (by decide) rfl ?_
          refine pw_iinc X (lx6 + 1) [(0, vR (some la0)), (1, vI lx1), (2, vI lx2), (3, vI lx3), (4, vI lx4), (5, vI lx6), (6, vI (lx6 + 1))] [1, 2, 3, 4, 5, 6, 0] dX4_comes_54 rfl (by first | rfl | decide) (by decide) rfl ?_
          refine pw_goto X 16 dX4_comes_57 (by decide) ?_
          exact ih _ la0 lx1 lx2 lx3 lx4 lx6 (lx6 + 1) hw
theorem bk_X4_comes_0 (G : Gp) (C : m_Cx) (n0 s0 : Nat) (M0 : Mem) (Q : Mem → Prop) (X : m_in G C RX4 cX4_comes 7 none "comes" 1 23 n0 s0) (M : Mem) (a0 : Nat) (x1 : Int32) (x2 : Int32) (x3 : Int32) (hw : wp_X4_comes G.2 M a0 x1 x2 x3 Q) : pW G C 7 n0 s0 M0 (m_Q G C n0 s0 (va_Qv (m_q0 M0 Q) (m_W G) (m_A G))) M 0 [(0, vR (some a0)), (1, vI x1), (2, vI x2), (3, vI x3)] [] := by
  refine pw_aload_n X dX4_comes_0 rfl rfl ?_
  obtain ⟨ht1, hw⟩ := hw
  obtain ⟨u2, he3, hw⟩ := hw
  refine pw_get X (q := (RX4, TX4, tyX4, 15)) (ci := 4) (k := 0) (ref := "PatrolDeskModel") (vR (some u2)) ht1 rfl (by decide) in_X4 q1946 (Or.inl rfl) (by rw [he3]; rfl) dX4_comes_1 ?_
  refine pw_bipush X 9 dX4_comes_4 (by decide) ?_
  obtain ⟨ht4, hw⟩ := hw
  obtain ⟨hi5, hw⟩ := hw
  refine pw_iald X ht4 hi5 dX4_comes_6 ?_
  refine pw_istore X [(0, vR (some a0)), (1, vI x1), (2, vI x2), (3, vI x3), (4, vI (m_gi M u2 (Int32.toNatClampNeg 9)))] [1, 2, 3, 4, 0] dX4_comes_7 (by decide) rfl ?_
  refine pw_bipush X (-5) dX4_comes_9 (by decide) ?_
  refine pw_istore X [(0, vR (some a0)), (1, vI x1), (2, vI x2), (3, vI x3), (4, vI (m_gi M u2 (Int32.toNatClampNeg 9))), (5, vI (-5))] [1, 2, 3, 4, 5, 0] dX4_comes_11 (by decide) rfl ?_
  refine pw_iconst X 0 dX4_comes_13 (by decide) ?_
  refine pw_istore X [(0, vR (some a0)), (1, vI x1), (2, vI x2), (3, vI x3), (4, vI (m_gi M u2 (Int32.toNatClampNeg 9))), (5, vI (-5)), (6, vI 0)] [1, 2, 3, 4, 5, 6, 0] dX4_comes_14 (by decide) rfl ?_
  obtain ⟨n16, hw⟩ := hw
  exact bk_X4_comes_16 G C n0 s0 M0 Q X n16 _ a0 x1 x2 x3 (m_gi M u2 (Int32.toNatClampNeg 9)) (-5) 0 hw
theorem met_X4_comes (G : Gp) (l : Launch) (M : Mem) (a0 : Nat) (x1 : Int32) (x2 : Int32) (x3 : Int32) (Q : Mem → Prop) (hw : wp_X4_comes G.2 M a0 x1 x2 x3 Q) : m_K G l yX4_comes cX4_comes 7 none 1 23 [vR (some a0), vI x1, vI x2, vI x3] M (va_Qv (m_q0 M Q) (m_W G) (m_A G)) := by
  refine m_met (by decide) (Nat.le_of_ble_eq_true rfl) (fun C e X => ?_)
  exact bk_X4_comes_0 G C _ _ M Q X M a0 x1 x2 x3 hw
theorem nh_X4_comes : m_nMH yX4_comes 3 := by decide +kernel

def wp_X4_call (g : Nat → Nat) (M : Mem) (a0 : Nat) (x1 : Int32) (x2 : Int32) (x3 : Int32) (Q : Int32 → Mem → Prop) : Prop := m_tg M a0 = 5 ∧ wp_X4_against g M a0 x1 x2 x3 (fun (r4 : Int32) (M2 : Mem) => m_le M M2 → ((r4 = 0 → wp_X4_records g M2 a0 (fun (M7 : Mem) => m_le M2 M7 → wp_X4_comes g M7 a0 x1 x2 x3 (fun (M10 : Mem) => m_le M7 M10 → ∃ u13 : Nat, (m_gr M10 a0 0) = some u13 ∧ m_tg M10 u13 = 101 ∧ vp_in 9 (m_ln M10 u13) ∧ Q ((m_gi M10 u13 (Int32.toNatClampNeg 9)) - 1) M10))) ∧ (¬ r4 = 0 → Q r4 M2)))
theorem bk_X4_call_0 (G : Gp) (C : m_Cx) (n0 s0 : Nat) (M0 : Mem) (Q : Int32 → Mem → Prop) (X : m_in G C RX4 cX4_call 5 (some .int) "call" 3 67 n0 s0) (M : Mem) (a0 : Nat) (x1 : Int32) (x2 : Int32) (x3 : Int32) (hw : wp_X4_call G.2 M a0 x1 x2 x3 Q) : pW G C 5 n0 s0 M0 (m_Q G C n0 s0 (va_Qi (m_q1 M0 Q) (m_W G) (m_A G))) M 0 [(0, vR (some a0)), (1, vI x1), (2, vI x2), (3, vI x3)] [] := by
  refine pw_aload_n X dX4_call_0 rfl rfl ?_
  refine pw_iload_n X dX4_call_1 rfl rfl ?_
  refine pw_iload_n X dX4_call_2 rfl rfl ?_
  refine pw_iload_n X dX4_call_3 rfl rfl ?_
  obtain ⟨ht1, hw⟩ := hw
  refine pw_runi X (m_cV X (b := a0) (ci := 4) (q := (RX4, TX4, tyX4, 15)) (met_X4_against G C.2.1 M a0 x1 x2 x3 _ hw) ht1 rfl (lw_V q2041 q2043 qs41 q107 q2044) ⟨rfl, nh_X4_against⟩ ⟨Nat.le_of_ble_eq_true rfl, Nat.le_of_ble_eq_true rfl⟩ rfl (Nat.le_of_ble_eq_true rfl) dX4_call_4) (fun r4 M2 hle3 hx => ?_)
  replace hw := hx hle3
  clear hx
  have ht5 : m_tg M2 a0 = 5 := m_le_tg hle3 ht1
  refine pw_istore X [(0, vR (some a0)), (1, vI x1), (2, vI x2), (3, vI x3), (4, vI r4)] [1, 2, 3, 4, 0] dX4_call_7 (by decide) rfl ?_
  refine pw_iload X dX4_call_9 rfl ?_
  refine pw_if_eq X 17 dX4_call_11 (by decide) (fun c6 => ?_) (fun c6 => ?_)
  · replace hw := hw.1 c6
    refine pw_aload_n X dX4_call_17 rfl rfl ?_
    refine pw_runv X (m_cV X (b := a0) (ci := 4) (q := (RX4, TX4, tyX4, 15)) (met_X4_records G C.2.1 M2 a0 _ hw) ht5 rfl (lw_V q2002 q2004 qs38 q107 q2005) ⟨rfl, nh_X4_records⟩ ⟨Nat.le_of_ble_eq_true rfl, Nat.le_of_ble_eq_true rfl⟩ rfl (Nat.le_of_ble_eq_true rfl) dX4_call_18) (fun M7 hle8 hx => ?_)
    replace hw := hx hle8
    clear hx
    have ht9 : m_tg M7 a0 = 5 := m_le_tg hle8 ht5
    refine pw_aload_n X dX4_call_21 rfl rfl ?_
    refine pw_iload_n X dX4_call_22 rfl rfl ?_
    refine pw_iload_n X dX4_call_23 rfl rfl ?_
    refine pw_iload_n X dX4_call_24 rfl rfl ?_
    refine pw_runv X (m_cV X (b := a0) (ci := 4) (q := (RX4, TX4, tyX4, 15)) (met_X4_comes G C.2.1 M7 a0 x1 x2 x3 _ hw) ht9 rfl (lw_V q2057 q2059 qs45 q107 q2060) ⟨rfl, nh_X4_comes⟩ ⟨Nat.le_of_ble_eq_true rfl, Nat.le_of_ble_eq_true rfl⟩ rfl (Nat.le_of_ble_eq_true rfl) dX4_call_25) (fun M10 hle11 hx => ?_)
    replace hw := hx hle11
    clear hx
    have ht12 : m_tg M10 a0 = 5 := m_le_tg hle11 ht9
    refine pw_aload_n X dX4_call_28 rfl rfl ?_
    obtain ⟨u13, he14, hw⟩ := hw
    refine pw_get X (q := (RX4, TX4, tyX4, 15)) (ci := 4) (k := 0) (ref := "PatrolDeskModel") (vR (some u13)) ht12 rfl (by decide) in_X4 q1946 (Or.inl rfl) (by rw [he14]; rfl) dX4_call_29 ?_
    refine pw_bipush X 9 dX4_call_32 (by decide) ?_
    obtain ⟨ht15, hw⟩ := hw
    obtain ⟨hi16, hw⟩ := hw
    refine pw_iald X ht15 hi16 dX4_call_34 ?_
    refine pw_iconst X 1 dX4_call_35 (by decide) ?_
    refine pw_isub X dX4_call_36 ?_
    exact pw_iret X hw dX4_call_37
  · replace hw := hw.2 c6
    refine pw_iload X dX4_call_14 rfl ?_
    exact pw_iret X hw dX4_call_16
theorem met_X4_call (G : Gp) (l : Launch) (M : Mem) (a0 : Nat) (x1 : Int32) (x2 : Int32) (x3 : Int32) (Q : Int32 → Mem → Prop) (hw : wp_X4_call G.2 M a0 x1 x2 x3 Q) : m_K G l yX4_call cX4_call 5 (some .int) 3 67 [vR (some a0), vI x1, vI x2, vI x3] M (va_Qi (m_q1 M Q) (m_W G) (m_A G)) := by
  refine m_met (by decide) (Nat.le_of_ble_eq_true rfl) (fun C e X => ?_)
  exact bk_X4_call_0 G C _ _ M Q X M a0 x1 x2 x3 hw
theorem nh_X4_call : m_nMH yX4_call 3 := by decide +kernel

def wp_X4_isCall (g : Nat → Nat) (M : Mem) (a0 : Nat) (x1 : Int32) (Q : Int32 → Mem → Prop) : Prop := m_tg M a0 = 5 ∧ ∃ u2 : Nat, (m_gr M a0 0) = some u2 ∧ m_tg M u2 = 101 ∧ vp_in 9 (m_ln M u2) ∧ wp_X4_in g M x1 0 ((m_gi M u2 (Int32.toNatClampNeg 9)) - 1) (fun (r8 : Int32) (M6 : Mem) => m_le M M6 → ((r8 = 0 ∨ r8 = 1) ∧ Q r8 M6))
theorem bk_X4_isCall_0 (G : Gp) (C : m_Cx) (n0 s0 : Nat) (M0 : Mem) (Q : Int32 → Mem → Prop) (X : m_in G C RX4 cX4_isCall 2 (some .boolean) "isCall" 1 22 n0 s0) (M : Mem) (a0 : Nat) (x1 : Int32) (hw : wp_X4_isCall G.2 M a0 x1 Q) : pW G C 2 n0 s0 M0 (m_Q G C n0 s0 (va_Qi (m_q1 M0 Q) (m_W G) (m_A G))) M 0 [(0, vR (some a0)), (1, vI x1)] [] := by
  refine pw_iload_n X dX4_isCall_0 rfl rfl ?_
  refine pw_iconst X 0 dX4_isCall_1 (by decide) ?_
  refine pw_aload_n X dX4_isCall_2 rfl rfl ?_
  obtain ⟨ht1, hw⟩ := hw
  obtain ⟨u2, he3, hw⟩ := hw
  refine pw_get X (q := (RX4, TX4, tyX4, 15)) (ci := 4) (k := 0) (ref := "PatrolDeskModel") (vR (some u2)) ht1 rfl (by decide) in_X4 q1946 (Or.inl rfl) (by rw [he3]; rfl) dX4_isCall_3 ?_
  refine pw_bipush X 9 dX4_isCall_6 (by decide) ?_
  obtain ⟨ht4, hw⟩ := hw
  obtain ⟨hi5, hw⟩ := hw
  refine pw_iald X ht4 hi5 dX4_isCall_8 ?_
  refine pw_iconst X 1 dX4_isCall_9 (by decide) ?_
  refine pw_isub X dX4_isCall_10 ?_
  refine pw_runi X (m_cS X (met_X4_in G C.2.1 M x1 0 ((m_gi M u2 (Int32.toNatClampNeg 9)) - 1) _ hw) (lw_S q1999 q2000 q107 q2001) nh_X4_in ⟨Nat.le_of_ble_eq_true rfl, Nat.le_of_ble_eq_true rfl⟩ rfl (Nat.le_of_ble_eq_true rfl) dX4_isCall_11) (fun r8 M6 hle7 hx => ?_)
  replace hw := hx hle7
  clear hx
  have ht9 : m_tg M6 a0 = 5 := m_le_tg hle7 ht1
  have ht10 : m_tg M6 u2 = 101 := m_le_tg hle7 ht4
  exact pw_zret X (m_nz hw.1) hw.2 dX4_isCall_14
theorem met_X4_isCall (G : Gp) (l : Launch) (M : Mem) (a0 : Nat) (x1 : Int32) (Q : Int32 → Mem → Prop) (hw : wp_X4_isCall G.2 M a0 x1 Q) : m_K G l yX4_isCall cX4_isCall 2 (some .boolean) 1 22 [vR (some a0), vI x1] M (va_Qi (m_q1 M Q) (m_W G) (m_A G)) := by
  refine m_met (by decide) (Nat.le_of_ble_eq_true rfl) (fun C e X => ?_)
  exact bk_X4_isCall_0 G C _ _ M Q X M a0 x1 hw
theorem nh_X4_isCall : m_nMH yX4_isCall 1 := by decide +kernel

def wp_X4_waitedOf_b28 (g : Nat → Nat) (M : Mem) (la0 : Nat) (lx1 : Int32) (sx0 : Int32) (Q : Int32 → Mem → Prop) : Prop := ((sx0 = 0 → m_tg M la0 = 5 ∧ ∃ u3 : Nat, (m_gr M la0 0) = some u3 ∧ m_tg M u3 = 101 ∧ vp_in 0 (m_ln M u3) ∧ wp_X4_ofCall g M la0 lx1 4 (fun (r9 : Int32) (M7 : Mem) => m_le M M7 → Q ((m_gi M u3 (Int32.toNatClampNeg 0)) - r9) M7)) ∧ (¬ sx0 = 0 → m_tg M la0 = 5 ∧ wp_X4_ofCall g M la0 lx1 7 (fun (r15 : Int32) (M13 : Mem) => m_le M M13 → Q r15 M13)))
def wp_X4_waitedOf_b23 (g : Nat → Nat) (M : Mem) (la0 : Nat) (lx1 : Int32) (Q : Int32 → Mem → Prop) : Prop := wp_X4_waitedOf_b28 g M la0 lx1 1 Q
def wp_X4_waitedOf (g : Nat → Nat) (M : Mem) (a0 : Nat) (x1 : Int32) (Q : Int32 → Mem → Prop) : Prop := m_tg M a0 = 5 ∧ wp_X4_ofCall g M a0 x1 8 (fun (r4 : Int32) (M2 : Mem) => m_le M M2 → ((¬ r4 = (-5) → wp_X4_waitedOf_b23 g M2 a0 x1 Q) ∧ (r4 = (-5) → wp_X4_ofCall g M2 a0 x1 5 (fun (r9 : Int32) (M7 : Mem) => m_le M2 M7 → ((¬ r9 = 7 → wp_X4_waitedOf_b28 g M7 a0 x1 0 Q) ∧ (r9 = 7 → wp_X4_waitedOf_b23 g M7 a0 x1 Q))))))
theorem bk_X4_waitedOf_28 (G : Gp) (C : m_Cx) (n0 s0 : Nat) (M0 : Mem) (Q : Int32 → Mem → Prop) (X : m_in G C RX4 cX4_waitedOf 3 (some .int) "waitedOf" 1 22 n0 s0) (M : Mem) (la0 : Nat) (lx1 : Int32) (sx0 : Int32) (hw : wp_X4_waitedOf_b28 G.2 M la0 lx1 sx0 Q) : pW G C 3 n0 s0 M0 (m_Q G C n0 s0 (va_Qi (m_q1 M0 Q) (m_W G) (m_A G))) M 28 [(0, vR (some la0)), (1, vI lx1)] [vI sx0] := by
  refine pw_istore_n X [(0, vR (some la0)), (1, vI lx1), (2, vI sx0)] [1, 2, 0] dX4_waitedOf_28 rfl (by decide) rfl ?_
  refine pw_iload_n X dX4_waitedOf_29 rfl rfl ?_
  refine pw_if_eq X 43 dX4_waitedOf_30 (by decide) (fun c1 => ?_) (fun c1 => ?_)
  · replace hw := hw.1 c1
    refine pw_aload_n X dX4_waitedOf_43 rfl rfl ?_
    obtain ⟨ht2, hw⟩ := hw
    obtain ⟨u3, he4, hw⟩ := hw
    refine pw_get X (q := (RX4, TX4, tyX4, 15)) (ci := 4) (k := 0) (ref := "PatrolDeskModel") (vR (some u3)) ht2 rfl (by decide) in_X4 q1946 (Or.inl rfl) (by rw [he4]; rfl) dX4_waitedOf_44 ?_
    refine pw_iconst X 0 dX4_waitedOf_47 (by decide) ?_
    obtain ⟨ht5, hw⟩ := hw
    obtain ⟨hi6, hw⟩ := hw
    refine pw_iald X ht5 hi6 dX4_waitedOf_48 ?_
    refine pw_aload_n X dX4_waitedOf_49 rfl rfl ?_
    refine pw_iload_n X dX4_waitedOf_50 rfl rfl ?_
    refine pw_iconst X 4 dX4_waitedOf_51 (by decide) ?_
    refine pw_runi X (m_cV X (b := la0) (ci := 4) (q := (RX4, TX4, tyX4, 15)) (met_X4_ofCall G C.2.1 M la0 lx1 4 _ hw) ht2 rfl (lw_V q2053 q2055 qs44 q107 q2056) ⟨rfl, nh_X4_ofCall⟩ ⟨Nat.le_of_ble_eq_true rfl, Nat.le_of_ble_eq_true rfl⟩ rfl (Nat.le_of_ble_eq_true rfl) dX4_waitedOf_52) (fun r9 M7 hle8 hx => ?_)
    replace hw := hx hle8
    clear hx
    have ht10 : m_tg M7 la0 = 5 := m_le_tg hle8 ht2
    have ht11 : m_tg M7 u3 = 101 := m_le_tg hle8 ht5
    refine pw_isub X dX4_waitedOf_55 ?_
    exact pw_iret X hw dX4_waitedOf_56
  · replace hw := hw.2 c1
    refine pw_aload_n X dX4_waitedOf_33 rfl rfl ?_
    refine pw_iload_n X dX4_waitedOf_34 rfl rfl ?_
    refine pw_bipush X 7 dX4_waitedOf_35 (by decide) ?_
    obtain ⟨ht12, hw⟩ := hw
    refine pw_runi X (m_cV X (b := la0) (ci := 4) (q := (RX4, TX4, tyX4, 15)) (met_X4_ofCall G C.2.1 M la0 lx1 7 _ hw) ht12 rfl (lw_V q2053 q2055 qs44 q107 q2056) ⟨rfl, nh_X4_ofCall⟩ ⟨Nat.le_of_ble_eq_true rfl, Nat.le_of_ble_eq_true rfl⟩ rfl (Nat.le_of_ble_eq_true rfl) dX4_waitedOf_37) (fun r15 M13 hle14 hx => ?_)
    replace hw := hx hle14
    clear hx
    have ht16 : m_tg M13 la0 = 5 := m_le_tg hle14 ht12
    refine pw_goto X 56 dX4_waitedOf_40 (by decide) ?_
    exact pw_iret X hw dX4_waitedOf_56
theorem bk_X4_waitedOf_23 (G : Gp) (C : m_Cx) (n0 s0 : Nat) (M0 : Mem) (Q : Int32 → Mem → Prop) (X : m_in G C RX4 cX4_waitedOf 3 (some .int) "waitedOf" 1 22 n0 s0) (M : Mem) (la0 : Nat) (lx1 : Int32) (hw : wp_X4_waitedOf_b23 G.2 M la0 lx1 Q) : pW G C 3 n0 s0 M0 (m_Q G C n0 s0 (va_Qi (m_q1 M0 Q) (m_W G) (m_A G))) M 23 [(0, vR (some la0)), (1, vI lx1)] [] := by
  refine pw_iconst X 1 dX4_waitedOf_23 (by decide) ?_
  refine pw_goto X 28 dX4_waitedOf_24 (by decide) ?_
  exact bk_X4_waitedOf_28 G C n0 s0 M0 Q X _ la0 lx1 1 hw
theorem bk_X4_waitedOf_0 (G : Gp) (C : m_Cx) (n0 s0 : Nat) (M0 : Mem) (Q : Int32 → Mem → Prop) (X : m_in G C RX4 cX4_waitedOf 3 (some .int) "waitedOf" 1 22 n0 s0) (M : Mem) (a0 : Nat) (x1 : Int32) (hw : wp_X4_waitedOf G.2 M a0 x1 Q) : pW G C 3 n0 s0 M0 (m_Q G C n0 s0 (va_Qi (m_q1 M0 Q) (m_W G) (m_A G))) M 0 [(0, vR (some a0)), (1, vI x1)] [] := by
  refine pw_aload_n X dX4_waitedOf_0 rfl rfl ?_
  refine pw_iload_n X dX4_waitedOf_1 rfl rfl ?_
  refine pw_bipush X 8 dX4_waitedOf_2 (by decide) ?_
  obtain ⟨ht1, hw⟩ := hw
  refine pw_runi X (m_cV X (b := a0) (ci := 4) (q := (RX4, TX4, tyX4, 15)) (met_X4_ofCall G C.2.1 M a0 x1 8 _ hw) ht1 rfl (lw_V q2053 q2055 qs44 q107 q2056) ⟨rfl, nh_X4_ofCall⟩ ⟨Nat.le_of_ble_eq_true rfl, Nat.le_of_ble_eq_true rfl⟩ rfl (Nat.le_of_ble_eq_true rfl) dX4_waitedOf_4) (fun r4 M2 hle3 hx => ?_)
  replace hw := hx hle3
  clear hx
  have ht5 : m_tg M2 a0 = 5 := m_le_tg hle3 ht1
  refine pw_bipush X (-5) dX4_waitedOf_7 (by decide) ?_
  refine pw_icmp_ne X 23 dX4_waitedOf_9 (by decide) (fun c6 => ?_) (fun c6 => ?_)
  · replace hw := hw.1 c6
    exact bk_X4_waitedOf_23 G C n0 s0 M0 Q X _ a0 x1 hw
  · replace hw := hw.2 c6
    refine pw_aload_n X dX4_waitedOf_12 rfl rfl ?_
    refine pw_iload_n X dX4_waitedOf_13 rfl rfl ?_
    refine pw_iconst X 5 dX4_waitedOf_14 (by decide) ?_
    refine pw_runi X (m_cV X (b := a0) (ci := 4) (q := (RX4, TX4, tyX4, 15)) (met_X4_ofCall G C.2.1 M2 a0 x1 5 _ hw) ht5 rfl (lw_V q2053 q2055 qs44 q107 q2056) ⟨rfl, nh_X4_ofCall⟩ ⟨Nat.le_of_ble_eq_true rfl, Nat.le_of_ble_eq_true rfl⟩ rfl (Nat.le_of_ble_eq_true rfl) dX4_waitedOf_15) (fun r9 M7 hle8 hx => ?_)
    replace hw := hx hle8
    clear hx
    have ht10 : m_tg M7 a0 = 5 := m_le_tg hle8 ht5
    refine pw_bipush X 7 dX4_waitedOf_18 (by decide) ?_
    refine pw_icmp_ne X 27 dX4_waitedOf_20 (by decide) (fun c11 => ?_) (fun c11 => ?_)
    · replace hw := hw.1 c11
      refine pw_iconst X 0 dX4_waitedOf_27 (by decide) ?_
      exact bk_X4_waitedOf_28 G C n0 s0 M0 Q X _ a0 x1 0 hw
    · replace hw := hw.2 c11
      exact bk_X4_waitedOf_23 G C n0 s0 M0 Q X _ a0 x1 hw
theorem met_X4_waitedOf (G : Gp) (l : Launch) (M : Mem) (a0 : Nat) (x1 : Int32) (Q : Int32 → Mem → Prop) (hw : wp_X4_waitedOf G.2 M a0 x1 Q) : m_K G l yX4_waitedOf cX4_waitedOf 3 (some .int) 1 22 [vR (some a0), vI x1] M (va_Qi (m_q1 M Q) (m_W G) (m_A G)) := by
  refine m_met (by decide) (Nat.le_of_ble_eq_true rfl) (fun C e X => ?_)
  exact bk_X4_waitedOf_0 G C _ _ M Q X M a0 x1 hw
theorem nh_X4_waitedOf : m_nMH yX4_waitedOf 1 := by decide +kernel

def wp_X4_cancel_b56 (g : Nat → Nat) (M : Mem) (la0 : Nat) (lx1 : Int32) (lx2 : Int32) (Q : Int32 → Mem → Prop) : Prop := m_tg M la0 = 5 ∧ wp_X4_laysCall g M la0 lx1 6 (-5) (fun (M2 : Mem) => m_le M M2 → wp_X4_laysCall g M2 la0 lx1 5 7 (fun (M5 : Mem) => m_le M2 M5 → wp_X4_laysCall g M5 la0 lx1 7 lx2 (fun (M8 : Mem) => m_le M5 M8 → ∃ u11 : Nat, (m_gr M8 la0 0) = some u11 ∧ m_tg M8 u11 = 101 ∧ vp_in 0 (m_ln M8 u11) ∧ wp_X4_laysCall g M8 la0 lx1 9 (m_gi M8 u11 (Int32.toNatClampNeg 0)) (fun (M15 : Mem) => m_le M8 M15 → Q lx2 M15))))
def wp_X4_cancel (g : Nat → Nat) (M : Mem) (a0 : Nat) (x1 : Int32) (Q : Int32 → Mem → Prop) : Prop := m_tg M a0 = 5 ∧ wp_X4_isCall g M a0 x1 (fun (r4 : Int32) (M2 : Mem) => m_le M M2 → ((¬ r4 = 0 → wp_X4_ofCall g M2 a0 x1 5 (fun (r9 : Int32) (M7 : Mem) => m_le M2 M7 → ((r9 ≤ 1 → wp_X4_records g M7 a0 (fun (M12 : Mem) => m_le M7 M12 → wp_X4_waitedOf g M12 a0 x1 (fun (r17 : Int32) (M15 : Mem) => m_le M12 M15 → wp_X4_ofCall g M15 a0 x1 6 (fun (r21 : Int32) (M19 : Mem) => m_le M15 M19 → ((r21 = (-5) → wp_X4_cancel_b56 g M19 a0 x1 r17 Q) ∧ (¬ r21 = (-5) → wp_X4_ofCall g M19 a0 x1 6 (fun (r26 : Int32) (M24 : Mem) => m_le M19 M24 → wp_X4_frees g M24 a0 r26 (fun (M28 : Mem) => m_le M24 M28 → wp_X4_cancel_b56 g M28 a0 x1 r17 Q)))))))) ∧ (¬ r9 ≤ 1 → Q (-4) M7)))) ∧ (r4 = 0 → Q (-1) M2)))
theorem bk_X4_cancel_56 (G : Gp) (C : m_Cx) (n0 s0 : Nat) (M0 : Mem) (Q : Int32 → Mem → Prop) (X : m_in G C RX4 cX4_cancel 3 (some .int) "cancel" 2 45 n0 s0) (M : Mem) (la0 : Nat) (lx1 : Int32) (lx2 : Int32) (hw : wp_X4_cancel_b56 G.2 M la0 lx1 lx2 Q) : pW G C 3 n0 s0 M0 (m_Q G C n0 s0 (va_Qi (m_q1 M0 Q) (m_W G) (m_A G))) M 56 [(0, vR (some la0)), (1, vI lx1), (2, vI lx2)] [] := by
  refine pw_aload_n X dX4_cancel_56 rfl rfl ?_
  refine pw_iload_n X dX4_cancel_57 rfl rfl ?_
  refine pw_bipush X 6 dX4_cancel_58 (by decide) ?_
  refine pw_bipush X (-5) dX4_cancel_60 (by decide) ?_
  obtain ⟨ht1, hw⟩ := hw
  refine pw_runv X (m_cV X (b := la0) (ci := 4) (q := (RX4, TX4, tyX4, 15)) (met_X4_laysCall G C.2.1 M la0 lx1 6 (-5) _ hw) ht1 rfl (lw_V q2061 q2063 qs46 q107 q2064) ⟨rfl, nh_X4_laysCall⟩ ⟨Nat.le_of_ble_eq_true rfl, Nat.le_of_ble_eq_true rfl⟩ rfl (Nat.le_of_ble_eq_true rfl) dX4_cancel_62) (fun M2 hle3 hx => ?_)
  replace hw := hx hle3
  clear hx
  have ht4 : m_tg M2 la0 = 5 := m_le_tg hle3 ht1
  refine pw_aload_n X dX4_cancel_65 rfl rfl ?_
  refine pw_iload_n X dX4_cancel_66 rfl rfl ?_
  refine pw_iconst X 5 dX4_cancel_67 (by decide) ?_
  refine pw_bipush X 7 dX4_cancel_68 (by decide) ?_
  refine pw_runv X (m_cV X (b := la0) (ci := 4) (q := (RX4, TX4, tyX4, 15)) (met_X4_laysCall G C.2.1 M2 la0 lx1 5 7 _ hw) ht4 rfl (lw_V q2061 q2063 qs46 q107 q2064) ⟨rfl, nh_X4_laysCall⟩ ⟨Nat.le_of_ble_eq_true rfl, Nat.le_of_ble_eq_true rfl⟩ rfl (Nat.le_of_ble_eq_true rfl) dX4_cancel_70) (fun M5 hle6 hx => ?_)
  replace hw := hx hle6
  clear hx
  have ht7 : m_tg M5 la0 = 5 := m_le_tg hle6 ht4
  refine pw_aload_n X dX4_cancel_73 rfl rfl ?_
  refine pw_iload_n X dX4_cancel_74 rfl rfl ?_
  refine pw_bipush X 7 dX4_cancel_75 (by decide) ?_
  refine pw_iload_n X dX4_cancel_77 rfl rfl ?_
  refine pw_runv X (m_cV X (b := la0) (ci := 4) (q := (RX4, TX4, tyX4, 15)) (met_X4_laysCall G C.2.1 M5 la0 lx1 7 lx2 _ hw) ht7 rfl (lw_V q2061 q2063 qs46 q107 q2064) ⟨rfl, nh_X4_laysCall⟩ ⟨Nat.le_of_ble_eq_true rfl, Nat.le_of_ble_eq_true rfl⟩ rfl (Nat.le_of_ble_eq_true rfl) dX4_cancel_78) (fun M8 hle9 hx => ?_)
  replace hw := hx hle9
  clear hx
  have ht10 : m_tg M8 la0 = 5 := m_le_tg hle9 ht7
  refine pw_aload_n X dX4_cancel_81 rfl rfl ?_
  refine pw_iload_n X dX4_cancel_82 rfl rfl ?_
  refine pw_bipush X 9 dX4_cancel_83 (by decide) ?_
  refine pw_aload_n X dX4_cancel_85 rfl rfl ?_
  obtain ⟨u11, he12, hw⟩ := hw
  refine pw_get X (q := (RX4, TX4, tyX4, 15)) (ci := 4) (k := 0) (ref := "PatrolDeskModel") (vR (some u11)) ht10 rfl (by decide) in_X4 q1946 (Or.inl rfl) (by rw [he12]; rfl) dX4_cancel_86 ?_
  refine pw_iconst X 0 dX4_cancel_89 (by decide) ?_
  obtain ⟨ht13, hw⟩ := hw
  obtain ⟨hi14, hw⟩ := hw
  refine pw_iald X ht13 hi14 dX4_cancel_90 ?_
  refine pw_runv X (m_cV X (b := la0) (ci := 4) (q := (RX4, TX4, tyX4, 15)) (met_X4_laysCall G C.2.1 M8 la0 lx1 9 (m_gi M8 u11 (Int32.toNatClampNeg 0)) _ hw) ht10 rfl (lw_V q2061 q2063 qs46 q107 q2064) ⟨rfl, nh_X4_laysCall⟩ ⟨Nat.le_of_ble_eq_true rfl, Nat.le_of_ble_eq_true rfl⟩ rfl (Nat.le_of_ble_eq_true rfl) dX4_cancel_91) (fun M15 hle16 hx => ?_)
  replace hw := hx hle16
  clear hx
  have ht17 : m_tg M15 la0 = 5 := m_le_tg hle16 ht10
  have ht18 : m_tg M15 u11 = 101 := m_le_tg hle16 ht13
  refine pw_iload_n X dX4_cancel_94 rfl rfl ?_
  exact pw_iret X hw dX4_cancel_95
theorem bk_X4_cancel_0 (G : Gp) (C : m_Cx) (n0 s0 : Nat) (M0 : Mem) (Q : Int32 → Mem → Prop) (X : m_in G C RX4 cX4_cancel 3 (some .int) "cancel" 2 45 n0 s0) (M : Mem) (a0 : Nat) (x1 : Int32) (hw : wp_X4_cancel G.2 M a0 x1 Q) : pW G C 3 n0 s0 M0 (m_Q G C n0 s0 (va_Qi (m_q1 M0 Q) (m_W G) (m_A G))) M 0 [(0, vR (some a0)), (1, vI x1)] [] := by
  refine pw_aload_n X dX4_cancel_0 rfl rfl ?_
  refine pw_iload_n X dX4_cancel_1 rfl rfl ?_
  obtain ⟨ht1, hw⟩ := hw
  refine pw_runi X (m_cV X (b := a0) (ci := 4) (q := (RX4, TX4, tyX4, 15)) (met_X4_isCall G C.2.1 M a0 x1 _ hw) ht1 rfl (lw_V q2081 q2083 qs50 q107 q2084) ⟨rfl, nh_X4_isCall⟩ ⟨Nat.le_of_ble_eq_true rfl, Nat.le_of_ble_eq_true rfl⟩ rfl (Nat.le_of_ble_eq_true rfl) dX4_cancel_2) (fun r4 M2 hle3 hx => ?_)
  replace hw := hx hle3
  clear hx
  have ht5 : m_tg M2 a0 = 5 := m_le_tg hle3 ht1
  refine pw_if_ne X 10 dX4_cancel_5 (by decide) (fun c6 => ?_) (fun c6 => ?_)
  · replace hw := hw.1 c6
    refine pw_aload_n X dX4_cancel_10 rfl rfl ?_
    refine pw_iload_n X dX4_cancel_11 rfl rfl ?_
    refine pw_iconst X 5 dX4_cancel_12 (by decide) ?_
    refine pw_runi X (m_cV X (b := a0) (ci := 4) (q := (RX4, TX4, tyX4, 15)) (met_X4_ofCall G C.2.1 M2 a0 x1 5 _ hw) ht5 rfl (lw_V q2053 q2055 qs44 q107 q2056) ⟨rfl, nh_X4_ofCall⟩ ⟨Nat.le_of_ble_eq_true rfl, Nat.le_of_ble_eq_true rfl⟩ rfl (Nat.le_of_ble_eq_true rfl) dX4_cancel_13) (fun r9 M7 hle8 hx => ?_)
    replace hw := hx hle8
    clear hx
    have ht10 : m_tg M7 a0 = 5 := m_le_tg hle8 ht5
    refine pw_iconst X 1 dX4_cancel_16 (by decide) ?_
    refine pw_icmp_le X 23 dX4_cancel_17 (by decide) (fun c11 => ?_) (fun c11 => ?_)
    · replace hw := hw.1 c11
      refine pw_aload_n X dX4_cancel_23 rfl rfl ?_
      refine pw_runv X (m_cV X (b := a0) (ci := 4) (q := (RX4, TX4, tyX4, 15)) (met_X4_records G C.2.1 M7 a0 _ hw) ht10 rfl (lw_V q2002 q2004 qs38 q107 q2005) ⟨rfl, nh_X4_records⟩ ⟨Nat.le_of_ble_eq_true rfl, Nat.le_of_ble_eq_true rfl⟩ rfl (Nat.le_of_ble_eq_true rfl) dX4_cancel_24) (fun M12 hle13 hx => ?_)
      replace hw := hx hle13
      clear hx
      have ht14 : m_tg M12 a0 = 5 := m_le_tg hle13 ht10
      refine pw_aload_n X dX4_cancel_27 rfl rfl ?_
      refine pw_iload_n X dX4_cancel_28 rfl rfl ?_
      refine pw_runi X (m_cV X (b := a0) (ci := 4) (q := (RX4, TX4, tyX4, 15)) (met_X4_waitedOf G C.2.1 M12 a0 x1 _ hw) ht14 rfl (lw_V q2085 q2087 qs51 q107 q2088) ⟨rfl, nh_X4_waitedOf⟩ ⟨Nat.le_of_ble_eq_true rfl, Nat.le_of_ble_eq_true rfl⟩ rfl (Nat.le_of_ble_eq_true rfl) dX4_cancel_29) (fun r17 M15 hle16 hx => ?_)
      replace hw := hx hle16
      clear hx
      have ht18 : m_tg M15 a0 = 5 := m_le_tg hle16 ht14
      refine pw_istore_n X [(0, vR (some a0)), (1, vI x1), (2, vI r17)] [1, 2, 0] dX4_cancel_32 rfl (by decide) rfl ?_
      refine pw_aload_n X dX4_cancel_33 rfl rfl ?_
      refine pw_iload_n X dX4_cancel_34 rfl rfl ?_
      refine pw_bipush X 6 dX4_cancel_35 (by decide) ?_
      refine pw_runi X (m_cV X (b := a0) (ci := 4) (q := (RX4, TX4, tyX4, 15)) (met_X4_ofCall G C.2.1 M15 a0 x1 6 _ hw) ht18 rfl (lw_V q2053 q2055 qs44 q107 q2056) ⟨rfl, nh_X4_ofCall⟩ ⟨Nat.le_of_ble_eq_true rfl, Nat.le_of_ble_eq_true rfl⟩ rfl (Nat.le_of_ble_eq_true rfl) dX4_cancel_37) (fun r21 M19 hle20 hx => ?_)
      replace hw := hx hle20
      clear hx
      have ht22 : m_tg M19 a0 = 5 := m_le_tg hle20 ht18
      refine pw_bipush X (-5) dX4_cancel_40 (by decide) ?_
      refine pw_icmp_eq X 56 dX4_cancel_42 (by decide) (fun c23 => ?_) (fun c23 => ?_)
      · replace hw := hw.1 c23
        exact bk_X4_cancel_56 G C n0 s0 M0 Q X _ a0 x1 r17 hw
      · replace hw := hw.2 c23
        refine pw_aload_n X dX4_cancel_45 rfl rfl ?_
        refine pw_aload_n X dX4_cancel_46 rfl rfl ?_
        refine pw_iload_n X dX4_cancel_47 rfl rfl ?_
        refine pw_bipush X 6 dX4_cancel_48 (by decide) ?_
        refine pw_runi X (m_cV X (b := a0) (ci := 4) (q := (RX4, TX4, tyX4, 15)) (met_X4_ofCall G C.2.1 M19 a0 x1 6 _ hw) ht22 rfl (lw_V q2053 q2055 qs44 q107 q2056) ⟨rfl, nh_X4_ofCall⟩ ⟨Nat.le_of_ble_eq_true rfl, Nat.le_of_ble_eq_true rfl⟩ rfl (Nat.le_of_ble_eq_true rfl) dX4_cancel_50) (fun r26 M24 hle25 hx => ?_)
        replace hw := hx hle25
        clear hx
        have ht27 : m_tg M24 a0 = 5 := m_le_tg hle25 ht22
        refine pw_runv X (m_cV X (b := a0) (ci := 4) (q := (RX4, TX4, tyX4, 15)) (met_X4_frees G C.2.1 M24 a0 r26 _ hw) ht27 rfl (lw_V q2021 q2023 qs40 q107 q2024) ⟨rfl, nh_X4_frees⟩ ⟨Nat.le_of_ble_eq_true rfl, Nat.le_of_ble_eq_true rfl⟩ rfl (Nat.le_of_ble_eq_true rfl) dX4_cancel_53) (fun M28 hle29 hx => ?_)
        replace hw := hx hle29
        clear hx
        have ht30 : m_tg M28 a0 = 5 := m_le_tg hle29 ht27
        exact bk_X4_cancel_56 G C n0 s0 M0 Q X _ a0 x1 r17 hw
    · replace hw := hw.2 c11
      refine pw_bipush X (-4) dX4_cancel_20 (by decide) ?_
      exact pw_iret X hw dX4_cancel_22
  · replace hw := hw.2 c6
    refine pw_iconst X (-1) dX4_cancel_8 (by decide) ?_
    exact pw_iret X hw dX4_cancel_9
theorem met_X4_cancel (G : Gp) (l : Launch) (M : Mem) (a0 : Nat) (x1 : Int32) (Q : Int32 → Mem → Prop) (hw : wp_X4_cancel G.2 M a0 x1 Q) : m_K G l yX4_cancel cX4_cancel 3 (some .int) 2 45 [vR (some a0), vI x1] M (va_Qi (m_q1 M Q) (m_W G) (m_A G)) := by
  refine m_met (by decide) (Nat.le_of_ble_eq_true rfl) (fun C e X => ?_)
  exact bk_X4_cancel_0 G C _ _ M Q X M a0 x1 hw
theorem nh_X4_cancel : m_nMH yX4_cancel 1 := by decide +kernel

def wp_X4_isPatrol (g : Nat → Nat) (M : Mem) (a0 : Nat) (x1 : Int32) (Q : Int32 → Mem → Prop) : Prop := m_tg M a0 = 5 ∧ ∃ u2 : Nat, (m_gr M a0 0) = some u2 ∧ m_tg M u2 = 101 ∧ vp_in 7 (m_ln M u2) ∧ wp_X4_in g M x1 0 ((m_gi M u2 (Int32.toNatClampNeg 7)) - 1) (fun (r8 : Int32) (M6 : Mem) => m_le M M6 → ((r8 = 0 ∨ r8 = 1) ∧ Q r8 M6))
theorem bk_X4_isPatrol_0 (G : Gp) (C : m_Cx) (n0 s0 : Nat) (M0 : Mem) (Q : Int32 → Mem → Prop) (X : m_in G C RX4 cX4_isPatrol 2 (some .boolean) "isPatrol" 1 22 n0 s0) (M : Mem) (a0 : Nat) (x1 : Int32) (hw : wp_X4_isPatrol G.2 M a0 x1 Q) : pW G C 2 n0 s0 M0 (m_Q G C n0 s0 (va_Qi (m_q1 M0 Q) (m_W G) (m_A G))) M 0 [(0, vR (some a0)), (1, vI x1)] [] := by
  refine pw_iload_n X dX4_isPatrol_0 rfl rfl ?_
  refine pw_iconst X 0 dX4_isPatrol_1 (by decide) ?_
  refine pw_aload_n X dX4_isPatrol_2 rfl rfl ?_
  obtain ⟨ht1, hw⟩ := hw
  obtain ⟨u2, he3, hw⟩ := hw
  refine pw_get X (q := (RX4, TX4, tyX4, 15)) (ci := 4) (k := 0) (ref := "PatrolDeskModel") (vR (some u2)) ht1 rfl (by decide) in_X4 q1946 (Or.inl rfl) (by rw [he3]; rfl) dX4_isPatrol_3 ?_
  refine pw_bipush X 7 dX4_isPatrol_6 (by decide) ?_
  obtain ⟨ht4, hw⟩ := hw
  obtain ⟨hi5, hw⟩ := hw
  refine pw_iald X ht4 hi5 dX4_isPatrol_8 ?_
  refine pw_iconst X 1 dX4_isPatrol_9 (by decide) ?_
  refine pw_isub X dX4_isPatrol_10 ?_
  refine pw_runi X (m_cS X (met_X4_in G C.2.1 M x1 0 ((m_gi M u2 (Int32.toNatClampNeg 7)) - 1) _ hw) (lw_S q1999 q2000 q107 q2001) nh_X4_in ⟨Nat.le_of_ble_eq_true rfl, Nat.le_of_ble_eq_true rfl⟩ rfl (Nat.le_of_ble_eq_true rfl) dX4_isPatrol_11) (fun r8 M6 hle7 hx => ?_)
  replace hw := hx hle7
  clear hx
  have ht9 : m_tg M6 a0 = 5 := m_le_tg hle7 ht1
  have ht10 : m_tg M6 u2 = 101 := m_le_tg hle7 ht4
  exact pw_zret X (m_nz hw.1) hw.2 dX4_isPatrol_14
theorem met_X4_isPatrol (G : Gp) (l : Launch) (M : Mem) (a0 : Nat) (x1 : Int32) (Q : Int32 → Mem → Prop) (hw : wp_X4_isPatrol G.2 M a0 x1 Q) : m_K G l yX4_isPatrol cX4_isPatrol 2 (some .boolean) 1 22 [vR (some a0), vI x1] M (va_Qi (m_q1 M Q) (m_W G) (m_A G)) := by
  refine m_met (by decide) (Nat.le_of_ble_eq_true rfl) (fun C e X => ?_)
  exact bk_X4_isPatrol_0 G C _ _ M Q X M a0 x1 hw
theorem nh_X4_isPatrol : m_nMH yX4_isPatrol 1 := by decide +kernel

def wp_X4_onDuty_b4 (g : Nat → Nat) (Q : Int32 → Mem → Prop) : Nat → Mem → Nat → Int32 → Int32 → Prop
  | 0 => fun _ _ _ _ => False
  | n + 1 => fun M la0 lx1 lx2 => m_tg M la0 = 5 ∧ ∃ u2 : Nat, (m_gr M la0 0) = some u2 ∧ m_tg M u2 = 101 ∧ vp_in 7 (m_ln M u2) ∧ (((m_gi M u2 (Int32.toNatClampNeg 7)) ≤ lx2 → Q lx1 M) ∧ (¬ (m_gi M u2 (Int32.toNatClampNeg 7)) ≤ lx2 → wp_X4_ofPatrol g M la0 lx2 3 (fun (r9 : Int32) (M7 : Mem) => m_le M M7 → ((r9 = 4 → wp_X4_onDuty_b4 g Q n M7 la0 (lx1 + 0) (lx2 + 1)) ∧ (¬ r9 = 4 → wp_X4_onDuty_b4 g Q n M7 la0 (lx1 + 1) (lx2 + 1))))))
def wp_X4_onDuty (g : Nat → Nat) (M : Mem) (a0 : Nat) (Q : Int32 → Mem → Prop) : Prop := ∃ j4 : Nat, wp_X4_onDuty_b4 g Q j4 M a0 0 0
theorem bk_X4_onDuty_4 (G : Gp) (C : m_Cx) (n0 s0 : Nat) (M0 : Mem) (Q : Int32 → Mem → Prop) (X : m_in G C RX4 cX4_onDuty 3 (some .int) "onDuty" 1 22 n0 s0) : ∀ (n : Nat) (M : Mem) (la0 : Nat) (lx1 : Int32) (lx2 : Int32) (hw : wp_X4_onDuty_b4 G.2 Q n M la0 lx1 lx2), pW G C 3 n0 s0 M0 (m_Q G C n0 s0 (va_Qi (m_q1 M0 Q) (m_W G) (m_A G))) M 4 [(0, vR (some la0)), (1, vI lx1), (2, vI lx2)] [] := by
  intro n
  induction n with
  | zero => intro M la0 lx1 lx2 hw; exact hw.elim
  | succ n ih =>
    intro M la0 lx1 lx2 hw
    refine pw_iload_n X dX4_onDuty_4 rfl rfl ?_
    refine pw_aload_n X dX4_onDuty_5 rfl rfl ?_
    obtain ⟨ht1, hw⟩ := hw
    obtain ⟨u2, he3, hw⟩ := hw
    refine pw_get X (q := (RX4, TX4, tyX4, 15)) (ci := 4) (k := 0) (ref := "PatrolDeskModel") (vR (some u2)) ht1 rfl (by decide) in_X4 q1946 (Or.inl rfl) (by rw [he3]; rfl) dX4_onDuty_6 ?_
    refine pw_bipush X 7 dX4_onDuty_9 (by decide) ?_
    obtain ⟨ht4, hw⟩ := hw
    obtain ⟨hi5, hw⟩ := hw
    refine pw_iald X ht4 hi5 dX4_onDuty_11 ?_
    refine pw_icmp_ge X 39 dX4_onDuty_12 (by decide) (fun c6 => ?_) (fun c6 => ?_)
    · replace hw := hw.1 c6
      refine pw_iload_n X dX4_onDuty_39 rfl rfl ?_
      exact pw_iret X hw dX4_onDuty_40
    · replace hw := hw.2 c6
      refine pw_iload_n X dX4_onDuty_15 rfl rfl ?_
      refine pw_aload_n X dX4_onDuty_16 rfl rfl ?_
      refine pw_iload_n X dX4_onDuty_17 rfl rfl ?_
      refine pw_iconst X 3 dX4_onDuty_18 (by decide) ?_
      refine pw_runi X (m_cV X (b := la0) (ci := 4) (q := (RX4, TX4, tyX4, 15)) (met_X4_ofPatrol G C.2.1 M la0 lx2 3 _ hw) ht1 rfl (lw_V q2069 q2071 qs48 q107 q2072) ⟨rfl, nh_X4_ofPatrol⟩ ⟨Nat.le_of_ble_eq_true rfl, Nat.le_of_ble_eq_true rfl⟩ rfl (Nat.le_of_ble_eq_true rfl) dX4_onDuty_19) (fun r9 M7 hle8 hx => ?_)
      replace hw := hx hle8
      clear hx
      have ht10 : m_tg M7 la0 = 5 := m_le_tg hle8 ht1
      have ht11 : m_tg M7 u2 = 101 := m_le_tg hle8 ht4
      refine pw_iconst X 4 dX4_onDuty_22 (by decide) ?_
      refine pw_icmp_eq X 30 dX4_onDuty_23 (by decide) (fun c12 => ?_) (fun c12 => ?_)
      · replace hw := hw.1 c12
        refine pw_iconst X 0 dX4_onDuty_30 (by decide) ?_
        refine pw_iadd X dX4_onDuty_31 ?_
        refine pw_istore_n X [(0, vR (some la0)), (1, vI (lx1 + 0)), (2, vI lx2)] [1, 0, 2] dX4_onDuty_32 rfl (by decide) rfl ?_
        refine pw_iinc X (lx2 + 1) [(0, vR (some la0)), (1, vI (lx1 + 0)), (2, vI (lx2 + 1))] [1, 2, 0] dX4_onDuty_33 rfl (by first | rfl | decide) (by decide) rfl ?_
        refine pw_goto X 4 dX4_onDuty_36 (by decide) ?_
        exact ih _ la0 (lx1 + 0) (lx2 + 1) hw
      · replace hw := hw.2 c12
        refine pw_iconst X 1 dX4_onDuty_26 (by decide) ?_
        refine pw_goto X 31 dX4_onDuty_27 (by decide) ?_
        refine pw_iadd X dX4_onDuty_31 ?_
        refine pw_istore_n X [(0, vR (some la0)), (1, vI (lx1 + 1)), (2, vI lx2)] [1, 0, 2] dX4_onDuty_32 rfl (by decide) rfl ?_
        refine pw_iinc X (lx2 + 1) [(0, vR (some la0)), (1, vI (lx1 + 1)), (2, vI (lx2 + 1))] [1, 2, 0] dX4_onDuty_33 rfl (by first | rfl | decide) (by decide) rfl ?_
        refine pw_goto X 4 dX4_onDuty_36 (by decide) ?_
        exact ih _ la0 (lx1 + 1) (lx2 + 1) hw
theorem bk_X4_onDuty_0 (G : Gp) (C : m_Cx) (n0 s0 : Nat) (M0 : Mem) (Q : Int32 → Mem → Prop) (X : m_in G C RX4 cX4_onDuty 3 (some .int) "onDuty" 1 22 n0 s0) (M : Mem) (a0 : Nat) (hw : wp_X4_onDuty G.2 M a0 Q) : pW G C 3 n0 s0 M0 (m_Q G C n0 s0 (va_Qi (m_q1 M0 Q) (m_W G) (m_A G))) M 0 [(0, vR (some a0))] [] := by
  refine pw_iconst X 0 dX4_onDuty_0 (by decide) ?_
  refine pw_istore_n X [(0, vR (some a0)), (1, vI 0)] [1, 0] dX4_onDuty_1 rfl (by decide) rfl ?_
  refine pw_iconst X 0 dX4_onDuty_2 (by decide) ?_
  refine pw_istore_n X [(0, vR (some a0)), (1, vI 0), (2, vI 0)] [1, 2, 0] dX4_onDuty_3 rfl (by decide) rfl ?_
  obtain ⟨n4, hw⟩ := hw
  exact bk_X4_onDuty_4 G C n0 s0 M0 Q X n4 _ a0 0 0 hw
theorem met_X4_onDuty (G : Gp) (l : Launch) (M : Mem) (a0 : Nat) (Q : Int32 → Mem → Prop) (hw : wp_X4_onDuty G.2 M a0 Q) : m_K G l yX4_onDuty cX4_onDuty 3 (some .int) 1 22 [vR (some a0)] M (va_Qi (m_q1 M Q) (m_W G) (m_A G)) := by
  refine m_met (by decide) (Nat.le_of_ble_eq_true rfl) (fun C e X => ?_)
  exact bk_X4_onDuty_0 G C _ _ M Q X M a0 hw
theorem nh_X4_onDuty : m_nMH yX4_onDuty 0 := by decide +kernel

def wp_X4_duty_b66 (g : Nat → Nat) (M : Mem) (la0 : Nat) (sa0 : Nat) (sx1 : Int32) (sx2 : Int32) (sx3 : Int32) (Q : Int32 → Mem → Prop) : Prop := m_tg M sa0 = 5 ∧ wp_X4_laysPatrol g M sa0 sx1 sx2 sx3 (fun (M2 : Mem) => m_le M M2 → m_tg M2 la0 = 5 ∧ wp_X4_onDuty g M2 la0 (fun (r8 : Int32) (M6 : Mem) => m_le M2 M6 → Q r8 M6))
def wp_X4_duty_b44 (g : Nat → Nat) (M : Mem) (la0 : Nat) (lx1 : Int32) (lx2 : Int32) (sx0 : Int32) (sx1 : Int32) (Q : Int32 → Mem → Prop) : Prop := ((¬ sx0 = sx1 → m_tg M la0 = 5 ∧ wp_X4_records g M la0 (fun (M3 : Mem) => m_le M M3 → ((lx2 = 0 → wp_X4_duty_b66 g M3 la0 la0 lx1 3 4 Q) ∧ (¬ lx2 = 0 → wp_X4_duty_b66 g M3 la0 la0 lx1 3 0 Q)))) ∧ (sx0 = sx1 → Q (-5) M))
def wp_X4_duty_b33 (g : Nat → Nat) (M : Mem) (la0 : Nat) (lx1 : Int32) (lx2 : Int32) (lx3 : Int32) (Q : Int32 → Mem → Prop) : Prop := ((lx3 = 4 → wp_X4_duty_b44 g M la0 lx1 lx2 lx2 0 Q) ∧ (¬ lx3 = 4 → wp_X4_duty_b44 g M la0 lx1 lx2 lx2 1 Q))
def wp_X4_duty (g : Nat → Nat) (M : Mem) (a0 : Nat) (x1 : Int32) (x2 : Int32) (Q : Int32 → Mem → Prop) : Prop := m_tg M a0 = 5 ∧ wp_X4_isPatrol g M a0 x1 (fun (r4 : Int32) (M2 : Mem) => m_le M M2 → ((¬ r4 = 0 → wp_X4_ofPatrol g M2 a0 x1 3 (fun (r9 : Int32) (M7 : Mem) => m_le M2 M7 → ((¬ x2 = 0 → wp_X4_duty_b33 g M7 a0 x1 x2 r9 Q) ∧ (x2 = 0 → ((r9 = 0 → wp_X4_duty_b33 g M7 a0 x1 x2 r9 Q) ∧ (¬ r9 = 0 → ((r9 = 4 → wp_X4_duty_b33 g M7 a0 x1 x2 r9 Q) ∧ (¬ r9 = 4 → Q (-4) M7)))))))) ∧ (r4 = 0 → Q (-1) M2)))
theorem bk_X4_duty_66 (G : Gp) (C : m_Cx) (n0 s0 : Nat) (M0 : Mem) (Q : Int32 → Mem → Prop) (X : m_in G C RX4 cX4_duty 4 (some .int) "duty" 2 45 n0 s0) (M : Mem) (la0 : Nat) (sa0 : Nat) (sx1 : Int32) (sx2 : Int32) (sx3 : Int32) (hw : wp_X4_duty_b66 G.2 M la0 sa0 sx1 sx2 sx3 Q) : pW G C 4 n0 s0 M0 (m_Q G C n0 s0 (va_Qi (m_q1 M0 Q) (m_W G) (m_A G))) M 66 [(0, vR (some la0))] [vI sx3, vI sx2, vI sx1, vR (some sa0)] := by
  obtain ⟨ht1, hw⟩ := hw
  refine pw_runv X (m_cV X (b := sa0) (ci := 4) (q := (RX4, TX4, tyX4, 15)) (met_X4_laysPatrol G C.2.1 M sa0 sx1 sx2 sx3 _ hw) ht1 rfl (lw_V q2017 q2019 qs39 q107 q2020) ⟨rfl, nh_X4_laysPatrol⟩ ⟨Nat.le_of_ble_eq_true rfl, Nat.le_of_ble_eq_true rfl⟩ rfl (Nat.le_of_ble_eq_true rfl) dX4_duty_66) (fun M2 hle3 hx => ?_)
  replace hw := hx hle3
  clear hx
  have ht4 : m_tg M2 sa0 = 5 := m_le_tg hle3 ht1
  refine pw_aload_n X dX4_duty_69 rfl rfl ?_
  obtain ⟨ht5, hw⟩ := hw
  refine pw_runi X (m_cV X (b := la0) (ci := 4) (q := (RX4, TX4, tyX4, 15)) (met_X4_onDuty G C.2.1 M2 la0 _ hw) ht5 rfl (lw_V q2097 q2099 qs53 q107 q2100) ⟨rfl, nh_X4_onDuty⟩ ⟨Nat.le_of_ble_eq_true rfl, Nat.le_of_ble_eq_true rfl⟩ rfl (Nat.le_of_ble_eq_true rfl) dX4_duty_70) (fun r8 M6 hle7 hx => ?_)
  replace hw := hx hle7
  clear hx
  have ht9 : m_tg M6 sa0 = 5 := m_le_tg hle7 ht4
  have ht10 : m_tg M6 la0 = 5 := m_le_tg hle7 ht5
  exact pw_iret X hw dX4_duty_73
theorem bk_X4_duty_44 (G : Gp) (C : m_Cx) (n0 s0 : Nat) (M0 : Mem) (Q : Int32 → Mem → Prop) (X : m_in G C RX4 cX4_duty 4 (some .int) "duty" 2 45 n0 s0) (M : Mem) (la0 : Nat) (lx1 : Int32) (lx2 : Int32) (sx0 : Int32) (sx1 : Int32) (hw : wp_X4_duty_b44 G.2 M la0 lx1 lx2 sx0 sx1 Q) : pW G C 4 n0 s0 M0 (m_Q G C n0 s0 (va_Qi (m_q1 M0 Q) (m_W G) (m_A G))) M 44 [(0, vR (some la0)), (1, vI lx1), (2, vI lx2)] [vI sx1, vI sx0] := by
  refine pw_icmp_ne X 50 dX4_duty_44 (by decide) (fun c1 => ?_) (fun c1 => ?_)
  · replace hw := hw.1 c1
    refine pw_aload_n X dX4_duty_50 rfl rfl ?_
    obtain ⟨ht2, hw⟩ := hw
    refine pw_runv X (m_cV X (b := la0) (ci := 4) (q := (RX4, TX4, tyX4, 15)) (met_X4_records G C.2.1 M la0 _ hw) ht2 rfl (lw_V q2002 q2004 qs38 q107 q2005) ⟨rfl, nh_X4_records⟩ ⟨Nat.le_of_ble_eq_true rfl, Nat.le_of_ble_eq_true rfl⟩ rfl (Nat.le_of_ble_eq_true rfl) dX4_duty_51) (fun M3 hle4 hx => ?_)
    replace hw := hx hle4
    clear hx
    have ht5 : m_tg M3 la0 = 5 := m_le_tg hle4 ht2
    refine pw_aload_n X dX4_duty_54 rfl rfl ?_
    refine pw_iload_n X dX4_duty_55 rfl rfl ?_
    refine pw_iconst X 3 dX4_duty_56 (by decide) ?_
    refine pw_iload_n X dX4_duty_57 rfl rfl ?_
    refine pw_if_eq X 65 dX4_duty_58 (by decide) (fun c6 => ?_) (fun c6 => ?_)
    · replace hw := hw.1 c6
      refine pw_iconst X 4 dX4_duty_65 (by decide) ?_
      refine pw_lo [0] rfl ?_
      exact bk_X4_duty_66 G C n0 s0 M0 Q X _ la0 la0 lx1 3 4 hw
    · replace hw := hw.2 c6
      refine pw_iconst X 0 dX4_duty_61 (by decide) ?_
      refine pw_goto X 66 dX4_duty_62 (by decide) ?_
      refine pw_lo [0] rfl ?_
      exact bk_X4_duty_66 G C n0 s0 M0 Q X _ la0 la0 lx1 3 0 hw
  · replace hw := hw.2 c1
    refine pw_bipush X (-5) dX4_duty_47 (by decide) ?_
    exact pw_iret X hw dX4_duty_49
theorem bk_X4_duty_33 (G : Gp) (C : m_Cx) (n0 s0 : Nat) (M0 : Mem) (Q : Int32 → Mem → Prop) (X : m_in G C RX4 cX4_duty 4 (some .int) "duty" 2 45 n0 s0) (M : Mem) (la0 : Nat) (lx1 : Int32) (lx2 : Int32) (lx3 : Int32) (hw : wp_X4_duty_b33 G.2 M la0 lx1 lx2 lx3 Q) : pW G C 4 n0 s0 M0 (m_Q G C n0 s0 (va_Qi (m_q1 M0 Q) (m_W G) (m_A G))) M 33 [(0, vR (some la0)), (1, vI lx1), (2, vI lx2), (3, vI lx3)] [] := by
  refine pw_iload_n X dX4_duty_33 rfl rfl ?_
  refine pw_iload_n X dX4_duty_34 rfl rfl ?_
  refine pw_iconst X 4 dX4_duty_35 (by decide) ?_
  refine pw_icmp_eq X 43 dX4_duty_36 (by decide) (fun c1 => ?_) (fun c1 => ?_)
  · replace hw := hw.1 c1
    refine pw_iconst X 0 dX4_duty_43 (by decide) ?_
    refine pw_lo [0, 1, 2] rfl ?_
    exact bk_X4_duty_44 G C n0 s0 M0 Q X _ la0 lx1 lx2 lx2 0 hw
  · replace hw := hw.2 c1
    refine pw_iconst X 1 dX4_duty_39 (by decide) ?_
    refine pw_goto X 44 dX4_duty_40 (by decide) ?_
    refine pw_lo [0, 1, 2] rfl ?_
    exact bk_X4_duty_44 G C n0 s0 M0 Q X _ la0 lx1 lx2 lx2 1 hw
theorem bk_X4_duty_0 (G : Gp) (C : m_Cx) (n0 s0 : Nat) (M0 : Mem) (Q : Int32 → Mem → Prop) (X : m_in G C RX4 cX4_duty 4 (some .int) "duty" 2 45 n0 s0) (M : Mem) (a0 : Nat) (x1 : Int32) (x2 : Int32) (hw : wp_X4_duty G.2 M a0 x1 x2 Q) : pW G C 4 n0 s0 M0 (m_Q G C n0 s0 (va_Qi (m_q1 M0 Q) (m_W G) (m_A G))) M 0 [(0, vR (some a0)), (1, vI x1), (2, vI x2)] [] := by
  refine pw_aload_n X dX4_duty_0 rfl rfl ?_
  refine pw_iload_n X dX4_duty_1 rfl rfl ?_
  obtain ⟨ht1, hw⟩ := hw
  refine pw_runi X (m_cV X (b := a0) (ci := 4) (q := (RX4, TX4, tyX4, 15)) (met_X4_isPatrol G C.2.1 M a0 x1 _ hw) ht1 rfl (lw_V q2093 q2095 qs52 q107 q2096) ⟨rfl, nh_X4_isPatrol⟩ ⟨Nat.le_of_ble_eq_true rfl, Nat.le_of_ble_eq_true rfl⟩ rfl (Nat.le_of_ble_eq_true rfl) dX4_duty_2) (fun r4 M2 hle3 hx => ?_)
  replace hw := hx hle3
  clear hx
  have ht5 : m_tg M2 a0 = 5 := m_le_tg hle3 ht1
  refine pw_if_ne X 10 dX4_duty_5 (by decide) (fun c6 => ?_) (fun c6 => ?_)
  · replace hw := hw.1 c6
    refine pw_aload_n X dX4_duty_10 rfl rfl ?_
    refine pw_iload_n X dX4_duty_11 rfl rfl ?_
    refine pw_iconst X 3 dX4_duty_12 (by decide) ?_
    refine pw_runi X (m_cV X (b := a0) (ci := 4) (q := (RX4, TX4, tyX4, 15)) (met_X4_ofPatrol G C.2.1 M2 a0 x1 3 _ hw) ht5 rfl (lw_V q2069 q2071 qs48 q107 q2072) ⟨rfl, nh_X4_ofPatrol⟩ ⟨Nat.le_of_ble_eq_true rfl, Nat.le_of_ble_eq_true rfl⟩ rfl (Nat.le_of_ble_eq_true rfl) dX4_duty_13) (fun r9 M7 hle8 hx => ?_)
    replace hw := hx hle8
    clear hx
    have ht10 : m_tg M7 a0 = 5 := m_le_tg hle8 ht5
    refine pw_istore_n X [(0, vR (some a0)), (1, vI x1), (2, vI x2), (3, vI r9)] [1, 2, 3, 0] dX4_duty_16 rfl (by decide) rfl ?_
    refine pw_iload_n X dX4_duty_17 rfl rfl ?_
    refine pw_if_ne X 33 dX4_duty_18 (by decide) (fun c11 => ?_) (fun c11 => ?_)
    · replace hw := hw.1 c11
      exact bk_X4_duty_33 G C n0 s0 M0 Q X _ a0 x1 x2 r9 hw
    · replace hw := hw.2 c11
      refine pw_iload_n X dX4_duty_21 rfl rfl ?_
      refine pw_if_eq X 33 dX4_duty_22 (by decide) (fun c12 => ?_) (fun c12 => ?_)
      · replace hw := hw.1 c12
        exact bk_X4_duty_33 G C n0 s0 M0 Q X _ a0 x1 x2 r9 hw
      · replace hw := hw.2 c12
        refine pw_iload_n X dX4_duty_25 rfl rfl ?_
        refine pw_iconst X 4 dX4_duty_26 (by decide) ?_
        refine pw_icmp_eq X 33 dX4_duty_27 (by decide) (fun c13 => ?_) (fun c13 => ?_)
        · replace hw := hw.1 c13
          exact bk_X4_duty_33 G C n0 s0 M0 Q X _ a0 x1 x2 r9 hw
        · replace hw := hw.2 c13
          refine pw_bipush X (-4) dX4_duty_30 (by decide) ?_
          exact pw_iret X hw dX4_duty_32
  · replace hw := hw.2 c6
    refine pw_iconst X (-1) dX4_duty_8 (by decide) ?_
    exact pw_iret X hw dX4_duty_9
theorem met_X4_duty (G : Gp) (l : Launch) (M : Mem) (a0 : Nat) (x1 : Int32) (x2 : Int32) (Q : Int32 → Mem → Prop) (hw : wp_X4_duty G.2 M a0 x1 x2 Q) : m_K G l yX4_duty cX4_duty 4 (some .int) 2 45 [vR (some a0), vI x1, vI x2] M (va_Qi (m_q1 M Q) (m_W G) (m_A G)) := by
  refine m_met (by decide) (Nat.le_of_ble_eq_true rfl) (fun C e X => ?_)
  exact bk_X4_duty_0 G C _ _ M Q X M a0 x1 x2 hw
theorem nh_X4_duty : m_nMH yX4_duty 2 := by decide +kernel

def wp_X4_way (g : Nat → Nat) (M : Mem) (a0 : Nat) (x1 : Int32) (x2 : Int32) (Q : Int32 → Mem → Prop) : Prop := m_tg M a0 = 5 ∧ ∃ u2 : Nat, (m_gr M a0 9) = some u2 ∧ m_tg M u2 = 101 ∧ vp_in ((12 * x1) + x2) (m_ln M u2) ∧ Q (m_gi M u2 (Int32.toNatClampNeg ((12 * x1) + x2))) M
theorem bk_X4_way_0 (G : Gp) (C : m_Cx) (n0 s0 : Nat) (M0 : Mem) (Q : Int32 → Mem → Prop) (X : m_in G C RX4 cX4_way 3 (some .int) "way" 0 0 n0 s0) (M : Mem) (a0 : Nat) (x1 : Int32) (x2 : Int32) (hw : wp_X4_way G.2 M a0 x1 x2 Q) : pW G C 3 n0 s0 M0 (m_Q G C n0 s0 (va_Qi (m_q1 M0 Q) (m_W G) (m_A G))) M 0 [(0, vR (some a0)), (1, vI x1), (2, vI x2)] [] := by
  refine pw_aload_n X dX4_way_0 rfl rfl ?_
  obtain ⟨ht1, hw⟩ := hw
  obtain ⟨u2, he3, hw⟩ := hw
  refine pw_get X (q := (RX4, TX4, tyX4, 15)) (ci := 4) (k := 9) (ref := "PatrolDeskModel") (vR (some u2)) ht1 rfl (by decide) in_X4 q1955 (Or.inl rfl) (by rw [he3]; rfl) dX4_way_1 ?_
  refine pw_bipush X 12 dX4_way_4 (by decide) ?_
  refine pw_iload_n X dX4_way_6 rfl rfl ?_
  refine pw_imul X dX4_way_7 ?_
  refine pw_iload_n X dX4_way_8 rfl rfl ?_
  refine pw_iadd X dX4_way_9 ?_
  obtain ⟨ht4, hw⟩ := hw
  obtain ⟨hi5, hw⟩ := hw
  refine pw_iald X ht4 hi5 dX4_way_10 ?_
  exact pw_iret X hw dX4_way_11
theorem met_X4_way (G : Gp) (l : Launch) (M : Mem) (a0 : Nat) (x1 : Int32) (x2 : Int32) (Q : Int32 → Mem → Prop) (hw : wp_X4_way G.2 M a0 x1 x2 Q) : m_K G l yX4_way cX4_way 3 (some .int) 0 0 [vR (some a0), vI x1, vI x2] M (va_Qi (m_q1 M Q) (m_W G) (m_A G)) := by
  refine m_met (by decide) (Nat.le_of_ble_eq_true rfl) (fun C e X => ?_)
  exact bk_X4_way_0 G C _ _ M Q X M a0 x1 x2 hw
theorem nh_X4_way : m_nMH yX4_way 2 := by decide +kernel

def wp_X4_goHome (g : Nat → Nat) (M : Mem) (a0 : Nat) (x1 : Int32) (Q : Int32 → Mem → Prop) : Prop := m_tg M a0 = 5 ∧ wp_X4_isPatrol g M a0 x1 (fun (r4 : Int32) (M2 : Mem) => m_le M M2 → ((¬ r4 = 0 → wp_X4_ofPatrol g M2 a0 x1 0 (fun (r9 : Int32) (M7 : Mem) => m_le M2 M7 → wp_X4_ofPatrol g M7 a0 x1 4 (fun (r13 : Int32) (M11 : Mem) => m_le M7 M11 → wp_X4_way g M11 a0 r13 r9 (fun (r17 : Int32) (M15 : Mem) => m_le M11 M15 → wp_X4_ofPatrol g M15 a0 x1 3 (fun (r21 : Int32) (M19 : Mem) => m_le M15 M19 → ((¬ r21 = 0 → Q (-4) M19) ∧ (r21 = 0 → ((r17 < 100000 → wp_X4_ofPatrol g M19 a0 x1 4 (fun (r27 : Int32) (M25 : Mem) => m_le M19 M25 → ((¬ r27 = r9 → wp_X4_records g M25 a0 (fun (M30 : Mem) => m_le M25 M30 → wp_X4_laysPatrol g M30 a0 x1 4 r9 (fun (M33 : Mem) => m_le M30 M33 → Q r17 M33))) ∧ (r27 = r9 → Q (-5) M25)))) ∧ (¬ r17 < 100000 → Q (-4) M19))))))))) ∧ (r4 = 0 → Q (-1) M2)))
theorem bk_X4_goHome_0 (G : Gp) (C : m_Cx) (n0 s0 : Nat) (M0 : Mem) (Q : Int32 → Mem → Prop) (X : m_in G C RX4 cX4_goHome 4 (some .int) "goHome" 2 45 n0 s0) (M : Mem) (a0 : Nat) (x1 : Int32) (hw : wp_X4_goHome G.2 M a0 x1 Q) : pW G C 4 n0 s0 M0 (m_Q G C n0 s0 (va_Qi (m_q1 M0 Q) (m_W G) (m_A G))) M 0 [(0, vR (some a0)), (1, vI x1)] [] := by
  refine pw_aload_n X dX4_goHome_0 rfl rfl ?_
  refine pw_iload_n X dX4_goHome_1 rfl rfl ?_
  obtain ⟨ht1, hw⟩ := hw
  refine pw_runi X (m_cV X (b := a0) (ci := 4) (q := (RX4, TX4, tyX4, 15)) (met_X4_isPatrol G C.2.1 M a0 x1 _ hw) ht1 rfl (lw_V q2093 q2095 qs52 q107 q2096) ⟨rfl, nh_X4_isPatrol⟩ ⟨Nat.le_of_ble_eq_true rfl, Nat.le_of_ble_eq_true rfl⟩ rfl (Nat.le_of_ble_eq_true rfl) dX4_goHome_2) (fun r4 M2 hle3 hx => ?_)
  replace hw := hx hle3
  clear hx
  have ht5 : m_tg M2 a0 = 5 := m_le_tg hle3 ht1
  refine pw_if_ne X 10 dX4_goHome_5 (by decide) (fun c6 => ?_) (fun c6 => ?_)
  · replace hw := hw.1 c6
    refine pw_aload_n X dX4_goHome_10 rfl rfl ?_
    refine pw_iload_n X dX4_goHome_11 rfl rfl ?_
    refine pw_iconst X 0 dX4_goHome_12 (by decide) ?_
    refine pw_runi X (m_cV X (b := a0) (ci := 4) (q := (RX4, TX4, tyX4, 15)) (met_X4_ofPatrol G C.2.1 M2 a0 x1 0 _ hw) ht5 rfl (lw_V q2069 q2071 qs48 q107 q2072) ⟨rfl, nh_X4_ofPatrol⟩ ⟨Nat.le_of_ble_eq_true rfl, Nat.le_of_ble_eq_true rfl⟩ rfl (Nat.le_of_ble_eq_true rfl) dX4_goHome_13) (fun r9 M7 hle8 hx => ?_)
    replace hw := hx hle8
    clear hx
    have ht10 : m_tg M7 a0 = 5 := m_le_tg hle8 ht5
    refine pw_istore_n X [(0, vR (some a0)), (1, vI x1), (2, vI r9)] [1, 2, 0] dX4_goHome_16 rfl (by decide) rfl ?_
    refine pw_aload_n X dX4_goHome_17 rfl rfl ?_
    refine pw_aload_n X dX4_goHome_18 rfl rfl ?_
    refine pw_iload_n X dX4_goHome_19 rfl rfl ?_
    refine pw_iconst X 4 dX4_goHome_20 (by decide) ?_
    refine pw_runi X (m_cV X (b := a0) (ci := 4) (q := (RX4, TX4, tyX4, 15)) (met_X4_ofPatrol G C.2.1 M7 a0 x1 4 _ hw) ht10 rfl (lw_V q2069 q2071 qs48 q107 q2072) ⟨rfl, nh_X4_ofPatrol⟩ ⟨Nat.le_of_ble_eq_true rfl, Nat.le_of_ble_eq_true rfl⟩ rfl (Nat.le_of_ble_eq_true rfl) dX4_goHome_21) (fun r13 M11 hle12 hx => ?_)
    replace hw := hx hle12
    clear hx
    have ht14 : m_tg M11 a0 = 5 := m_le_tg hle12 ht10
    refine pw_iload_n X dX4_goHome_24 rfl rfl ?_
    refine pw_runi X (m_cV X (b := a0) (ci := 4) (q := (RX4, TX4, tyX4, 15)) (met_X4_way G C.2.1 M11 a0 r13 r9 _ hw) ht14 rfl (lw_V q2105 q2107 qs54 q107 q2108) ⟨rfl, nh_X4_way⟩ ⟨Nat.le_of_ble_eq_true rfl, Nat.le_of_ble_eq_true rfl⟩ rfl (Nat.le_of_ble_eq_true rfl) dX4_goHome_25) (fun r17 M15 hle16 hx => ?_)
    replace hw := hx hle16
    clear hx
    have ht18 : m_tg M15 a0 = 5 := m_le_tg hle16 ht14
    refine pw_istore_n X [(0, vR (some a0)), (1, vI x1), (2, vI r9), (3, vI r17)] [1, 2, 3, 0] dX4_goHome_28 rfl (by decide) rfl ?_
    refine pw_aload_n X dX4_goHome_29 rfl rfl ?_
    refine pw_iload_n X dX4_goHome_30 rfl rfl ?_
    refine pw_iconst X 3 dX4_goHome_31 (by decide) ?_
    refine pw_runi X (m_cV X (b := a0) (ci := 4) (q := (RX4, TX4, tyX4, 15)) (met_X4_ofPatrol G C.2.1 M15 a0 x1 3 _ hw) ht18 rfl (lw_V q2069 q2071 qs48 q107 q2072) ⟨rfl, nh_X4_ofPatrol⟩ ⟨Nat.le_of_ble_eq_true rfl, Nat.le_of_ble_eq_true rfl⟩ rfl (Nat.le_of_ble_eq_true rfl) dX4_goHome_32) (fun r21 M19 hle20 hx => ?_)
    replace hw := hx hle20
    clear hx
    have ht22 : m_tg M19 a0 = 5 := m_le_tg hle20 ht18
    refine pw_if_ne X 44 dX4_goHome_35 (by decide) (fun c23 => ?_) (fun c23 => ?_)
    · replace hw := hw.1 c23
      refine pw_bipush X (-4) dX4_goHome_44 (by decide) ?_
      exact pw_iret X hw dX4_goHome_46
    · replace hw := hw.2 c23
      refine pw_iload_n X dX4_goHome_38 rfl rfl ?_
      refine pw_ldc X 100000 q1945 dX4_goHome_39 ?_
      refine pw_icmp_lt X 47 dX4_goHome_41 (by decide) (fun c24 => ?_) (fun c24 => ?_)
      · replace hw := hw.1 c24
        refine pw_aload_n X dX4_goHome_47 rfl rfl ?_
        refine pw_iload_n X dX4_goHome_48 rfl rfl ?_
        refine pw_iconst X 4 dX4_goHome_49 (by decide) ?_
        refine pw_runi X (m_cV X (b := a0) (ci := 4) (q := (RX4, TX4, tyX4, 15)) (met_X4_ofPatrol G C.2.1 M19 a0 x1 4 _ hw) ht22 rfl (lw_V q2069 q2071 qs48 q107 q2072) ⟨rfl, nh_X4_ofPatrol⟩ ⟨Nat.le_of_ble_eq_true rfl, Nat.le_of_ble_eq_true rfl⟩ rfl (Nat.le_of_ble_eq_true rfl) dX4_goHome_50) (fun r27 M25 hle26 hx => ?_)
        replace hw := hx hle26
        clear hx
        have ht28 : m_tg M25 a0 = 5 := m_le_tg hle26 ht22
        refine pw_iload_n X dX4_goHome_53 rfl rfl ?_
        refine pw_icmp_ne X 60 dX4_goHome_54 (by decide) (fun c29 => ?_) (fun c29 => ?_)
        · replace hw := hw.1 c29
          refine pw_aload_n X dX4_goHome_60 rfl rfl ?_
          refine pw_runv X (m_cV X (b := a0) (ci := 4) (q := (RX4, TX4, tyX4, 15)) (met_X4_records G C.2.1 M25 a0 _ hw) ht28 rfl (lw_V q2002 q2004 qs38 q107 q2005) ⟨rfl, nh_X4_records⟩ ⟨Nat.le_of_ble_eq_true rfl, Nat.le_of_ble_eq_true rfl⟩ rfl (Nat.le_of_ble_eq_true rfl) dX4_goHome_61) (fun M30 hle31 hx => ?_)
          replace hw := hx hle31
          clear hx
          have ht32 : m_tg M30 a0 = 5 := m_le_tg hle31 ht28
          refine pw_aload_n X dX4_goHome_64 rfl rfl ?_
          refine pw_iload_n X dX4_goHome_65 rfl rfl ?_
          refine pw_iconst X 4 dX4_goHome_66 (by decide) ?_
          refine pw_iload_n X dX4_goHome_67 rfl rfl ?_
          refine pw_runv X (m_cV X (b := a0) (ci := 4) (q := (RX4, TX4, tyX4, 15)) (met_X4_laysPatrol G C.2.1 M30 a0 x1 4 r9 _ hw) ht32 rfl (lw_V q2017 q2019 qs39 q107 q2020) ⟨rfl, nh_X4_laysPatrol⟩ ⟨Nat.le_of_ble_eq_true rfl, Nat.le_of_ble_eq_true rfl⟩ rfl (Nat.le_of_ble_eq_true rfl) dX4_goHome_68) (fun M33 hle34 hx => ?_)
          replace hw := hx hle34
          clear hx
          have ht35 : m_tg M33 a0 = 5 := m_le_tg hle34 ht32
          refine pw_iload_n X dX4_goHome_71 rfl rfl ?_
          exact pw_iret X hw dX4_goHome_72
        · replace hw := hw.2 c29
          refine pw_bipush X (-5) dX4_goHome_57 (by decide) ?_
          exact pw_iret X hw dX4_goHome_59
      · replace hw := hw.2 c24
        refine pw_bipush X (-4) dX4_goHome_44 (by decide) ?_
        exact pw_iret X hw dX4_goHome_46
  · replace hw := hw.2 c6
    refine pw_iconst X (-1) dX4_goHome_8 (by decide) ?_
    exact pw_iret X hw dX4_goHome_9
theorem met_X4_goHome (G : Gp) (l : Launch) (M : Mem) (a0 : Nat) (x1 : Int32) (Q : Int32 → Mem → Prop) (hw : wp_X4_goHome G.2 M a0 x1 Q) : m_K G l yX4_goHome cX4_goHome 4 (some .int) 2 45 [vR (some a0), vI x1] M (va_Qi (m_q1 M Q) (m_W G) (m_A G)) := by
  refine m_met (by decide) (Nat.le_of_ble_eq_true rfl) (fun C e X => ?_)
  exact bk_X4_goHome_0 G C _ _ M Q X M a0 x1 hw
theorem nh_X4_goHome : m_nMH yX4_goHome 1 := by decide +kernel

def wp_X4_isGarage (g : Nat → Nat) (M : Mem) (a0 : Nat) (x1 : Int32) (Q : Int32 → Mem → Prop) : Prop := m_tg M a0 = 5 ∧ ∃ u2 : Nat, (m_gr M a0 0) = some u2 ∧ m_tg M u2 = 101 ∧ vp_in 8 (m_ln M u2) ∧ wp_X4_in g M x1 0 ((m_gi M u2 (Int32.toNatClampNeg 8)) - 1) (fun (r8 : Int32) (M6 : Mem) => m_le M M6 → ((r8 = 0 ∨ r8 = 1) ∧ Q r8 M6))
theorem bk_X4_isGarage_0 (G : Gp) (C : m_Cx) (n0 s0 : Nat) (M0 : Mem) (Q : Int32 → Mem → Prop) (X : m_in G C RX4 cX4_isGarage 2 (some .boolean) "isGarage" 1 22 n0 s0) (M : Mem) (a0 : Nat) (x1 : Int32) (hw : wp_X4_isGarage G.2 M a0 x1 Q) : pW G C 2 n0 s0 M0 (m_Q G C n0 s0 (va_Qi (m_q1 M0 Q) (m_W G) (m_A G))) M 0 [(0, vR (some a0)), (1, vI x1)] [] := by
  refine pw_iload_n X dX4_isGarage_0 rfl rfl ?_
  refine pw_iconst X 0 dX4_isGarage_1 (by decide) ?_
  refine pw_aload_n X dX4_isGarage_2 rfl rfl ?_
  obtain ⟨ht1, hw⟩ := hw
  obtain ⟨u2, he3, hw⟩ := hw
  refine pw_get X (q := (RX4, TX4, tyX4, 15)) (ci := 4) (k := 0) (ref := "PatrolDeskModel") (vR (some u2)) ht1 rfl (by decide) in_X4 q1946 (Or.inl rfl) (by rw [he3]; rfl) dX4_isGarage_3 ?_
  refine pw_bipush X 8 dX4_isGarage_6 (by decide) ?_
  obtain ⟨ht4, hw⟩ := hw
  obtain ⟨hi5, hw⟩ := hw
  refine pw_iald X ht4 hi5 dX4_isGarage_8 ?_
  refine pw_iconst X 1 dX4_isGarage_9 (by decide) ?_
  refine pw_isub X dX4_isGarage_10 ?_
  refine pw_runi X (m_cS X (met_X4_in G C.2.1 M x1 0 ((m_gi M u2 (Int32.toNatClampNeg 8)) - 1) _ hw) (lw_S q1999 q2000 q107 q2001) nh_X4_in ⟨Nat.le_of_ble_eq_true rfl, Nat.le_of_ble_eq_true rfl⟩ rfl (Nat.le_of_ble_eq_true rfl) dX4_isGarage_11) (fun r8 M6 hle7 hx => ?_)
  replace hw := hx hle7
  clear hx
  have ht9 : m_tg M6 a0 = 5 := m_le_tg hle7 ht1
  have ht10 : m_tg M6 u2 = 101 := m_le_tg hle7 ht4
  exact pw_zret X (m_nz hw.1) hw.2 dX4_isGarage_14
theorem met_X4_isGarage (G : Gp) (l : Launch) (M : Mem) (a0 : Nat) (x1 : Int32) (Q : Int32 → Mem → Prop) (hw : wp_X4_isGarage G.2 M a0 x1 Q) : m_K G l yX4_isGarage cX4_isGarage 2 (some .boolean) 1 22 [vR (some a0), vI x1] M (va_Qi (m_q1 M Q) (m_W G) (m_A G)) := by
  refine m_met (by decide) (Nat.le_of_ble_eq_true rfl) (fun C e X => ?_)
  exact bk_X4_isGarage_0 G C _ _ M Q X M a0 x1 hw
theorem nh_X4_isGarage : m_nMH yX4_isGarage 1 := by decide +kernel

def wp_X4_ofGarage (g : Nat → Nat) (M : Mem) (a0 : Nat) (x1 : Int32) (x2 : Int32) (Q : Int32 → Mem → Prop) : Prop := m_tg M a0 = 5 ∧ ∃ u2 : Nat, (m_gr M a0 0) = some u2 ∧ m_tg M u2 = 101 ∧ vp_in ((270 + (4 * x1)) + x2) (m_ln M u2) ∧ Q (m_gi M u2 (Int32.toNatClampNeg ((270 + (4 * x1)) + x2))) M
theorem bk_X4_ofGarage_0 (G : Gp) (C : m_Cx) (n0 s0 : Nat) (M0 : Mem) (Q : Int32 → Mem → Prop) (X : m_in G C RX4 cX4_ofGarage 3 (some .int) "ofGarage" 0 0 n0 s0) (M : Mem) (a0 : Nat) (x1 : Int32) (x2 : Int32) (hw : wp_X4_ofGarage G.2 M a0 x1 x2 Q) : pW G C 3 n0 s0 M0 (m_Q G C n0 s0 (va_Qi (m_q1 M0 Q) (m_W G) (m_A G))) M 0 [(0, vR (some a0)), (1, vI x1), (2, vI x2)] [] := by
  refine pw_aload_n X dX4_ofGarage_0 rfl rfl ?_
  obtain ⟨ht1, hw⟩ := hw
  obtain ⟨u2, he3, hw⟩ := hw
  refine pw_get X (q := (RX4, TX4, tyX4, 15)) (ci := 4) (k := 0) (ref := "PatrolDeskModel") (vR (some u2)) ht1 rfl (by decide) in_X4 q1946 (Or.inl rfl) (by rw [he3]; rfl) dX4_ofGarage_1 ?_
  refine pw_sipush X 270 dX4_ofGarage_4 (by decide) ?_
  refine pw_iconst X 4 dX4_ofGarage_7 (by decide) ?_
  refine pw_iload_n X dX4_ofGarage_8 rfl rfl ?_
  refine pw_imul X dX4_ofGarage_9 ?_
  refine pw_iadd X dX4_ofGarage_10 ?_
  refine pw_iload_n X dX4_ofGarage_11 rfl rfl ?_
  refine pw_iadd X dX4_ofGarage_12 ?_
  obtain ⟨ht4, hw⟩ := hw
  obtain ⟨hi5, hw⟩ := hw
  refine pw_iald X ht4 hi5 dX4_ofGarage_13 ?_
  exact pw_iret X hw dX4_ofGarage_14
theorem met_X4_ofGarage (G : Gp) (l : Launch) (M : Mem) (a0 : Nat) (x1 : Int32) (x2 : Int32) (Q : Int32 → Mem → Prop) (hw : wp_X4_ofGarage G.2 M a0 x1 x2 Q) : m_K G l yX4_ofGarage cX4_ofGarage 3 (some .int) 0 0 [vR (some a0), vI x1, vI x2] M (va_Qi (m_q1 M Q) (m_W G) (m_A G)) := by
  refine m_met (by decide) (Nat.le_of_ble_eq_true rfl) (fun C e X => ?_)
  exact bk_X4_ofGarage_0 G C _ _ M Q X M a0 x1 x2 hw
theorem nh_X4_ofGarage : m_nMH yX4_ofGarage 2 := by decide +kernel

def wp_X4_fetch (g : Nat → Nat) (M : Mem) (a0 : Nat) (x1 : Int32) (x2 : Int32) (Q : Int32 → Mem → Prop) : Prop := m_tg M a0 = 5 ∧ wp_X4_isGarage g M a0 x1 (fun (r4 : Int32) (M2 : Mem) => m_le M M2 → ((¬ r4 = 0 → wp_X4_in g M2 x2 1 9 (fun (r9 : Int32) (M7 : Mem) => m_le M2 M7 → ((¬ r9 = 0 → wp_X4_ofGarage g M7 a0 x1 2 (fun (r14 : Int32) (M12 : Mem) => m_le M7 M12 → ((x2 ≤ r14 → wp_X4_records g M12 a0 (fun (M17 : Mem) => m_le M12 M17 → ∃ u20 : Nat, (m_gr M17 a0 0) = some u20 ∧ m_tg M17 u20 = 101 ∧ vp_in ((270 + (4 * x1)) + 2) (m_ln M17 u20) ∧ vp_in ((270 + (4 * x1)) + 2) (m_ln M17 u20) ∧ ∀ M25 : Mem, M25 = (m_pi M17 u20 (Int32.toNatClampNeg ((270 + (4 * x1)) + 2)) ((m_gi M17 u20 (Int32.toNatClampNeg ((270 + (4 * x1)) + 2))) - x2)) → wp_X4_ofGarage g M25 a0 x1 2 (fun (r32 : Int32) (M30 : Mem) => m_le M25 M30 → Q r32 M30))) ∧ (¬ x2 ≤ r14 → Q (-4) M12)))) ∧ (r9 = 0 → Q (-2) M7)))) ∧ (r4 = 0 → Q (-1) M2)))
theorem bk_X4_fetch_0 (G : Gp) (C : m_Cx) (n0 s0 : Nat) (M0 : Mem) (Q : Int32 → Mem → Prop) (X : m_in G C RX4 cX4_fetch 3 (some .int) "fetch" 2 45 n0 s0) (M : Mem) (a0 : Nat) (x1 : Int32) (x2 : Int32) (hw : wp_X4_fetch G.2 M a0 x1 x2 Q) : pW G C 3 n0 s0 M0 (m_Q G C n0 s0 (va_Qi (m_q1 M0 Q) (m_W G) (m_A G))) M 0 [(0, vR (some a0)), (1, vI x1), (2, vI x2)] [] := by
  refine pw_aload_n X dX4_fetch_0 rfl rfl ?_
  refine pw_iload_n X dX4_fetch_1 rfl rfl ?_
  obtain ⟨ht1, hw⟩ := hw
  refine pw_runi X (m_cV X (b := a0) (ci := 4) (q := (RX4, TX4, tyX4, 15)) (met_X4_isGarage G C.2.1 M a0 x1 _ hw) ht1 rfl (lw_V q2113 q2115 qs55 q107 q2116) ⟨rfl, nh_X4_isGarage⟩ ⟨Nat.le_of_ble_eq_true rfl, Nat.le_of_ble_eq_true rfl⟩ rfl (Nat.le_of_ble_eq_true rfl) dX4_fetch_2) (fun r4 M2 hle3 hx => ?_)
  replace hw := hx hle3
  clear hx
  have ht5 : m_tg M2 a0 = 5 := m_le_tg hle3 ht1
  refine pw_if_ne X 10 dX4_fetch_5 (by decide) (fun c6 => ?_) (fun c6 => ?_)
  · replace hw := hw.1 c6
    refine pw_iload_n X dX4_fetch_10 rfl rfl ?_
    refine pw_iconst X 1 dX4_fetch_11 (by decide) ?_
    refine pw_bipush X 9 dX4_fetch_12 (by decide) ?_
    refine pw_runi X (m_cS X (met_X4_in G C.2.1 M2 x2 1 9 _ hw) (lw_S q1999 q2000 q107 q2001) nh_X4_in ⟨Nat.le_of_ble_eq_true rfl, Nat.le_of_ble_eq_true rfl⟩ rfl (Nat.le_of_ble_eq_true rfl) dX4_fetch_14) (fun r9 M7 hle8 hx => ?_)
    replace hw := hx hle8
    clear hx
    have ht10 : m_tg M7 a0 = 5 := m_le_tg hle8 ht5
    refine pw_if_ne X 23 dX4_fetch_17 (by decide) (fun c11 => ?_) (fun c11 => ?_)
    · replace hw := hw.1 c11
      refine pw_aload_n X dX4_fetch_23 rfl rfl ?_
      refine pw_iload_n X dX4_fetch_24 rfl rfl ?_
      refine pw_iconst X 2 dX4_fetch_25 (by decide) ?_
      refine pw_runi X (m_cV X (b := a0) (ci := 4) (q := (RX4, TX4, tyX4, 15)) (met_X4_ofGarage G C.2.1 M7 a0 x1 2 _ hw) ht10 rfl (lw_V q2117 q2119 qs56 q107 q2120) ⟨rfl, nh_X4_ofGarage⟩ ⟨Nat.le_of_ble_eq_true rfl, Nat.le_of_ble_eq_true rfl⟩ rfl (Nat.le_of_ble_eq_true rfl) dX4_fetch_26) (fun r14 M12 hle13 hx => ?_)
      replace hw := hx hle13
      clear hx
      have ht15 : m_tg M12 a0 = 5 := m_le_tg hle13 ht10
      refine pw_iload_n X dX4_fetch_29 rfl rfl ?_
      refine pw_icmp_ge X 36 dX4_fetch_30 (by decide) (fun c16 => ?_) (fun c16 => ?_)
      · replace hw := hw.1 c16
        refine pw_aload_n X dX4_fetch_36 rfl rfl ?_
        refine pw_runv X (m_cV X (b := a0) (ci := 4) (q := (RX4, TX4, tyX4, 15)) (met_X4_records G C.2.1 M12 a0 _ hw) ht15 rfl (lw_V q2002 q2004 qs38 q107 q2005) ⟨rfl, nh_X4_records⟩ ⟨Nat.le_of_ble_eq_true rfl, Nat.le_of_ble_eq_true rfl⟩ rfl (Nat.le_of_ble_eq_true rfl) dX4_fetch_37) (fun M17 hle18 hx => ?_)
        replace hw := hx hle18
        clear hx
        have ht19 : m_tg M17 a0 = 5 := m_le_tg hle18 ht15
        refine pw_aload_n X dX4_fetch_40 rfl rfl ?_
        obtain ⟨u20, he21, hw⟩ := hw
        refine pw_get X (q := (RX4, TX4, tyX4, 15)) (ci := 4) (k := 0) (ref := "PatrolDeskModel") (vR (some u20)) ht19 rfl (by decide) in_X4 q1946 (Or.inl rfl) (by rw [he21]; rfl) dX4_fetch_41 ?_
        refine pw_sipush X 270 dX4_fetch_44 (by decide) ?_
        refine pw_iconst X 4 dX4_fetch_47 (by decide) ?_
        refine pw_iload_n X dX4_fetch_48 rfl rfl ?_
        refine pw_imul X dX4_fetch_49 ?_
        refine pw_iadd X dX4_fetch_50 ?_
        refine pw_iconst X 2 dX4_fetch_51 (by decide) ?_
        refine pw_iadd X dX4_fetch_52 ?_
        refine pw_dup2 X dX4_fetch_53 ?_
        obtain ⟨ht22, hw⟩ := hw
        obtain ⟨hi23, hw⟩ := hw
        refine pw_iald X ht22 hi23 dX4_fetch_54 ?_
        refine pw_iload_n X dX4_fetch_55 rfl rfl ?_
        refine pw_isub X dX4_fetch_56 ?_
        obtain ⟨hi24, hw⟩ := hw
        obtain ⟨M25, hM26⟩ : ∃ z : Mem, z = (m_pi M17 u20 (Int32.toNatClampNeg ((270 + (4 * x1)) + 2)) ((m_gi M17 u20 (Int32.toNatClampNeg ((270 + (4 * x1)) + 2))) - x2)) := ⟨_, rfl⟩
        replace hw := hw M25 hM26
        have hle27 : m_le M17 M25 := by rw [hM26]; exact m_le_pi
        refine pw_iast X ht22 hi24 dX4_fetch_57 ?_
        rw [← hM26]
        have ht28 : m_tg M25 a0 = 5 := m_le_tg hle27 ht19
        have ht29 : m_tg M25 u20 = 101 := m_le_tg hle27 ht22
        refine pw_aload_n X dX4_fetch_58 rfl rfl ?_
        refine pw_iload_n X dX4_fetch_59 rfl rfl ?_
        refine pw_iconst X 2 dX4_fetch_60 (by decide) ?_
        refine pw_runi X (m_cV X (b := a0) (ci := 4) (q := (RX4, TX4, tyX4, 15)) (met_X4_ofGarage G C.2.1 M25 a0 x1 2 _ hw) ht28 rfl (lw_V q2117 q2119 qs56 q107 q2120) ⟨rfl, nh_X4_ofGarage⟩ ⟨Nat.le_of_ble_eq_true rfl, Nat.le_of_ble_eq_true rfl⟩ rfl (Nat.le_of_ble_eq_true rfl) dX4_fetch_61) (fun r32 M30 hle31 hx => ?_)
        replace hw := hx hle31
        clear hx
        have ht33 : m_tg M30 a0 = 5 := m_le_tg hle31 ht28
        have ht34 : m_tg M30 u20 = 101 := m_le_tg hle31 ht29
        exact pw_iret X hw dX4_fetch_64
      · replace hw := hw.2 c16
        refine pw_bipush X (-4) dX4_fetch_33 (by decide) ?_
        exact pw_iret X hw dX4_fetch_35
    · replace hw := hw.2 c11
      refine pw_bipush X (-2) dX4_fetch_20 (by decide) ?_
      exact pw_iret X hw dX4_fetch_22
  · replace hw := hw.2 c6
    refine pw_iconst X (-1) dX4_fetch_8 (by decide) ?_
    exact pw_iret X hw dX4_fetch_9
theorem met_X4_fetch (G : Gp) (l : Launch) (M : Mem) (a0 : Nat) (x1 : Int32) (x2 : Int32) (Q : Int32 → Mem → Prop) (hw : wp_X4_fetch G.2 M a0 x1 x2 Q) : m_K G l yX4_fetch cX4_fetch 3 (some .int) 2 45 [vR (some a0), vI x1, vI x2] M (va_Qi (m_q1 M Q) (m_W G) (m_A G)) := by
  refine m_met (by decide) (Nat.le_of_ble_eq_true rfl) (fun C e X => ?_)
  exact bk_X4_fetch_0 G C _ _ M Q X M a0 x1 x2 hw
theorem nh_X4_fetch : m_nMH yX4_fetch 2 := by decide +kernel

def wp_X4_manyIn_b4 (g : Nat → Nat) (Q : Int32 → Mem → Prop) : Nat → Mem → Nat → Int32 → Int32 → Int32 → Prop
  | 0 => fun _ _ _ _ _ => False
  | n + 1 => fun M la0 lx1 lx2 lx3 => m_tg M la0 = 5 ∧ ∃ u2 : Nat, (m_gr M la0 0) = some u2 ∧ m_tg M u2 = 101 ∧ vp_in 9 (m_ln M u2) ∧ (((m_gi M u2 (Int32.toNatClampNeg 9)) ≤ lx3 → Q lx2 M) ∧ (¬ (m_gi M u2 (Int32.toNatClampNeg 9)) ≤ lx3 → wp_X4_ofCall g M la0 lx3 5 (fun (r9 : Int32) (M7 : Mem) => m_le M M7 → ((¬ r9 = lx1 → wp_X4_manyIn_b4 g Q n M7 la0 lx1 (lx2 + 0) (lx3 + 1)) ∧ (r9 = lx1 → wp_X4_manyIn_b4 g Q n M7 la0 lx1 (lx2 + 1) (lx3 + 1))))))
def wp_X4_manyIn (g : Nat → Nat) (M : Mem) (a0 : Nat) (x1 : Int32) (Q : Int32 → Mem → Prop) : Prop := ∃ j4 : Nat, wp_X4_manyIn_b4 g Q j4 M a0 x1 0 0
theorem bk_X4_manyIn_4 (G : Gp) (C : m_Cx) (n0 s0 : Nat) (M0 : Mem) (Q : Int32 → Mem → Prop) (X : m_in G C RX4 cX4_manyIn 4 (some .int) "manyIn" 1 22 n0 s0) : ∀ (n : Nat) (M : Mem) (la0 : Nat) (lx1 : Int32) (lx2 : Int32) (lx3 : Int32) (hw : wp_X4_manyIn_b4 G.2 Q n M la0 lx1 lx2 lx3), pW G C 4 n0 s0 M0 (m_Q G C n0 s0 (va_Qi (m_q1 M0 Q) (m_W G) (m_A G))) M 4 [(0, vR (some la0)), (1, vI lx1), (2, vI lx2), (3, vI lx3)] [] := by
  intro n
  induction n with
  | zero => intro M la0 lx1 lx2 lx3 hw; exact hw.elim
  | succ n ih =>
    intro M la0 lx1 lx2 lx3 hw
    refine pw_iload_n X dX4_manyIn_4 rfl rfl ?_
    refine pw_aload_n X dX4_manyIn_5 rfl rfl ?_
    obtain ⟨ht1, hw⟩ := hw
    obtain ⟨u2, he3, hw⟩ := hw
    refine pw_get X (q := (RX4, TX4, tyX4, 15)) (ci := 4) (k := 0) (ref := "PatrolDeskModel") (vR (some u2)) ht1 rfl (by decide) in_X4 q1946 (Or.inl rfl) (by rw [he3]; rfl) dX4_manyIn_6 ?_
    refine pw_bipush X 9 dX4_manyIn_9 (by decide) ?_
    obtain ⟨ht4, hw⟩ := hw
    obtain ⟨hi5, hw⟩ := hw
    refine pw_iald X ht4 hi5 dX4_manyIn_11 ?_
    refine pw_icmp_ge X 39 dX4_manyIn_12 (by decide) (fun c6 => ?_) (fun c6 => ?_)
    · replace hw := hw.1 c6
      refine pw_iload_n X dX4_manyIn_39 rfl rfl ?_
      exact pw_iret X hw dX4_manyIn_40
    · replace hw := hw.2 c6
      refine pw_iload_n X dX4_manyIn_15 rfl rfl ?_
      refine pw_aload_n X dX4_manyIn_16 rfl rfl ?_
      refine pw_iload_n X dX4_manyIn_17 rfl rfl ?_
      refine pw_iconst X 5 dX4_manyIn_18 (by decide) ?_
      refine pw_runi X (m_cV X (b := la0) (ci := 4) (q := (RX4, TX4, tyX4, 15)) (met_X4_ofCall G C.2.1 M la0 lx3 5 _ hw) ht1 rfl (lw_V q2053 q2055 qs44 q107 q2056) ⟨rfl, nh_X4_ofCall⟩ ⟨Nat.le_of_ble_eq_true rfl, Nat.le_of_ble_eq_true rfl⟩ rfl (Nat.le_of_ble_eq_true rfl) dX4_manyIn_19) (fun r9 M7 hle8 hx => ?_)
      replace hw := hx hle8
      clear hx
      have ht10 : m_tg M7 la0 = 5 := m_le_tg hle8 ht1
      have ht11 : m_tg M7 u2 = 101 := m_le_tg hle8 ht4
      refine pw_iload_n X dX4_manyIn_22 rfl rfl ?_
      refine pw_icmp_ne X 30 dX4_manyIn_23 (by decide) (fun c12 => ?_) (fun c12 => ?_)
      · replace hw := hw.1 c12
        refine pw_iconst X 0 dX4_manyIn_30 (by decide) ?_
        refine pw_iadd X dX4_manyIn_31 ?_
        refine pw_istore_n X [(0, vR (some la0)), (1, vI lx1), (2, vI (lx2 + 0)), (3, vI lx3)] [1, 2, 0, 3] dX4_manyIn_32 rfl (by decide) rfl ?_
        refine pw_iinc X (lx3 + 1) [(0, vR (some la0)), (1, vI lx1), (2, vI (lx2 + 0)), (3, vI (lx3 + 1))] [1, 2, 3, 0] dX4_manyIn_33 rfl (by first | rfl | decide) (by decide) rfl ?_
        refine pw_goto X 4 dX4_manyIn_36 (by decide) ?_
        exact ih _ la0 lx1 (lx2 + 0) (lx3 + 1) hw
      · replace hw := hw.2 c12
        refine pw_iconst X 1 dX4_manyIn_26 (by decide) ?_
        refine pw_goto X 31 dX4_manyIn_27 (by decide) ?_
        refine pw_iadd X dX4_manyIn_31 ?_
        refine pw_istore_n X [(0, vR (some la0)), (1, vI lx1), (2, vI (lx2 + 1)), (3, vI lx3)] [1, 2, 0, 3] dX4_manyIn_32 rfl (by decide) rfl ?_
        refine pw_iinc X (lx3 + 1) [(0, vR (some la0)), (1, vI lx1), (2, vI (lx2 + 1)), (3, vI (lx3 + 1))] [1, 2, 3, 0] dX4_manyIn_33 rfl (by first | rfl | decide) (by decide) rfl ?_
        refine pw_goto X 4 dX4_manyIn_36 (by decide) ?_
        exact ih _ la0 lx1 (lx2 + 1) (lx3 + 1) hw
theorem bk_X4_manyIn_0 (G : Gp) (C : m_Cx) (n0 s0 : Nat) (M0 : Mem) (Q : Int32 → Mem → Prop) (X : m_in G C RX4 cX4_manyIn 4 (some .int) "manyIn" 1 22 n0 s0) (M : Mem) (a0 : Nat) (x1 : Int32) (hw : wp_X4_manyIn G.2 M a0 x1 Q) : pW G C 4 n0 s0 M0 (m_Q G C n0 s0 (va_Qi (m_q1 M0 Q) (m_W G) (m_A G))) M 0 [(0, vR (some a0)), (1, vI x1)] [] := by
  refine pw_iconst X 0 dX4_manyIn_0 (by decide) ?_
  refine pw_istore_n X [(0, vR (some a0)), (1, vI x1), (2, vI 0)] [1, 2, 0] dX4_manyIn_1 rfl (by decide) rfl ?_
  refine pw_iconst X 0 dX4_manyIn_2 (by decide) ?_
  refine pw_istore_n X [(0, vR (some a0)), (1, vI x1), (2, vI 0), (3, vI 0)] [1, 2, 3, 0] dX4_manyIn_3 rfl (by decide) rfl ?_
  obtain ⟨n4, hw⟩ := hw
  exact bk_X4_manyIn_4 G C n0 s0 M0 Q X n4 _ a0 x1 0 0 hw
theorem met_X4_manyIn (G : Gp) (l : Launch) (M : Mem) (a0 : Nat) (x1 : Int32) (Q : Int32 → Mem → Prop) (hw : wp_X4_manyIn G.2 M a0 x1 Q) : m_K G l yX4_manyIn cX4_manyIn 4 (some .int) 1 22 [vR (some a0), vI x1] M (va_Qi (m_q1 M Q) (m_W G) (m_A G)) := by
  refine m_met (by decide) (Nat.le_of_ble_eq_true rfl) (fun C e X => ?_)
  exact bk_X4_manyIn_0 G C _ _ M Q X M a0 x1 hw
theorem nh_X4_manyIn : m_nMH yX4_manyIn 1 := by decide +kernel

def wp_X4_underWay_b4 (g : Nat → Nat) (Q : Int32 → Mem → Prop) : Nat → Mem → Nat → Int32 → Int32 → Int32 → Prop
  | 0 => fun _ _ _ _ _ => False
  | n + 1 => fun M la0 lx1 lx2 lx3 => m_tg M la0 = 5 ∧ ∃ u2 : Nat, (m_gr M la0 0) = some u2 ∧ m_tg M u2 = 101 ∧ vp_in 7 (m_ln M u2) ∧ (((m_gi M u2 (Int32.toNatClampNeg 7)) ≤ lx3 → Q lx2 M) ∧ (¬ (m_gi M u2 (Int32.toNatClampNeg 7)) ≤ lx3 → wp_X4_ofPatrol g M la0 lx3 3 (fun (r9 : Int32) (M7 : Mem) => m_le M M7 → ((¬ r9 = 3 → wp_X4_underWay_b4 g Q n M7 la0 lx1 (lx2 + 0) (lx3 + 1)) ∧ (r9 = 3 → wp_X4_ofPatrol g M7 la0 lx3 13 (fun (r15 : Int32) (M13 : Mem) => m_le M7 M13 → ((¬ r15 = lx1 → wp_X4_underWay_b4 g Q n M13 la0 lx1 (lx2 + 0) (lx3 + 1)) ∧ (r15 = lx1 → wp_X4_underWay_b4 g Q n M13 la0 lx1 (lx2 + 1) (lx3 + 1)))))))))
def wp_X4_underWay (g : Nat → Nat) (M : Mem) (a0 : Nat) (x1 : Int32) (Q : Int32 → Mem → Prop) : Prop := ∃ j4 : Nat, wp_X4_underWay_b4 g Q j4 M a0 x1 0 0
theorem bk_X4_underWay_4 (G : Gp) (C : m_Cx) (n0 s0 : Nat) (M0 : Mem) (Q : Int32 → Mem → Prop) (X : m_in G C RX4 cX4_underWay 4 (some .int) "underWay" 1 22 n0 s0) : ∀ (n : Nat) (M : Mem) (la0 : Nat) (lx1 : Int32) (lx2 : Int32) (lx3 : Int32) (hw : wp_X4_underWay_b4 G.2 Q n M la0 lx1 lx2 lx3), pW G C 4 n0 s0 M0 (m_Q G C n0 s0 (va_Qi (m_q1 M0 Q) (m_W G) (m_A G))) M 4 [(0, vR (some la0)), (1, vI lx1), (2, vI lx2), (3, vI lx3)] [] := by
  intro n
  induction n with
  | zero => intro M la0 lx1 lx2 lx3 hw; exact hw.elim
  | succ n ih =>
    intro M la0 lx1 lx2 lx3 hw
    refine pw_iload_n X dX4_underWay_4 rfl rfl ?_
    refine pw_aload_n X dX4_underWay_5 rfl rfl ?_
    obtain ⟨ht1, hw⟩ := hw
    obtain ⟨u2, he3, hw⟩ := hw
    refine pw_get X (q := (RX4, TX4, tyX4, 15)) (ci := 4) (k := 0) (ref := "PatrolDeskModel") (vR (some u2)) ht1 rfl (by decide) in_X4 q1946 (Or.inl rfl) (by rw [he3]; rfl) dX4_underWay_6 ?_
    refine pw_bipush X 7 dX4_underWay_9 (by decide) ?_
    obtain ⟨ht4, hw⟩ := hw
    obtain ⟨hi5, hw⟩ := hw
    refine pw_iald X ht4 hi5 dX4_underWay_11 ?_
    refine pw_icmp_ge X 50 dX4_underWay_12 (by decide) (fun c6 => ?_) (fun c6 => ?_)
    · replace hw := hw.1 c6
      refine pw_iload_n X dX4_underWay_50 rfl rfl ?_
      exact pw_iret X hw dX4_underWay_51
    · replace hw := hw.2 c6
      refine pw_iload_n X dX4_underWay_15 rfl rfl ?_
      refine pw_aload_n X dX4_underWay_16 rfl rfl ?_
      refine pw_iload_n X dX4_underWay_17 rfl rfl ?_
      refine pw_iconst X 3 dX4_underWay_18 (by decide) ?_
      refine pw_runi X (m_cV X (b := la0) (ci := 4) (q := (RX4, TX4, tyX4, 15)) (met_X4_ofPatrol G C.2.1 M la0 lx3 3 _ hw) ht1 rfl (lw_V q2069 q2071 qs48 q107 q2072) ⟨rfl, nh_X4_ofPatrol⟩ ⟨Nat.le_of_ble_eq_true rfl, Nat.le_of_ble_eq_true rfl⟩ rfl (Nat.le_of_ble_eq_true rfl) dX4_underWay_19) (fun r9 M7 hle8 hx => ?_)
      replace hw := hx hle8
      clear hx
      have ht10 : m_tg M7 la0 = 5 := m_le_tg hle8 ht1
      have ht11 : m_tg M7 u2 = 101 := m_le_tg hle8 ht4
      refine pw_iconst X 3 dX4_underWay_22 (by decide) ?_
      refine pw_icmp_ne X 41 dX4_underWay_23 (by decide) (fun c12 => ?_) (fun c12 => ?_)
      · replace hw := hw.1 c12
        refine pw_iconst X 0 dX4_underWay_41 (by decide) ?_
        refine pw_iadd X dX4_underWay_42 ?_
        refine pw_istore_n X [(0, vR (some la0)), (1, vI lx1), (2, vI (lx2 + 0)), (3, vI lx3)] [1, 2, 0, 3] dX4_underWay_43 rfl (by decide) rfl ?_
        refine pw_iinc X (lx3 + 1) [(0, vR (some la0)), (1, vI lx1), (2, vI (lx2 + 0)), (3, vI (lx3 + 1))] [1, 2, 3, 0] dX4_underWay_44 rfl (by first | rfl | decide) (by decide) rfl ?_
        refine pw_goto X 4 dX4_underWay_47 (by decide) ?_
        exact ih _ la0 lx1 (lx2 + 0) (lx3 + 1) hw
      · replace hw := hw.2 c12
        refine pw_aload_n X dX4_underWay_26 rfl rfl ?_
        refine pw_iload_n X dX4_underWay_27 rfl rfl ?_
        refine pw_bipush X 13 dX4_underWay_28 (by decide) ?_
        refine pw_runi X (m_cV X (b := la0) (ci := 4) (q := (RX4, TX4, tyX4, 15)) (met_X4_ofPatrol G C.2.1 M7 la0 lx3 13 _ hw) ht10 rfl (lw_V q2069 q2071 qs48 q107 q2072) ⟨rfl, nh_X4_ofPatrol⟩ ⟨Nat.le_of_ble_eq_true rfl, Nat.le_of_ble_eq_true rfl⟩ rfl (Nat.le_of_ble_eq_true rfl) dX4_underWay_30) (fun r15 M13 hle14 hx => ?_)
        replace hw := hx hle14
        clear hx
        have ht16 : m_tg M13 la0 = 5 := m_le_tg hle14 ht10
        have ht17 : m_tg M13 u2 = 101 := m_le_tg hle14 ht11
        refine pw_iload_n X dX4_underWay_33 rfl rfl ?_
        refine pw_icmp_ne X 41 dX4_underWay_34 (by decide) (fun c18 => ?_) (fun c18 => ?_)
        · replace hw := hw.1 c18
          refine pw_iconst X 0 dX4_underWay_41 (by decide) ?_
          refine pw_iadd X dX4_underWay_42 ?_
          refine pw_istore_n X [(0, vR (some la0)), (1, vI lx1), (2, vI (lx2 + 0)), (3, vI lx3)] [1, 2, 0, 3] dX4_underWay_43 rfl (by decide) rfl ?_
          refine pw_iinc X (lx3 + 1) [(0, vR (some la0)), (1, vI lx1), (2, vI (lx2 + 0)), (3, vI (lx3 + 1))] [1, 2, 3, 0] dX4_underWay_44 rfl (by first | rfl | decide) (by decide) rfl ?_
          refine pw_goto X 4 dX4_underWay_47 (by decide) ?_
          exact ih _ la0 lx1 (lx2 + 0) (lx3 + 1) hw
        · replace hw := hw.2 c18
          refine pw_iconst X 1 dX4_underWay_37 (by decide) ?_
          refine pw_goto X 42 dX4_underWay_38 (by decide) ?_
          refine pw_iadd X dX4_underWay_42 ?_
          refine pw_istore_n X [(0, vR (some la0)), (1, vI lx1), (2, vI (lx2 + 1)), (3, vI lx3)] [1, 2, 0, 3] dX4_underWay_43 rfl (by decide) rfl ?_
          refine pw_iinc X (lx3 + 1) [(0, vR (some la0)), (1, vI lx1), (2, vI (lx2 + 1)), (3, vI (lx3 + 1))] [1, 2, 3, 0] dX4_underWay_44 rfl (by first | rfl | decide) (by decide) rfl ?_
          refine pw_goto X 4 dX4_underWay_47 (by decide) ?_
          exact ih _ la0 lx1 (lx2 + 1) (lx3 + 1) hw
theorem bk_X4_underWay_0 (G : Gp) (C : m_Cx) (n0 s0 : Nat) (M0 : Mem) (Q : Int32 → Mem → Prop) (X : m_in G C RX4 cX4_underWay 4 (some .int) "underWay" 1 22 n0 s0) (M : Mem) (a0 : Nat) (x1 : Int32) (hw : wp_X4_underWay G.2 M a0 x1 Q) : pW G C 4 n0 s0 M0 (m_Q G C n0 s0 (va_Qi (m_q1 M0 Q) (m_W G) (m_A G))) M 0 [(0, vR (some a0)), (1, vI x1)] [] := by
  refine pw_iconst X 0 dX4_underWay_0 (by decide) ?_
  refine pw_istore_n X [(0, vR (some a0)), (1, vI x1), (2, vI 0)] [1, 2, 0] dX4_underWay_1 rfl (by decide) rfl ?_
  refine pw_iconst X 0 dX4_underWay_2 (by decide) ?_
  refine pw_istore_n X [(0, vR (some a0)), (1, vI x1), (2, vI 0), (3, vI 0)] [1, 2, 3, 0] dX4_underWay_3 rfl (by decide) rfl ?_
  obtain ⟨n4, hw⟩ := hw
  exact bk_X4_underWay_4 G C n0 s0 M0 Q X n4 _ a0 x1 0 0 hw
theorem met_X4_underWay (G : Gp) (l : Launch) (M : Mem) (a0 : Nat) (x1 : Int32) (Q : Int32 → Mem → Prop) (hw : wp_X4_underWay G.2 M a0 x1 Q) : m_K G l yX4_underWay cX4_underWay 4 (some .int) 1 22 [vR (some a0), vI x1] M (va_Qi (m_q1 M Q) (m_W G) (m_A G)) := by
  refine m_met (by decide) (Nat.le_of_ble_eq_true rfl) (fun C e X => ?_)
  exact bk_X4_underWay_0 G C _ _ M Q X M a0 x1 hw
theorem nh_X4_underWay : m_nMH yX4_underWay 1 := by decide +kernel

def wp_X4_garageFor_b62 (g : Nat → Nat) (k5 : Mem → Nat → Int32 → Int32 → Int32 → Prop) (M : Mem) (la0 : Nat) (lx1 : Int32) (lx2 : Int32) (lx3 : Int32) (lx4 : Int32) (sx0 : Int32) (Q : Int32 → Mem → Prop) : Prop := ((sx0 = 0 → k5 M la0 lx1 lx2 (lx3 + 1)) ∧ (¬ sx0 = 0 → ((lx2 = (-5) → k5 M la0 lx1 lx3 (lx3 + 1)) ∧ (¬ lx2 = (-5) → m_tg M la0 = 5 ∧ wp_X4_ofGarage g M la0 lx2 0 (fun (r6 : Int32) (M4 : Mem) => m_le M M4 → wp_X4_way g M4 la0 lx1 r6 (fun (r10 : Int32) (M8 : Mem) => m_le M4 M8 → ((r10 ≤ lx4 → k5 M8 la0 lx1 lx2 (lx3 + 1)) ∧ (¬ r10 ≤ lx4 → k5 M8 la0 lx1 lx3 (lx3 + 1)))))))))
def wp_X4_garageFor_b61 (g : Nat → Nat) (k5 : Mem → Nat → Int32 → Int32 → Int32 → Prop) (M : Mem) (la0 : Nat) (lx1 : Int32) (lx2 : Int32) (lx3 : Int32) (lx4 : Int32) (Q : Int32 → Mem → Prop) : Prop := wp_X4_garageFor_b62 g k5 M la0 lx1 lx2 lx3 lx4 0 Q
def wp_X4_garageFor_b5 (g : Nat → Nat) (Q : Int32 → Mem → Prop) : Nat → Mem → Nat → Int32 → Int32 → Int32 → Prop
  | 0 => fun _ _ _ _ _ => False
  | n + 1 => fun M la0 lx1 lx2 lx3 => m_tg M la0 = 5 ∧ ∃ u2 : Nat, (m_gr M la0 0) = some u2 ∧ m_tg M u2 = 101 ∧ vp_in 8 (m_ln M u2) ∧ (((m_gi M u2 (Int32.toNatClampNeg 8)) ≤ lx3 → Q lx2 M) ∧ (¬ (m_gi M u2 (Int32.toNatClampNeg 8)) ≤ lx3 → wp_X4_ofGarage g M la0 lx3 0 (fun (r9 : Int32) (M7 : Mem) => m_le M M7 → wp_X4_way g M7 la0 lx1 r9 (fun (r14 : Int32) (M12 : Mem) => m_le M7 M12 → ((100000 ≤ r14 → wp_X4_garageFor_b61 g (wp_X4_garageFor_b5 g Q n) M12 la0 lx1 lx2 lx3 r14 Q) ∧ (¬ 100000 ≤ r14 → wp_X4_ofGarage g M12 la0 lx3 2 (fun (r20 : Int32) (M18 : Mem) => m_le M12 M18 → wp_X4_underWay g M18 la0 lx3 (fun (r25 : Int32) (M23 : Mem) => m_le M18 M23 → wp_X4_ofGarage g M23 la0 lx3 1 (fun (r30 : Int32) (M28 : Mem) => m_le M23 M28 → ((r30 ≤ (r20 + r25) → wp_X4_garageFor_b61 g (wp_X4_garageFor_b5 g Q n) M28 la0 lx1 lx2 lx3 r14 Q) ∧ (¬ r30 ≤ (r20 + r25) → wp_X4_garageFor_b62 g (wp_X4_garageFor_b5 g Q n) M28 la0 lx1 lx2 lx3 r14 1 Q)))))))))))
def wp_X4_garageFor (g : Nat → Nat) (M : Mem) (a0 : Nat) (x1 : Int32) (Q : Int32 → Mem → Prop) : Prop := ∃ j5 : Nat, wp_X4_garageFor_b5 g Q j5 M a0 x1 (-5) 0
theorem bk_X4_garageFor_62 (G : Gp) (C : m_Cx) (n0 s0 : Nat) (M0 : Mem) (Q : Int32 → Mem → Prop) (X : m_in G C RX4 cX4_garageFor 6 (some .int) "garageFor" 2 45 n0 s0) (k5 : Mem → Nat → Int32 → Int32 → Int32 → Prop) (hk5 : ∀ (M : Mem) (la0 : Nat) (lx1 : Int32) (lx2 : Int32) (lx3 : Int32), k5 M la0 lx1 lx2 lx3 → pW G C 6 n0 s0 M0 (m_Q G C n0 s0 (va_Qi (m_q1 M0 Q) (m_W G) (m_A G))) M 5 [(0, vR (some la0)), (1, vI lx1), (2, vI lx2), (3, vI lx3)] []) (M : Mem) (la0 : Nat) (lx1 : Int32) (lx2 : Int32) (lx3 : Int32) (lx4 : Int32) (sx0 : Int32) (hw : wp_X4_garageFor_b62 G.2 k5 M la0 lx1 lx2 lx3 lx4 sx0 Q) : pW G C 6 n0 s0 M0 (m_Q G C n0 s0 (va_Qi (m_q1 M0 Q) (m_W G) (m_A G))) M 62 [(0, vR (some la0)), (1, vI lx1), (2, vI lx2), (3, vI lx3), (4, vI lx4)] [vI sx0] := by
  refine pw_istore X [(0, vR (some la0)), (1, vI lx1), (2, vI lx2), (3, vI lx3), (4, vI lx4), (5, vI sx0)] [1, 2, 3, 4, 5, 0] dX4_garageFor_62 (by decide) rfl ?_
  refine pw_iload X dX4_garageFor_64 rfl ?_
  refine pw_if_eq X 95 dX4_garageFor_66 (by decide) (fun c1 => ?_) (fun c1 => ?_)
  · replace hw := hw.1 c1
    refine pw_iload_n X dX4_garageFor_95 rfl rfl ?_
    refine pw_istore_n X [(0, vR (some la0)), (1, vI lx1), (2, vI lx2), (3, vI lx3)] [1, 2, 0, 3] dX4_garageFor_96 rfl (by decide) rfl ?_
    refine pw_iinc X (lx3 + 1) [(0, vR (some la0)), (1, vI lx1), (2, vI lx2), (3, vI (lx3 + 1))] [1, 2, 3, 0] dX4_garageFor_97 rfl (by first | rfl | decide) (by decide) rfl ?_
    refine pw_goto X 5 dX4_garageFor_100 (by decide) ?_
    exact hk5 _ la0 lx1 lx2 (lx3 + 1) hw
  · replace hw := hw.2 c1
    refine pw_iload_n X dX4_garageFor_69 rfl rfl ?_
    refine pw_bipush X (-5) dX4_garageFor_70 (by decide) ?_
    refine pw_icmp_eq X 91 dX4_garageFor_72 (by decide) (fun c2 => ?_) (fun c2 => ?_)
    · replace hw := hw.1 c2
      refine pw_iload_n X dX4_garageFor_91 rfl rfl ?_
      refine pw_goto X 96 dX4_garageFor_92 (by decide) ?_
      refine pw_istore_n X [(0, vR (some la0)), (1, vI lx1), (2, vI lx3), (3, vI lx3)] [1, 2, 0, 3] dX4_garageFor_96 rfl (by decide) rfl ?_
      refine pw_iinc X (lx3 + 1) [(0, vR (some la0)), (1, vI lx1), (2, vI lx3), (3, vI (lx3 + 1))] [1, 2, 3, 0] dX4_garageFor_97 rfl (by first | rfl | decide) (by decide) rfl ?_
      refine pw_goto X 5 dX4_garageFor_100 (by decide) ?_
      exact hk5 _ la0 lx1 lx3 (lx3 + 1) hw
    · replace hw := hw.2 c2
      refine pw_iload X dX4_garageFor_75 rfl ?_
      refine pw_aload_n X dX4_garageFor_77 rfl rfl ?_
      refine pw_iload_n X dX4_garageFor_78 rfl rfl ?_
      refine pw_aload_n X dX4_garageFor_79 rfl rfl ?_
      refine pw_iload_n X dX4_garageFor_80 rfl rfl ?_
      refine pw_iconst X 0 dX4_garageFor_81 (by decide) ?_
      obtain ⟨ht3, hw⟩ := hw
      refine pw_runi X (m_cV X (b := la0) (ci := 4) (q := (RX4, TX4, tyX4, 15)) (met_X4_ofGarage G C.2.1 M la0 lx2 0 _ hw) ht3 rfl (lw_V q2117 q2119 qs56 q107 q2120) ⟨rfl, nh_X4_ofGarage⟩ ⟨Nat.le_of_ble_eq_true rfl, Nat.le_of_ble_eq_true rfl⟩ rfl (Nat.le_of_ble_eq_true rfl) dX4_garageFor_82) (fun r6 M4 hle5 hx => ?_)
      replace hw := hx hle5
      clear hx
      have ht7 : m_tg M4 la0 = 5 := m_le_tg hle5 ht3
      refine pw_runi X (m_cV X (b := la0) (ci := 4) (q := (RX4, TX4, tyX4, 15)) (met_X4_way G C.2.1 M4 la0 lx1 r6 _ hw) ht7 rfl (lw_V q2105 q2107 qs54 q107 q2108) ⟨rfl, nh_X4_way⟩ ⟨Nat.le_of_ble_eq_true rfl, Nat.le_of_ble_eq_true rfl⟩ rfl (Nat.le_of_ble_eq_true rfl) dX4_garageFor_85) (fun r10 M8 hle9 hx => ?_)
      replace hw := hx hle9
      clear hx
      have ht11 : m_tg M8 la0 = 5 := m_le_tg hle9 ht7
      refine pw_icmp_ge X 95 dX4_garageFor_88 (by decide) (fun c12 => ?_) (fun c12 => ?_)
      · replace hw := hw.1 c12
        refine pw_iload_n X dX4_garageFor_95 rfl rfl ?_
        refine pw_istore_n X [(0, vR (some la0)), (1, vI lx1), (2, vI lx2), (3, vI lx3)] [1, 2, 0, 3] dX4_garageFor_96 rfl (by decide) rfl ?_
        refine pw_iinc X (lx3 + 1) [(0, vR (some la0)), (1, vI lx1), (2, vI lx2), (3, vI (lx3 + 1))] [1, 2, 3, 0] dX4_garageFor_97 rfl (by first | rfl | decide) (by decide) rfl ?_
        refine pw_goto X 5 dX4_garageFor_100 (by decide) ?_
        exact hk5 _ la0 lx1 lx2 (lx3 + 1) hw
      · replace hw := hw.2 c12
        refine pw_iload_n X dX4_garageFor_91 rfl rfl ?_
        refine pw_goto X 96 dX4_garageFor_92 (by decide) ?_
        refine pw_istore_n X [(0, vR (some la0)), (1, vI lx1), (2, vI lx3), (3, vI lx3)] [1, 2, 0, 3] dX4_garageFor_96 rfl (by decide) rfl ?_
        refine pw_iinc X (lx3 + 1) [(0, vR (some la0)), (1, vI lx1), (2, vI lx3), (3, vI (lx3 + 1))] [1, 2, 3, 0] dX4_garageFor_97 rfl (by first | rfl | decide) (by decide) rfl ?_
        refine pw_goto X 5 dX4_garageFor_100 (by decide) ?_
        exact hk5 _ la0 lx1 lx3 (lx3 + 1) hw
theorem bk_X4_garageFor_61 (G : Gp) (C : m_Cx) (n0 s0 : Nat) (M0 : Mem) (Q : Int32 → Mem → Prop) (X : m_in G C RX4 cX4_garageFor 6 (some .int) "garageFor" 2 45 n0 s0) (k5 : Mem → Nat → Int32 → Int32 → Int32 → Prop) (hk5 : ∀ (M : Mem) (la0 : Nat) (lx1 : Int32) (lx2 : Int32) (lx3 : Int32), k5 M la0 lx1 lx2 lx3 → pW G C 6 n0 s0 M0 (m_Q G C n0 s0 (va_Qi (m_q1 M0 Q) (m_W G) (m_A G))) M 5 [(0, vR (some la0)), (1, vI lx1), (2, vI lx2), (3, vI lx3)] []) (M : Mem) (la0 : Nat) (lx1 : Int32) (lx2 : Int32) (lx3 : Int32) (lx4 : Int32) (hw : wp_X4_garageFor_b61 G.2 k5 M la0 lx1 lx2 lx3 lx4 Q) : pW G C 6 n0 s0 M0 (m_Q G C n0 s0 (va_Qi (m_q1 M0 Q) (m_W G) (m_A G))) M 61 [(0, vR (some la0)), (1, vI lx1), (2, vI lx2), (3, vI lx3), (4, vI lx4)] [] := by
  refine pw_iconst X 0 dX4_garageFor_61 (by decide) ?_
  exact bk_X4_garageFor_62 G C n0 s0 M0 Q X k5 hk5 _ la0 lx1 lx2 lx3 lx4 0 hw
theorem bk_X4_garageFor_5 (G : Gp) (C : m_Cx) (n0 s0 : Nat) (M0 : Mem) (Q : Int32 → Mem → Prop) (X : m_in G C RX4 cX4_garageFor 6 (some .int) "garageFor" 2 45 n0 s0) : ∀ (n : Nat) (M : Mem) (la0 : Nat) (lx1 : Int32) (lx2 : Int32) (lx3 : Int32) (hw : wp_X4_garageFor_b5 G.2 Q n M la0 lx1 lx2 lx3), pW G C 6 n0 s0 M0 (m_Q G C n0 s0 (va_Qi (m_q1 M0 Q) (m_W G) (m_A G))) M 5 [(0, vR (some la0)), (1, vI lx1), (2, vI lx2), (3, vI lx3)] [] := by
  intro n
  induction n with
  | zero => intro M la0 lx1 lx2 lx3 hw; exact hw.elim
  | succ n ih =>
    intro M la0 lx1 lx2 lx3 hw
    refine pw_iload_n X dX4_garageFor_5 rfl rfl ?_
    refine pw_aload_n X dX4_garageFor_6 rfl rfl ?_
    obtain ⟨ht1, hw⟩ := hw
    obtain ⟨u2, he3, hw⟩ := hw
    refine pw_get X (q := (RX4, TX4, tyX4, 15)) (ci := 4) (k := 0) (ref := "PatrolDeskModel") (vR (some u2)) ht1 rfl (by decide) in_X4 q1946 (Or.inl rfl) (by rw [he3]; rfl) dX4_garageFor_7 ?_
    refine pw_bipush X 8 dX4_garageFor_10 (by decide) ?_
    obtain ⟨ht4, hw⟩ := hw
    obtain ⟨hi5, hw⟩ := hw
    refine pw_iald X ht4 hi5 dX4_garageFor_12 ?_
    refine pw_icmp_ge X 103 dX4_garageFor_13 (by decide) (fun c6 => ?_) (fun c6 => ?_)
    · replace hw := hw.1 c6
      refine pw_iload_n X dX4_garageFor_103 rfl rfl ?_
      exact pw_iret X hw dX4_garageFor_104
    · replace hw := hw.2 c6
      refine pw_aload_n X dX4_garageFor_16 rfl rfl ?_
      refine pw_iload_n X dX4_garageFor_17 rfl rfl ?_
      refine pw_aload_n X dX4_garageFor_18 rfl rfl ?_
      refine pw_iload_n X dX4_garageFor_19 rfl rfl ?_
      refine pw_iconst X 0 dX4_garageFor_20 (by decide) ?_
      refine pw_runi X (m_cV X (b := la0) (ci := 4) (q := (RX4, TX4, tyX4, 15)) (met_X4_ofGarage G C.2.1 M la0 lx3 0 _ hw) ht1 rfl (lw_V q2117 q2119 qs56 q107 q2120) ⟨rfl, nh_X4_ofGarage⟩ ⟨Nat.le_of_ble_eq_true rfl, Nat.le_of_ble_eq_true rfl⟩ rfl (Nat.le_of_ble_eq_true rfl) dX4_garageFor_21) (fun r9 M7 hle8 hx => ?_)
      replace hw := hx hle8
      clear hx
      have ht10 : m_tg M7 la0 = 5 := m_le_tg hle8 ht1
      have ht11 : m_tg M7 u2 = 101 := m_le_tg hle8 ht4
      refine pw_runi X (m_cV X (b := la0) (ci := 4) (q := (RX4, TX4, tyX4, 15)) (met_X4_way G C.2.1 M7 la0 lx1 r9 _ hw) ht10 rfl (lw_V q2105 q2107 qs54 q107 q2108) ⟨rfl, nh_X4_way⟩ ⟨Nat.le_of_ble_eq_true rfl, Nat.le_of_ble_eq_true rfl⟩ rfl (Nat.le_of_ble_eq_true rfl) dX4_garageFor_24) (fun r14 M12 hle13 hx => ?_)
      replace hw := hx hle13
      clear hx
      have ht15 : m_tg M12 la0 = 5 := m_le_tg hle13 ht10
      have ht16 : m_tg M12 u2 = 101 := m_le_tg hle13 ht11
      refine pw_istore X [(0, vR (some la0)), (1, vI lx1), (2, vI lx2), (3, vI lx3), (4, vI r14)] [1, 2, 3, 4, 0] dX4_garageFor_27 (by decide) rfl ?_
      refine pw_iload X dX4_garageFor_29 rfl ?_
      refine pw_ldc X 100000 q1945 dX4_garageFor_31 ?_
      refine pw_icmp_ge X 61 dX4_garageFor_33 (by decide) (fun c17 => ?_) (fun c17 => ?_)
      · replace hw := hw.1 c17
        exact bk_X4_garageFor_61 G C n0 s0 M0 Q X (wp_X4_garageFor_b5 G.2 Q n) ih _ la0 lx1 lx2 lx3 r14 hw
      · replace hw := hw.2 c17
        refine pw_aload_n X dX4_garageFor_36 rfl rfl ?_
        refine pw_iload_n X dX4_garageFor_37 rfl rfl ?_
        refine pw_iconst X 2 dX4_garageFor_38 (by decide) ?_
        refine pw_runi X (m_cV X (b := la0) (ci := 4) (q := (RX4, TX4, tyX4, 15)) (met_X4_ofGarage G C.2.1 M12 la0 lx3 2 _ hw) ht15 rfl (lw_V q2117 q2119 qs56 q107 q2120) ⟨rfl, nh_X4_ofGarage⟩ ⟨Nat.le_of_ble_eq_true rfl, Nat.le_of_ble_eq_true rfl⟩ rfl (Nat.le_of_ble_eq_true rfl) dX4_garageFor_39) (fun r20 M18 hle19 hx => ?_)
        replace hw := hx hle19
        clear hx
        have ht21 : m_tg M18 la0 = 5 := m_le_tg hle19 ht15
        have ht22 : m_tg M18 u2 = 101 := m_le_tg hle19 ht16
        refine pw_aload_n X dX4_garageFor_42 rfl rfl ?_
        refine pw_iload_n X dX4_garageFor_43 rfl rfl ?_
        refine pw_runi X (m_cV X (b := la0) (ci := 4) (q := (RX4, TX4, tyX4, 15)) (met_X4_underWay G C.2.1 M18 la0 lx3 _ hw) ht21 rfl (lw_V q2145 q2147 qs62 q107 q2148) ⟨rfl, nh_X4_underWay⟩ ⟨Nat.le_of_ble_eq_true rfl, Nat.le_of_ble_eq_true rfl⟩ rfl (Nat.le_of_ble_eq_true rfl) dX4_garageFor_44) (fun r25 M23 hle24 hx => ?_)
        replace hw := hx hle24
        clear hx
        have ht26 : m_tg M23 la0 = 5 := m_le_tg hle24 ht21
        have ht27 : m_tg M23 u2 = 101 := m_le_tg hle24 ht22
        refine pw_iadd X dX4_garageFor_47 ?_
        refine pw_aload_n X dX4_garageFor_48 rfl rfl ?_
        refine pw_iload_n X dX4_garageFor_49 rfl rfl ?_
        refine pw_iconst X 1 dX4_garageFor_50 (by decide) ?_
        refine pw_runi X (m_cV X (b := la0) (ci := 4) (q := (RX4, TX4, tyX4, 15)) (met_X4_ofGarage G C.2.1 M23 la0 lx3 1 _ hw) ht26 rfl (lw_V q2117 q2119 qs56 q107 q2120) ⟨rfl, nh_X4_ofGarage⟩ ⟨Nat.le_of_ble_eq_true rfl, Nat.le_of_ble_eq_true rfl⟩ rfl (Nat.le_of_ble_eq_true rfl) dX4_garageFor_51) (fun r30 M28 hle29 hx => ?_)
        replace hw := hx hle29
        clear hx
        have ht31 : m_tg M28 la0 = 5 := m_le_tg hle29 ht26
        have ht32 : m_tg M28 u2 = 101 := m_le_tg hle29 ht27
        refine pw_icmp_ge X 61 dX4_garageFor_54 (by decide) (fun c33 => ?_) (fun c33 => ?_)
        · replace hw := hw.1 c33
          exact bk_X4_garageFor_61 G C n0 s0 M0 Q X (wp_X4_garageFor_b5 G.2 Q n) ih _ la0 lx1 lx2 lx3 r14 hw
        · replace hw := hw.2 c33
          refine pw_iconst X 1 dX4_garageFor_57 (by decide) ?_
          refine pw_goto X 62 dX4_garageFor_58 (by decide) ?_
          exact bk_X4_garageFor_62 G C n0 s0 M0 Q X (wp_X4_garageFor_b5 G.2 Q n) ih _ la0 lx1 lx2 lx3 r14 1 hw
theorem bk_X4_garageFor_0 (G : Gp) (C : m_Cx) (n0 s0 : Nat) (M0 : Mem) (Q : Int32 → Mem → Prop) (X : m_in G C RX4 cX4_garageFor 6 (some .int) "garageFor" 2 45 n0 s0) (M : Mem) (a0 : Nat) (x1 : Int32) (hw : wp_X4_garageFor G.2 M a0 x1 Q) : pW G C 6 n0 s0 M0 (m_Q G C n0 s0 (va_Qi (m_q1 M0 Q) (m_W G) (m_A G))) M 0 [(0, vR (some a0)), (1, vI x1)] [] := by
  refine pw_bipush X (-5) dX4_garageFor_0 (by decide) ?_
  refine pw_istore_n X [(0, vR (some a0)), (1, vI x1), (2, vI (-5))] [1, 2, 0] dX4_garageFor_2 rfl (by decide) rfl ?_
  refine pw_iconst X 0 dX4_garageFor_3 (by decide) ?_
  refine pw_istore_n X [(0, vR (some a0)), (1, vI x1), (2, vI (-5)), (3, vI 0)] [1, 2, 3, 0] dX4_garageFor_4 rfl (by decide) rfl ?_
  obtain ⟨n5, hw⟩ := hw
  exact bk_X4_garageFor_5 G C n0 s0 M0 Q X n5 _ a0 x1 (-5) 0 hw
theorem met_X4_garageFor (G : Gp) (l : Launch) (M : Mem) (a0 : Nat) (x1 : Int32) (Q : Int32 → Mem → Prop) (hw : wp_X4_garageFor G.2 M a0 x1 Q) : m_K G l yX4_garageFor cX4_garageFor 6 (some .int) 2 45 [vR (some a0), vI x1] M (va_Qi (m_q1 M Q) (m_W G) (m_A G)) := by
  refine m_met (by decide) (Nat.le_of_ble_eq_true rfl) (fun C e X => ?_)
  exact bk_X4_garageFor_0 G C _ _ M Q X M a0 x1 hw
theorem nh_X4_garageFor : m_nMH yX4_garageFor 1 := by decide +kernel

def wp_X4_leaves (g : Nat → Nat) (M : Mem) (a0 : Nat) (x1 : Int32) (Q : Mem → Prop) : Prop := m_tg M a0 = 5 ∧ wp_X4_ofPatrol g M a0 x1 5 (fun (r4 : Int32) (M2 : Mem) => m_le M M2 → wp_X4_laysCall g M2 a0 r4 5 3 (fun (M6 : Mem) => m_le M2 M6 → wp_X4_laysCall g M6 a0 r4 6 (-5) (fun (M9 : Mem) => m_le M6 M9 → wp_X4_frees g M9 a0 x1 (fun (M12 : Mem) => m_le M9 M12 → Q M12))))
theorem bk_X4_leaves_0 (G : Gp) (C : m_Cx) (n0 s0 : Nat) (M0 : Mem) (Q : Mem → Prop) (X : m_in G C RX4 cX4_leaves 3 none "leaves" 2 44 n0 s0) (M : Mem) (a0 : Nat) (x1 : Int32) (hw : wp_X4_leaves G.2 M a0 x1 Q) : pW G C 3 n0 s0 M0 (m_Q G C n0 s0 (va_Qv (m_q0 M0 Q) (m_W G) (m_A G))) M 0 [(0, vR (some a0)), (1, vI x1)] [] := by
  refine pw_aload_n X dX4_leaves_0 rfl rfl ?_
  refine pw_iload_n X dX4_leaves_1 rfl rfl ?_
  refine pw_iconst X 5 dX4_leaves_2 (by decide) ?_
  obtain ⟨ht1, hw⟩ := hw
  refine pw_runi X (m_cV X (b := a0) (ci := 4) (q := (RX4, TX4, tyX4, 15)) (met_X4_ofPatrol G C.2.1 M a0 x1 5 _ hw) ht1 rfl (lw_V q2069 q2071 qs48 q107 q2072) ⟨rfl, nh_X4_ofPatrol⟩ ⟨Nat.le_of_ble_eq_true rfl, Nat.le_of_ble_eq_true rfl⟩ rfl (Nat.le_of_ble_eq_true rfl) dX4_leaves_3) (fun r4 M2 hle3 hx => ?_)
  replace hw := hx hle3
  clear hx
  have ht5 : m_tg M2 a0 = 5 := m_le_tg hle3 ht1
  refine pw_istore_n X [(0, vR (some a0)), (1, vI x1), (2, vI r4)] [1, 2, 0] dX4_leaves_6 rfl (by decide) rfl ?_
  refine pw_aload_n X dX4_leaves_7 rfl rfl ?_
  refine pw_iload_n X dX4_leaves_8 rfl rfl ?_
  refine pw_iconst X 5 dX4_leaves_9 (by decide) ?_
  refine pw_iconst X 3 dX4_leaves_10 (by decide) ?_
  refine pw_runv X (m_cV X (b := a0) (ci := 4) (q := (RX4, TX4, tyX4, 15)) (met_X4_laysCall G C.2.1 M2 a0 r4 5 3 _ hw) ht5 rfl (lw_V q2061 q2063 qs46 q107 q2064) ⟨rfl, nh_X4_laysCall⟩ ⟨Nat.le_of_ble_eq_true rfl, Nat.le_of_ble_eq_true rfl⟩ rfl (Nat.le_of_ble_eq_true rfl) dX4_leaves_11) (fun M6 hle7 hx => ?_)
  replace hw := hx hle7
  clear hx
  have ht8 : m_tg M6 a0 = 5 := m_le_tg hle7 ht5
  refine pw_aload_n X dX4_leaves_14 rfl rfl ?_
  refine pw_iload_n X dX4_leaves_15 rfl rfl ?_
  refine pw_bipush X 6 dX4_leaves_16 (by decide) ?_
  refine pw_bipush X (-5) dX4_leaves_18 (by decide) ?_
  refine pw_runv X (m_cV X (b := a0) (ci := 4) (q := (RX4, TX4, tyX4, 15)) (met_X4_laysCall G C.2.1 M6 a0 r4 6 (-5) _ hw) ht8 rfl (lw_V q2061 q2063 qs46 q107 q2064) ⟨rfl, nh_X4_laysCall⟩ ⟨Nat.le_of_ble_eq_true rfl, Nat.le_of_ble_eq_true rfl⟩ rfl (Nat.le_of_ble_eq_true rfl) dX4_leaves_20) (fun M9 hle10 hx => ?_)
  replace hw := hx hle10
  clear hx
  have ht11 : m_tg M9 a0 = 5 := m_le_tg hle10 ht8
  refine pw_aload_n X dX4_leaves_23 rfl rfl ?_
  refine pw_iload_n X dX4_leaves_24 rfl rfl ?_
  refine pw_runv X (m_cV X (b := a0) (ci := 4) (q := (RX4, TX4, tyX4, 15)) (met_X4_frees G C.2.1 M9 a0 x1 _ hw) ht11 rfl (lw_V q2021 q2023 qs40 q107 q2024) ⟨rfl, nh_X4_frees⟩ ⟨Nat.le_of_ble_eq_true rfl, Nat.le_of_ble_eq_true rfl⟩ rfl (Nat.le_of_ble_eq_true rfl) dX4_leaves_25) (fun M12 hle13 hx => ?_)
  replace hw := hx hle13
  clear hx
  have ht14 : m_tg M12 a0 = 5 := m_le_tg hle13 ht11
  exact pw_vret X hw dX4_leaves_28
theorem met_X4_leaves (G : Gp) (l : Launch) (M : Mem) (a0 : Nat) (x1 : Int32) (Q : Mem → Prop) (hw : wp_X4_leaves G.2 M a0 x1 Q) : m_K G l yX4_leaves cX4_leaves 3 none 2 44 [vR (some a0), vI x1] M (va_Qv (m_q0 M Q) (m_W G) (m_A G)) := by
  refine m_met (by decide) (Nat.le_of_ble_eq_true rfl) (fun C e X => ?_)
  exact bk_X4_leaves_0 G C _ _ M Q X M a0 x1 hw
theorem nh_X4_leaves : m_nMH yX4_leaves 1 := by decide +kernel

def wp_X4_region (g : Nat → Nat) (M : Mem) (x0 : Int32) (Q : Int32 → Mem → Prop) : Prop := Q (x0 / 4) M
theorem bk_X4_region_0 (G : Gp) (C : m_Cx) (n0 s0 : Nat) (M0 : Mem) (Q : Int32 → Mem → Prop) (X : m_in G C RX4 cX4_region 1 (some .int) "region" 0 0 n0 s0) (M : Mem) (x0 : Int32) (hw : wp_X4_region G.2 M x0 Q) : pW G C 1 n0 s0 M0 (m_Q G C n0 s0 (va_Qi (m_q1 M0 Q) (m_W G) (m_A G))) M 0 [(0, vI x0)] [] := by
  refine pw_iload_n X dX4_region_0 rfl rfl ?_
  refine pw_iconst X 4 dX4_region_1 (by decide) ?_
  refine pw_idiv X dX4_region_2 (by decide) ?_
  exact pw_iret X hw dX4_region_3
theorem met_X4_region (G : Gp) (l : Launch) (M : Mem) (x0 : Int32) (Q : Int32 → Mem → Prop) (hw : wp_X4_region G.2 M x0 Q) : m_K G l yX4_region cX4_region 1 (some .int) 0 0 [vI x0] M (va_Qi (m_q1 M Q) (m_W G) (m_A G)) := by
  refine m_met (by decide) (Nat.le_of_ble_eq_true rfl) (fun C e X => ?_)
  exact bk_X4_region_0 G C _ _ M Q X M x0 hw
theorem nh_X4_region : m_nMH yX4_region 1 := by decide +kernel

def wp_X4_nextOn_b2 (g : Nat → Nat) (Q : Int32 → Mem → Prop) : Nat → Mem → Nat → Int32 → Int32 → Int32 → Prop
  | 0 => fun _ _ _ _ _ => False
  | n + 1 => fun M la0 lx1 lx2 lx3 => ((12 ≤ lx3 → Q lx2 M) ∧ (¬ 12 ≤ lx3 → m_tg M la0 = 5 ∧ ∃ u3 : Nat, (m_gr M la0 8) = some u3 ∧ m_tg M u3 = 101 ∧ vp_in ((12 * lx1) + lx3) (m_ln M u3) ∧ ((100000 ≤ (m_gi M u3 (Int32.toNatClampNeg ((12 * lx1) + lx3))) → wp_X4_nextOn_b2 g Q n M la0 lx1 lx2 (lx3 + 1)) ∧ (¬ 100000 ≤ (m_gi M u3 (Int32.toNatClampNeg ((12 * lx1) + lx3))) → ∃ u8 : Nat, (m_gr M la0 8) = some u8 ∧ m_tg M u8 = 101 ∧ vp_in ((12 * lx1) + lx3) (m_ln M u8) ∧ wp_X4_way g M la0 lx3 lx2 (fun (r14 : Int32) (M12 : Mem) => m_le M M12 → wp_X4_way g M12 la0 lx1 lx2 (fun (r20 : Int32) (M18 : Mem) => m_le M12 M18 → ((¬ ((m_gi M u8 (Int32.toNatClampNeg ((12 * lx1) + lx3))) + r14) = r20 → wp_X4_nextOn_b2 g Q n M18 la0 lx1 lx2 (lx3 + 1)) ∧ (((m_gi M u8 (Int32.toNatClampNeg ((12 * lx1) + lx3))) + r14) = r20 → Q lx3 M18))))))))
def wp_X4_nextOn (g : Nat → Nat) (M : Mem) (a0 : Nat) (x1 : Int32) (x2 : Int32) (Q : Int32 → Mem → Prop) : Prop := ∃ j2 : Nat, wp_X4_nextOn_b2 g Q j2 M a0 x1 x2 0
theorem bk_X4_nextOn_2 (G : Gp) (C : m_Cx) (n0 s0 : Nat) (M0 : Mem) (Q : Int32 → Mem → Prop) (X : m_in G C RX4 cX4_nextOn 4 (some .int) "nextOn" 1 22 n0 s0) : ∀ (n : Nat) (M : Mem) (la0 : Nat) (lx1 : Int32) (lx2 : Int32) (lx3 : Int32) (hw : wp_X4_nextOn_b2 G.2 Q n M la0 lx1 lx2 lx3), pW G C 4 n0 s0 M0 (m_Q G C n0 s0 (va_Qi (m_q1 M0 Q) (m_W G) (m_A G))) M 2 [(0, vR (some la0)), (1, vI lx1), (2, vI lx2), (3, vI lx3)] [] := by
  intro n
  induction n with
  | zero => intro M la0 lx1 lx2 lx3 hw; exact hw.elim
  | succ n ih =>
    intro M la0 lx1 lx2 lx3 hw
    refine pw_iload_n X dX4_nextOn_2 rfl rfl ?_
    refine pw_bipush X 12 dX4_nextOn_3 (by decide) ?_
    refine pw_icmp_ge X 59 dX4_nextOn_5 (by decide) (fun c1 => ?_) (fun c1 => ?_)
    · replace hw := hw.1 c1
      refine pw_iload_n X dX4_nextOn_59 rfl rfl ?_
      exact pw_iret X hw dX4_nextOn_60
    · replace hw := hw.2 c1
      refine pw_aload_n X dX4_nextOn_8 rfl rfl ?_
      obtain ⟨ht2, hw⟩ := hw
      obtain ⟨u3, he4, hw⟩ := hw
      refine pw_get X (q := (RX4, TX4, tyX4, 15)) (ci := 4) (k := 8) (ref := "PatrolDeskModel") (vR (some u3)) ht2 rfl (by decide) in_X4 q1954 (Or.inl rfl) (by rw [he4]; rfl) dX4_nextOn_9 ?_
      refine pw_bipush X 12 dX4_nextOn_12 (by decide) ?_
      refine pw_iload_n X dX4_nextOn_14 rfl rfl ?_
      refine pw_imul X dX4_nextOn_15 ?_
      refine pw_iload_n X dX4_nextOn_16 rfl rfl ?_
      refine pw_iadd X dX4_nextOn_17 ?_
      obtain ⟨ht5, hw⟩ := hw
      obtain ⟨hi6, hw⟩ := hw
      refine pw_iald X ht5 hi6 dX4_nextOn_18 ?_
      refine pw_ldc X 100000 q1945 dX4_nextOn_19 ?_
      refine pw_icmp_ge X 53 dX4_nextOn_21 (by decide) (fun c7 => ?_) (fun c7 => ?_)
      · replace hw := hw.1 c7
        refine pw_iinc X (lx3 + 1) [(0, vR (some la0)), (1, vI lx1), (2, vI lx2), (3, vI (lx3 + 1))] [1, 2, 3, 0] dX4_nextOn_53 rfl (by first | rfl | decide) (by decide) rfl ?_
        refine pw_goto X 2 dX4_nextOn_56 (by decide) ?_
        exact ih _ la0 lx1 lx2 (lx3 + 1) hw
      · replace hw := hw.2 c7
        refine pw_aload_n X dX4_nextOn_24 rfl rfl ?_
        obtain ⟨u8, he9, hw⟩ := hw
        refine pw_get X (q := (RX4, TX4, tyX4, 15)) (ci := 4) (k := 8) (ref := "PatrolDeskModel") (vR (some u8)) ht2 rfl (by decide) in_X4 q1954 (Or.inl rfl) (by rw [he9]; rfl) dX4_nextOn_25 ?_
        refine pw_bipush X 12 dX4_nextOn_28 (by decide) ?_
        refine pw_iload_n X dX4_nextOn_30 rfl rfl ?_
        refine pw_imul X dX4_nextOn_31 ?_
        refine pw_iload_n X dX4_nextOn_32 rfl rfl ?_
        refine pw_iadd X dX4_nextOn_33 ?_
        obtain ⟨ht10, hw⟩ := hw
        obtain ⟨hi11, hw⟩ := hw
        refine pw_iald X ht10 hi11 dX4_nextOn_34 ?_
        refine pw_aload_n X dX4_nextOn_35 rfl rfl ?_
        refine pw_iload_n X dX4_nextOn_36 rfl rfl ?_
        refine pw_iload_n X dX4_nextOn_37 rfl rfl ?_
        refine pw_runi X (m_cV X (b := la0) (ci := 4) (q := (RX4, TX4, tyX4, 15)) (met_X4_way G C.2.1 M la0 lx3 lx2 _ hw) ht2 rfl (lw_V q2105 q2107 qs54 q107 q2108) ⟨rfl, nh_X4_way⟩ ⟨Nat.le_of_ble_eq_true rfl, Nat.le_of_ble_eq_true rfl⟩ rfl (Nat.le_of_ble_eq_true rfl) dX4_nextOn_38) (fun r14 M12 hle13 hx => ?_)
        replace hw := hx hle13
        clear hx
        have ht15 : m_tg M12 la0 = 5 := m_le_tg hle13 ht2
        have ht16 : m_tg M12 u3 = 101 := m_le_tg hle13 ht5
        have ht17 : m_tg M12 u8 = 101 := m_le_tg hle13 ht10
        refine pw_iadd X dX4_nextOn_41 ?_
        refine pw_aload_n X dX4_nextOn_42 rfl rfl ?_
        refine pw_iload_n X dX4_nextOn_43 rfl rfl ?_
        refine pw_iload_n X dX4_nextOn_44 rfl rfl ?_
        refine pw_runi X (m_cV X (b := la0) (ci := 4) (q := (RX4, TX4, tyX4, 15)) (met_X4_way G C.2.1 M12 la0 lx1 lx2 _ hw) ht15 rfl (lw_V q2105 q2107 qs54 q107 q2108) ⟨rfl, nh_X4_way⟩ ⟨Nat.le_of_ble_eq_true rfl, Nat.le_of_ble_eq_true rfl⟩ rfl (Nat.le_of_ble_eq_true rfl) dX4_nextOn_45) (fun r20 M18 hle19 hx => ?_)
        replace hw := hx hle19
        clear hx
        have ht21 : m_tg M18 la0 = 5 := m_le_tg hle19 ht15
        have ht22 : m_tg M18 u3 = 101 := m_le_tg hle19 ht16
        have ht23 : m_tg M18 u8 = 101 := m_le_tg hle19 ht17
        refine pw_icmp_ne X 53 dX4_nextOn_48 (by decide) (fun c24 => ?_) (fun c24 => ?_)
        · replace hw := hw.1 c24
          refine pw_iinc X (lx3 + 1) [(0, vR (some la0)), (1, vI lx1), (2, vI lx2), (3, vI (lx3 + 1))] [1, 2, 3, 0] dX4_nextOn_53 rfl (by first | rfl | decide) (by decide) rfl ?_
          refine pw_goto X 2 dX4_nextOn_56 (by decide) ?_
          exact ih _ la0 lx1 lx2 (lx3 + 1) hw
        · replace hw := hw.2 c24
          refine pw_iload_n X dX4_nextOn_51 rfl rfl ?_
          exact pw_iret X hw dX4_nextOn_52
theorem bk_X4_nextOn_0 (G : Gp) (C : m_Cx) (n0 s0 : Nat) (M0 : Mem) (Q : Int32 → Mem → Prop) (X : m_in G C RX4 cX4_nextOn 4 (some .int) "nextOn" 1 22 n0 s0) (M : Mem) (a0 : Nat) (x1 : Int32) (x2 : Int32) (hw : wp_X4_nextOn G.2 M a0 x1 x2 Q) : pW G C 4 n0 s0 M0 (m_Q G C n0 s0 (va_Qi (m_q1 M0 Q) (m_W G) (m_A G))) M 0 [(0, vR (some a0)), (1, vI x1), (2, vI x2)] [] := by
  refine pw_iconst X 0 dX4_nextOn_0 (by decide) ?_
  refine pw_istore_n X [(0, vR (some a0)), (1, vI x1), (2, vI x2), (3, vI 0)] [1, 2, 3, 0] dX4_nextOn_1 rfl (by decide) rfl ?_
  obtain ⟨n2, hw⟩ := hw
  exact bk_X4_nextOn_2 G C n0 s0 M0 Q X n2 _ a0 x1 x2 0 hw
theorem met_X4_nextOn (G : Gp) (l : Launch) (M : Mem) (a0 : Nat) (x1 : Int32) (x2 : Int32) (Q : Int32 → Mem → Prop) (hw : wp_X4_nextOn G.2 M a0 x1 x2 Q) : m_K G l yX4_nextOn cX4_nextOn 4 (some .int) 1 22 [vR (some a0), vI x1, vI x2] M (va_Qi (m_q1 M Q) (m_W G) (m_A G)) := by
  refine m_met (by decide) (Nat.le_of_ble_eq_true rfl) (fun C e X => ?_)
  exact bk_X4_nextOn_0 G C _ _ M Q X M a0 x1 x2 hw
theorem nh_X4_nextOn : m_nMH yX4_nextOn 2 := by decide +kernel

def wp_X4_tows_b185 (g : Nat → Nat) (k77 : Mem → Nat → Int32 → Int32 → Int32 → Int32 → Int32 → Int32 → Int32 → Int32 → Int32 → Int32 → Prop) (M : Mem) (la0 : Nat) (lx1 : Int32) (lx2 : Int32) (lx3 : Int32) (lx4 : Int32) (lx5 : Int32) (lx6 : Int32) (lx8 : Int32) (lx9 : Int32) (lx10 : Int32) (lx12 : Int32) (sx0 : Int32) (Q : Mem → Prop) : Prop := ((lx9 = 0 → k77 M la0 lx1 lx2 lx3 lx4 lx5 lx6 sx0 lx8 0 (lx10 + 1)) ∧ (¬ lx9 = 0 → ((¬ lx12 = 0 → k77 M la0 lx1 lx2 lx3 lx4 lx5 lx6 sx0 lx8 0 (lx10 + 1)) ∧ (lx12 = 0 → k77 M la0 lx1 lx2 lx3 lx4 lx5 lx6 sx0 lx8 1 (lx10 + 1)))))
def wp_X4_tows_b171 (g : Nat → Nat) (k77 : Mem → Nat → Int32 → Int32 → Int32 → Int32 → Int32 → Int32 → Int32 → Int32 → Int32 → Int32 → Prop) (M : Mem) (la0 : Nat) (lx1 : Int32) (lx2 : Int32) (lx3 : Int32) (lx4 : Int32) (lx5 : Int32) (lx6 : Int32) (lx7 : Int32) (lx8 : Int32) (lx9 : Int32) (lx10 : Int32) (lx11 : Int32) (sx0 : Int32) (Q : Mem → Prop) : Prop := ((lx9 = 0 → wp_X4_tows_b185 g k77 M la0 lx1 lx2 lx3 lx4 lx5 lx6 lx8 lx9 lx10 sx0 lx7 Q) ∧ (¬ lx9 = 0 → wp_X4_tows_b185 g k77 M la0 lx1 lx2 lx3 lx4 lx5 lx6 lx8 lx9 lx10 sx0 lx11 Q))
def wp_X4_tows_b166 (g : Nat → Nat) (k77 : Mem → Nat → Int32 → Int32 → Int32 → Int32 → Int32 → Int32 → Int32 → Int32 → Int32 → Int32 → Prop) (M : Mem) (la0 : Nat) (lx1 : Int32) (lx2 : Int32) (lx3 : Int32) (lx4 : Int32) (lx5 : Int32) (lx6 : Int32) (lx7 : Int32) (lx8 : Int32) (lx9 : Int32) (lx10 : Int32) (lx11 : Int32) (Q : Mem → Prop) : Prop := wp_X4_tows_b171 g k77 M la0 lx1 lx2 lx3 lx4 lx5 lx6 lx7 lx8 lx9 lx10 lx11 1 Q
def wp_X4_tows_b146 (g : Nat → Nat) (k77 : Mem → Nat → Int32 → Int32 → Int32 → Int32 → Int32 → Int32 → Int32 → Int32 → Int32 → Int32 → Prop) (M : Mem) (la0 : Nat) (lx1 : Int32) (lx2 : Int32) (lx3 : Int32) (lx4 : Int32) (lx5 : Int32) (lx6 : Int32) (lx7 : Int32) (lx9 : Int32) (lx10 : Int32) (lx11 : Int32) (sx0 : Int32) (sx1 : Int32) (Q : Mem → Prop) : Prop := wp_X4_region g M lx11 (fun (r3 : Int32) (M1 : Mem) => m_le M M1 → ((¬ r3 = lx6 → wp_X4_tows_b166 g k77 M1 la0 lx1 lx2 lx3 lx4 lx5 lx6 lx7 (sx0 + sx1) lx9 lx10 lx11 Q) ∧ (r3 = lx6 → ((¬ lx11 = lx5 → wp_X4_tows_b171 g k77 M1 la0 lx1 lx2 lx3 lx4 lx5 lx6 lx7 (sx0 + sx1) lx9 lx10 lx11 0 Q) ∧ (lx11 = lx5 → wp_X4_tows_b166 g k77 M1 la0 lx1 lx2 lx3 lx4 lx5 lx6 lx7 (sx0 + sx1) lx9 lx10 lx11 Q)))))
def wp_X4_tows_b120 (g : Nat → Nat) (k77 : Mem → Nat → Int32 → Int32 → Int32 → Int32 → Int32 → Int32 → Int32 → Int32 → Int32 → Int32 → Prop) (M : Mem) (la0 : Nat) (lx1 : Int32) (lx2 : Int32) (lx3 : Int32) (lx4 : Int32) (lx5 : Int32) (lx6 : Int32) (lx7 : Int32) (lx8 : Int32) (lx10 : Int32) (lx11 : Int32) (sx0 : Int32) (Q : Mem → Prop) : Prop := ((sx0 = 0 → wp_X4_tows_b146 g k77 M la0 lx1 lx2 lx3 lx4 lx5 lx6 lx7 sx0 lx10 lx11 lx8 0 Q) ∧ (¬ sx0 = 0 → m_tg M la0 = 5 ∧ ∃ u3 : Nat, (m_gr M la0 8) = some u3 ∧ m_tg M u3 = 101 ∧ vp_in ((12 * lx7) + lx11) (m_ln M u3) ∧ wp_X4_tows_b146 g k77 M la0 lx1 lx2 lx3 lx4 lx5 lx6 lx7 sx0 lx10 lx11 lx8 (m_gi M u3 (Int32.toNatClampNeg ((12 * lx7) + lx11))) Q))
def wp_X4_tows_b115 (g : Nat → Nat) (k77 : Mem → Nat → Int32 → Int32 → Int32 → Int32 → Int32 → Int32 → Int32 → Int32 → Int32 → Int32 → Prop) (M : Mem) (la0 : Nat) (lx1 : Int32) (lx2 : Int32) (lx3 : Int32) (lx4 : Int32) (lx5 : Int32) (lx6 : Int32) (lx7 : Int32) (lx8 : Int32) (lx10 : Int32) (lx11 : Int32) (Q : Mem → Prop) : Prop := wp_X4_tows_b120 g k77 M la0 lx1 lx2 lx3 lx4 lx5 lx6 lx7 lx8 lx10 lx11 1 Q
def wp_X4_tows_b234 (g : Nat → Nat) (M : Mem) (la0 : Nat) (lx1 : Int32) (lx2 : Int32) (lx4 : Int32) (lx7 : Int32) (sa0 : Nat) (sx1 : Int32) (sx2 : Int32) (sx3 : Int32) (Q : Mem → Prop) : Prop := m_tg M sa0 = 5 ∧ wp_X4_laysPatrol g M sa0 sx1 sx2 sx3 (fun (M2 : Mem) => m_le M M2 → m_tg M2 la0 = 5 ∧ wp_X4_laysPatrol g M2 la0 lx1 12 lx7 (fun (M6 : Mem) => m_le M2 M6 → wp_X4_laysPatrol g M6 la0 lx1 13 lx4 (fun (M10 : Mem) => m_le M6 M10 → wp_X4_laysCall g M10 la0 lx2 5 4 (fun (M14 : Mem) => m_le M10 M14 → wp_X4_laysCall g M14 la0 lx2 6 lx1 (fun (M18 : Mem) => m_le M14 M18 → Q M18)))))
def wp_X4_tows_b210 (g : Nat → Nat) (M : Mem) (la0 : Nat) (lx1 : Int32) (lx2 : Int32) (lx4 : Int32) (lx7 : Int32) (lx8 : Int32) (Q : Mem → Prop) : Prop := m_tg M la0 = 5 ∧ wp_X4_laysPatrol g M la0 lx1 3 3 (fun (M2 : Mem) => m_le M M2 → ((¬ lx8 = 0 → wp_X4_tows_b234 g M2 la0 lx1 lx2 lx4 lx7 la0 lx1 6 (2 * lx8) Q) ∧ (lx8 = 0 → wp_X4_tows_b234 g M2 la0 lx1 lx2 lx4 lx7 la0 lx1 6 1 Q)))
def wp_X4_tows_b77 (g : Nat → Nat) (Q : Mem → Prop) : Nat → Mem → Nat → Int32 → Int32 → Int32 → Int32 → Int32 → Int32 → Int32 → Int32 → Int32 → Int32 → Prop
  | 0 => fun _ _ _ _ _ _ _ _ _ _ _ _ => False
  | n + 1 => fun M la0 lx1 lx2 lx3 lx4 lx5 lx6 lx7 lx8 lx9 lx10 => ((12 ≤ lx10 → wp_X4_tows_b210 g M la0 lx1 lx2 lx4 lx7 lx8 Q) ∧ (¬ 12 ≤ lx10 → ((lx9 = 0 → wp_X4_tows_b210 g M la0 lx1 lx2 lx4 lx7 lx8 Q) ∧ (¬ lx9 = 0 → m_tg M la0 = 5 ∧ wp_X4_nextOn g M la0 lx7 lx5 (fun (r6 : Int32) (M4 : Mem) => m_le M M4 → wp_X4_region g M4 r6 (fun (r10 : Int32) (M8 : Mem) => m_le M4 M8 → ((r10 = lx6 → wp_X4_tows_b115 g (wp_X4_tows_b77 g Q n) M8 la0 lx1 lx2 lx3 lx4 lx5 lx6 lx7 lx8 lx10 r6 Q) ∧ (¬ r10 = lx6 → ((¬ lx7 = lx3 → wp_X4_tows_b120 g (wp_X4_tows_b77 g Q n) M8 la0 lx1 lx2 lx3 lx4 lx5 lx6 lx7 lx8 lx10 r6 0 Q) ∧ (lx7 = lx3 → wp_X4_tows_b115 g (wp_X4_tows_b77 g Q n) M8 la0 lx1 lx2 lx3 lx4 lx5 lx6 lx7 lx8 lx10 r6 Q))))))))))
def wp_X4_tows (g : Nat → Nat) (M : Mem) (a0 : Nat) (x1 : Int32) (Q : Mem → Prop) : Prop := m_tg M a0 = 5 ∧ wp_X4_ofPatrol g M a0 x1 5 (fun (r4 : Int32) (M2 : Mem) => m_le M M2 → wp_X4_ofCall g M2 a0 r4 1 (fun (r8 : Int32) (M6 : Mem) => m_le M2 M6 → wp_X4_garageFor g M6 a0 r8 (fun (r12 : Int32) (M10 : Mem) => m_le M6 M10 → ((¬ r12 = (-5) → wp_X4_ofGarage g M10 a0 r12 0 (fun (r17 : Int32) (M15 : Mem) => m_le M10 M15 → wp_X4_ofPatrol g M15 a0 x1 0 (fun (r21 : Int32) (M19 : Mem) => m_le M15 M19 → wp_X4_region g M19 r21 (fun (r25 : Int32) (M23 : Mem) => m_le M19 M23 → ((r8 = r17 → ∃ j77 : Nat, wp_X4_tows_b77 g Q j77 M23 a0 x1 r4 r8 r12 r17 r25 r8 0 0 0) ∧ (¬ r8 = r17 → ∃ j77 : Nat, wp_X4_tows_b77 g Q j77 M23 a0 x1 r4 r8 r12 r17 r25 r8 0 1 0)))))) ∧ (r12 = (-5) → wp_X4_leaves g M10 a0 x1 (fun (M28 : Mem) => m_le M10 M28 → Q M28))))))
theorem bk_X4_tows_185 (G : Gp) (C : m_Cx) (n0 s0 : Nat) (M0 : Mem) (Q : Mem → Prop) (X : m_in G C RX4 cX4_tows 13 none "tows" 3 70 n0 s0) (k77 : Mem → Nat → Int32 → Int32 → Int32 → Int32 → Int32 → Int32 → Int32 → Int32 → Int32 → Int32 → Prop) (hk77 : ∀ (M : Mem) (la0 : Nat) (lx1 : Int32) (lx2 : Int32) (lx3 : Int32) (lx4 : Int32) (lx5 : Int32) (lx6 : Int32) (lx7 : Int32) (lx8 : Int32) (lx9 : Int32) (lx10 : Int32), k77 M la0 lx1 lx2 lx3 lx4 lx5 lx6 lx7 lx8 lx9 lx10 → pW G C 13 n0 s0 M0 (m_Q G C n0 s0 (va_Qv (m_q0 M0 Q) (m_W G) (m_A G))) M 77 [(0, vR (some la0)), (1, vI lx1), (2, vI lx2), (3, vI lx3), (4, vI lx4), (5, vI lx5), (6, vI lx6), (7, vI lx7), (8, vI lx8), (9, vI lx9), (10, vI lx10)] []) (M : Mem) (la0 : Nat) (lx1 : Int32) (lx2 : Int32) (lx3 : Int32) (lx4 : Int32) (lx5 : Int32) (lx6 : Int32) (lx8 : Int32) (lx9 : Int32) (lx10 : Int32) (lx12 : Int32) (sx0 : Int32) (hw : wp_X4_tows_b185 G.2 k77 M la0 lx1 lx2 lx3 lx4 lx5 lx6 lx8 lx9 lx10 lx12 sx0 Q) : pW G C 13 n0 s0 M0 (m_Q G C n0 s0 (va_Qv (m_q0 M0 Q) (m_W G) (m_A G))) M 185 [(0, vR (some la0)), (1, vI lx1), (2, vI lx2), (3, vI lx3), (4, vI lx4), (5, vI lx5), (6, vI lx6), (8, vI lx8), (9, vI lx9), (10, vI lx10), (12, vI lx12)] [vI sx0] := by
  refine pw_istore X [(0, vR (some la0)), (1, vI lx1), (2, vI lx2), (3, vI lx3), (4, vI lx4), (5, vI lx5), (6, vI lx6), (7, vI sx0), (8, vI lx8), (9, vI lx9), (10, vI lx10), (12, vI lx12)] [1, 2, 3, 4, 5, 6, 7, 0, 8, 9, 10, 11] dX4_tows_185 (by decide) rfl ?_
  refine pw_iload X dX4_tows_187 rfl ?_
  refine pw_if_eq X 201 dX4_tows_189 (by decide) (fun c1 => ?_) (fun c1 => ?_)
  · replace hw := hw.1 c1
    refine pw_iconst X 0 dX4_tows_201 (by decide) ?_
    refine pw_istore X [(0, vR (some la0)), (1, vI lx1), (2, vI lx2), (3, vI lx3), (4, vI lx4), (5, vI lx5), (6, vI lx6), (7, vI sx0), (8, vI lx8), (9, vI 0), (10, vI lx10)] [1, 2, 3, 4, 5, 6, 7, 8, 9, 0, 10] dX4_tows_202 (by decide) rfl ?_
    refine pw_iinc X (lx10 + 1) [(0, vR (some la0)), (1, vI lx1), (2, vI lx2), (3, vI lx3), (4, vI lx4), (5, vI lx5), (6, vI lx6), (7, vI sx0), (8, vI lx8), (9, vI 0), (10, vI (lx10 + 1))] [1, 2, 3, 4, 5, 6, 7, 8, 9, 10, 0] dX4_tows_204 rfl (by first | rfl | decide) (by decide) rfl ?_
    refine pw_goto X 77 dX4_tows_207 (by decide) ?_
    exact hk77 _ la0 lx1 lx2 lx3 lx4 lx5 lx6 sx0 lx8 0 (lx10 + 1) hw
  · replace hw := hw.2 c1
    refine pw_iload X dX4_tows_192 rfl ?_
    refine pw_if_ne X 201 dX4_tows_194 (by decide) (fun c2 => ?_) (fun c2 => ?_)
    · replace hw := hw.1 c2
      refine pw_iconst X 0 dX4_tows_201 (by decide) ?_
      refine pw_istore X [(0, vR (some la0)), (1, vI lx1), (2, vI lx2), (3, vI lx3), (4, vI lx4), (5, vI lx5), (6, vI lx6), (7, vI sx0), (8, vI lx8), (9, vI 0), (10, vI lx10)] [1, 2, 3, 4, 5, 6, 7, 8, 9, 0, 10] dX4_tows_202 (by decide) rfl ?_
      refine pw_iinc X (lx10 + 1) [(0, vR (some la0)), (1, vI lx1), (2, vI lx2), (3, vI lx3), (4, vI lx4), (5, vI lx5), (6, vI lx6), (7, vI sx0), (8, vI lx8), (9, vI 0), (10, vI (lx10 + 1))] [1, 2, 3, 4, 5, 6, 7, 8, 9, 10, 0] dX4_tows_204 rfl (by first | rfl | decide) (by decide) rfl ?_
      refine pw_goto X 77 dX4_tows_207 (by decide) ?_
      exact hk77 _ la0 lx1 lx2 lx3 lx4 lx5 lx6 sx0 lx8 0 (lx10 + 1) hw
    · replace hw := hw.2 c2
      refine pw_iconst X 1 dX4_tows_197 (by decide) ?_
      refine pw_goto X 202 dX4_tows_198 (by decide) ?_
      refine pw_istore X [(0, vR (some la0)), (1, vI lx1), (2, vI lx2), (3, vI lx3), (4, vI lx4), (5, vI lx5), (6, vI lx6), (7, vI sx0), (8, vI lx8), (9, vI 1), (10, vI lx10)] [1, 2, 3, 4, 5, 6, 7, 8, 9, 0, 10] dX4_tows_202 (by decide) rfl ?_
      refine pw_iinc X (lx10 + 1) [(0, vR (some la0)), (1, vI lx1), (2, vI lx2), (3, vI lx3), (4, vI lx4), (5, vI lx5), (6, vI lx6), (7, vI sx0), (8, vI lx8), (9, vI 1), (10, vI (lx10 + 1))] [1, 2, 3, 4, 5, 6, 7, 8, 9, 10, 0] dX4_tows_204 rfl (by first | rfl | decide) (by decide) rfl ?_
      refine pw_goto X 77 dX4_tows_207 (by decide) ?_
      exact hk77 _ la0 lx1 lx2 lx3 lx4 lx5 lx6 sx0 lx8 1 (lx10 + 1) hw
theorem bk_X4_tows_171 (G : Gp) (C : m_Cx) (n0 s0 : Nat) (M0 : Mem) (Q : Mem → Prop) (X : m_in G C RX4 cX4_tows 13 none "tows" 3 70 n0 s0) (k77 : Mem → Nat → Int32 → Int32 → Int32 → Int32 → Int32 → Int32 → Int32 → Int32 → Int32 → Int32 → Prop) (hk77 : ∀ (M : Mem) (la0 : Nat) (lx1 : Int32) (lx2 : Int32) (lx3 : Int32) (lx4 : Int32) (lx5 : Int32) (lx6 : Int32) (lx7 : Int32) (lx8 : Int32) (lx9 : Int32) (lx10 : Int32), k77 M la0 lx1 lx2 lx3 lx4 lx5 lx6 lx7 lx8 lx9 lx10 → pW G C 13 n0 s0 M0 (m_Q G C n0 s0 (va_Qv (m_q0 M0 Q) (m_W G) (m_A G))) M 77 [(0, vR (some la0)), (1, vI lx1), (2, vI lx2), (3, vI lx3), (4, vI lx4), (5, vI lx5), (6, vI lx6), (7, vI lx7), (8, vI lx8), (9, vI lx9), (10, vI lx10)] []) (M : Mem) (la0 : Nat) (lx1 : Int32) (lx2 : Int32) (lx3 : Int32) (lx4 : Int32) (lx5 : Int32) (lx6 : Int32) (lx7 : Int32) (lx8 : Int32) (lx9 : Int32) (lx10 : Int32) (lx11 : Int32) (sx0 : Int32) (hw : wp_X4_tows_b171 G.2 k77 M la0 lx1 lx2 lx3 lx4 lx5 lx6 lx7 lx8 lx9 lx10 lx11 sx0 Q) : pW G C 13 n0 s0 M0 (m_Q G C n0 s0 (va_Qv (m_q0 M0 Q) (m_W G) (m_A G))) M 171 [(0, vR (some la0)), (1, vI lx1), (2, vI lx2), (3, vI lx3), (4, vI lx4), (5, vI lx5), (6, vI lx6), (7, vI lx7), (8, vI lx8), (9, vI lx9), (10, vI lx10), (11, vI lx11)] [vI sx0] := by
  refine pw_istore X [(0, vR (some la0)), (1, vI lx1), (2, vI lx2), (3, vI lx3), (4, vI lx4), (5, vI lx5), (6, vI lx6), (7, vI lx7), (8, vI lx8), (9, vI lx9), (10, vI lx10), (11, vI lx11), (12, vI sx0)] [1, 2, 3, 4, 5, 6, 7, 8, 9, 10, 11, 12, 0] dX4_tows_171 (by decide) rfl ?_
  refine pw_iload X dX4_tows_173 rfl ?_
  refine pw_if_eq X 183 dX4_tows_175 (by decide) (fun c1 => ?_) (fun c1 => ?_)
  · replace hw := hw.1 c1
    refine pw_iload X dX4_tows_183 rfl ?_
    refine pw_lo [0, 1, 2, 3, 4, 5, 6, 8, 9, 10, 12] rfl ?_
    exact bk_X4_tows_185 G C n0 s0 M0 Q X k77 hk77 _ la0 lx1 lx2 lx3 lx4 lx5 lx6 lx8 lx9 lx10 sx0 lx7 hw
  · replace hw := hw.2 c1
    refine pw_iload X dX4_tows_178 rfl ?_
    refine pw_goto X 185 dX4_tows_180 (by decide) ?_
    refine pw_lo [0, 1, 2, 3, 4, 5, 6, 8, 9, 10, 12] rfl ?_
    exact bk_X4_tows_185 G C n0 s0 M0 Q X k77 hk77 _ la0 lx1 lx2 lx3 lx4 lx5 lx6 lx8 lx9 lx10 sx0 lx11 hw
theorem bk_X4_tows_166 (G : Gp) (C : m_Cx) (n0 s0 : Nat) (M0 : Mem) (Q : Mem → Prop) (X : m_in G C RX4 cX4_tows 13 none "tows" 3 70 n0 s0) (k77 : Mem → Nat → Int32 → Int32 → Int32 → Int32 → Int32 → Int32 → Int32 → Int32 → Int32 → Int32 → Prop) (hk77 : ∀ (M : Mem) (la0 : Nat) (lx1 : Int32) (lx2 : Int32) (lx3 : Int32) (lx4 : Int32) (lx5 : Int32) (lx6 : Int32) (lx7 : Int32) (lx8 : Int32) (lx9 : Int32) (lx10 : Int32), k77 M la0 lx1 lx2 lx3 lx4 lx5 lx6 lx7 lx8 lx9 lx10 → pW G C 13 n0 s0 M0 (m_Q G C n0 s0 (va_Qv (m_q0 M0 Q) (m_W G) (m_A G))) M 77 [(0, vR (some la0)), (1, vI lx1), (2, vI lx2), (3, vI lx3), (4, vI lx4), (5, vI lx5), (6, vI lx6), (7, vI lx7), (8, vI lx8), (9, vI lx9), (10, vI lx10)] []) (M : Mem) (la0 : Nat) (lx1 : Int32) (lx2 : Int32) (lx3 : Int32) (lx4 : Int32) (lx5 : Int32) (lx6 : Int32) (lx7 : Int32) (lx8 : Int32) (lx9 : Int32) (lx10 : Int32) (lx11 : Int32) (hw : wp_X4_tows_b166 G.2 k77 M la0 lx1 lx2 lx3 lx4 lx5 lx6 lx7 lx8 lx9 lx10 lx11 Q) : pW G C 13 n0 s0 M0 (m_Q G C n0 s0 (va_Qv (m_q0 M0 Q) (m_W G) (m_A G))) M 166 [(0, vR (some la0)), (1, vI lx1), (2, vI lx2), (3, vI lx3), (4, vI lx4), (5, vI lx5), (6, vI lx6), (7, vI lx7), (8, vI lx8), (9, vI lx9), (10, vI lx10), (11, vI lx11)] [] := by
  refine pw_iconst X 1 dX4_tows_166 (by decide) ?_
  refine pw_goto X 171 dX4_tows_167 (by decide) ?_
  exact bk_X4_tows_171 G C n0 s0 M0 Q X k77 hk77 _ la0 lx1 lx2 lx3 lx4 lx5 lx6 lx7 lx8 lx9 lx10 lx11 1 hw
theorem bk_X4_tows_146 (G : Gp) (C : m_Cx) (n0 s0 : Nat) (M0 : Mem) (Q : Mem → Prop) (X : m_in G C RX4 cX4_tows 13 none "tows" 3 70 n0 s0) (k77 : Mem → Nat → Int32 → Int32 → Int32 → Int32 → Int32 → Int32 → Int32 → Int32 → Int32 → Int32 → Prop) (hk77 : ∀ (M : Mem) (la0 : Nat) (lx1 : Int32) (lx2 : Int32) (lx3 : Int32) (lx4 : Int32) (lx5 : Int32) (lx6 : Int32) (lx7 : Int32) (lx8 : Int32) (lx9 : Int32) (lx10 : Int32), k77 M la0 lx1 lx2 lx3 lx4 lx5 lx6 lx7 lx8 lx9 lx10 → pW G C 13 n0 s0 M0 (m_Q G C n0 s0 (va_Qv (m_q0 M0 Q) (m_W G) (m_A G))) M 77 [(0, vR (some la0)), (1, vI lx1), (2, vI lx2), (3, vI lx3), (4, vI lx4), (5, vI lx5), (6, vI lx6), (7, vI lx7), (8, vI lx8), (9, vI lx9), (10, vI lx10)] []) (M : Mem) (la0 : Nat) (lx1 : Int32) (lx2 : Int32) (lx3 : Int32) (lx4 : Int32) (lx5 : Int32) (lx6 : Int32) (lx7 : Int32) (lx9 : Int32) (lx10 : Int32) (lx11 : Int32) (sx0 : Int32) (sx1 : Int32) (hw : wp_X4_tows_b146 G.2 k77 M la0 lx1 lx2 lx3 lx4 lx5 lx6 lx7 lx9 lx10 lx11 sx0 sx1 Q) : pW G C 13 n0 s0 M0 (m_Q G C n0 s0 (va_Qv (m_q0 M0 Q) (m_W G) (m_A G))) M 146 [(0, vR (some la0)), (1, vI lx1), (2, vI lx2), (3, vI lx3), (4, vI lx4), (5, vI lx5), (6, vI lx6), (7, vI lx7), (9, vI lx9), (10, vI lx10), (11, vI lx11)] [vI sx1, vI sx0] := by
  refine pw_iadd X dX4_tows_146 ?_
  refine pw_istore X [(0, vR (some la0)), (1, vI lx1), (2, vI lx2), (3, vI lx3), (4, vI lx4), (5, vI lx5), (6, vI lx6), (7, vI lx7), (8, vI (sx0 + sx1)), (9, vI lx9), (10, vI lx10), (11, vI lx11)] [1, 2, 3, 4, 5, 6, 7, 8, 0, 9, 10, 11] dX4_tows_147 (by decide) rfl ?_
  refine pw_iload X dX4_tows_149 rfl ?_
  refine pw_runi X (m_cS X (met_X4_region G C.2.1 M lx11 _ hw) (lw_S q2153 q2154 q107 q2155) nh_X4_region ⟨Nat.le_of_ble_eq_true rfl, Nat.le_of_ble_eq_true rfl⟩ rfl (Nat.le_of_ble_eq_true rfl) dX4_tows_151) (fun r3 M1 hle2 hx => ?_)
  replace hw := hx hle2
  clear hx
  refine pw_iload X dX4_tows_154 rfl ?_
  refine pw_icmp_ne X 166 dX4_tows_156 (by decide) (fun c4 => ?_) (fun c4 => ?_)
  · replace hw := hw.1 c4
    exact bk_X4_tows_166 G C n0 s0 M0 Q X k77 hk77 _ la0 lx1 lx2 lx3 lx4 lx5 lx6 lx7 (sx0 + sx1) lx9 lx10 lx11 hw
  · replace hw := hw.2 c4
    refine pw_iload X dX4_tows_159 rfl ?_
    refine pw_iload X dX4_tows_161 rfl ?_
    refine pw_icmp_ne X 170 dX4_tows_163 (by decide) (fun c5 => ?_) (fun c5 => ?_)
    · replace hw := hw.1 c5
      refine pw_iconst X 0 dX4_tows_170 (by decide) ?_
      exact bk_X4_tows_171 G C n0 s0 M0 Q X k77 hk77 _ la0 lx1 lx2 lx3 lx4 lx5 lx6 lx7 (sx0 + sx1) lx9 lx10 lx11 0 hw
    · replace hw := hw.2 c5
      exact bk_X4_tows_166 G C n0 s0 M0 Q X k77 hk77 _ la0 lx1 lx2 lx3 lx4 lx5 lx6 lx7 (sx0 + sx1) lx9 lx10 lx11 hw
theorem bk_X4_tows_120 (G : Gp) (C : m_Cx) (n0 s0 : Nat) (M0 : Mem) (Q : Mem → Prop) (X : m_in G C RX4 cX4_tows 13 none "tows" 3 70 n0 s0) (k77 : Mem → Nat → Int32 → Int32 → Int32 → Int32 → Int32 → Int32 → Int32 → Int32 → Int32 → Int32 → Prop) (hk77 : ∀ (M : Mem) (la0 : Nat) (lx1 : Int32) (lx2 : Int32) (lx3 : Int32) (lx4 : Int32) (lx5 : Int32) (lx6 : Int32) (lx7 : Int32) (lx8 : Int32) (lx9 : Int32) (lx10 : Int32), k77 M la0 lx1 lx2 lx3 lx4 lx5 lx6 lx7 lx8 lx9 lx10 → pW G C 13 n0 s0 M0 (m_Q G C n0 s0 (va_Qv (m_q0 M0 Q) (m_W G) (m_A G))) M 77 [(0, vR (some la0)), (1, vI lx1), (2, vI lx2), (3, vI lx3), (4, vI lx4), (5, vI lx5), (6, vI lx6), (7, vI lx7), (8, vI lx8), (9, vI lx9), (10, vI lx10)] []) (M : Mem) (la0 : Nat) (lx1 : Int32) (lx2 : Int32) (lx3 : Int32) (lx4 : Int32) (lx5 : Int32) (lx6 : Int32) (lx7 : Int32) (lx8 : Int32) (lx10 : Int32) (lx11 : Int32) (sx0 : Int32) (hw : wp_X4_tows_b120 G.2 k77 M la0 lx1 lx2 lx3 lx4 lx5 lx6 lx7 lx8 lx10 lx11 sx0 Q) : pW G C 13 n0 s0 M0 (m_Q G C n0 s0 (va_Qv (m_q0 M0 Q) (m_W G) (m_A G))) M 120 [(0, vR (some la0)), (1, vI lx1), (2, vI lx2), (3, vI lx3), (4, vI lx4), (5, vI lx5), (6, vI lx6), (7, vI lx7), (8, vI lx8), (10, vI lx10), (11, vI lx11)] [vI sx0] := by
  refine pw_istore X [(0, vR (some la0)), (1, vI lx1), (2, vI lx2), (3, vI lx3), (4, vI lx4), (5, vI lx5), (6, vI lx6), (7, vI lx7), (8, vI lx8), (9, vI sx0), (10, vI lx10), (11, vI lx11)] [1, 2, 3, 4, 5, 6, 7, 8, 9, 0, 10, 11] dX4_tows_120 (by decide) rfl ?_
  refine pw_iload X dX4_tows_122 rfl ?_
  refine pw_iload X dX4_tows_124 rfl ?_
  refine pw_if_eq X 145 dX4_tows_126 (by decide) (fun c1 => ?_) (fun c1 => ?_)
  · replace hw := hw.1 c1
    refine pw_iconst X 0 dX4_tows_145 (by decide) ?_
    refine pw_lo [0, 1, 2, 3, 4, 5, 6, 7, 9, 10, 11] rfl ?_
    exact bk_X4_tows_146 G C n0 s0 M0 Q X k77 hk77 _ la0 lx1 lx2 lx3 lx4 lx5 lx6 lx7 sx0 lx10 lx11 lx8 0 hw
  · replace hw := hw.2 c1
    refine pw_aload_n X dX4_tows_129 rfl rfl ?_
    obtain ⟨ht2, hw⟩ := hw
    obtain ⟨u3, he4, hw⟩ := hw
    refine pw_get X (q := (RX4, TX4, tyX4, 15)) (ci := 4) (k := 8) (ref := "PatrolDeskModel") (vR (some u3)) ht2 rfl (by decide) in_X4 q1954 (Or.inl rfl) (by rw [he4]; rfl) dX4_tows_130 ?_
    refine pw_bipush X 12 dX4_tows_133 (by decide) ?_
    refine pw_iload X dX4_tows_135 rfl ?_
    refine pw_imul X dX4_tows_137 ?_
    refine pw_iload X dX4_tows_138 rfl ?_
    refine pw_iadd X dX4_tows_140 ?_
    obtain ⟨ht5, hw⟩ := hw
    obtain ⟨hi6, hw⟩ := hw
    refine pw_iald X ht5 hi6 dX4_tows_141 ?_
    refine pw_goto X 146 dX4_tows_142 (by decide) ?_
    refine pw_lo [0, 1, 2, 3, 4, 5, 6, 7, 9, 10, 11] rfl ?_
    exact bk_X4_tows_146 G C n0 s0 M0 Q X k77 hk77 _ la0 lx1 lx2 lx3 lx4 lx5 lx6 lx7 sx0 lx10 lx11 lx8 (m_gi M u3 (Int32.toNatClampNeg ((12 * lx7) + lx11))) hw
theorem bk_X4_tows_115 (G : Gp) (C : m_Cx) (n0 s0 : Nat) (M0 : Mem) (Q : Mem → Prop) (X : m_in G C RX4 cX4_tows 13 none "tows" 3 70 n0 s0) (k77 : Mem → Nat → Int32 → Int32 → Int32 → Int32 → Int32 → Int32 → Int32 → Int32 → Int32 → Int32 → Prop) (hk77 : ∀ (M : Mem) (la0 : Nat) (lx1 : Int32) (lx2 : Int32) (lx3 : Int32) (lx4 : Int32) (lx5 : Int32) (lx6 : Int32) (lx7 : Int32) (lx8 : Int32) (lx9 : Int32) (lx10 : Int32), k77 M la0 lx1 lx2 lx3 lx4 lx5 lx6 lx7 lx8 lx9 lx10 → pW G C 13 n0 s0 M0 (m_Q G C n0 s0 (va_Qv (m_q0 M0 Q) (m_W G) (m_A G))) M 77 [(0, vR (some la0)), (1, vI lx1), (2, vI lx2), (3, vI lx3), (4, vI lx4), (5, vI lx5), (6, vI lx6), (7, vI lx7), (8, vI lx8), (9, vI lx9), (10, vI lx10)] []) (M : Mem) (la0 : Nat) (lx1 : Int32) (lx2 : Int32) (lx3 : Int32) (lx4 : Int32) (lx5 : Int32) (lx6 : Int32) (lx7 : Int32) (lx8 : Int32) (lx10 : Int32) (lx11 : Int32) (hw : wp_X4_tows_b115 G.2 k77 M la0 lx1 lx2 lx3 lx4 lx5 lx6 lx7 lx8 lx10 lx11 Q) : pW G C 13 n0 s0 M0 (m_Q G C n0 s0 (va_Qv (m_q0 M0 Q) (m_W G) (m_A G))) M 115 [(0, vR (some la0)), (1, vI lx1), (2, vI lx2), (3, vI lx3), (4, vI lx4), (5, vI lx5), (6, vI lx6), (7, vI lx7), (8, vI lx8), (10, vI lx10), (11, vI lx11)] [] := by
  refine pw_iconst X 1 dX4_tows_115 (by decide) ?_
  refine pw_goto X 120 dX4_tows_116 (by decide) ?_
  exact bk_X4_tows_120 G C n0 s0 M0 Q X k77 hk77 _ la0 lx1 lx2 lx3 lx4 lx5 lx6 lx7 lx8 lx10 lx11 1 hw
theorem bk_X4_tows_234 (G : Gp) (C : m_Cx) (n0 s0 : Nat) (M0 : Mem) (Q : Mem → Prop) (X : m_in G C RX4 cX4_tows 13 none "tows" 3 70 n0 s0) (M : Mem) (la0 : Nat) (lx1 : Int32) (lx2 : Int32) (lx4 : Int32) (lx7 : Int32) (sa0 : Nat) (sx1 : Int32) (sx2 : Int32) (sx3 : Int32) (hw : wp_X4_tows_b234 G.2 M la0 lx1 lx2 lx4 lx7 sa0 sx1 sx2 sx3 Q) : pW G C 13 n0 s0 M0 (m_Q G C n0 s0 (va_Qv (m_q0 M0 Q) (m_W G) (m_A G))) M 234 [(0, vR (some la0)), (1, vI lx1), (2, vI lx2), (4, vI lx4), (7, vI lx7)] [vI sx3, vI sx2, vI sx1, vR (some sa0)] := by
  obtain ⟨ht1, hw⟩ := hw
  refine pw_runv X (m_cV X (b := sa0) (ci := 4) (q := (RX4, TX4, tyX4, 15)) (met_X4_laysPatrol G C.2.1 M sa0 sx1 sx2 sx3 _ hw) ht1 rfl (lw_V q2017 q2019 qs39 q107 q2020) ⟨rfl, nh_X4_laysPatrol⟩ ⟨Nat.le_of_ble_eq_true rfl, Nat.le_of_ble_eq_true rfl⟩ rfl (Nat.le_of_ble_eq_true rfl) dX4_tows_234) (fun M2 hle3 hx => ?_)
  replace hw := hx hle3
  clear hx
  have ht4 : m_tg M2 sa0 = 5 := m_le_tg hle3 ht1
  refine pw_aload_n X dX4_tows_237 rfl rfl ?_
  refine pw_iload_n X dX4_tows_238 rfl rfl ?_
  refine pw_bipush X 12 dX4_tows_239 (by decide) ?_
  refine pw_iload X dX4_tows_241 rfl ?_
  obtain ⟨ht5, hw⟩ := hw
  refine pw_runv X (m_cV X (b := la0) (ci := 4) (q := (RX4, TX4, tyX4, 15)) (met_X4_laysPatrol G C.2.1 M2 la0 lx1 12 lx7 _ hw) ht5 rfl (lw_V q2017 q2019 qs39 q107 q2020) ⟨rfl, nh_X4_laysPatrol⟩ ⟨Nat.le_of_ble_eq_true rfl, Nat.le_of_ble_eq_true rfl⟩ rfl (Nat.le_of_ble_eq_true rfl) dX4_tows_243) (fun M6 hle7 hx => ?_)
  replace hw := hx hle7
  clear hx
  have ht8 : m_tg M6 sa0 = 5 := m_le_tg hle7 ht4
  have ht9 : m_tg M6 la0 = 5 := m_le_tg hle7 ht5
  refine pw_aload_n X dX4_tows_246 rfl rfl ?_
  refine pw_iload_n X dX4_tows_247 rfl rfl ?_
  refine pw_bipush X 13 dX4_tows_248 (by decide) ?_
  refine pw_iload X dX4_tows_250 rfl ?_
  refine pw_runv X (m_cV X (b := la0) (ci := 4) (q := (RX4, TX4, tyX4, 15)) (met_X4_laysPatrol G C.2.1 M6 la0 lx1 13 lx4 _ hw) ht9 rfl (lw_V q2017 q2019 qs39 q107 q2020) ⟨rfl, nh_X4_laysPatrol⟩ ⟨Nat.le_of_ble_eq_true rfl, Nat.le_of_ble_eq_true rfl⟩ rfl (Nat.le_of_ble_eq_true rfl) dX4_tows_252) (fun M10 hle11 hx => ?_)
  replace hw := hx hle11
  clear hx
  have ht12 : m_tg M10 sa0 = 5 := m_le_tg hle11 ht8
  have ht13 : m_tg M10 la0 = 5 := m_le_tg hle11 ht9
  refine pw_aload_n X dX4_tows_255 rfl rfl ?_
  refine pw_iload_n X dX4_tows_256 rfl rfl ?_
  refine pw_iconst X 5 dX4_tows_257 (by decide) ?_
  refine pw_iconst X 4 dX4_tows_258 (by decide) ?_
  refine pw_runv X (m_cV X (b := la0) (ci := 4) (q := (RX4, TX4, tyX4, 15)) (met_X4_laysCall G C.2.1 M10 la0 lx2 5 4 _ hw) ht13 rfl (lw_V q2061 q2063 qs46 q107 q2064) ⟨rfl, nh_X4_laysCall⟩ ⟨Nat.le_of_ble_eq_true rfl, Nat.le_of_ble_eq_true rfl⟩ rfl (Nat.le_of_ble_eq_true rfl) dX4_tows_259) (fun M14 hle15 hx => ?_)
  replace hw := hx hle15
  clear hx
  have ht16 : m_tg M14 sa0 = 5 := m_le_tg hle15 ht12
  have ht17 : m_tg M14 la0 = 5 := m_le_tg hle15 ht13
  refine pw_aload_n X dX4_tows_262 rfl rfl ?_
  refine pw_iload_n X dX4_tows_263 rfl rfl ?_
  refine pw_bipush X 6 dX4_tows_264 (by decide) ?_
  refine pw_iload_n X dX4_tows_266 rfl rfl ?_
  refine pw_runv X (m_cV X (b := la0) (ci := 4) (q := (RX4, TX4, tyX4, 15)) (met_X4_laysCall G C.2.1 M14 la0 lx2 6 lx1 _ hw) ht17 rfl (lw_V q2061 q2063 qs46 q107 q2064) ⟨rfl, nh_X4_laysCall⟩ ⟨Nat.le_of_ble_eq_true rfl, Nat.le_of_ble_eq_true rfl⟩ rfl (Nat.le_of_ble_eq_true rfl) dX4_tows_267) (fun M18 hle19 hx => ?_)
  replace hw := hx hle19
  clear hx
  have ht20 : m_tg M18 sa0 = 5 := m_le_tg hle19 ht16
  have ht21 : m_tg M18 la0 = 5 := m_le_tg hle19 ht17
  exact pw_vret X hw dX4_tows_270
theorem bk_X4_tows_210 (G : Gp) (C : m_Cx) (n0 s0 : Nat) (M0 : Mem) (Q : Mem → Prop) (X : m_in G C RX4 cX4_tows 13 none "tows" 3 70 n0 s0) (M : Mem) (la0 : Nat) (lx1 : Int32) (lx2 : Int32) (lx4 : Int32) (lx7 : Int32) (lx8 : Int32) (hw : wp_X4_tows_b210 G.2 M la0 lx1 lx2 lx4 lx7 lx8 Q) : pW G C 13 n0 s0 M0 (m_Q G C n0 s0 (va_Qv (m_q0 M0 Q) (m_W G) (m_A G))) M 210 [(0, vR (some la0)), (1, vI lx1), (2, vI lx2), (4, vI lx4), (7, vI lx7), (8, vI lx8)] [] := by
  refine pw_aload_n X dX4_tows_210 rfl rfl ?_
  refine pw_iload_n X dX4_tows_211 rfl rfl ?_
  refine pw_iconst X 3 dX4_tows_212 (by decide) ?_
  refine pw_iconst X 3 dX4_tows_213 (by decide) ?_
  obtain ⟨ht1, hw⟩ := hw
  refine pw_runv X (m_cV X (b := la0) (ci := 4) (q := (RX4, TX4, tyX4, 15)) (met_X4_laysPatrol G C.2.1 M la0 lx1 3 3 _ hw) ht1 rfl (lw_V q2017 q2019 qs39 q107 q2020) ⟨rfl, nh_X4_laysPatrol⟩ ⟨Nat.le_of_ble_eq_true rfl, Nat.le_of_ble_eq_true rfl⟩ rfl (Nat.le_of_ble_eq_true rfl) dX4_tows_214) (fun M2 hle3 hx => ?_)
  replace hw := hx hle3
  clear hx
  have ht4 : m_tg M2 la0 = 5 := m_le_tg hle3 ht1
  refine pw_aload_n X dX4_tows_217 rfl rfl ?_
  refine pw_iload_n X dX4_tows_218 rfl rfl ?_
  refine pw_bipush X 6 dX4_tows_219 (by decide) ?_
  refine pw_iload X dX4_tows_221 rfl ?_
  refine pw_if_ne X 230 dX4_tows_223 (by decide) (fun c5 => ?_) (fun c5 => ?_)
  · replace hw := hw.1 c5
    refine pw_iconst X 2 dX4_tows_230 (by decide) ?_
    refine pw_iload X dX4_tows_231 rfl ?_
    refine pw_imul X dX4_tows_233 ?_
    refine pw_lo [0, 1, 2, 3, 4] rfl ?_
    exact bk_X4_tows_234 G C n0 s0 M0 Q X _ la0 lx1 lx2 lx4 lx7 la0 lx1 6 (2 * lx8) hw
  · replace hw := hw.2 c5
    refine pw_iconst X 1 dX4_tows_226 (by decide) ?_
    refine pw_goto X 234 dX4_tows_227 (by decide) ?_
    refine pw_lo [0, 1, 2, 3, 4] rfl ?_
    exact bk_X4_tows_234 G C n0 s0 M0 Q X _ la0 lx1 lx2 lx4 lx7 la0 lx1 6 1 hw
theorem bk_X4_tows_77 (G : Gp) (C : m_Cx) (n0 s0 : Nat) (M0 : Mem) (Q : Mem → Prop) (X : m_in G C RX4 cX4_tows 13 none "tows" 3 70 n0 s0) : ∀ (n : Nat) (M : Mem) (la0 : Nat) (lx1 : Int32) (lx2 : Int32) (lx3 : Int32) (lx4 : Int32) (lx5 : Int32) (lx6 : Int32) (lx7 : Int32) (lx8 : Int32) (lx9 : Int32) (lx10 : Int32) (hw : wp_X4_tows_b77 G.2 Q n M la0 lx1 lx2 lx3 lx4 lx5 lx6 lx7 lx8 lx9 lx10), pW G C 13 n0 s0 M0 (m_Q G C n0 s0 (va_Qv (m_q0 M0 Q) (m_W G) (m_A G))) M 77 [(0, vR (some la0)), (1, vI lx1), (2, vI lx2), (3, vI lx3), (4, vI lx4), (5, vI lx5), (6, vI lx6), (7, vI lx7), (8, vI lx8), (9, vI lx9), (10, vI lx10)] [] := by
  intro n
  induction n with
  | zero => intro M la0 lx1 lx2 lx3 lx4 lx5 lx6 lx7 lx8 lx9 lx10 hw; exact hw.elim
  | succ n ih =>
    intro M la0 lx1 lx2 lx3 lx4 lx5 lx6 lx7 lx8 lx9 lx10 hw
    refine pw_iload X dX4_tows_77 rfl ?_
    refine pw_bipush X 12 dX4_tows_79 (by decide) ?_
    refine pw_icmp_ge X 210 dX4_tows_81 (by decide) (fun c1 => ?_) (fun c1 => ?_)
    · replace hw := hw.1 c1
      refine pw_lo [0, 1, 2, 4, 7, 8] rfl ?_
      exact bk_X4_tows_210 G C n0 s0 M0 Q X _ la0 lx1 lx2 lx4 lx7 lx8 hw
    · replace hw := hw.2 c1
      refine pw_iload X dX4_tows_84 rfl ?_
      refine pw_if_eq X 210 dX4_tows_86 (by decide) (fun c2 => ?_) (fun c2 => ?_)
      · replace hw := hw.1 c2
        refine pw_lo [0, 1, 2, 4, 7, 8] rfl ?_
        exact bk_X4_tows_210 G C n0 s0 M0 Q X _ la0 lx1 lx2 lx4 lx7 lx8 hw
      · replace hw := hw.2 c2
        refine pw_aload_n X dX4_tows_89 rfl rfl ?_
        refine pw_iload X dX4_tows_90 rfl ?_
        refine pw_iload X dX4_tows_92 rfl ?_
        obtain ⟨ht3, hw⟩ := hw
        refine pw_runi X (m_cV X (b := la0) (ci := 4) (q := (RX4, TX4, tyX4, 15)) (met_X4_nextOn G C.2.1 M la0 lx7 lx5 _ hw) ht3 rfl (lw_V q2156 q2158 qs64 q107 q2159) ⟨rfl, nh_X4_nextOn⟩ ⟨Nat.le_of_ble_eq_true rfl, Nat.le_of_ble_eq_true rfl⟩ rfl (Nat.le_of_ble_eq_true rfl) dX4_tows_94) (fun r6 M4 hle5 hx => ?_)
        replace hw := hx hle5
        clear hx
        have ht7 : m_tg M4 la0 = 5 := m_le_tg hle5 ht3
        refine pw_istore X [(0, vR (some la0)), (1, vI lx1), (2, vI lx2), (3, vI lx3), (4, vI lx4), (5, vI lx5), (6, vI lx6), (7, vI lx7), (8, vI lx8), (10, vI lx10), (11, vI r6)] [1, 2, 3, 4, 5, 6, 7, 8, 9, 11, 0] dX4_tows_97 (by decide) rfl ?_
        refine pw_iload X dX4_tows_99 rfl ?_
        refine pw_runi X (m_cS X (met_X4_region G C.2.1 M4 r6 _ hw) (lw_S q2153 q2154 q107 q2155) nh_X4_region ⟨Nat.le_of_ble_eq_true rfl, Nat.le_of_ble_eq_true rfl⟩ rfl (Nat.le_of_ble_eq_true rfl) dX4_tows_101) (fun r10 M8 hle9 hx => ?_)
        replace hw := hx hle9
        clear hx
        have ht11 : m_tg M8 la0 = 5 := m_le_tg hle9 ht7
        refine pw_iload X dX4_tows_104 rfl ?_
        refine pw_icmp_eq X 115 dX4_tows_106 (by decide) (fun c12 => ?_) (fun c12 => ?_)
        · replace hw := hw.1 c12
          exact bk_X4_tows_115 G C n0 s0 M0 Q X (wp_X4_tows_b77 G.2 Q n) ih _ la0 lx1 lx2 lx3 lx4 lx5 lx6 lx7 lx8 lx10 r6 hw
        · replace hw := hw.2 c12
          refine pw_iload X dX4_tows_109 rfl ?_
          refine pw_iload_n X dX4_tows_111 rfl rfl ?_
          refine pw_icmp_ne X 119 dX4_tows_112 (by decide) (fun c13 => ?_) (fun c13 => ?_)
          · replace hw := hw.1 c13
            refine pw_iconst X 0 dX4_tows_119 (by decide) ?_
            exact bk_X4_tows_120 G C n0 s0 M0 Q X (wp_X4_tows_b77 G.2 Q n) ih _ la0 lx1 lx2 lx3 lx4 lx5 lx6 lx7 lx8 lx10 r6 0 hw
          · replace hw := hw.2 c13
            exact bk_X4_tows_115 G C n0 s0 M0 Q X (wp_X4_tows_b77 G.2 Q n) ih _ la0 lx1 lx2 lx3 lx4 lx5 lx6 lx7 lx8 lx10 r6 hw
theorem bk_X4_tows_0 (G : Gp) (C : m_Cx) (n0 s0 : Nat) (M0 : Mem) (Q : Mem → Prop) (X : m_in G C RX4 cX4_tows 13 none "tows" 3 70 n0 s0) (M : Mem) (a0 : Nat) (x1 : Int32) (hw : wp_X4_tows G.2 M a0 x1 Q) : pW G C 13 n0 s0 M0 (m_Q G C n0 s0 (va_Qv (m_q0 M0 Q) (m_W G) (m_A G))) M 0 [(0, vR (some a0)), (1, vI x1)] [] := by
  refine pw_aload_n X dX4_tows_0 rfl rfl ?_
  refine pw_iload_n X dX4_tows_1 rfl rfl ?_
  refine pw_iconst X 5 dX4_tows_2 (by decide) ?_
  obtain ⟨ht1, hw⟩ := hw
  refine pw_runi X (m_cV X (b := a0) (ci := 4) (q := (RX4, TX4, tyX4, 15)) (met_X4_ofPatrol G C.2.1 M a0 x1 5 _ hw) ht1 rfl (lw_V q2069 q2071 qs48 q107 q2072) ⟨rfl, nh_X4_ofPatrol⟩ ⟨Nat.le_of_ble_eq_true rfl, Nat.le_of_ble_eq_true rfl⟩ rfl (Nat.le_of_ble_eq_true rfl) dX4_tows_3) (fun r4 M2 hle3 hx => ?_)
  replace hw := hx hle3
  clear hx
  have ht5 : m_tg M2 a0 = 5 := m_le_tg hle3 ht1
  refine pw_istore_n X [(0, vR (some a0)), (1, vI x1), (2, vI r4)] [1, 2, 0] dX4_tows_6 rfl (by decide) rfl ?_
  refine pw_aload_n X dX4_tows_7 rfl rfl ?_
  refine pw_iload_n X dX4_tows_8 rfl rfl ?_
  refine pw_iconst X 1 dX4_tows_9 (by decide) ?_
  refine pw_runi X (m_cV X (b := a0) (ci := 4) (q := (RX4, TX4, tyX4, 15)) (met_X4_ofCall G C.2.1 M2 a0 r4 1 _ hw) ht5 rfl (lw_V q2053 q2055 qs44 q107 q2056) ⟨rfl, nh_X4_ofCall⟩ ⟨Nat.le_of_ble_eq_true rfl, Nat.le_of_ble_eq_true rfl⟩ rfl (Nat.le_of_ble_eq_true rfl) dX4_tows_10) (fun r8 M6 hle7 hx => ?_)
  replace hw := hx hle7
  clear hx
  have ht9 : m_tg M6 a0 = 5 := m_le_tg hle7 ht5
  refine pw_istore_n X [(0, vR (some a0)), (1, vI x1), (2, vI r4), (3, vI r8)] [1, 2, 3, 0] dX4_tows_13 rfl (by decide) rfl ?_
  refine pw_aload_n X dX4_tows_14 rfl rfl ?_
  refine pw_iload_n X dX4_tows_15 rfl rfl ?_
  refine pw_runi X (m_cV X (b := a0) (ci := 4) (q := (RX4, TX4, tyX4, 15)) (met_X4_garageFor G C.2.1 M6 a0 r8 _ hw) ht9 rfl (lw_V q2141 q2143 qs61 q107 q2144) ⟨rfl, nh_X4_garageFor⟩ ⟨Nat.le_of_ble_eq_true rfl, Nat.le_of_ble_eq_true rfl⟩ rfl (Nat.le_of_ble_eq_true rfl) dX4_tows_16) (fun r12 M10 hle11 hx => ?_)
  replace hw := hx hle11
  clear hx
  have ht13 : m_tg M10 a0 = 5 := m_le_tg hle11 ht9
  refine pw_istore X [(0, vR (some a0)), (1, vI x1), (2, vI r4), (3, vI r8), (4, vI r12)] [1, 2, 3, 4, 0] dX4_tows_19 (by decide) rfl ?_
  refine pw_iload X dX4_tows_21 rfl ?_
  refine pw_bipush X (-5) dX4_tows_23 (by decide) ?_
  refine pw_icmp_ne X 34 dX4_tows_25 (by decide) (fun c14 => ?_) (fun c14 => ?_)
  · replace hw := hw.1 c14
    refine pw_aload_n X dX4_tows_34 rfl rfl ?_
    refine pw_iload X dX4_tows_35 rfl ?_
    refine pw_iconst X 0 dX4_tows_37 (by decide) ?_
    refine pw_runi X (m_cV X (b := a0) (ci := 4) (q := (RX4, TX4, tyX4, 15)) (met_X4_ofGarage G C.2.1 M10 a0 r12 0 _ hw) ht13 rfl (lw_V q2117 q2119 qs56 q107 q2120) ⟨rfl, nh_X4_ofGarage⟩ ⟨Nat.le_of_ble_eq_true rfl, Nat.le_of_ble_eq_true rfl⟩ rfl (Nat.le_of_ble_eq_true rfl) dX4_tows_38) (fun r17 M15 hle16 hx => ?_)
    replace hw := hx hle16
    clear hx
    have ht18 : m_tg M15 a0 = 5 := m_le_tg hle16 ht13
    refine pw_istore X [(0, vR (some a0)), (1, vI x1), (2, vI r4), (3, vI r8), (4, vI r12), (5, vI r17)] [1, 2, 3, 4, 5, 0] dX4_tows_41 (by decide) rfl ?_
    refine pw_aload_n X dX4_tows_43 rfl rfl ?_
    refine pw_iload_n X dX4_tows_44 rfl rfl ?_
    refine pw_iconst X 0 dX4_tows_45 (by decide) ?_
    refine pw_runi X (m_cV X (b := a0) (ci := 4) (q := (RX4, TX4, tyX4, 15)) (met_X4_ofPatrol G C.2.1 M15 a0 x1 0 _ hw) ht18 rfl (lw_V q2069 q2071 qs48 q107 q2072) ⟨rfl, nh_X4_ofPatrol⟩ ⟨Nat.le_of_ble_eq_true rfl, Nat.le_of_ble_eq_true rfl⟩ rfl (Nat.le_of_ble_eq_true rfl) dX4_tows_46) (fun r21 M19 hle20 hx => ?_)
    replace hw := hx hle20
    clear hx
    have ht22 : m_tg M19 a0 = 5 := m_le_tg hle20 ht18
    refine pw_runi X (m_cS X (met_X4_region G C.2.1 M19 r21 _ hw) (lw_S q2153 q2154 q107 q2155) nh_X4_region ⟨Nat.le_of_ble_eq_true rfl, Nat.le_of_ble_eq_true rfl⟩ rfl (Nat.le_of_ble_eq_true rfl) dX4_tows_49) (fun r25 M23 hle24 hx => ?_)
    replace hw := hx hle24
    clear hx
    have ht26 : m_tg M23 a0 = 5 := m_le_tg hle24 ht22
    refine pw_istore X [(0, vR (some a0)), (1, vI x1), (2, vI r4), (3, vI r8), (4, vI r12), (5, vI r17), (6, vI r25)] [1, 2, 3, 4, 5, 6, 0] dX4_tows_52 (by decide) rfl ?_
    refine pw_iload_n X dX4_tows_54 rfl rfl ?_
    refine pw_istore X [(0, vR (some a0)), (1, vI x1), (2, vI r4), (3, vI r8), (4, vI r12), (5, vI r17), (6, vI r25), (7, vI r8)] [1, 2, 3, 4, 5, 6, 7, 0] dX4_tows_55 (by decide) rfl ?_
    refine pw_iconst X 0 dX4_tows_57 (by decide) ?_
    refine pw_istore X [(0, vR (some a0)), (1, vI x1), (2, vI r4), (3, vI r8), (4, vI r12), (5, vI r17), (6, vI r25), (7, vI r8), (8, vI 0)] [1, 2, 3, 4, 5, 6, 7, 8, 0] dX4_tows_58 (by decide) rfl ?_
    refine pw_iload X dX4_tows_60 rfl ?_
    refine pw_iload X dX4_tows_62 rfl ?_
    refine pw_icmp_eq X 71 dX4_tows_64 (by decide) (fun c27 => ?_) (fun c27 => ?_)
    · replace hw := hw.1 c27
      refine pw_iconst X 0 dX4_tows_71 (by decide) ?_
      refine pw_istore X [(0, vR (some a0)), (1, vI x1), (2, vI r4), (3, vI r8), (4, vI r12), (5, vI r17), (6, vI r25), (7, vI r8), (8, vI 0), (9, vI 0)] [1, 2, 3, 4, 5, 6, 7, 8, 9, 0] dX4_tows_72 (by decide) rfl ?_
      refine pw_iconst X 0 dX4_tows_74 (by decide) ?_
      refine pw_istore X [(0, vR (some a0)), (1, vI x1), (2, vI r4), (3, vI r8), (4, vI r12), (5, vI r17), (6, vI r25), (7, vI r8), (8, vI 0), (9, vI 0), (10, vI 0)] [1, 2, 3, 4, 5, 6, 7, 8, 9, 10, 0] dX4_tows_75 (by decide) rfl ?_
      obtain ⟨n77, hw⟩ := hw
      exact bk_X4_tows_77 G C n0 s0 M0 Q X n77 _ a0 x1 r4 r8 r12 r17 r25 r8 0 0 0 hw
    · replace hw := hw.2 c27
      refine pw_iconst X 1 dX4_tows_67 (by decide) ?_
      refine pw_goto X 72 dX4_tows_68 (by decide) ?_
      refine pw_istore X [(0, vR (some a0)), (1, vI x1), (2, vI r4), (3, vI r8), (4, vI r12), (5, vI r17), (6, vI r25), (7, vI r8), (8, vI 0), (9, vI 1)] [1, 2, 3, 4, 5, 6, 7, 8, 9, 0] dX4_tows_72 (by decide) rfl ?_
      refine pw_iconst X 0 dX4_tows_74 (by decide) ?_
      refine pw_istore X [(0, vR (some a0)), (1, vI x1), (2, vI r4), (3, vI r8), (4, vI r12), (5, vI r17), (6, vI r25), (7, vI r8), (8, vI 0), (9, vI 1), (10, vI 0)] [1, 2, 3, 4, 5, 6, 7, 8, 9, 10, 0] dX4_tows_75 (by decide) rfl ?_
      obtain ⟨n77, hw⟩ := hw
      exact bk_X4_tows_77 G C n0 s0 M0 Q X n77 _ a0 x1 r4 r8 r12 r17 r25 r8 0 1 0 hw
  · replace hw := hw.2 c14
    refine pw_aload_n X dX4_tows_28 rfl rfl ?_
    refine pw_iload_n X dX4_tows_29 rfl rfl ?_
    refine pw_runv X (m_cV X (b := a0) (ci := 4) (q := (RX4, TX4, tyX4, 15)) (met_X4_leaves G C.2.1 M10 a0 x1 _ hw) ht13 rfl (lw_V q2149 q2151 qs63 q107 q2152) ⟨rfl, nh_X4_leaves⟩ ⟨Nat.le_of_ble_eq_true rfl, Nat.le_of_ble_eq_true rfl⟩ rfl (Nat.le_of_ble_eq_true rfl) dX4_tows_30) (fun M28 hle29 hx => ?_)
    replace hw := hx hle29
    clear hx
    have ht30 : m_tg M28 a0 = 5 := m_le_tg hle29 ht13
    exact pw_vret X hw dX4_tows_33
theorem met_X4_tows (G : Gp) (l : Launch) (M : Mem) (a0 : Nat) (x1 : Int32) (Q : Mem → Prop) (hw : wp_X4_tows G.2 M a0 x1 Q) : m_K G l yX4_tows cX4_tows 13 none 3 70 [vR (some a0), vI x1] M (va_Qv (m_q0 M Q) (m_W G) (m_A G)) := by
  refine m_met (by decide) (Nat.le_of_ble_eq_true rfl) (fun C e X => ?_)
  exact bk_X4_tows_0 G C _ _ M Q X M a0 x1 hw
theorem nh_X4_tows : m_nMH yX4_tows 1 := by decide +kernel

def wp_X4_gets_b217 (g : Nat → Nat) (M : Mem) (la0 : Nat) (lx1 : Int32) (Q : Mem → Prop) : Prop := m_tg M la0 = 5 ∧ wp_X4_leaves g M la0 lx1 (fun (M2 : Mem) => m_le M M2 → Q M2)
def wp_X4_gets_b134 (g : Nat → Nat) (M : Mem) (la0 : Nat) (lx1 : Int32) (lx2 : Int32) (lx3 : Int32) (Q : Mem → Prop) : Prop := m_tg M la0 = 5 ∧ wp_X4_ofPatrol g M la0 lx1 1 (fun (r4 : Int32) (M2 : Mem) => m_le M M2 → wp_X4_ofCall g M2 la0 lx2 2 (fun (r8 : Int32) (M6 : Mem) => m_le M2 M6 → ((r4 < (r8 - 3) → wp_X4_ofPatrol g M6 la0 lx1 2 (fun (r13 : Int32) (M11 : Mem) => m_le M6 M11 → ((¬ r13 = 1 → wp_X4_gets_b217 g M11 la0 lx1 Q) ∧ (r13 = 1 → wp_X4_ofPatrol g M11 la0 lx1 0 (fun (r18 : Int32) (M16 : Mem) => m_le M11 M16 → wp_X4_region g M16 r18 (fun (r22 : Int32) (M20 : Mem) => m_le M16 M20 → wp_X4_region g M20 lx3 (fun (r26 : Int32) (M24 : Mem) => m_le M20 M24 → ((¬ r22 = r26 → wp_X4_gets_b217 g M24 la0 lx1 Q) ∧ (r22 = r26 → wp_X4_tows g M24 la0 lx1 (fun (M29 : Mem) => m_le M24 M29 → Q M29)))))))))) ∧ (¬ r4 < (r8 - 3) → wp_X4_laysPatrol g M6 la0 lx1 3 2 (fun (M32 : Mem) => m_le M6 M32 → wp_X4_ofCall g M32 la0 lx2 2 (fun (r37 : Int32) (M35 : Mem) => m_le M32 M35 → wp_X4_laysPatrol g M35 la0 lx1 6 (5 * r37) (fun (M39 : Mem) => m_le M35 M39 → wp_X4_laysCall g M39 la0 lx2 5 2 (fun (M42 : Mem) => m_le M39 M42 → Q M42))))))))
def wp_X4_gets (g : Nat → Nat) (M : Mem) (a0 : Nat) (x1 : Int32) (Q : Mem → Prop) : Prop := m_tg M a0 = 5 ∧ wp_X4_ofPatrol g M a0 x1 5 (fun (r4 : Int32) (M2 : Mem) => m_le M M2 → wp_X4_ofCall g M2 a0 r4 1 (fun (r8 : Int32) (M6 : Mem) => m_le M2 M6 → wp_X4_laysPatrol g M6 a0 x1 4 r8 (fun (M10 : Mem) => m_le M6 M10 → wp_X4_ofCall g M10 a0 r4 5 (fun (r15 : Int32) (M13 : Mem) => m_le M10 M13 → ((¬ r15 = 3 → ∃ u18 : Nat, (m_gr M13 a0 0) = some u18 ∧ m_tg M13 u18 = 101 ∧ vp_in 0 (m_ln M13 u18) ∧ wp_X4_ofCall g M13 a0 r4 4 (fun (r24 : Int32) (M22 : Mem) => m_le M13 M22 → wp_X4_laysCall g M22 a0 r4 8 x1 (fun (M27 : Mem) => m_le M22 M27 → wp_X4_laysCall g M27 a0 r4 7 ((m_gi M13 u18 (Int32.toNatClampNeg 0)) - r24) (fun (M31 : Mem) => m_le M27 M31 → wp_X4_ofPatrol g M31 a0 x1 10 (fun (r37 : Int32) (M35 : Mem) => m_le M31 M35 → wp_X4_laysPatrol g M35 a0 x1 10 (r37 + ((m_gi M13 u18 (Int32.toNatClampNeg 0)) - r24)) (fun (M40 : Mem) => m_le M35 M40 → wp_X4_ofCall g M40 a0 r4 3 (fun (r46 : Int32) (M44 : Mem) => m_le M40 M44 → ((((m_gi M13 u18 (Int32.toNatClampNeg 0)) - r24) ≤ r46 → wp_X4_gets_b134 g M44 a0 x1 r4 r8 Q) ∧ (¬ ((m_gi M13 u18 (Int32.toNatClampNeg 0)) - r24) ≤ r46 → wp_X4_ofCall g M44 a0 r4 0 (fun (r52 : Int32) (M50 : Mem) => m_le M44 M50 → wp_X4_addsMember g M50 a0 r52 1 (-15) (fun (M55 : Mem) => m_le M50 M55 → wp_X4_ofCall g M55 a0 r4 0 (fun (r61 : Int32) (M59 : Mem) => m_le M55 M59 → wp_X4_addsMember g M59 a0 r61 3 1 (fun (M64 : Mem) => m_le M59 M64 → ∃ u68 : Nat, (m_gr M64 a0 0) = some u68 ∧ m_tg M64 u68 = 101 ∧ vp_in 11 (m_ln M64 u68) ∧ vp_in 11 (m_ln M64 u68) ∧ ∀ M73 : Mem, M73 = (m_pi M64 u68 (Int32.toNatClampNeg 11) ((m_gi M64 u68 (Int32.toNatClampNeg 11)) + 15)) → wp_X4_gets_b134 g M73 a0 x1 r4 r8 Q))))))))))))) ∧ (r15 = 3 → wp_X4_tows g M13 a0 x1 (fun (M79 : Mem) => m_le M13 M79 → Q M79)))))))
theorem bk_X4_gets_217 (G : Gp) (C : m_Cx) (n0 s0 : Nat) (M0 : Mem) (Q : Mem → Prop) (X : m_in G C RX4 cX4_gets 5 none "gets" 4 102 n0 s0) (M : Mem) (la0 : Nat) (lx1 : Int32) (hw : wp_X4_gets_b217 G.2 M la0 lx1 Q) : pW G C 5 n0 s0 M0 (m_Q G C n0 s0 (va_Qv (m_q0 M0 Q) (m_W G) (m_A G))) M 217 [(0, vR (some la0)), (1, vI lx1)] [] := by
  refine pw_aload_n X dX4_gets_217 rfl rfl ?_
  refine pw_iload_n X dX4_gets_218 rfl rfl ?_
  obtain ⟨ht1, hw⟩ := hw
  refine pw_runv X (m_cV X (b := la0) (ci := 4) (q := (RX4, TX4, tyX4, 15)) (met_X4_leaves G C.2.1 M la0 lx1 _ hw) ht1 rfl (lw_V q2149 q2151 qs63 q107 q2152) ⟨rfl, nh_X4_leaves⟩ ⟨Nat.le_of_ble_eq_true rfl, Nat.le_of_ble_eq_true rfl⟩ rfl (Nat.le_of_ble_eq_true rfl) dX4_gets_219) (fun M2 hle3 hx => ?_)
  replace hw := hx hle3
  clear hx
  have ht4 : m_tg M2 la0 = 5 := m_le_tg hle3 ht1
  exact pw_vret X hw dX4_gets_222
theorem bk_X4_gets_134 (G : Gp) (C : m_Cx) (n0 s0 : Nat) (M0 : Mem) (Q : Mem → Prop) (X : m_in G C RX4 cX4_gets 5 none "gets" 4 102 n0 s0) (M : Mem) (la0 : Nat) (lx1 : Int32) (lx2 : Int32) (lx3 : Int32) (hw : wp_X4_gets_b134 G.2 M la0 lx1 lx2 lx3 Q) : pW G C 5 n0 s0 M0 (m_Q G C n0 s0 (va_Qv (m_q0 M0 Q) (m_W G) (m_A G))) M 134 [(0, vR (some la0)), (1, vI lx1), (2, vI lx2), (3, vI lx3)] [] := by
  refine pw_aload_n X dX4_gets_134 rfl rfl ?_
  refine pw_iload_n X dX4_gets_135 rfl rfl ?_
  refine pw_iconst X 1 dX4_gets_136 (by decide) ?_
  obtain ⟨ht1, hw⟩ := hw
  refine pw_runi X (m_cV X (b := la0) (ci := 4) (q := (RX4, TX4, tyX4, 15)) (met_X4_ofPatrol G C.2.1 M la0 lx1 1 _ hw) ht1 rfl (lw_V q2069 q2071 qs48 q107 q2072) ⟨rfl, nh_X4_ofPatrol⟩ ⟨Nat.le_of_ble_eq_true rfl, Nat.le_of_ble_eq_true rfl⟩ rfl (Nat.le_of_ble_eq_true rfl) dX4_gets_137) (fun r4 M2 hle3 hx => ?_)
  replace hw := hx hle3
  clear hx
  have ht5 : m_tg M2 la0 = 5 := m_le_tg hle3 ht1
  refine pw_aload_n X dX4_gets_140 rfl rfl ?_
  refine pw_iload_n X dX4_gets_141 rfl rfl ?_
  refine pw_iconst X 2 dX4_gets_142 (by decide) ?_
  refine pw_runi X (m_cV X (b := la0) (ci := 4) (q := (RX4, TX4, tyX4, 15)) (met_X4_ofCall G C.2.1 M2 la0 lx2 2 _ hw) ht5 rfl (lw_V q2053 q2055 qs44 q107 q2056) ⟨rfl, nh_X4_ofCall⟩ ⟨Nat.le_of_ble_eq_true rfl, Nat.le_of_ble_eq_true rfl⟩ rfl (Nat.le_of_ble_eq_true rfl) dX4_gets_143) (fun r8 M6 hle7 hx => ?_)
  replace hw := hx hle7
  clear hx
  have ht9 : m_tg M6 la0 = 5 := m_le_tg hle7 ht5
  refine pw_iconst X 3 dX4_gets_146 (by decide) ?_
  refine pw_isub X dX4_gets_147 ?_
  refine pw_icmp_lt X 183 dX4_gets_148 (by decide) (fun c10 => ?_) (fun c10 => ?_)
  · replace hw := hw.1 c10
    refine pw_aload_n X dX4_gets_183 rfl rfl ?_
    refine pw_iload_n X dX4_gets_184 rfl rfl ?_
    refine pw_iconst X 2 dX4_gets_185 (by decide) ?_
    refine pw_runi X (m_cV X (b := la0) (ci := 4) (q := (RX4, TX4, tyX4, 15)) (met_X4_ofPatrol G C.2.1 M6 la0 lx1 2 _ hw) ht9 rfl (lw_V q2069 q2071 qs48 q107 q2072) ⟨rfl, nh_X4_ofPatrol⟩ ⟨Nat.le_of_ble_eq_true rfl, Nat.le_of_ble_eq_true rfl⟩ rfl (Nat.le_of_ble_eq_true rfl) dX4_gets_186) (fun r13 M11 hle12 hx => ?_)
    replace hw := hx hle12
    clear hx
    have ht14 : m_tg M11 la0 = 5 := m_le_tg hle12 ht9
    refine pw_iconst X 1 dX4_gets_189 (by decide) ?_
    refine pw_icmp_ne X 217 dX4_gets_190 (by decide) (fun c15 => ?_) (fun c15 => ?_)
    · replace hw := hw.1 c15
      refine pw_lo [0, 1] rfl ?_
      exact bk_X4_gets_217 G C n0 s0 M0 Q X _ la0 lx1 hw
    · replace hw := hw.2 c15
      refine pw_aload_n X dX4_gets_193 rfl rfl ?_
      refine pw_iload_n X dX4_gets_194 rfl rfl ?_
      refine pw_iconst X 0 dX4_gets_195 (by decide) ?_
      refine pw_runi X (m_cV X (b := la0) (ci := 4) (q := (RX4, TX4, tyX4, 15)) (met_X4_ofPatrol G C.2.1 M11 la0 lx1 0 _ hw) ht14 rfl (lw_V q2069 q2071 qs48 q107 q2072) ⟨rfl, nh_X4_ofPatrol⟩ ⟨Nat.le_of_ble_eq_true rfl, Nat.le_of_ble_eq_true rfl⟩ rfl (Nat.le_of_ble_eq_true rfl) dX4_gets_196) (fun r18 M16 hle17 hx => ?_)
      replace hw := hx hle17
      clear hx
      have ht19 : m_tg M16 la0 = 5 := m_le_tg hle17 ht14
      refine pw_runi X (m_cS X (met_X4_region G C.2.1 M16 r18 _ hw) (lw_S q2153 q2154 q107 q2155) nh_X4_region ⟨Nat.le_of_ble_eq_true rfl, Nat.le_of_ble_eq_true rfl⟩ rfl (Nat.le_of_ble_eq_true rfl) dX4_gets_199) (fun r22 M20 hle21 hx => ?_)
      replace hw := hx hle21
      clear hx
      have ht23 : m_tg M20 la0 = 5 := m_le_tg hle21 ht19
      refine pw_iload_n X dX4_gets_202 rfl rfl ?_
      refine pw_runi X (m_cS X (met_X4_region G C.2.1 M20 lx3 _ hw) (lw_S q2153 q2154 q107 q2155) nh_X4_region ⟨Nat.le_of_ble_eq_true rfl, Nat.le_of_ble_eq_true rfl⟩ rfl (Nat.le_of_ble_eq_true rfl) dX4_gets_203) (fun r26 M24 hle25 hx => ?_)
      replace hw := hx hle25
      clear hx
      have ht27 : m_tg M24 la0 = 5 := m_le_tg hle25 ht23
      refine pw_icmp_ne X 217 dX4_gets_206 (by decide) (fun c28 => ?_) (fun c28 => ?_)
      · replace hw := hw.1 c28
        refine pw_lo [0, 1] rfl ?_
        exact bk_X4_gets_217 G C n0 s0 M0 Q X _ la0 lx1 hw
      · replace hw := hw.2 c28
        refine pw_aload_n X dX4_gets_209 rfl rfl ?_
        refine pw_iload_n X dX4_gets_210 rfl rfl ?_
        refine pw_runv X (m_cV X (b := la0) (ci := 4) (q := (RX4, TX4, tyX4, 15)) (met_X4_tows G C.2.1 M24 la0 lx1 _ hw) ht27 rfl (lw_V q2137 q2139 qs60 q107 q2140) ⟨rfl, nh_X4_tows⟩ ⟨Nat.le_of_ble_eq_true rfl, Nat.le_of_ble_eq_true rfl⟩ rfl (Nat.le_of_ble_eq_true rfl) dX4_gets_211) (fun M29 hle30 hx => ?_)
        replace hw := hx hle30
        clear hx
        have ht31 : m_tg M29 la0 = 5 := m_le_tg hle30 ht27
        refine pw_goto X 222 dX4_gets_214 (by decide) ?_
        exact pw_vret X hw dX4_gets_222
  · replace hw := hw.2 c10
    refine pw_aload_n X dX4_gets_151 rfl rfl ?_
    refine pw_iload_n X dX4_gets_152 rfl rfl ?_
    refine pw_iconst X 3 dX4_gets_153 (by decide) ?_
    refine pw_iconst X 2 dX4_gets_154 (by decide) ?_
    refine pw_runv X (m_cV X (b := la0) (ci := 4) (q := (RX4, TX4, tyX4, 15)) (met_X4_laysPatrol G C.2.1 M6 la0 lx1 3 2 _ hw) ht9 rfl (lw_V q2017 q2019 qs39 q107 q2020) ⟨rfl, nh_X4_laysPatrol⟩ ⟨Nat.le_of_ble_eq_true rfl, Nat.le_of_ble_eq_true rfl⟩ rfl (Nat.le_of_ble_eq_true rfl) dX4_gets_155) (fun M32 hle33 hx => ?_)
    replace hw := hx hle33
    clear hx
    have ht34 : m_tg M32 la0 = 5 := m_le_tg hle33 ht9
    refine pw_aload_n X dX4_gets_158 rfl rfl ?_
    refine pw_iload_n X dX4_gets_159 rfl rfl ?_
    refine pw_bipush X 6 dX4_gets_160 (by decide) ?_
    refine pw_iconst X 5 dX4_gets_162 (by decide) ?_
    refine pw_aload_n X dX4_gets_163 rfl rfl ?_
    refine pw_iload_n X dX4_gets_164 rfl rfl ?_
    refine pw_iconst X 2 dX4_gets_165 (by decide) ?_
    refine pw_runi X (m_cV X (b := la0) (ci := 4) (q := (RX4, TX4, tyX4, 15)) (met_X4_ofCall G C.2.1 M32 la0 lx2 2 _ hw) ht34 rfl (lw_V q2053 q2055 qs44 q107 q2056) ⟨rfl, nh_X4_ofCall⟩ ⟨Nat.le_of_ble_eq_true rfl, Nat.le_of_ble_eq_true rfl⟩ rfl (Nat.le_of_ble_eq_true rfl) dX4_gets_166) (fun r37 M35 hle36 hx => ?_)
    replace hw := hx hle36
    clear hx
    have ht38 : m_tg M35 la0 = 5 := m_le_tg hle36 ht34
    refine pw_imul X dX4_gets_169 ?_
    refine pw_runv X (m_cV X (b := la0) (ci := 4) (q := (RX4, TX4, tyX4, 15)) (met_X4_laysPatrol G C.2.1 M35 la0 lx1 6 (5 * r37) _ hw) ht38 rfl (lw_V q2017 q2019 qs39 q107 q2020) ⟨rfl, nh_X4_laysPatrol⟩ ⟨Nat.le_of_ble_eq_true rfl, Nat.le_of_ble_eq_true rfl⟩ rfl (Nat.le_of_ble_eq_true rfl) dX4_gets_170) (fun M39 hle40 hx => ?_)
    replace hw := hx hle40
    clear hx
    have ht41 : m_tg M39 la0 = 5 := m_le_tg hle40 ht38
    refine pw_aload_n X dX4_gets_173 rfl rfl ?_
    refine pw_iload_n X dX4_gets_174 rfl rfl ?_
    refine pw_iconst X 5 dX4_gets_175 (by decide) ?_
    refine pw_iconst X 2 dX4_gets_176 (by decide) ?_
    refine pw_runv X (m_cV X (b := la0) (ci := 4) (q := (RX4, TX4, tyX4, 15)) (met_X4_laysCall G C.2.1 M39 la0 lx2 5 2 _ hw) ht41 rfl (lw_V q2061 q2063 qs46 q107 q2064) ⟨rfl, nh_X4_laysCall⟩ ⟨Nat.le_of_ble_eq_true rfl, Nat.le_of_ble_eq_true rfl⟩ rfl (Nat.le_of_ble_eq_true rfl) dX4_gets_177) (fun M42 hle43 hx => ?_)
    replace hw := hx hle43
    clear hx
    have ht44 : m_tg M42 la0 = 5 := m_le_tg hle43 ht41
    refine pw_goto X 222 dX4_gets_180 (by decide) ?_
    exact pw_vret X hw dX4_gets_222
theorem bk_X4_gets_0 (G : Gp) (C : m_Cx) (n0 s0 : Nat) (M0 : Mem) (Q : Mem → Prop) (X : m_in G C RX4 cX4_gets 5 none "gets" 4 102 n0 s0) (M : Mem) (a0 : Nat) (x1 : Int32) (hw : wp_X4_gets G.2 M a0 x1 Q) : pW G C 5 n0 s0 M0 (m_Q G C n0 s0 (va_Qv (m_q0 M0 Q) (m_W G) (m_A G))) M 0 [(0, vR (some a0)), (1, vI x1)] [] := by
  refine pw_aload_n X dX4_gets_0 rfl rfl ?_
  refine pw_iload_n X dX4_gets_1 rfl rfl ?_
  refine pw_iconst X 5 dX4_gets_2 (by decide) ?_
  obtain ⟨ht1, hw⟩ := hw
  refine pw_runi X (m_cV X (b := a0) (ci := 4) (q := (RX4, TX4, tyX4, 15)) (met_X4_ofPatrol G C.2.1 M a0 x1 5 _ hw) ht1 rfl (lw_V q2069 q2071 qs48 q107 q2072) ⟨rfl, nh_X4_ofPatrol⟩ ⟨Nat.le_of_ble_eq_true rfl, Nat.le_of_ble_eq_true rfl⟩ rfl (Nat.le_of_ble_eq_true rfl) dX4_gets_3) (fun r4 M2 hle3 hx => ?_)
  replace hw := hx hle3
  clear hx
  have ht5 : m_tg M2 a0 = 5 := m_le_tg hle3 ht1
  refine pw_istore_n X [(0, vR (some a0)), (1, vI x1), (2, vI r4)] [1, 2, 0] dX4_gets_6 rfl (by decide) rfl ?_
  refine pw_aload_n X dX4_gets_7 rfl rfl ?_
  refine pw_iload_n X dX4_gets_8 rfl rfl ?_
  refine pw_iconst X 1 dX4_gets_9 (by decide) ?_
  refine pw_runi X (m_cV X (b := a0) (ci := 4) (q := (RX4, TX4, tyX4, 15)) (met_X4_ofCall G C.2.1 M2 a0 r4 1 _ hw) ht5 rfl (lw_V q2053 q2055 qs44 q107 q2056) ⟨rfl, nh_X4_ofCall⟩ ⟨Nat.le_of_ble_eq_true rfl, Nat.le_of_ble_eq_true rfl⟩ rfl (Nat.le_of_ble_eq_true rfl) dX4_gets_10) (fun r8 M6 hle7 hx => ?_)
  replace hw := hx hle7
  clear hx
  have ht9 : m_tg M6 a0 = 5 := m_le_tg hle7 ht5
  refine pw_istore_n X [(0, vR (some a0)), (1, vI x1), (2, vI r4), (3, vI r8)] [1, 2, 3, 0] dX4_gets_13 rfl (by decide) rfl ?_
  refine pw_aload_n X dX4_gets_14 rfl rfl ?_
  refine pw_iload_n X dX4_gets_15 rfl rfl ?_
  refine pw_iconst X 4 dX4_gets_16 (by decide) ?_
  refine pw_iload_n X dX4_gets_17 rfl rfl ?_
  refine pw_runv X (m_cV X (b := a0) (ci := 4) (q := (RX4, TX4, tyX4, 15)) (met_X4_laysPatrol G C.2.1 M6 a0 x1 4 r8 _ hw) ht9 rfl (lw_V q2017 q2019 qs39 q107 q2020) ⟨rfl, nh_X4_laysPatrol⟩ ⟨Nat.le_of_ble_eq_true rfl, Nat.le_of_ble_eq_true rfl⟩ rfl (Nat.le_of_ble_eq_true rfl) dX4_gets_18) (fun M10 hle11 hx => ?_)
  replace hw := hx hle11
  clear hx
  have ht12 : m_tg M10 a0 = 5 := m_le_tg hle11 ht9
  refine pw_aload_n X dX4_gets_21 rfl rfl ?_
  refine pw_iload_n X dX4_gets_22 rfl rfl ?_
  refine pw_iconst X 5 dX4_gets_23 (by decide) ?_
  refine pw_runi X (m_cV X (b := a0) (ci := 4) (q := (RX4, TX4, tyX4, 15)) (met_X4_ofCall G C.2.1 M10 a0 r4 5 _ hw) ht12 rfl (lw_V q2053 q2055 qs44 q107 q2056) ⟨rfl, nh_X4_ofCall⟩ ⟨Nat.le_of_ble_eq_true rfl, Nat.le_of_ble_eq_true rfl⟩ rfl (Nat.le_of_ble_eq_true rfl) dX4_gets_24) (fun r15 M13 hle14 hx => ?_)
  replace hw := hx hle14
  clear hx
  have ht16 : m_tg M13 a0 = 5 := m_le_tg hle14 ht12
  refine pw_iconst X 3 dX4_gets_27 (by decide) ?_
  refine pw_icmp_ne X 37 dX4_gets_28 (by decide) (fun c17 => ?_) (fun c17 => ?_)
  · replace hw := hw.1 c17
    refine pw_aload_n X dX4_gets_37 rfl rfl ?_
    obtain ⟨u18, he19, hw⟩ := hw
    refine pw_get X (q := (RX4, TX4, tyX4, 15)) (ci := 4) (k := 0) (ref := "PatrolDeskModel") (vR (some u18)) ht16 rfl (by decide) in_X4 q1946 (Or.inl rfl) (by rw [he19]; rfl) dX4_gets_38 ?_
    refine pw_iconst X 0 dX4_gets_41 (by decide) ?_
    obtain ⟨ht20, hw⟩ := hw
    obtain ⟨hi21, hw⟩ := hw
    refine pw_iald X ht20 hi21 dX4_gets_42 ?_
    refine pw_aload_n X dX4_gets_43 rfl rfl ?_
    refine pw_iload_n X dX4_gets_44 rfl rfl ?_
    refine pw_iconst X 4 dX4_gets_45 (by decide) ?_
    refine pw_runi X (m_cV X (b := a0) (ci := 4) (q := (RX4, TX4, tyX4, 15)) (met_X4_ofCall G C.2.1 M13 a0 r4 4 _ hw) ht16 rfl (lw_V q2053 q2055 qs44 q107 q2056) ⟨rfl, nh_X4_ofCall⟩ ⟨Nat.le_of_ble_eq_true rfl, Nat.le_of_ble_eq_true rfl⟩ rfl (Nat.le_of_ble_eq_true rfl) dX4_gets_46) (fun r24 M22 hle23 hx => ?_)
    replace hw := hx hle23
    clear hx
    have ht25 : m_tg M22 a0 = 5 := m_le_tg hle23 ht16
    have ht26 : m_tg M22 u18 = 101 := m_le_tg hle23 ht20
    refine pw_isub X dX4_gets_49 ?_
    refine pw_istore X [(0, vR (some a0)), (1, vI x1), (2, vI r4), (3, vI r8), (4, vI ((m_gi M13 u18 (Int32.toNatClampNeg 0)) - r24))] [1, 2, 3, 4, 0] dX4_gets_50 (by decide) rfl ?_
    refine pw_aload_n X dX4_gets_52 rfl rfl ?_
    refine pw_iload_n X dX4_gets_53 rfl rfl ?_
    refine pw_bipush X 8 dX4_gets_54 (by decide) ?_
    refine pw_iload_n X dX4_gets_56 rfl rfl ?_
    refine pw_runv X (m_cV X (b := a0) (ci := 4) (q := (RX4, TX4, tyX4, 15)) (met_X4_laysCall G C.2.1 M22 a0 r4 8 x1 _ hw) ht25 rfl (lw_V q2061 q2063 qs46 q107 q2064) ⟨rfl, nh_X4_laysCall⟩ ⟨Nat.le_of_ble_eq_true rfl, Nat.le_of_ble_eq_true rfl⟩ rfl (Nat.le_of_ble_eq_true rfl) dX4_gets_57) (fun M27 hle28 hx => ?_)
    replace hw := hx hle28
    clear hx
    have ht29 : m_tg M27 a0 = 5 := m_le_tg hle28 ht25
    have ht30 : m_tg M27 u18 = 101 := m_le_tg hle28 ht26
    refine pw_aload_n X dX4_gets_60 rfl rfl ?_
    refine pw_iload_n X dX4_gets_61 rfl rfl ?_
    refine pw_bipush X 7 dX4_gets_62 (by decide) ?_
    refine pw_iload X dX4_gets_64 rfl ?_
    refine pw_runv X (m_cV X (b := a0) (ci := 4) (q := (RX4, TX4, tyX4, 15)) (met_X4_laysCall G C.2.1 M27 a0 r4 7 ((m_gi M13 u18 (Int32.toNatClampNeg 0)) - r24) _ hw) ht29 rfl (lw_V q2061 q2063 qs46 q107 q2064) ⟨rfl, nh_X4_laysCall⟩ ⟨Nat.le_of_ble_eq_true rfl, Nat.le_of_ble_eq_true rfl⟩ rfl (Nat.le_of_ble_eq_true rfl) dX4_gets_66) (fun M31 hle32 hx => ?_)
    replace hw := hx hle32
    clear hx
    have ht33 : m_tg M31 a0 = 5 := m_le_tg hle32 ht29
    have ht34 : m_tg M31 u18 = 101 := m_le_tg hle32 ht30
    refine pw_aload_n X dX4_gets_69 rfl rfl ?_
    refine pw_iload_n X dX4_gets_70 rfl rfl ?_
    refine pw_bipush X 10 dX4_gets_71 (by decide) ?_
    refine pw_aload_n X dX4_gets_73 rfl rfl ?_
    refine pw_iload_n X dX4_gets_74 rfl rfl ?_
    refine pw_bipush X 10 dX4_gets_75 (by decide) ?_
    refine pw_runi X (m_cV X (b := a0) (ci := 4) (q := (RX4, TX4, tyX4, 15)) (met_X4_ofPatrol G C.2.1 M31 a0 x1 10 _ hw) ht33 rfl (lw_V q2069 q2071 qs48 q107 q2072) ⟨rfl, nh_X4_ofPatrol⟩ ⟨Nat.le_of_ble_eq_true rfl, Nat.le_of_ble_eq_true rfl⟩ rfl (Nat.le_of_ble_eq_true rfl) dX4_gets_77) (fun r37 M35 hle36 hx => ?_)
    replace hw := hx hle36
    clear hx
    have ht38 : m_tg M35 a0 = 5 := m_le_tg hle36 ht33
    have ht39 : m_tg M35 u18 = 101 := m_le_tg hle36 ht34
    refine pw_iload X dX4_gets_80 rfl ?_
    refine pw_iadd X dX4_gets_82 ?_
    refine pw_runv X (m_cV X (b := a0) (ci := 4) (q := (RX4, TX4, tyX4, 15)) (met_X4_laysPatrol G C.2.1 M35 a0 x1 10 (r37 + ((m_gi M13 u18 (Int32.toNatClampNeg 0)) - r24)) _ hw) ht38 rfl (lw_V q2017 q2019 qs39 q107 q2020) ⟨rfl, nh_X4_laysPatrol⟩ ⟨Nat.le_of_ble_eq_true rfl, Nat.le_of_ble_eq_true rfl⟩ rfl (Nat.le_of_ble_eq_true rfl) dX4_gets_83) (fun M40 hle41 hx => ?_)
    replace hw := hx hle41
    clear hx
    have ht42 : m_tg M40 a0 = 5 := m_le_tg hle41 ht38
    have ht43 : m_tg M40 u18 = 101 := m_le_tg hle41 ht39
    refine pw_iload X dX4_gets_86 rfl ?_
    refine pw_aload_n X dX4_gets_88 rfl rfl ?_
    refine pw_iload_n X dX4_gets_89 rfl rfl ?_
    refine pw_iconst X 3 dX4_gets_90 (by decide) ?_
    refine pw_runi X (m_cV X (b := a0) (ci := 4) (q := (RX4, TX4, tyX4, 15)) (met_X4_ofCall G C.2.1 M40 a0 r4 3 _ hw) ht42 rfl (lw_V q2053 q2055 qs44 q107 q2056) ⟨rfl, nh_X4_ofCall⟩ ⟨Nat.le_of_ble_eq_true rfl, Nat.le_of_ble_eq_true rfl⟩ rfl (Nat.le_of_ble_eq_true rfl) dX4_gets_91) (fun r46 M44 hle45 hx => ?_)
    replace hw := hx hle45
    clear hx
    have ht47 : m_tg M44 a0 = 5 := m_le_tg hle45 ht42
    have ht48 : m_tg M44 u18 = 101 := m_le_tg hle45 ht43
    refine pw_icmp_le X 134 dX4_gets_94 (by decide) (fun c49 => ?_) (fun c49 => ?_)
    · replace hw := hw.1 c49
      refine pw_lo [0, 1, 2, 3] rfl ?_
      exact bk_X4_gets_134 G C n0 s0 M0 Q X _ a0 x1 r4 r8 hw
    · replace hw := hw.2 c49
      refine pw_aload_n X dX4_gets_97 rfl rfl ?_
      refine pw_aload_n X dX4_gets_98 rfl rfl ?_
      refine pw_iload_n X dX4_gets_99 rfl rfl ?_
      refine pw_iconst X 0 dX4_gets_100 (by decide) ?_
      refine pw_runi X (m_cV X (b := a0) (ci := 4) (q := (RX4, TX4, tyX4, 15)) (met_X4_ofCall G C.2.1 M44 a0 r4 0 _ hw) ht47 rfl (lw_V q2053 q2055 qs44 q107 q2056) ⟨rfl, nh_X4_ofCall⟩ ⟨Nat.le_of_ble_eq_true rfl, Nat.le_of_ble_eq_true rfl⟩ rfl (Nat.le_of_ble_eq_true rfl) dX4_gets_101) (fun r52 M50 hle51 hx => ?_)
      replace hw := hx hle51
      clear hx
      have ht53 : m_tg M50 a0 = 5 := m_le_tg hle51 ht47
      have ht54 : m_tg M50 u18 = 101 := m_le_tg hle51 ht48
      refine pw_iconst X 1 dX4_gets_104 (by decide) ?_
      refine pw_bipush X (-15) dX4_gets_105 (by decide) ?_
      refine pw_runv X (m_cV X (b := a0) (ci := 4) (q := (RX4, TX4, tyX4, 15)) (met_X4_addsMember G C.2.1 M50 a0 r52 1 (-15) _ hw) ht53 rfl (lw_V q2073 q2075 qs49 q107 q2076) ⟨rfl, nh_X4_addsMember⟩ ⟨Nat.le_of_ble_eq_true rfl, Nat.le_of_ble_eq_true rfl⟩ rfl (Nat.le_of_ble_eq_true rfl) dX4_gets_107) (fun M55 hle56 hx => ?_)
      replace hw := hx hle56
      clear hx
      have ht57 : m_tg M55 a0 = 5 := m_le_tg hle56 ht53
      have ht58 : m_tg M55 u18 = 101 := m_le_tg hle56 ht54
      refine pw_aload_n X dX4_gets_110 rfl rfl ?_
      refine pw_aload_n X dX4_gets_111 rfl rfl ?_
      refine pw_iload_n X dX4_gets_112 rfl rfl ?_
      refine pw_iconst X 0 dX4_gets_113 (by decide) ?_
      refine pw_runi X (m_cV X (b := a0) (ci := 4) (q := (RX4, TX4, tyX4, 15)) (met_X4_ofCall G C.2.1 M55 a0 r4 0 _ hw) ht57 rfl (lw_V q2053 q2055 qs44 q107 q2056) ⟨rfl, nh_X4_ofCall⟩ ⟨Nat.le_of_ble_eq_true rfl, Nat.le_of_ble_eq_true rfl⟩ rfl (Nat.le_of_ble_eq_true rfl) dX4_gets_114) (fun r61 M59 hle60 hx => ?_)
      replace hw := hx hle60
      clear hx
      have ht62 : m_tg M59 a0 = 5 := m_le_tg hle60 ht57
      have ht63 : m_tg M59 u18 = 101 := m_le_tg hle60 ht58
      refine pw_iconst X 3 dX4_gets_117 (by decide) ?_
      refine pw_iconst X 1 dX4_gets_118 (by decide) ?_
      refine pw_runv X (m_cV X (b := a0) (ci := 4) (q := (RX4, TX4, tyX4, 15)) (met_X4_addsMember G C.2.1 M59 a0 r61 3 1 _ hw) ht62 rfl (lw_V q2073 q2075 qs49 q107 q2076) ⟨rfl, nh_X4_addsMember⟩ ⟨Nat.le_of_ble_eq_true rfl, Nat.le_of_ble_eq_true rfl⟩ rfl (Nat.le_of_ble_eq_true rfl) dX4_gets_119) (fun M64 hle65 hx => ?_)
      replace hw := hx hle65
      clear hx
      have ht66 : m_tg M64 a0 = 5 := m_le_tg hle65 ht62
      have ht67 : m_tg M64 u18 = 101 := m_le_tg hle65 ht63
      refine pw_aload_n X dX4_gets_122 rfl rfl ?_
      obtain ⟨u68, he69, hw⟩ := hw
      refine pw_get X (q := (RX4, TX4, tyX4, 15)) (ci := 4) (k := 0) (ref := "PatrolDeskModel") (vR (some u68)) ht66 rfl (by decide) in_X4 q1946 (Or.inl rfl) (by rw [he69]; rfl) dX4_gets_123 ?_
      refine pw_bipush X 11 dX4_gets_126 (by decide) ?_
      refine pw_dup2 X dX4_gets_128 ?_
      obtain ⟨ht70, hw⟩ := hw
      obtain ⟨hi71, hw⟩ := hw
      refine pw_iald X ht70 hi71 dX4_gets_129 ?_
      refine pw_bipush X 15 dX4_gets_130 (by decide) ?_
      refine pw_iadd X dX4_gets_132 ?_
      obtain ⟨hi72, hw⟩ := hw
      obtain ⟨M73, hM74⟩ : ∃ z : Mem, z = (m_pi M64 u68 (Int32.toNatClampNeg 11) ((m_gi M64 u68 (Int32.toNatClampNeg 11)) + 15)) := ⟨_, rfl⟩
      replace hw := hw M73 hM74
      have hle75 : m_le M64 M73 := by rw [hM74]; exact m_le_pi
      refine pw_iast X ht70 hi72 dX4_gets_133 ?_
      rw [← hM74]
      have ht76 : m_tg M73 a0 = 5 := m_le_tg hle75 ht66
      have ht77 : m_tg M73 u18 = 101 := m_le_tg hle75 ht67
      have ht78 : m_tg M73 u68 = 101 := m_le_tg hle75 ht70
      refine pw_lo [0, 1, 2, 3] rfl ?_
      exact bk_X4_gets_134 G C n0 s0 M0 Q X _ a0 x1 r4 r8 hw
  · replace hw := hw.2 c17
    refine pw_aload_n X dX4_gets_31 rfl rfl ?_
    refine pw_iload_n X dX4_gets_32 rfl rfl ?_
    refine pw_runv X (m_cV X (b := a0) (ci := 4) (q := (RX4, TX4, tyX4, 15)) (met_X4_tows G C.2.1 M13 a0 x1 _ hw) ht16 rfl (lw_V q2137 q2139 qs60 q107 q2140) ⟨rfl, nh_X4_tows⟩ ⟨Nat.le_of_ble_eq_true rfl, Nat.le_of_ble_eq_true rfl⟩ rfl (Nat.le_of_ble_eq_true rfl) dX4_gets_33) (fun M79 hle80 hx => ?_)
    replace hw := hx hle80
    clear hx
    have ht81 : m_tg M79 a0 = 5 := m_le_tg hle80 ht16
    exact pw_vret X hw dX4_gets_36
theorem met_X4_gets (G : Gp) (l : Launch) (M : Mem) (a0 : Nat) (x1 : Int32) (Q : Mem → Prop) (hw : wp_X4_gets G.2 M a0 x1 Q) : m_K G l yX4_gets cX4_gets 5 none 4 102 [vR (some a0), vI x1] M (va_Qv (m_q0 M Q) (m_W G) (m_A G)) := by
  refine m_met (by decide) (Nat.le_of_ble_eq_true rfl) (fun C e X => ?_)
  exact bk_X4_gets_0 G C _ _ M Q X M a0 x1 hw
theorem nh_X4_gets : m_nMH yX4_gets 1 := by decide +kernel

def wp_X4_repaired_b49 (g : Nat → Nat) (M : Mem) (la0 : Nat) (lx1 : Int32) (lx2 : Int32) (sx0 : Int32) (Q : Mem → Prop) : Prop := m_tg M la0 = 5 ∧ wp_X4_ofCall g M la0 lx2 0 (fun (r4 : Int32) (M2 : Mem) => m_le M M2 → wp_X4_addsMember g M2 la0 r4 1 sx0 (fun (M6 : Mem) => m_le M2 M6 → ∃ u9 : Nat, (m_gr M6 la0 0) = some u9 ∧ m_tg M6 u9 = 101 ∧ vp_in 10 (m_ln M6 u9) ∧ vp_in 10 (m_ln M6 u9) ∧ ∀ M14 : Mem, M14 = (m_pi M6 u9 (Int32.toNatClampNeg 10) ((m_gi M6 u9 (Int32.toNatClampNeg 10)) + sx0)) → wp_X4_laysCall g M14 la0 lx2 5 5 (fun (M19 : Mem) => m_le M14 M19 → wp_X4_laysCall g M19 la0 lx2 6 (-5) (fun (M23 : Mem) => m_le M19 M23 → ∃ u27 : Nat, (m_gr M23 la0 0) = some u27 ∧ m_tg M23 u27 = 101 ∧ vp_in 0 (m_ln M23 u27) ∧ wp_X4_laysCall g M23 la0 lx2 9 (m_gi M23 u27 (Int32.toNatClampNeg 0)) (fun (M31 : Mem) => m_le M23 M31 → wp_X4_ofPatrol g M31 la0 lx1 7 (fun (r38 : Int32) (M36 : Mem) => m_le M31 M36 → wp_X4_laysPatrol g M36 la0 lx1 7 (r38 + 1) (fun (M42 : Mem) => m_le M36 M42 → wp_X4_frees g M42 la0 lx1 (fun (M47 : Mem) => m_le M42 M47 → Q M47))))))))
def wp_X4_repaired (g : Nat → Nat) (M : Mem) (a0 : Nat) (x1 : Int32) (Q : Mem → Prop) : Prop := m_tg M a0 = 5 ∧ wp_X4_ofPatrol g M a0 x1 5 (fun (r4 : Int32) (M2 : Mem) => m_le M M2 → wp_X4_ofCall g M2 a0 r4 0 (fun (r8 : Int32) (M6 : Mem) => m_le M2 M6 → wp_X4_ofMember g M6 a0 r8 0 (fun (r12 : Int32) (M10 : Mem) => m_le M6 M10 → wp_X4_ofCall g M10 a0 r4 10 (fun (r16 : Int32) (M14 : Mem) => m_le M10 M14 → ((0 ≤ ((20 - (10 * r12)) - (5 * r16)) → wp_X4_repaired_b49 g M14 a0 x1 r4 ((20 - (10 * r12)) - (5 * r16)) Q) ∧ (¬ 0 ≤ ((20 - (10 * r12)) - (5 * r16)) → wp_X4_repaired_b49 g M14 a0 x1 r4 0 Q))))))
theorem bk_X4_repaired_49 (G : Gp) (C : m_Cx) (n0 s0 : Nat) (M0 : Mem) (Q : Mem → Prop) (X : m_in G C RX4 cX4_repaired 5 none "repaired" 2 44 n0 s0) (M : Mem) (la0 : Nat) (lx1 : Int32) (lx2 : Int32) (sx0 : Int32) (hw : wp_X4_repaired_b49 G.2 M la0 lx1 lx2 sx0 Q) : pW G C 5 n0 s0 M0 (m_Q G C n0 s0 (va_Qv (m_q0 M0 Q) (m_W G) (m_A G))) M 49 [(0, vR (some la0)), (1, vI lx1), (2, vI lx2)] [vI sx0] := by
  refine pw_istore X [(0, vR (some la0)), (1, vI lx1), (2, vI lx2), (4, vI sx0)] [1, 2, 3, 0] dX4_repaired_49 (by decide) rfl ?_
  refine pw_aload_n X dX4_repaired_51 rfl rfl ?_
  refine pw_aload_n X dX4_repaired_52 rfl rfl ?_
  refine pw_iload_n X dX4_repaired_53 rfl rfl ?_
  refine pw_iconst X 0 dX4_repaired_54 (by decide) ?_
  obtain ⟨ht1, hw⟩ := hw
  refine pw_runi X (m_cV X (b := la0) (ci := 4) (q := (RX4, TX4, tyX4, 15)) (met_X4_ofCall G C.2.1 M la0 lx2 0 _ hw) ht1 rfl (lw_V q2053 q2055 qs44 q107 q2056) ⟨rfl, nh_X4_ofCall⟩ ⟨Nat.le_of_ble_eq_true rfl, Nat.le_of_ble_eq_true rfl⟩ rfl (Nat.le_of_ble_eq_true rfl) dX4_repaired_55) (fun r4 M2 hle3 hx => ?_)
  replace hw := hx hle3
  clear hx
  have ht5 : m_tg M2 la0 = 5 := m_le_tg hle3 ht1
  refine pw_iconst X 1 dX4_repaired_58 (by decide) ?_
  refine pw_iload X dX4_repaired_59 rfl ?_
  refine pw_runv X (m_cV X (b := la0) (ci := 4) (q := (RX4, TX4, tyX4, 15)) (met_X4_addsMember G C.2.1 M2 la0 r4 1 sx0 _ hw) ht5 rfl (lw_V q2073 q2075 qs49 q107 q2076) ⟨rfl, nh_X4_addsMember⟩ ⟨Nat.le_of_ble_eq_true rfl, Nat.le_of_ble_eq_true rfl⟩ rfl (Nat.le_of_ble_eq_true rfl) dX4_repaired_61) (fun M6 hle7 hx => ?_)
  replace hw := hx hle7
  clear hx
  have ht8 : m_tg M6 la0 = 5 := m_le_tg hle7 ht5
  refine pw_aload_n X dX4_repaired_64 rfl rfl ?_
  obtain ⟨u9, he10, hw⟩ := hw
  refine pw_get X (q := (RX4, TX4, tyX4, 15)) (ci := 4) (k := 0) (ref := "PatrolDeskModel") (vR (some u9)) ht8 rfl (by decide) in_X4 q1946 (Or.inl rfl) (by rw [he10]; rfl) dX4_repaired_65 ?_
  refine pw_bipush X 10 dX4_repaired_68 (by decide) ?_
  refine pw_dup2 X dX4_repaired_70 ?_
  obtain ⟨ht11, hw⟩ := hw
  obtain ⟨hi12, hw⟩ := hw
  refine pw_iald X ht11 hi12 dX4_repaired_71 ?_
  refine pw_iload X dX4_repaired_72 rfl ?_
  refine pw_iadd X dX4_repaired_74 ?_
  obtain ⟨hi13, hw⟩ := hw
  obtain ⟨M14, hM15⟩ : ∃ z : Mem, z = (m_pi M6 u9 (Int32.toNatClampNeg 10) ((m_gi M6 u9 (Int32.toNatClampNeg 10)) + sx0)) := ⟨_, rfl⟩
  replace hw := hw M14 hM15
  have hle16 : m_le M6 M14 := by rw [hM15]; exact m_le_pi
  refine pw_iast X ht11 hi13 dX4_repaired_75 ?_
  rw [← hM15]
  have ht17 : m_tg M14 la0 = 5 := m_le_tg hle16 ht8
  have ht18 : m_tg M14 u9 = 101 := m_le_tg hle16 ht11
  refine pw_aload_n X dX4_repaired_76 rfl rfl ?_
  refine pw_iload_n X dX4_repaired_77 rfl rfl ?_
  refine pw_iconst X 5 dX4_repaired_78 (by decide) ?_
  refine pw_iconst X 5 dX4_repaired_79 (by decide) ?_
  refine pw_runv X (m_cV X (b := la0) (ci := 4) (q := (RX4, TX4, tyX4, 15)) (met_X4_laysCall G C.2.1 M14 la0 lx2 5 5 _ hw) ht17 rfl (lw_V q2061 q2063 qs46 q107 q2064) ⟨rfl, nh_X4_laysCall⟩ ⟨Nat.le_of_ble_eq_true rfl, Nat.le_of_ble_eq_true rfl⟩ rfl (Nat.le_of_ble_eq_true rfl) dX4_repaired_80) (fun M19 hle20 hx => ?_)
  replace hw := hx hle20
  clear hx
  have ht21 : m_tg M19 la0 = 5 := m_le_tg hle20 ht17
  have ht22 : m_tg M19 u9 = 101 := m_le_tg hle20 ht18
  refine pw_aload_n X dX4_repaired_83 rfl rfl ?_
  refine pw_iload_n X dX4_repaired_84 rfl rfl ?_
  refine pw_bipush X 6 dX4_repaired_85 (by decide) ?_
  refine pw_bipush X (-5) dX4_repaired_87 (by decide) ?_
  refine pw_runv X (m_cV X (b := la0) (ci := 4) (q := (RX4, TX4, tyX4, 15)) (met_X4_laysCall G C.2.1 M19 la0 lx2 6 (-5) _ hw) ht21 rfl (lw_V q2061 q2063 qs46 q107 q2064) ⟨rfl, nh_X4_laysCall⟩ ⟨Nat.le_of_ble_eq_true rfl, Nat.le_of_ble_eq_true rfl⟩ rfl (Nat.le_of_ble_eq_true rfl) dX4_repaired_89) (fun M23 hle24 hx => ?_)
  replace hw := hx hle24
  clear hx
  have ht25 : m_tg M23 la0 = 5 := m_le_tg hle24 ht21
  have ht26 : m_tg M23 u9 = 101 := m_le_tg hle24 ht22
  refine pw_aload_n X dX4_repaired_92 rfl rfl ?_
  refine pw_iload_n X dX4_repaired_93 rfl rfl ?_
  refine pw_bipush X 9 dX4_repaired_94 (by decide) ?_
  refine pw_aload_n X dX4_repaired_96 rfl rfl ?_
  obtain ⟨u27, he28, hw⟩ := hw
  refine pw_get X (q := (RX4, TX4, tyX4, 15)) (ci := 4) (k := 0) (ref := "PatrolDeskModel") (vR (some u27)) ht25 rfl (by decide) in_X4 q1946 (Or.inl rfl) (by rw [he28]; rfl) dX4_repaired_97 ?_
  refine pw_iconst X 0 dX4_repaired_100 (by decide) ?_
  obtain ⟨ht29, hw⟩ := hw
  obtain ⟨hi30, hw⟩ := hw
  refine pw_iald X ht29 hi30 dX4_repaired_101 ?_
  refine pw_runv X (m_cV X (b := la0) (ci := 4) (q := (RX4, TX4, tyX4, 15)) (met_X4_laysCall G C.2.1 M23 la0 lx2 9 (m_gi M23 u27 (Int32.toNatClampNeg 0)) _ hw) ht25 rfl (lw_V q2061 q2063 qs46 q107 q2064) ⟨rfl, nh_X4_laysCall⟩ ⟨Nat.le_of_ble_eq_true rfl, Nat.le_of_ble_eq_true rfl⟩ rfl (Nat.le_of_ble_eq_true rfl) dX4_repaired_102) (fun M31 hle32 hx => ?_)
  replace hw := hx hle32
  clear hx
  have ht33 : m_tg M31 la0 = 5 := m_le_tg hle32 ht25
  have ht34 : m_tg M31 u9 = 101 := m_le_tg hle32 ht26
  have ht35 : m_tg M31 u27 = 101 := m_le_tg hle32 ht29
  refine pw_aload_n X dX4_repaired_105 rfl rfl ?_
  refine pw_iload_n X dX4_repaired_106 rfl rfl ?_
  refine pw_bipush X 7 dX4_repaired_107 (by decide) ?_
  refine pw_aload_n X dX4_repaired_109 rfl rfl ?_
  refine pw_iload_n X dX4_repaired_110 rfl rfl ?_
  refine pw_bipush X 7 dX4_repaired_111 (by decide) ?_
  refine pw_runi X (m_cV X (b := la0) (ci := 4) (q := (RX4, TX4, tyX4, 15)) (met_X4_ofPatrol G C.2.1 M31 la0 lx1 7 _ hw) ht33 rfl (lw_V q2069 q2071 qs48 q107 q2072) ⟨rfl, nh_X4_ofPatrol⟩ ⟨Nat.le_of_ble_eq_true rfl, Nat.le_of_ble_eq_true rfl⟩ rfl (Nat.le_of_ble_eq_true rfl) dX4_repaired_113) (fun r38 M36 hle37 hx => ?_)
  replace hw := hx hle37
  clear hx
  have ht39 : m_tg M36 la0 = 5 := m_le_tg hle37 ht33
  have ht40 : m_tg M36 u9 = 101 := m_le_tg hle37 ht34
  have ht41 : m_tg M36 u27 = 101 := m_le_tg hle37 ht35
  refine pw_iconst X 1 dX4_repaired_116 (by decide) ?_
  refine pw_iadd X dX4_repaired_117 ?_
  refine pw_runv X (m_cV X (b := la0) (ci := 4) (q := (RX4, TX4, tyX4, 15)) (met_X4_laysPatrol G C.2.1 M36 la0 lx1 7 (r38 + 1) _ hw) ht39 rfl (lw_V q2017 q2019 qs39 q107 q2020) ⟨rfl, nh_X4_laysPatrol⟩ ⟨Nat.le_of_ble_eq_true rfl, Nat.le_of_ble_eq_true rfl⟩ rfl (Nat.le_of_ble_eq_true rfl) dX4_repaired_118) (fun M42 hle43 hx => ?_)
  replace hw := hx hle43
  clear hx
  have ht44 : m_tg M42 la0 = 5 := m_le_tg hle43 ht39
  have ht45 : m_tg M42 u9 = 101 := m_le_tg hle43 ht40
  have ht46 : m_tg M42 u27 = 101 := m_le_tg hle43 ht41
  refine pw_aload_n X dX4_repaired_121 rfl rfl ?_
  refine pw_iload_n X dX4_repaired_122 rfl rfl ?_
  refine pw_runv X (m_cV X (b := la0) (ci := 4) (q := (RX4, TX4, tyX4, 15)) (met_X4_frees G C.2.1 M42 la0 lx1 _ hw) ht44 rfl (lw_V q2021 q2023 qs40 q107 q2024) ⟨rfl, nh_X4_frees⟩ ⟨Nat.le_of_ble_eq_true rfl, Nat.le_of_ble_eq_true rfl⟩ rfl (Nat.le_of_ble_eq_true rfl) dX4_repaired_123) (fun M47 hle48 hx => ?_)
  replace hw := hx hle48
  clear hx
  have ht49 : m_tg M47 la0 = 5 := m_le_tg hle48 ht44
  have ht50 : m_tg M47 u9 = 101 := m_le_tg hle48 ht45
  have ht51 : m_tg M47 u27 = 101 := m_le_tg hle48 ht46
  exact pw_vret X hw dX4_repaired_126
theorem bk_X4_repaired_0 (G : Gp) (C : m_Cx) (n0 s0 : Nat) (M0 : Mem) (Q : Mem → Prop) (X : m_in G C RX4 cX4_repaired 5 none "repaired" 2 44 n0 s0) (M : Mem) (a0 : Nat) (x1 : Int32) (hw : wp_X4_repaired G.2 M a0 x1 Q) : pW G C 5 n0 s0 M0 (m_Q G C n0 s0 (va_Qv (m_q0 M0 Q) (m_W G) (m_A G))) M 0 [(0, vR (some a0)), (1, vI x1)] [] := by
  refine pw_aload_n X dX4_repaired_0 rfl rfl ?_
  refine pw_iload_n X dX4_repaired_1 rfl rfl ?_
  refine pw_iconst X 5 dX4_repaired_2 (by decide) ?_
  obtain ⟨ht1, hw⟩ := hw
  refine pw_runi X (m_cV X (b := a0) (ci := 4) (q := (RX4, TX4, tyX4, 15)) (met_X4_ofPatrol G C.2.1 M a0 x1 5 _ hw) ht1 rfl (lw_V q2069 q2071 qs48 q107 q2072) ⟨rfl, nh_X4_ofPatrol⟩ ⟨Nat.le_of_ble_eq_true rfl, Nat.le_of_ble_eq_true rfl⟩ rfl (Nat.le_of_ble_eq_true rfl) dX4_repaired_3) (fun r4 M2 hle3 hx => ?_)
  replace hw := hx hle3
  clear hx
  have ht5 : m_tg M2 a0 = 5 := m_le_tg hle3 ht1
  refine pw_istore_n X [(0, vR (some a0)), (1, vI x1), (2, vI r4)] [1, 2, 0] dX4_repaired_6 rfl (by decide) rfl ?_
  refine pw_aload_n X dX4_repaired_7 rfl rfl ?_
  refine pw_aload_n X dX4_repaired_8 rfl rfl ?_
  refine pw_iload_n X dX4_repaired_9 rfl rfl ?_
  refine pw_iconst X 0 dX4_repaired_10 (by decide) ?_
  refine pw_runi X (m_cV X (b := a0) (ci := 4) (q := (RX4, TX4, tyX4, 15)) (met_X4_ofCall G C.2.1 M2 a0 r4 0 _ hw) ht5 rfl (lw_V q2053 q2055 qs44 q107 q2056) ⟨rfl, nh_X4_ofCall⟩ ⟨Nat.le_of_ble_eq_true rfl, Nat.le_of_ble_eq_true rfl⟩ rfl (Nat.le_of_ble_eq_true rfl) dX4_repaired_11) (fun r8 M6 hle7 hx => ?_)
  replace hw := hx hle7
  clear hx
  have ht9 : m_tg M6 a0 = 5 := m_le_tg hle7 ht5
  refine pw_iconst X 0 dX4_repaired_14 (by decide) ?_
  refine pw_runi X (m_cV X (b := a0) (ci := 4) (q := (RX4, TX4, tyX4, 15)) (met_X4_ofMember G C.2.1 M6 a0 r8 0 _ hw) ht9 rfl (lw_V q2065 q2067 qs47 q107 q2068) ⟨rfl, nh_X4_ofMember⟩ ⟨Nat.le_of_ble_eq_true rfl, Nat.le_of_ble_eq_true rfl⟩ rfl (Nat.le_of_ble_eq_true rfl) dX4_repaired_15) (fun r12 M10 hle11 hx => ?_)
  replace hw := hx hle11
  clear hx
  have ht13 : m_tg M10 a0 = 5 := m_le_tg hle11 ht9
  refine pw_istore_n X [(0, vR (some a0)), (1, vI x1), (2, vI r4), (3, vI r12)] [1, 2, 3, 0] dX4_repaired_18 rfl (by decide) rfl ?_
  refine pw_bipush X 20 dX4_repaired_19 (by decide) ?_
  refine pw_bipush X 10 dX4_repaired_21 (by decide) ?_
  refine pw_iload_n X dX4_repaired_23 rfl rfl ?_
  refine pw_imul X dX4_repaired_24 ?_
  refine pw_isub X dX4_repaired_25 ?_
  refine pw_iconst X 5 dX4_repaired_26 (by decide) ?_
  refine pw_aload_n X dX4_repaired_27 rfl rfl ?_
  refine pw_iload_n X dX4_repaired_28 rfl rfl ?_
  refine pw_bipush X 10 dX4_repaired_29 (by decide) ?_
  refine pw_runi X (m_cV X (b := a0) (ci := 4) (q := (RX4, TX4, tyX4, 15)) (met_X4_ofCall G C.2.1 M10 a0 r4 10 _ hw) ht13 rfl (lw_V q2053 q2055 qs44 q107 q2056) ⟨rfl, nh_X4_ofCall⟩ ⟨Nat.le_of_ble_eq_true rfl, Nat.le_of_ble_eq_true rfl⟩ rfl (Nat.le_of_ble_eq_true rfl) dX4_repaired_31) (fun r16 M14 hle15 hx => ?_)
  replace hw := hx hle15
  clear hx
  have ht17 : m_tg M14 a0 = 5 := m_le_tg hle15 ht13
  refine pw_imul X dX4_repaired_34 ?_
  refine pw_isub X dX4_repaired_35 ?_
  refine pw_istore X [(0, vR (some a0)), (1, vI x1), (2, vI r4), (4, vI ((20 - (10 * r12)) - (5 * r16)))] [1, 2, 3, 0] dX4_repaired_36 (by decide) rfl ?_
  refine pw_iload X dX4_repaired_38 rfl ?_
  refine pw_if_ge X 47 dX4_repaired_40 (by decide) (fun c18 => ?_) (fun c18 => ?_)
  · replace hw := hw.1 c18
    refine pw_iload X dX4_repaired_47 rfl ?_
    refine pw_lo [0, 1, 2] rfl ?_
    exact bk_X4_repaired_49 G C n0 s0 M0 Q X _ a0 x1 r4 ((20 - (10 * r12)) - (5 * r16)) hw
  · replace hw := hw.2 c18
    refine pw_iconst X 0 dX4_repaired_43 (by decide) ?_
    refine pw_goto X 49 dX4_repaired_44 (by decide) ?_
    refine pw_lo [0, 1, 2] rfl ?_
    exact bk_X4_repaired_49 G C n0 s0 M0 Q X _ a0 x1 r4 0 hw
theorem met_X4_repaired (G : Gp) (l : Launch) (M : Mem) (a0 : Nat) (x1 : Int32) (Q : Mem → Prop) (hw : wp_X4_repaired G.2 M a0 x1 Q) : m_K G l yX4_repaired cX4_repaired 5 none 2 44 [vR (some a0), vI x1] M (va_Qv (m_q0 M Q) (m_W G) (m_A G)) := by
  refine m_met (by decide) (Nat.le_of_ble_eq_true rfl) (fun C e X => ?_)
  exact bk_X4_repaired_0 G C _ _ M Q X M a0 x1 hw
theorem nh_X4_repaired : m_nMH yX4_repaired 1 := by decide +kernel

def wp_X4_towed (g : Nat → Nat) (M : Mem) (a0 : Nat) (x1 : Int32) (Q : Mem → Prop) : Prop := m_tg M a0 = 5 ∧ wp_X4_ofPatrol g M a0 x1 5 (fun (r4 : Int32) (M2 : Mem) => m_le M M2 → wp_X4_ofPatrol g M2 a0 x1 13 (fun (r8 : Int32) (M6 : Mem) => m_le M2 M6 → wp_X4_ofPatrol g M6 a0 x1 12 (fun (r12 : Int32) (M10 : Mem) => m_le M6 M10 → wp_X4_laysPatrol g M10 a0 x1 4 r12 (fun (M14 : Mem) => m_le M10 M14 → wp_X4_ofPatrol g M14 a0 x1 8 (fun (r19 : Int32) (M17 : Mem) => m_le M14 M17 → wp_X4_laysPatrol g M17 a0 x1 8 (r19 + 1) (fun (M21 : Mem) => m_le M17 M21 → wp_X4_laysCall g M21 a0 r4 1 r12 (fun (M24 : Mem) => m_le M21 M24 → wp_X4_ofGarage g M24 a0 r8 0 (fun (r29 : Int32) (M27 : Mem) => m_le M24 M27 → ((r29 = r12 → ∃ u32 : Nat, (m_gr M27 a0 0) = some u32 ∧ m_tg M27 u32 = 101 ∧ vp_in ((270 + (4 * r8)) + 2) (m_ln M27 u32) ∧ vp_in ((270 + (4 * r8)) + 2) (m_ln M27 u32) ∧ ∀ M37 : Mem, M37 = (m_pi M27 u32 (Int32.toNatClampNeg ((270 + (4 * r8)) + 2)) ((m_gi M27 u32 (Int32.toNatClampNeg ((270 + (4 * r8)) + 2))) + 1)) → ∃ u42 : Nat, (m_gr M37 a0 0) = some u42 ∧ m_tg M37 u42 = 101 ∧ vp_in ((270 + (4 * r8)) + 3) (m_ln M37 u42) ∧ vp_in ((270 + (4 * r8)) + 3) (m_ln M37 u42) ∧ ∀ M47 : Mem, M47 = (m_pi M37 u42 (Int32.toNatClampNeg ((270 + (4 * r8)) + 3)) ((m_gi M37 u42 (Int32.toNatClampNeg ((270 + (4 * r8)) + 3))) + 1)) → wp_X4_laysCall g M47 a0 r4 5 6 (fun (M53 : Mem) => m_le M47 M53 → wp_X4_laysCall g M53 a0 r4 6 (-5) (fun (M58 : Mem) => m_le M53 M58 → ∃ u63 : Nat, (m_gr M58 a0 0) = some u63 ∧ m_tg M58 u63 = 101 ∧ vp_in 0 (m_ln M58 u63) ∧ wp_X4_laysCall g M58 a0 r4 9 (m_gi M58 u63 (Int32.toNatClampNeg 0)) (fun (M67 : Mem) => m_le M58 M67 → wp_X4_laysCall g M67 a0 r4 11 r8 (fun (M73 : Mem) => m_le M67 M73 → wp_X4_frees g M73 a0 x1 (fun (M79 : Mem) => m_le M73 M79 → Q M79)))))) ∧ (¬ r29 = r12 → wp_X4_leaves g M27 a0 x1 (fun (M85 : Mem) => m_le M27 M85 → Q M85)))))))))))
theorem bk_X4_towed_0 (G : Gp) (C : m_Cx) (n0 s0 : Nat) (M0 : Mem) (Q : Mem → Prop) (X : m_in G C RX4 cX4_towed 5 none "towed" 3 66 n0 s0) (M : Mem) (a0 : Nat) (x1 : Int32) (hw : wp_X4_towed G.2 M a0 x1 Q) : pW G C 5 n0 s0 M0 (m_Q G C n0 s0 (va_Qv (m_q0 M0 Q) (m_W G) (m_A G))) M 0 [(0, vR (some a0)), (1, vI x1)] [] := by
  refine pw_aload_n X dX4_towed_0 rfl rfl ?_
  refine pw_iload_n X dX4_towed_1 rfl rfl ?_
  refine pw_iconst X 5 dX4_towed_2 (by decide) ?_
  obtain ⟨ht1, hw⟩ := hw
  refine pw_runi X (m_cV X (b := a0) (ci := 4) (q := (RX4, TX4, tyX4, 15)) (met_X4_ofPatrol G C.2.1 M a0 x1 5 _ hw) ht1 rfl (lw_V q2069 q2071 qs48 q107 q2072) ⟨rfl, nh_X4_ofPatrol⟩ ⟨Nat.le_of_ble_eq_true rfl, Nat.le_of_ble_eq_true rfl⟩ rfl (Nat.le_of_ble_eq_true rfl) dX4_towed_3) (fun r4 M2 hle3 hx => ?_)
  replace hw := hx hle3
  clear hx
  have ht5 : m_tg M2 a0 = 5 := m_le_tg hle3 ht1
  refine pw_istore_n X [(0, vR (some a0)), (1, vI x1), (2, vI r4)] [1, 2, 0] dX4_towed_6 rfl (by decide) rfl ?_
  refine pw_aload_n X dX4_towed_7 rfl rfl ?_
  refine pw_iload_n X dX4_towed_8 rfl rfl ?_
  refine pw_bipush X 13 dX4_towed_9 (by decide) ?_
  refine pw_runi X (m_cV X (b := a0) (ci := 4) (q := (RX4, TX4, tyX4, 15)) (met_X4_ofPatrol G C.2.1 M2 a0 x1 13 _ hw) ht5 rfl (lw_V q2069 q2071 qs48 q107 q2072) ⟨rfl, nh_X4_ofPatrol⟩ ⟨Nat.le_of_ble_eq_true rfl, Nat.le_of_ble_eq_true rfl⟩ rfl (Nat.le_of_ble_eq_true rfl) dX4_towed_11) (fun r8 M6 hle7 hx => ?_)
  replace hw := hx hle7
  clear hx
  have ht9 : m_tg M6 a0 = 5 := m_le_tg hle7 ht5
  refine pw_istore_n X [(0, vR (some a0)), (1, vI x1), (2, vI r4), (3, vI r8)] [1, 2, 3, 0] dX4_towed_14 rfl (by decide) rfl ?_
  refine pw_aload_n X dX4_towed_15 rfl rfl ?_
  refine pw_iload_n X dX4_towed_16 rfl rfl ?_
  refine pw_bipush X 12 dX4_towed_17 (by decide) ?_
  refine pw_runi X (m_cV X (b := a0) (ci := 4) (q := (RX4, TX4, tyX4, 15)) (met_X4_ofPatrol G C.2.1 M6 a0 x1 12 _ hw) ht9 rfl (lw_V q2069 q2071 qs48 q107 q2072) ⟨rfl, nh_X4_ofPatrol⟩ ⟨Nat.le_of_ble_eq_true rfl, Nat.le_of_ble_eq_true rfl⟩ rfl (Nat.le_of_ble_eq_true rfl) dX4_towed_19) (fun r12 M10 hle11 hx => ?_)
  replace hw := hx hle11
  clear hx
  have ht13 : m_tg M10 a0 = 5 := m_le_tg hle11 ht9
  refine pw_istore X [(0, vR (some a0)), (1, vI x1), (2, vI r4), (3, vI r8), (4, vI r12)] [1, 2, 3, 4, 0] dX4_towed_22 (by decide) rfl ?_
  refine pw_aload_n X dX4_towed_24 rfl rfl ?_
  refine pw_iload_n X dX4_towed_25 rfl rfl ?_
  refine pw_iconst X 4 dX4_towed_26 (by decide) ?_
  refine pw_iload X dX4_towed_27 rfl ?_
  refine pw_runv X (m_cV X (b := a0) (ci := 4) (q := (RX4, TX4, tyX4, 15)) (met_X4_laysPatrol G C.2.1 M10 a0 x1 4 r12 _ hw) ht13 rfl (lw_V q2017 q2019 qs39 q107 q2020) ⟨rfl, nh_X4_laysPatrol⟩ ⟨Nat.le_of_ble_eq_true rfl, Nat.le_of_ble_eq_true rfl⟩ rfl (Nat.le_of_ble_eq_true rfl) dX4_towed_29) (fun M14 hle15 hx => ?_)
  replace hw := hx hle15
  clear hx
  have ht16 : m_tg M14 a0 = 5 := m_le_tg hle15 ht13
  refine pw_aload_n X dX4_towed_32 rfl rfl ?_
  refine pw_iload_n X dX4_towed_33 rfl rfl ?_
  refine pw_bipush X 8 dX4_towed_34 (by decide) ?_
  refine pw_aload_n X dX4_towed_36 rfl rfl ?_
  refine pw_iload_n X dX4_towed_37 rfl rfl ?_
  refine pw_bipush X 8 dX4_towed_38 (by decide) ?_
  refine pw_runi X (m_cV X (b := a0) (ci := 4) (q := (RX4, TX4, tyX4, 15)) (met_X4_ofPatrol G C.2.1 M14 a0 x1 8 _ hw) ht16 rfl (lw_V q2069 q2071 qs48 q107 q2072) ⟨rfl, nh_X4_ofPatrol⟩ ⟨Nat.le_of_ble_eq_true rfl, Nat.le_of_ble_eq_true rfl⟩ rfl (Nat.le_of_ble_eq_true rfl) dX4_towed_40) (fun r19 M17 hle18 hx => ?_)
  replace hw := hx hle18
  clear hx
  have ht20 : m_tg M17 a0 = 5 := m_le_tg hle18 ht16
  refine pw_iconst X 1 dX4_towed_43 (by decide) ?_
  refine pw_iadd X dX4_towed_44 ?_
  refine pw_runv X (m_cV X (b := a0) (ci := 4) (q := (RX4, TX4, tyX4, 15)) (met_X4_laysPatrol G C.2.1 M17 a0 x1 8 (r19 + 1) _ hw) ht20 rfl (lw_V q2017 q2019 qs39 q107 q2020) ⟨rfl, nh_X4_laysPatrol⟩ ⟨Nat.le_of_ble_eq_true rfl, Nat.le_of_ble_eq_true rfl⟩ rfl (Nat.le_of_ble_eq_true rfl) dX4_towed_45) (fun M21 hle22 hx => ?_)
  replace hw := hx hle22
  clear hx
  have ht23 : m_tg M21 a0 = 5 := m_le_tg hle22 ht20
  refine pw_aload_n X dX4_towed_48 rfl rfl ?_
  refine pw_iload_n X dX4_towed_49 rfl rfl ?_
  refine pw_iconst X 1 dX4_towed_50 (by decide) ?_
  refine pw_iload X dX4_towed_51 rfl ?_
  refine pw_runv X (m_cV X (b := a0) (ci := 4) (q := (RX4, TX4, tyX4, 15)) (met_X4_laysCall G C.2.1 M21 a0 r4 1 r12 _ hw) ht23 rfl (lw_V q2061 q2063 qs46 q107 q2064) ⟨rfl, nh_X4_laysCall⟩ ⟨Nat.le_of_ble_eq_true rfl, Nat.le_of_ble_eq_true rfl⟩ rfl (Nat.le_of_ble_eq_true rfl) dX4_towed_53) (fun M24 hle25 hx => ?_)
  replace hw := hx hle25
  clear hx
  have ht26 : m_tg M24 a0 = 5 := m_le_tg hle25 ht23
  refine pw_aload_n X dX4_towed_56 rfl rfl ?_
  refine pw_iload_n X dX4_towed_57 rfl rfl ?_
  refine pw_iconst X 0 dX4_towed_58 (by decide) ?_
  refine pw_runi X (m_cV X (b := a0) (ci := 4) (q := (RX4, TX4, tyX4, 15)) (met_X4_ofGarage G C.2.1 M24 a0 r8 0 _ hw) ht26 rfl (lw_V q2117 q2119 qs56 q107 q2120) ⟨rfl, nh_X4_ofGarage⟩ ⟨Nat.le_of_ble_eq_true rfl, Nat.le_of_ble_eq_true rfl⟩ rfl (Nat.le_of_ble_eq_true rfl) dX4_towed_59) (fun r29 M27 hle28 hx => ?_)
  replace hw := hx hle28
  clear hx
  have ht30 : m_tg M27 a0 = 5 := m_le_tg hle28 ht26
  refine pw_iload X dX4_towed_62 rfl ?_
  refine pw_icmp_eq X 73 dX4_towed_64 (by decide) (fun c31 => ?_) (fun c31 => ?_)
  · replace hw := hw.1 c31
    refine pw_aload_n X dX4_towed_73 rfl rfl ?_
    obtain ⟨u32, he33, hw⟩ := hw
    refine pw_get X (q := (RX4, TX4, tyX4, 15)) (ci := 4) (k := 0) (ref := "PatrolDeskModel") (vR (some u32)) ht30 rfl (by decide) in_X4 q1946 (Or.inl rfl) (by rw [he33]; rfl) dX4_towed_74 ?_
    refine pw_sipush X 270 dX4_towed_77 (by decide) ?_
    refine pw_iconst X 4 dX4_towed_80 (by decide) ?_
    refine pw_iload_n X dX4_towed_81 rfl rfl ?_
    refine pw_imul X dX4_towed_82 ?_
    refine pw_iadd X dX4_towed_83 ?_
    refine pw_iconst X 2 dX4_towed_84 (by decide) ?_
    refine pw_iadd X dX4_towed_85 ?_
    refine pw_dup2 X dX4_towed_86 ?_
    obtain ⟨ht34, hw⟩ := hw
    obtain ⟨hi35, hw⟩ := hw
    refine pw_iald X ht34 hi35 dX4_towed_87 ?_
    refine pw_iconst X 1 dX4_towed_88 (by decide) ?_
    refine pw_iadd X dX4_towed_89 ?_
    obtain ⟨hi36, hw⟩ := hw
    obtain ⟨M37, hM38⟩ : ∃ z : Mem, z = (m_pi M27 u32 (Int32.toNatClampNeg ((270 + (4 * r8)) + 2)) ((m_gi M27 u32 (Int32.toNatClampNeg ((270 + (4 * r8)) + 2))) + 1)) := ⟨_, rfl⟩
    replace hw := hw M37 hM38
    have hle39 : m_le M27 M37 := by rw [hM38]; exact m_le_pi
    refine pw_iast X ht34 hi36 dX4_towed_90 ?_
    rw [← hM38]
    have ht40 : m_tg M37 a0 = 5 := m_le_tg hle39 ht30
    have ht41 : m_tg M37 u32 = 101 := m_le_tg hle39 ht34
    refine pw_aload_n X dX4_towed_91 rfl rfl ?_
    obtain ⟨u42, he43, hw⟩ := hw
    refine pw_get X (q := (RX4, TX4, tyX4, 15)) (ci := 4) (k := 0) (ref := "PatrolDeskModel") (vR (some u42)) ht40 rfl (by decide) in_X4 q1946 (Or.inl rfl) (by rw [he43]; rfl) dX4_towed_92 ?_
    refine pw_sipush X 270 dX4_towed_95 (by decide) ?_
    refine pw_iconst X 4 dX4_towed_98 (by decide) ?_
    refine pw_iload_n X dX4_towed_99 rfl rfl ?_
    refine pw_imul X dX4_towed_100 ?_
    refine pw_iadd X dX4_towed_101 ?_
    refine pw_iconst X 3 dX4_towed_102 (by decide) ?_
    refine pw_iadd X dX4_towed_103 ?_
    refine pw_dup2 X dX4_towed_104 ?_
    obtain ⟨ht44, hw⟩ := hw
    obtain ⟨hi45, hw⟩ := hw
    refine pw_iald X ht44 hi45 dX4_towed_105 ?_
    refine pw_iconst X 1 dX4_towed_106 (by decide) ?_
    refine pw_iadd X dX4_towed_107 ?_
    obtain ⟨hi46, hw⟩ := hw
    obtain ⟨M47, hM48⟩ : ∃ z : Mem, z = (m_pi M37 u42 (Int32.toNatClampNeg ((270 + (4 * r8)) + 3)) ((m_gi M37 u42 (Int32.toNatClampNeg ((270 + (4 * r8)) + 3))) + 1)) := ⟨_, rfl⟩
    replace hw := hw M47 hM48
    have hle49 : m_le M37 M47 := by rw [hM48]; exact m_le_pi
    refine pw_iast X ht44 hi46 dX4_towed_108 ?_
    rw [← hM48]
    have ht50 : m_tg M47 a0 = 5 := m_le_tg hle49 ht40
    have ht51 : m_tg M47 u32 = 101 := m_le_tg hle49 ht41
    have ht52 : m_tg M47 u42 = 101 := m_le_tg hle49 ht44
    refine pw_aload_n X dX4_towed_109 rfl rfl ?_
    refine pw_iload_n X dX4_towed_110 rfl rfl ?_
    refine pw_iconst X 5 dX4_towed_111 (by decide) ?_
    refine pw_bipush X 6 dX4_towed_112 (by decide) ?_
    refine pw_runv X (m_cV X (b := a0) (ci := 4) (q := (RX4, TX4, tyX4, 15)) (met_X4_laysCall G C.2.1 M47 a0 r4 5 6 _ hw) ht50 rfl (lw_V q2061 q2063 qs46 q107 q2064) ⟨rfl, nh_X4_laysCall⟩ ⟨Nat.le_of_ble_eq_true rfl, Nat.le_of_ble_eq_true rfl⟩ rfl (Nat.le_of_ble_eq_true rfl) dX4_towed_114) (fun M53 hle54 hx => ?_)
    replace hw := hx hle54
    clear hx
    have ht55 : m_tg M53 a0 = 5 := m_le_tg hle54 ht50
    have ht56 : m_tg M53 u32 = 101 := m_le_tg hle54 ht51
    have ht57 : m_tg M53 u42 = 101 := m_le_tg hle54 ht52
    refine pw_aload_n X dX4_towed_117 rfl rfl ?_
    refine pw_iload_n X dX4_towed_118 rfl rfl ?_
    refine pw_bipush X 6 dX4_towed_119 (by decide) ?_
    refine pw_bipush X (-5) dX4_towed_121 (by decide) ?_
    refine pw_runv X (m_cV X (b := a0) (ci := 4) (q := (RX4, TX4, tyX4, 15)) (met_X4_laysCall G C.2.1 M53 a0 r4 6 (-5) _ hw) ht55 rfl (lw_V q2061 q2063 qs46 q107 q2064) ⟨rfl, nh_X4_laysCall⟩ ⟨Nat.le_of_ble_eq_true rfl, Nat.le_of_ble_eq_true rfl⟩ rfl (Nat.le_of_ble_eq_true rfl) dX4_towed_123) (fun M58 hle59 hx => ?_)
    replace hw := hx hle59
    clear hx
    have ht60 : m_tg M58 a0 = 5 := m_le_tg hle59 ht55
    have ht61 : m_tg M58 u32 = 101 := m_le_tg hle59 ht56
    have ht62 : m_tg M58 u42 = 101 := m_le_tg hle59 ht57
    refine pw_aload_n X dX4_towed_126 rfl rfl ?_
    refine pw_iload_n X dX4_towed_127 rfl rfl ?_
    refine pw_bipush X 9 dX4_towed_128 (by decide) ?_
    refine pw_aload_n X dX4_towed_130 rfl rfl ?_
    obtain ⟨u63, he64, hw⟩ := hw
    refine pw_get X (q := (RX4, TX4, tyX4, 15)) (ci := 4) (k := 0) (ref := "PatrolDeskModel") (vR (some u63)) ht60 rfl (by decide) in_X4 q1946 (Or.inl rfl) (by rw [he64]; rfl) dX4_towed_131 ?_
    refine pw_iconst X 0 dX4_towed_134 (by decide) ?_
    obtain ⟨ht65, hw⟩ := hw
    obtain ⟨hi66, hw⟩ := hw
    refine pw_iald X ht65 hi66 dX4_towed_135 ?_
    refine pw_runv X (m_cV X (b := a0) (ci := 4) (q := (RX4, TX4, tyX4, 15)) (met_X4_laysCall G C.2.1 M58 a0 r4 9 (m_gi M58 u63 (Int32.toNatClampNeg 0)) _ hw) ht60 rfl (lw_V q2061 q2063 qs46 q107 q2064) ⟨rfl, nh_X4_laysCall⟩ ⟨Nat.le_of_ble_eq_true rfl, Nat.le_of_ble_eq_true rfl⟩ rfl (Nat.le_of_ble_eq_true rfl) dX4_towed_136) (fun M67 hle68 hx => ?_)
    replace hw := hx hle68
    clear hx
    have ht69 : m_tg M67 a0 = 5 := m_le_tg hle68 ht60
    have ht70 : m_tg M67 u32 = 101 := m_le_tg hle68 ht61
    have ht71 : m_tg M67 u42 = 101 := m_le_tg hle68 ht62
    have ht72 : m_tg M67 u63 = 101 := m_le_tg hle68 ht65
    refine pw_aload_n X dX4_towed_139 rfl rfl ?_
    refine pw_iload_n X dX4_towed_140 rfl rfl ?_
    refine pw_bipush X 11 dX4_towed_141 (by decide) ?_
    refine pw_iload_n X dX4_towed_143 rfl rfl ?_
    refine pw_runv X (m_cV X (b := a0) (ci := 4) (q := (RX4, TX4, tyX4, 15)) (met_X4_laysCall G C.2.1 M67 a0 r4 11 r8 _ hw) ht69 rfl (lw_V q2061 q2063 qs46 q107 q2064) ⟨rfl, nh_X4_laysCall⟩ ⟨Nat.le_of_ble_eq_true rfl, Nat.le_of_ble_eq_true rfl⟩ rfl (Nat.le_of_ble_eq_true rfl) dX4_towed_144) (fun M73 hle74 hx => ?_)
    replace hw := hx hle74
    clear hx
    have ht75 : m_tg M73 a0 = 5 := m_le_tg hle74 ht69
    have ht76 : m_tg M73 u32 = 101 := m_le_tg hle74 ht70
    have ht77 : m_tg M73 u42 = 101 := m_le_tg hle74 ht71
    have ht78 : m_tg M73 u63 = 101 := m_le_tg hle74 ht72
    refine pw_aload_n X dX4_towed_147 rfl rfl ?_
    refine pw_iload_n X dX4_towed_148 rfl rfl ?_
    refine pw_runv X (m_cV X (b := a0) (ci := 4) (q := (RX4, TX4, tyX4, 15)) (met_X4_frees G C.2.1 M73 a0 x1 _ hw) ht75 rfl (lw_V q2021 q2023 qs40 q107 q2024) ⟨rfl, nh_X4_frees⟩ ⟨Nat.le_of_ble_eq_true rfl, Nat.le_of_ble_eq_true rfl⟩ rfl (Nat.le_of_ble_eq_true rfl) dX4_towed_149) (fun M79 hle80 hx => ?_)
    replace hw := hx hle80
    clear hx
    have ht81 : m_tg M79 a0 = 5 := m_le_tg hle80 ht75
    have ht82 : m_tg M79 u32 = 101 := m_le_tg hle80 ht76
    have ht83 : m_tg M79 u42 = 101 := m_le_tg hle80 ht77
    have ht84 : m_tg M79 u63 = 101 := m_le_tg hle80 ht78
    exact pw_vret X hw dX4_towed_152
  · replace hw := hw.2 c31
    refine pw_aload_n X dX4_towed_67 rfl rfl ?_
    refine pw_iload_n X dX4_towed_68 rfl rfl ?_
    refine pw_runv X (m_cV X (b := a0) (ci := 4) (q := (RX4, TX4, tyX4, 15)) (met_X4_leaves G C.2.1 M27 a0 x1 _ hw) ht30 rfl (lw_V q2149 q2151 qs63 q107 q2152) ⟨rfl, nh_X4_leaves⟩ ⟨Nat.le_of_ble_eq_true rfl, Nat.le_of_ble_eq_true rfl⟩ rfl (Nat.le_of_ble_eq_true rfl) dX4_towed_69) (fun M85 hle86 hx => ?_)
    replace hw := hx hle86
    clear hx
    have ht87 : m_tg M85 a0 = 5 := m_le_tg hle86 ht30
    exact pw_vret X hw dX4_towed_72
theorem met_X4_towed (G : Gp) (l : Launch) (M : Mem) (a0 : Nat) (x1 : Int32) (Q : Mem → Prop) (hw : wp_X4_towed G.2 M a0 x1 Q) : m_K G l yX4_towed cX4_towed 5 none 3 66 [vR (some a0), vI x1] M (va_Qv (m_q0 M Q) (m_W G) (m_A G)) := by
  refine m_met (by decide) (Nat.le_of_ble_eq_true rfl) (fun C e X => ?_)
  exact bk_X4_towed_0 G C _ _ M Q X M a0 x1 hw
theorem nh_X4_towed : m_nMH yX4_towed 1 := by decide +kernel

def wp_X4_waits (g : Nat → Nat) (M : Mem) (a0 : Nat) (x1 : Int32) (Q : Int32 → Mem → Prop) : Prop := m_tg M a0 = 5 ∧ wp_X4_ofCall g M a0 x1 5 (fun (r4 : Int32) (M2 : Mem) => m_le M M2 → ((r4 = 0 → Q 1 M2) ∧ (¬ r4 = 0 → wp_X4_ofCall g M2 a0 x1 5 (fun (r9 : Int32) (M7 : Mem) => m_le M2 M7 → ((¬ r9 = 3 → Q 0 M7) ∧ (r9 = 3 → wp_X4_ofCall g M7 a0 x1 6 (fun (r14 : Int32) (M12 : Mem) => m_le M7 M12 → ((¬ r14 = (-5) → Q 0 M12) ∧ (r14 = (-5) → Q 1 M12)))))))))
theorem bk_X4_waits_0 (G : Gp) (C : m_Cx) (n0 s0 : Nat) (M0 : Mem) (Q : Int32 → Mem → Prop) (X : m_in G C RX4 cX4_waits 2 (some .boolean) "waits" 1 22 n0 s0) (M : Mem) (a0 : Nat) (x1 : Int32) (hw : wp_X4_waits G.2 M a0 x1 Q) : pW G C 2 n0 s0 M0 (m_Q G C n0 s0 (va_Qi (m_q1 M0 Q) (m_W G) (m_A G))) M 0 [(0, vR (some a0)), (1, vI x1)] [] := by
  refine pw_aload_n X dX4_waits_0 rfl rfl ?_
  refine pw_iload_n X dX4_waits_1 rfl rfl ?_
  refine pw_iconst X 5 dX4_waits_2 (by decide) ?_
  obtain ⟨ht1, hw⟩ := hw
  refine pw_runi X (m_cV X (b := a0) (ci := 4) (q := (RX4, TX4, tyX4, 15)) (met_X4_ofCall G C.2.1 M a0 x1 5 _ hw) ht1 rfl (lw_V q2053 q2055 qs44 q107 q2056) ⟨rfl, nh_X4_ofCall⟩ ⟨Nat.le_of_ble_eq_true rfl, Nat.le_of_ble_eq_true rfl⟩ rfl (Nat.le_of_ble_eq_true rfl) dX4_waits_3) (fun r4 M2 hle3 hx => ?_)
  replace hw := hx hle3
  clear hx
  have ht5 : m_tg M2 a0 = 5 := m_le_tg hle3 ht1
  refine pw_if_eq X 31 dX4_waits_6 (by decide) (fun c6 => ?_) (fun c6 => ?_)
  · replace hw := hw.1 c6
    refine pw_iconst X 1 dX4_waits_31 (by decide) ?_
    refine pw_goto X 36 dX4_waits_32 (by decide) ?_
    exact pw_zret X (by decide) hw dX4_waits_36
  · replace hw := hw.2 c6
    refine pw_aload_n X dX4_waits_9 rfl rfl ?_
    refine pw_iload_n X dX4_waits_10 rfl rfl ?_
    refine pw_iconst X 5 dX4_waits_11 (by decide) ?_
    refine pw_runi X (m_cV X (b := a0) (ci := 4) (q := (RX4, TX4, tyX4, 15)) (met_X4_ofCall G C.2.1 M2 a0 x1 5 _ hw) ht5 rfl (lw_V q2053 q2055 qs44 q107 q2056) ⟨rfl, nh_X4_ofCall⟩ ⟨Nat.le_of_ble_eq_true rfl, Nat.le_of_ble_eq_true rfl⟩ rfl (Nat.le_of_ble_eq_true rfl) dX4_waits_12) (fun r9 M7 hle8 hx => ?_)
    replace hw := hx hle8
    clear hx
    have ht10 : m_tg M7 a0 = 5 := m_le_tg hle8 ht5
    refine pw_iconst X 3 dX4_waits_15 (by decide) ?_
    refine pw_icmp_ne X 35 dX4_waits_16 (by decide) (fun c11 => ?_) (fun c11 => ?_)
    · replace hw := hw.1 c11
      refine pw_iconst X 0 dX4_waits_35 (by decide) ?_
      exact pw_zret X (by decide) hw dX4_waits_36
    · replace hw := hw.2 c11
      refine pw_aload_n X dX4_waits_19 rfl rfl ?_
      refine pw_iload_n X dX4_waits_20 rfl rfl ?_
      refine pw_bipush X 6 dX4_waits_21 (by decide) ?_
      refine pw_runi X (m_cV X (b := a0) (ci := 4) (q := (RX4, TX4, tyX4, 15)) (met_X4_ofCall G C.2.1 M7 a0 x1 6 _ hw) ht10 rfl (lw_V q2053 q2055 qs44 q107 q2056) ⟨rfl, nh_X4_ofCall⟩ ⟨Nat.le_of_ble_eq_true rfl, Nat.le_of_ble_eq_true rfl⟩ rfl (Nat.le_of_ble_eq_true rfl) dX4_waits_23) (fun r14 M12 hle13 hx => ?_)
      replace hw := hx hle13
      clear hx
      have ht15 : m_tg M12 a0 = 5 := m_le_tg hle13 ht10
      refine pw_bipush X (-5) dX4_waits_26 (by decide) ?_
      refine pw_icmp_ne X 35 dX4_waits_28 (by decide) (fun c16 => ?_) (fun c16 => ?_)
      · replace hw := hw.1 c16
        refine pw_iconst X 0 dX4_waits_35 (by decide) ?_
        exact pw_zret X (by decide) hw dX4_waits_36
      · replace hw := hw.2 c16
        refine pw_iconst X 1 dX4_waits_31 (by decide) ?_
        refine pw_goto X 36 dX4_waits_32 (by decide) ?_
        exact pw_zret X (by decide) hw dX4_waits_36
theorem met_X4_waits (G : Gp) (l : Launch) (M : Mem) (a0 : Nat) (x1 : Int32) (Q : Int32 → Mem → Prop) (hw : wp_X4_waits G.2 M a0 x1 Q) : m_K G l yX4_waits cX4_waits 2 (some .boolean) 1 22 [vR (some a0), vI x1] M (va_Qi (m_q1 M Q) (m_W G) (m_A G)) := by
  refine m_met (by decide) (Nat.le_of_ble_eq_true rfl) (fun C e X => ?_)
  exact bk_X4_waits_0 G C _ _ M Q X M a0 x1 hw
theorem nh_X4_waits : m_nMH yX4_waits 1 := by decide +kernel

def wp_X4_rest (g : Nat → Nat) (M : Mem) (a0 : Nat) (x1 : Int32) (Q : Int32 → Mem → Prop) : Prop := m_tg M a0 = 5 ∧ wp_X4_ofCall g M a0 x1 3 (fun (r4 : Int32) (M2 : Mem) => m_le M M2 → ∃ u6 : Nat, (m_gr M2 a0 0) = some u6 ∧ m_tg M2 u6 = 101 ∧ vp_in 0 (m_ln M2 u6) ∧ wp_X4_ofCall g M2 a0 x1 4 (fun (r12 : Int32) (M10 : Mem) => m_le M2 M10 → Q (r4 - ((m_gi M2 u6 (Int32.toNatClampNeg 0)) - r12)) M10))
theorem bk_X4_rest_0 (G : Gp) (C : m_Cx) (n0 s0 : Nat) (M0 : Mem) (Q : Int32 → Mem → Prop) (X : m_in G C RX4 cX4_rest 2 (some .int) "rest" 1 22 n0 s0) (M : Mem) (a0 : Nat) (x1 : Int32) (hw : wp_X4_rest G.2 M a0 x1 Q) : pW G C 2 n0 s0 M0 (m_Q G C n0 s0 (va_Qi (m_q1 M0 Q) (m_W G) (m_A G))) M 0 [(0, vR (some a0)), (1, vI x1)] [] := by
  refine pw_aload_n X dX4_rest_0 rfl rfl ?_
  refine pw_iload_n X dX4_rest_1 rfl rfl ?_
  refine pw_iconst X 3 dX4_rest_2 (by decide) ?_
  obtain ⟨ht1, hw⟩ := hw
  refine pw_runi X (m_cV X (b := a0) (ci := 4) (q := (RX4, TX4, tyX4, 15)) (met_X4_ofCall G C.2.1 M a0 x1 3 _ hw) ht1 rfl (lw_V q2053 q2055 qs44 q107 q2056) ⟨rfl, nh_X4_ofCall⟩ ⟨Nat.le_of_ble_eq_true rfl, Nat.le_of_ble_eq_true rfl⟩ rfl (Nat.le_of_ble_eq_true rfl) dX4_rest_3) (fun r4 M2 hle3 hx => ?_)
  replace hw := hx hle3
  clear hx
  have ht5 : m_tg M2 a0 = 5 := m_le_tg hle3 ht1
  refine pw_aload_n X dX4_rest_6 rfl rfl ?_
  obtain ⟨u6, he7, hw⟩ := hw
  refine pw_get X (q := (RX4, TX4, tyX4, 15)) (ci := 4) (k := 0) (ref := "PatrolDeskModel") (vR (some u6)) ht5 rfl (by decide) in_X4 q1946 (Or.inl rfl) (by rw [he7]; rfl) dX4_rest_7 ?_
  refine pw_iconst X 0 dX4_rest_10 (by decide) ?_
  obtain ⟨ht8, hw⟩ := hw
  obtain ⟨hi9, hw⟩ := hw
  refine pw_iald X ht8 hi9 dX4_rest_11 ?_
  refine pw_aload_n X dX4_rest_12 rfl rfl ?_
  refine pw_iload_n X dX4_rest_13 rfl rfl ?_
  refine pw_iconst X 4 dX4_rest_14 (by decide) ?_
  refine pw_runi X (m_cV X (b := a0) (ci := 4) (q := (RX4, TX4, tyX4, 15)) (met_X4_ofCall G C.2.1 M2 a0 x1 4 _ hw) ht5 rfl (lw_V q2053 q2055 qs44 q107 q2056) ⟨rfl, nh_X4_ofCall⟩ ⟨Nat.le_of_ble_eq_true rfl, Nat.le_of_ble_eq_true rfl⟩ rfl (Nat.le_of_ble_eq_true rfl) dX4_rest_15) (fun r12 M10 hle11 hx => ?_)
  replace hw := hx hle11
  clear hx
  have ht13 : m_tg M10 a0 = 5 := m_le_tg hle11 ht5
  have ht14 : m_tg M10 u6 = 101 := m_le_tg hle11 ht8
  refine pw_isub X dX4_rest_18 ?_
  refine pw_isub X dX4_rest_19 ?_
  exact pw_iret X hw dX4_rest_20
theorem met_X4_rest (G : Gp) (l : Launch) (M : Mem) (a0 : Nat) (x1 : Int32) (Q : Int32 → Mem → Prop) (hw : wp_X4_rest G.2 M a0 x1 Q) : m_K G l yX4_rest cX4_rest 2 (some .int) 1 22 [vR (some a0), vI x1] M (va_Qi (m_q1 M Q) (m_W G) (m_A G)) := by
  refine m_met (by decide) (Nat.le_of_ble_eq_true rfl) (fun C e X => ?_)
  exact bk_X4_rest_0 G C _ _ M Q X M a0 x1 hw
theorem nh_X4_rest : m_nMH yX4_rest 1 := by decide +kernel

def wp_X4_isAhead (g : Nat → Nat) (M : Mem) (a0 : Nat) (x1 : Int32) (x2 : Int32) (Q : Int32 → Mem → Prop) : Prop := m_tg M a0 = 5 ∧ wp_X4_rest g M a0 x1 (fun (r4 : Int32) (M2 : Mem) => m_le M M2 → wp_X4_rest g M2 a0 x2 (fun (r8 : Int32) (M6 : Mem) => m_le M2 M6 → ((r4 = r8 → wp_X4_ofCall g M6 a0 x1 0 (fun (r13 : Int32) (M11 : Mem) => m_le M6 M11 → wp_X4_ofMember g M11 a0 r13 0 (fun (r17 : Int32) (M15 : Mem) => m_le M11 M15 → wp_X4_ofCall g M15 a0 x2 0 (fun (r21 : Int32) (M19 : Mem) => m_le M15 M19 → wp_X4_ofMember g M19 a0 r21 0 (fun (r25 : Int32) (M23 : Mem) => m_le M19 M23 → ((r17 = r25 → ((x2 ≤ x1 → Q 0 M23) ∧ (¬ x2 ≤ x1 → Q 1 M23))) ∧ (¬ r17 = r25 → ((r17 ≤ r25 → Q 0 M23) ∧ (¬ r17 ≤ r25 → Q 1 M23))))))))) ∧ (¬ r4 = r8 → wp_X4_rest g M6 a0 x1 (fun (r32 : Int32) (M30 : Mem) => m_le M6 M30 → wp_X4_rest g M30 a0 x2 (fun (r36 : Int32) (M34 : Mem) => m_le M30 M34 → ((r36 ≤ r32 → Q 0 M34) ∧ (¬ r36 ≤ r32 → Q 1 M34))))))))
theorem bk_X4_isAhead_0 (G : Gp) (C : m_Cx) (n0 s0 : Nat) (M0 : Mem) (Q : Int32 → Mem → Prop) (X : m_in G C RX4 cX4_isAhead 5 (some .boolean) "isAhead" 2 43 n0 s0) (M : Mem) (a0 : Nat) (x1 : Int32) (x2 : Int32) (hw : wp_X4_isAhead G.2 M a0 x1 x2 Q) : pW G C 5 n0 s0 M0 (m_Q G C n0 s0 (va_Qi (m_q1 M0 Q) (m_W G) (m_A G))) M 0 [(0, vR (some a0)), (1, vI x1), (2, vI x2)] [] := by
  refine pw_aload_n X dX4_isAhead_0 rfl rfl ?_
  refine pw_iload_n X dX4_isAhead_1 rfl rfl ?_
  obtain ⟨ht1, hw⟩ := hw
  refine pw_runi X (m_cV X (b := a0) (ci := 4) (q := (RX4, TX4, tyX4, 15)) (met_X4_rest G C.2.1 M a0 x1 _ hw) ht1 rfl (lw_V q2184 q2186 qs71 q107 q2187) ⟨rfl, nh_X4_rest⟩ ⟨Nat.le_of_ble_eq_true rfl, Nat.le_of_ble_eq_true rfl⟩ rfl (Nat.le_of_ble_eq_true rfl) dX4_isAhead_2) (fun r4 M2 hle3 hx => ?_)
  replace hw := hx hle3
  clear hx
  have ht5 : m_tg M2 a0 = 5 := m_le_tg hle3 ht1
  refine pw_aload_n X dX4_isAhead_5 rfl rfl ?_
  refine pw_iload_n X dX4_isAhead_6 rfl rfl ?_
  refine pw_runi X (m_cV X (b := a0) (ci := 4) (q := (RX4, TX4, tyX4, 15)) (met_X4_rest G C.2.1 M2 a0 x2 _ hw) ht5 rfl (lw_V q2184 q2186 qs71 q107 q2187) ⟨rfl, nh_X4_rest⟩ ⟨Nat.le_of_ble_eq_true rfl, Nat.le_of_ble_eq_true rfl⟩ rfl (Nat.le_of_ble_eq_true rfl) dX4_isAhead_7) (fun r8 M6 hle7 hx => ?_)
  replace hw := hx hle7
  clear hx
  have ht9 : m_tg M6 a0 = 5 := m_le_tg hle7 ht5
  refine pw_icmp_eq X 32 dX4_isAhead_10 (by decide) (fun c10 => ?_) (fun c10 => ?_)
  · replace hw := hw.1 c10
    refine pw_aload_n X dX4_isAhead_32 rfl rfl ?_
    refine pw_aload_n X dX4_isAhead_33 rfl rfl ?_
    refine pw_iload_n X dX4_isAhead_34 rfl rfl ?_
    refine pw_iconst X 0 dX4_isAhead_35 (by decide) ?_
    refine pw_runi X (m_cV X (b := a0) (ci := 4) (q := (RX4, TX4, tyX4, 15)) (met_X4_ofCall G C.2.1 M6 a0 x1 0 _ hw) ht9 rfl (lw_V q2053 q2055 qs44 q107 q2056) ⟨rfl, nh_X4_ofCall⟩ ⟨Nat.le_of_ble_eq_true rfl, Nat.le_of_ble_eq_true rfl⟩ rfl (Nat.le_of_ble_eq_true rfl) dX4_isAhead_36) (fun r13 M11 hle12 hx => ?_)
    replace hw := hx hle12
    clear hx
    have ht14 : m_tg M11 a0 = 5 := m_le_tg hle12 ht9
    refine pw_iconst X 0 dX4_isAhead_39 (by decide) ?_
    refine pw_runi X (m_cV X (b := a0) (ci := 4) (q := (RX4, TX4, tyX4, 15)) (met_X4_ofMember G C.2.1 M11 a0 r13 0 _ hw) ht14 rfl (lw_V q2065 q2067 qs47 q107 q2068) ⟨rfl, nh_X4_ofMember⟩ ⟨Nat.le_of_ble_eq_true rfl, Nat.le_of_ble_eq_true rfl⟩ rfl (Nat.le_of_ble_eq_true rfl) dX4_isAhead_40) (fun r17 M15 hle16 hx => ?_)
    replace hw := hx hle16
    clear hx
    have ht18 : m_tg M15 a0 = 5 := m_le_tg hle16 ht14
    refine pw_istore_n X [(0, vR (some a0)), (1, vI x1), (2, vI x2), (3, vI r17)] [1, 2, 3, 0] dX4_isAhead_43 rfl (by decide) rfl ?_
    refine pw_aload_n X dX4_isAhead_44 rfl rfl ?_
    refine pw_aload_n X dX4_isAhead_45 rfl rfl ?_
    refine pw_iload_n X dX4_isAhead_46 rfl rfl ?_
    refine pw_iconst X 0 dX4_isAhead_47 (by decide) ?_
    refine pw_runi X (m_cV X (b := a0) (ci := 4) (q := (RX4, TX4, tyX4, 15)) (met_X4_ofCall G C.2.1 M15 a0 x2 0 _ hw) ht18 rfl (lw_V q2053 q2055 qs44 q107 q2056) ⟨rfl, nh_X4_ofCall⟩ ⟨Nat.le_of_ble_eq_true rfl, Nat.le_of_ble_eq_true rfl⟩ rfl (Nat.le_of_ble_eq_true rfl) dX4_isAhead_48) (fun r21 M19 hle20 hx => ?_)
    replace hw := hx hle20
    clear hx
    have ht22 : m_tg M19 a0 = 5 := m_le_tg hle20 ht18
    refine pw_iconst X 0 dX4_isAhead_51 (by decide) ?_
    refine pw_runi X (m_cV X (b := a0) (ci := 4) (q := (RX4, TX4, tyX4, 15)) (met_X4_ofMember G C.2.1 M19 a0 r21 0 _ hw) ht22 rfl (lw_V q2065 q2067 qs47 q107 q2068) ⟨rfl, nh_X4_ofMember⟩ ⟨Nat.le_of_ble_eq_true rfl, Nat.le_of_ble_eq_true rfl⟩ rfl (Nat.le_of_ble_eq_true rfl) dX4_isAhead_52) (fun r25 M23 hle24 hx => ?_)
    replace hw := hx hle24
    clear hx
    have ht26 : m_tg M23 a0 = 5 := m_le_tg hle24 ht22
    refine pw_istore X [(1, vI x1), (2, vI x2), (3, vI r17), (4, vI r25)] [2, 3, 4, 0] dX4_isAhead_55 (by decide) rfl ?_
    refine pw_iload_n X dX4_isAhead_57 rfl rfl ?_
    refine pw_iload X dX4_isAhead_58 rfl ?_
    refine pw_icmp_eq X 77 dX4_isAhead_60 (by decide) (fun c27 => ?_) (fun c27 => ?_)
    · replace hw := hw.1 c27
      refine pw_iload_n X dX4_isAhead_77 rfl rfl ?_
      refine pw_iload_n X dX4_isAhead_78 rfl rfl ?_
      refine pw_icmp_ge X 86 dX4_isAhead_79 (by decide) (fun c28 => ?_) (fun c28 => ?_)
      · replace hw := hw.1 c28
        refine pw_iconst X 0 dX4_isAhead_86 (by decide) ?_
        exact pw_zret X (by decide) hw dX4_isAhead_87
      · replace hw := hw.2 c28
        refine pw_iconst X 1 dX4_isAhead_82 (by decide) ?_
        refine pw_goto X 87 dX4_isAhead_83 (by decide) ?_
        exact pw_zret X (by decide) hw dX4_isAhead_87
    · replace hw := hw.2 c27
      refine pw_iload_n X dX4_isAhead_63 rfl rfl ?_
      refine pw_iload X dX4_isAhead_64 rfl ?_
      refine pw_icmp_le X 73 dX4_isAhead_66 (by decide) (fun c29 => ?_) (fun c29 => ?_)
      · replace hw := hw.1 c29
        refine pw_iconst X 0 dX4_isAhead_73 (by decide) ?_
        refine pw_goto X 87 dX4_isAhead_74 (by decide) ?_
        exact pw_zret X (by decide) hw dX4_isAhead_87
      · replace hw := hw.2 c29
        refine pw_iconst X 1 dX4_isAhead_69 (by decide) ?_
        refine pw_goto X 87 dX4_isAhead_70 (by decide) ?_
        exact pw_zret X (by decide) hw dX4_isAhead_87
  · replace hw := hw.2 c10
    refine pw_aload_n X dX4_isAhead_13 rfl rfl ?_
    refine pw_iload_n X dX4_isAhead_14 rfl rfl ?_
    refine pw_runi X (m_cV X (b := a0) (ci := 4) (q := (RX4, TX4, tyX4, 15)) (met_X4_rest G C.2.1 M6 a0 x1 _ hw) ht9 rfl (lw_V q2184 q2186 qs71 q107 q2187) ⟨rfl, nh_X4_rest⟩ ⟨Nat.le_of_ble_eq_true rfl, Nat.le_of_ble_eq_true rfl⟩ rfl (Nat.le_of_ble_eq_true rfl) dX4_isAhead_15) (fun r32 M30 hle31 hx => ?_)
    replace hw := hx hle31
    clear hx
    have ht33 : m_tg M30 a0 = 5 := m_le_tg hle31 ht9
    refine pw_aload_n X dX4_isAhead_18 rfl rfl ?_
    refine pw_iload_n X dX4_isAhead_19 rfl rfl ?_
    refine pw_runi X (m_cV X (b := a0) (ci := 4) (q := (RX4, TX4, tyX4, 15)) (met_X4_rest G C.2.1 M30 a0 x2 _ hw) ht33 rfl (lw_V q2184 q2186 qs71 q107 q2187) ⟨rfl, nh_X4_rest⟩ ⟨Nat.le_of_ble_eq_true rfl, Nat.le_of_ble_eq_true rfl⟩ rfl (Nat.le_of_ble_eq_true rfl) dX4_isAhead_20) (fun r36 M34 hle35 hx => ?_)
    replace hw := hx hle35
    clear hx
    have ht37 : m_tg M34 a0 = 5 := m_le_tg hle35 ht33
    refine pw_icmp_ge X 30 dX4_isAhead_23 (by decide) (fun c38 => ?_) (fun c38 => ?_)
    · replace hw := hw.1 c38
      refine pw_iconst X 0 dX4_isAhead_30 (by decide) ?_
      exact pw_zret X (by decide) hw dX4_isAhead_31
    · replace hw := hw.2 c38
      refine pw_iconst X 1 dX4_isAhead_26 (by decide) ?_
      refine pw_goto X 31 dX4_isAhead_27 (by decide) ?_
      exact pw_zret X (by decide) hw dX4_isAhead_31
theorem met_X4_isAhead (G : Gp) (l : Launch) (M : Mem) (a0 : Nat) (x1 : Int32) (x2 : Int32) (Q : Int32 → Mem → Prop) (hw : wp_X4_isAhead G.2 M a0 x1 x2 Q) : m_K G l yX4_isAhead cX4_isAhead 5 (some .boolean) 2 43 [vR (some a0), vI x1, vI x2] M (va_Qi (m_q1 M Q) (m_W G) (m_A G)) := by
  refine m_met (by decide) (Nat.le_of_ble_eq_true rfl) (fun C e X => ?_)
  exact bk_X4_isAhead_0 G C _ _ M Q X M a0 x1 x2 hw
theorem nh_X4_isAhead : m_nMH yX4_isAhead 2 := by decide +kernel

def wp_X4_laysRow_b71 (g : Nat → Nat) (k7 : Mem → Nat → Int32 → Prop) (M : Mem) (la0 : Nat) (lx1 : Int32) (lx2 : Int32) (Q : Mem → Prop) : Prop := m_tg M la0 = 5 ∧ ∃ u2 : Nat, (m_gr M la0 10) = some u2 ∧ m_tg M u2 = 101 ∧ vp_in lx2 (m_ln M u2) ∧ ∀ M6 : Mem, M6 = (m_pi M u2 (Int32.toNatClampNeg lx2) lx1) → ∀ M11 : Mem, M11 = (m_pi M6 la0 11 ((m_gi M6 la0 11) + 1)) → k7 M11 la0 (lx1 + 1)
def wp_X4_laysRow_b31 (g : Nat → Nat) (k7 : Mem → Nat → Int32 → Prop) (Q : Mem → Prop) : Nat → Mem → Nat → Int32 → Int32 → Prop
  | 0 => fun _ _ _ _ => False
  | n + 1 => fun M la0 lx1 lx2 => ((lx2 ≤ 0 → wp_X4_laysRow_b71 g k7 M la0 lx1 lx2 Q) ∧ (¬ lx2 ≤ 0 → m_tg M la0 = 5 ∧ ∃ u3 : Nat, (m_gr M la0 10) = some u3 ∧ m_tg M u3 = 101 ∧ vp_in (lx2 - 1) (m_ln M u3) ∧ wp_X4_isAhead g M la0 lx1 (m_gi M u3 (Int32.toNatClampNeg (lx2 - 1))) (fun (r9 : Int32) (M7 : Mem) => m_le M M7 → ((r9 = 0 → wp_X4_laysRow_b71 g k7 M7 la0 lx1 lx2 Q) ∧ (¬ r9 = 0 → ∃ u13 : Nat, (m_gr M7 la0 10) = some u13 ∧ ∃ u15 : Nat, (m_gr M7 la0 10) = some u15 ∧ m_tg M7 u15 = 101 ∧ vp_in (lx2 - 1) (m_ln M7 u15) ∧ m_tg M7 u13 = 101 ∧ vp_in lx2 (m_ln M7 u13) ∧ ∀ M21 : Mem, M21 = (m_pi M7 u13 (Int32.toNatClampNeg lx2) (m_gi M7 u15 (Int32.toNatClampNeg (lx2 - 1)))) → wp_X4_laysRow_b31 g k7 Q n M21 la0 lx1 (lx2 + (-1)))))))
def wp_X4_laysRow_b7 (g : Nat → Nat) (Q : Mem → Prop) : Nat → Mem → Nat → Int32 → Prop
  | 0 => fun _ _ _ => False
  | n + 1 => fun M la0 lx1 => m_tg M la0 = 5 ∧ ∃ u2 : Nat, (m_gr M la0 0) = some u2 ∧ m_tg M u2 = 101 ∧ vp_in 9 (m_ln M u2) ∧ (((m_gi M u2 (Int32.toNatClampNeg 9)) ≤ lx1 → Q M) ∧ (¬ (m_gi M u2 (Int32.toNatClampNeg 9)) ≤ lx1 → wp_X4_waits g M la0 lx1 (fun (r9 : Int32) (M7 : Mem) => m_le M M7 → ((r9 = 0 → wp_X4_laysRow_b7 g Q n M7 la0 (lx1 + 1)) ∧ (¬ r9 = 0 → ∃ j31 : Nat, wp_X4_laysRow_b31 g (wp_X4_laysRow_b7 g Q n) Q j31 M7 la0 lx1 (m_gi M7 la0 11))))))
def wp_X4_laysRow (g : Nat → Nat) (M : Mem) (a0 : Nat) (Q : Mem → Prop) : Prop := m_tg M a0 = 5 ∧ ∀ M2 : Mem, M2 = (m_pi M a0 11 0) → ∃ j7 : Nat, wp_X4_laysRow_b7 g Q j7 M2 a0 0
theorem bk_X4_laysRow_71 (G : Gp) (C : m_Cx) (n0 s0 : Nat) (M0 : Mem) (Q : Mem → Prop) (X : m_in G C RX4 cX4_laysRow 3 none "laysRow" 3 67 n0 s0) (k7 : Mem → Nat → Int32 → Prop) (hk7 : ∀ (M : Mem) (la0 : Nat) (lx1 : Int32), k7 M la0 lx1 → pW G C 3 n0 s0 M0 (m_Q G C n0 s0 (va_Qv (m_q0 M0 Q) (m_W G) (m_A G))) M 7 [(0, vR (some la0)), (1, vI lx1)] []) (M : Mem) (la0 : Nat) (lx1 : Int32) (lx2 : Int32) (hw : wp_X4_laysRow_b71 G.2 k7 M la0 lx1 lx2 Q) : pW G C 3 n0 s0 M0 (m_Q G C n0 s0 (va_Qv (m_q0 M0 Q) (m_W G) (m_A G))) M 71 [(0, vR (some la0)), (1, vI lx1), (2, vI lx2)] [] := by
  refine pw_aload_n X dX4_laysRow_71 rfl rfl ?_
  obtain ⟨ht1, hw⟩ := hw
  obtain ⟨u2, he3, hw⟩ := hw
  refine pw_get X (q := (RX4, TX4, tyX4, 15)) (ci := 4) (k := 10) (ref := "PatrolDeskModel") (vR (some u2)) ht1 rfl (by decide) in_X4 q1956 (Or.inl rfl) (by rw [he3]; rfl) dX4_laysRow_72 ?_
  refine pw_iload_n X dX4_laysRow_75 rfl rfl ?_
  refine pw_iload_n X dX4_laysRow_76 rfl rfl ?_
  obtain ⟨ht4, hw⟩ := hw
  obtain ⟨hi5, hw⟩ := hw
  obtain ⟨M6, hM7⟩ : ∃ z : Mem, z = (m_pi M u2 (Int32.toNatClampNeg lx2) lx1) := ⟨_, rfl⟩
  replace hw := hw M6 hM7
  have hle8 : m_le M M6 := by rw [hM7]; exact m_le_pi
  refine pw_iast X ht4 hi5 dX4_laysRow_77 ?_
  rw [← hM7]
  have ht9 : m_tg M6 la0 = 5 := m_le_tg hle8 ht1
  have ht10 : m_tg M6 u2 = 101 := m_le_tg hle8 ht4
  refine pw_aload_n X dX4_laysRow_78 rfl rfl ?_
  refine pw_dup X dX4_laysRow_79 ?_
  refine pw_get X (q := (RX4, TX4, tyX4, 15)) (ci := 4) (k := 11) (ref := "PatrolDeskModel") (vI (m_gi M6 la0 11)) ht9 rfl (by decide) in_X4 q1957 (Or.inl rfl) rfl dX4_laysRow_80 ?_
  refine pw_iconst X 1 dX4_laysRow_83 (by decide) ?_
  refine pw_iadd X dX4_laysRow_84 ?_
  obtain ⟨M11, hM12⟩ : ∃ z : Mem, z = (m_pi M6 la0 11 ((m_gi M6 la0 11) + 1)) := ⟨_, rfl⟩
  replace hw := hw M11 hM12
  refine pw_put X (q := (RX4, TX4, tyX4, 15)) (ci := 4) (k := 11) (ref := "PatrolDeskModel") M11 hM12.symm ht9 rfl (by decide) in_X4 tyX4_ok nmX4 q1957 (Or.inl rfl) rfl (m_kd_i (fun _ _ => rfl)) rfl rfl dX4_laysRow_85 ?_
  have hle13 : m_le M6 M11 := by rw [hM12]; exact m_le_pi
  have ht14 : m_tg M11 la0 = 5 := m_le_tg hle13 ht9
  have ht15 : m_tg M11 u2 = 101 := m_le_tg hle13 ht10
  refine pw_iinc X (lx1 + 1) [(0, vR (some la0)), (1, vI (lx1 + 1))] [1, 0] dX4_laysRow_88 rfl (by first | rfl | decide) (by decide) rfl ?_
  refine pw_goto X 7 dX4_laysRow_91 (by decide) ?_
  exact hk7 _ la0 (lx1 + 1) hw
theorem bk_X4_laysRow_31 (G : Gp) (C : m_Cx) (n0 s0 : Nat) (M0 : Mem) (Q : Mem → Prop) (X : m_in G C RX4 cX4_laysRow 3 none "laysRow" 3 67 n0 s0) (k7 : Mem → Nat → Int32 → Prop) (hk7 : ∀ (M : Mem) (la0 : Nat) (lx1 : Int32), k7 M la0 lx1 → pW G C 3 n0 s0 M0 (m_Q G C n0 s0 (va_Qv (m_q0 M0 Q) (m_W G) (m_A G))) M 7 [(0, vR (some la0)), (1, vI lx1)] []) : ∀ (n : Nat) (M : Mem) (la0 : Nat) (lx1 : Int32) (lx2 : Int32) (hw : wp_X4_laysRow_b31 G.2 k7 Q n M la0 lx1 lx2), pW G C 3 n0 s0 M0 (m_Q G C n0 s0 (va_Qv (m_q0 M0 Q) (m_W G) (m_A G))) M 31 [(0, vR (some la0)), (1, vI lx1), (2, vI lx2)] [] := by
  intro n
  induction n with
  | zero => intro M la0 lx1 lx2 hw; exact hw.elim
  | succ n ih =>
    intro M la0 lx1 lx2 hw
    refine pw_iload_n X dX4_laysRow_31 rfl rfl ?_
    refine pw_if_le X 71 dX4_laysRow_32 (by decide) (fun c1 => ?_) (fun c1 => ?_)
    · replace hw := hw.1 c1
      exact bk_X4_laysRow_71 G C n0 s0 M0 Q X k7 hk7 _ la0 lx1 lx2 hw
    · replace hw := hw.2 c1
      refine pw_aload_n X dX4_laysRow_35 rfl rfl ?_
      refine pw_iload_n X dX4_laysRow_36 rfl rfl ?_
      refine pw_aload_n X dX4_laysRow_37 rfl rfl ?_
      obtain ⟨ht2, hw⟩ := hw
      obtain ⟨u3, he4, hw⟩ := hw
      refine pw_get X (q := (RX4, TX4, tyX4, 15)) (ci := 4) (k := 10) (ref := "PatrolDeskModel") (vR (some u3)) ht2 rfl (by decide) in_X4 q1956 (Or.inl rfl) (by rw [he4]; rfl) dX4_laysRow_38 ?_
      refine pw_iload_n X dX4_laysRow_41 rfl rfl ?_
      refine pw_iconst X 1 dX4_laysRow_42 (by decide) ?_
      refine pw_isub X dX4_laysRow_43 ?_
      obtain ⟨ht5, hw⟩ := hw
      obtain ⟨hi6, hw⟩ := hw
      refine pw_iald X ht5 hi6 dX4_laysRow_44 ?_
      refine pw_runi X (m_cV X (b := la0) (ci := 4) (q := (RX4, TX4, tyX4, 15)) (met_X4_isAhead G C.2.1 M la0 lx1 (m_gi M u3 (Int32.toNatClampNeg (lx2 - 1))) _ hw) ht2 rfl (lw_V q2180 q2182 qs70 q107 q2183) ⟨rfl, nh_X4_isAhead⟩ ⟨Nat.le_of_ble_eq_true rfl, Nat.le_of_ble_eq_true rfl⟩ rfl (Nat.le_of_ble_eq_true rfl) dX4_laysRow_45) (fun r9 M7 hle8 hx => ?_)
      replace hw := hx hle8
      clear hx
      have ht10 : m_tg M7 la0 = 5 := m_le_tg hle8 ht2
      have ht11 : m_tg M7 u3 = 101 := m_le_tg hle8 ht5
      refine pw_if_eq X 71 dX4_laysRow_48 (by decide) (fun c12 => ?_) (fun c12 => ?_)
      · replace hw := hw.1 c12
        exact bk_X4_laysRow_71 G C n0 s0 M0 Q X k7 hk7 _ la0 lx1 lx2 hw
      · replace hw := hw.2 c12
        refine pw_aload_n X dX4_laysRow_51 rfl rfl ?_
        obtain ⟨u13, he14, hw⟩ := hw
        refine pw_get X (q := (RX4, TX4, tyX4, 15)) (ci := 4) (k := 10) (ref := "PatrolDeskModel") (vR (some u13)) ht10 rfl (by decide) in_X4 q1956 (Or.inl rfl) (by rw [he14]; rfl) dX4_laysRow_52 ?_
        refine pw_iload_n X dX4_laysRow_55 rfl rfl ?_
        refine pw_aload_n X dX4_laysRow_56 rfl rfl ?_
        obtain ⟨u15, he16, hw⟩ := hw
        refine pw_get X (q := (RX4, TX4, tyX4, 15)) (ci := 4) (k := 10) (ref := "PatrolDeskModel") (vR (some u15)) ht10 rfl (by decide) in_X4 q1956 (Or.inl rfl) (by rw [he16]; rfl) dX4_laysRow_57 ?_
        refine pw_iload_n X dX4_laysRow_60 rfl rfl ?_
        refine pw_iconst X 1 dX4_laysRow_61 (by decide) ?_
        refine pw_isub X dX4_laysRow_62 ?_
        obtain ⟨ht17, hw⟩ := hw
        obtain ⟨hi18, hw⟩ := hw
        refine pw_iald X ht17 hi18 dX4_laysRow_63 ?_
        obtain ⟨ht19, hw⟩ := hw
        obtain ⟨hi20, hw⟩ := hw
        obtain ⟨M21, hM22⟩ : ∃ z : Mem, z = (m_pi M7 u13 (Int32.toNatClampNeg lx2) (m_gi M7 u15 (Int32.toNatClampNeg (lx2 - 1)))) := ⟨_, rfl⟩
        replace hw := hw M21 hM22
        have hle23 : m_le M7 M21 := by rw [hM22]; exact m_le_pi
        refine pw_iast X ht19 hi20 dX4_laysRow_64 ?_
        rw [← hM22]
        have ht24 : m_tg M21 la0 = 5 := m_le_tg hle23 ht10
        have ht25 : m_tg M21 u3 = 101 := m_le_tg hle23 ht11
        have ht26 : m_tg M21 u15 = 101 := m_le_tg hle23 ht17
        have ht27 : m_tg M21 u13 = 101 := m_le_tg hle23 ht19
        refine pw_iinc X (lx2 + (-1)) [(0, vR (some la0)), (1, vI lx1), (2, vI (lx2 + (-1)))] [1, 2, 0] dX4_laysRow_65 rfl (by first | rfl | decide) (by decide) rfl ?_
        refine pw_goto X 31 dX4_laysRow_68 (by decide) ?_
        exact ih _ la0 lx1 (lx2 + (-1)) hw
theorem bk_X4_laysRow_7 (G : Gp) (C : m_Cx) (n0 s0 : Nat) (M0 : Mem) (Q : Mem → Prop) (X : m_in G C RX4 cX4_laysRow 3 none "laysRow" 3 67 n0 s0) : ∀ (n : Nat) (M : Mem) (la0 : Nat) (lx1 : Int32) (hw : wp_X4_laysRow_b7 G.2 Q n M la0 lx1), pW G C 3 n0 s0 M0 (m_Q G C n0 s0 (va_Qv (m_q0 M0 Q) (m_W G) (m_A G))) M 7 [(0, vR (some la0)), (1, vI lx1)] [] := by
  intro n
  induction n with
  | zero => intro M la0 lx1 hw; exact hw.elim
  | succ n ih =>
    intro M la0 lx1 hw
    refine pw_iload_n X dX4_laysRow_7 rfl rfl ?_
    refine pw_aload_n X dX4_laysRow_8 rfl rfl ?_
    obtain ⟨ht1, hw⟩ := hw
    obtain ⟨u2, he3, hw⟩ := hw
    refine pw_get X (q := (RX4, TX4, tyX4, 15)) (ci := 4) (k := 0) (ref := "PatrolDeskModel") (vR (some u2)) ht1 rfl (by decide) in_X4 q1946 (Or.inl rfl) (by rw [he3]; rfl) dX4_laysRow_9 ?_
    refine pw_bipush X 9 dX4_laysRow_12 (by decide) ?_
    obtain ⟨ht4, hw⟩ := hw
    obtain ⟨hi5, hw⟩ := hw
    refine pw_iald X ht4 hi5 dX4_laysRow_14 ?_
    refine pw_icmp_ge X 94 dX4_laysRow_15 (by decide) (fun c6 => ?_) (fun c6 => ?_)
    · replace hw := hw.1 c6
      exact pw_vret X hw dX4_laysRow_94
    · replace hw := hw.2 c6
      refine pw_aload_n X dX4_laysRow_18 rfl rfl ?_
      refine pw_iload_n X dX4_laysRow_19 rfl rfl ?_
      refine pw_runi X (m_cV X (b := la0) (ci := 4) (q := (RX4, TX4, tyX4, 15)) (met_X4_waits G C.2.1 M la0 lx1 _ hw) ht1 rfl (lw_V q2176 q2178 qs69 q107 q2179) ⟨rfl, nh_X4_waits⟩ ⟨Nat.le_of_ble_eq_true rfl, Nat.le_of_ble_eq_true rfl⟩ rfl (Nat.le_of_ble_eq_true rfl) dX4_laysRow_20) (fun r9 M7 hle8 hx => ?_)
      replace hw := hx hle8
      clear hx
      have ht10 : m_tg M7 la0 = 5 := m_le_tg hle8 ht1
      have ht11 : m_tg M7 u2 = 101 := m_le_tg hle8 ht4
      refine pw_if_eq X 88 dX4_laysRow_23 (by decide) (fun c12 => ?_) (fun c12 => ?_)
      · replace hw := hw.1 c12
        refine pw_iinc X (lx1 + 1) [(0, vR (some la0)), (1, vI (lx1 + 1))] [1, 0] dX4_laysRow_88 rfl (by first | rfl | decide) (by decide) rfl ?_
        refine pw_goto X 7 dX4_laysRow_91 (by decide) ?_
        exact ih _ la0 (lx1 + 1) hw
      · replace hw := hw.2 c12
        refine pw_aload_n X dX4_laysRow_26 rfl rfl ?_
        refine pw_get X (q := (RX4, TX4, tyX4, 15)) (ci := 4) (k := 11) (ref := "PatrolDeskModel") (vI (m_gi M7 la0 11)) ht10 rfl (by decide) in_X4 q1957 (Or.inl rfl) rfl dX4_laysRow_27 ?_
        refine pw_istore_n X [(0, vR (some la0)), (1, vI lx1), (2, vI (m_gi M7 la0 11))] [1, 2, 0] dX4_laysRow_30 rfl (by decide) rfl ?_
        obtain ⟨n31, hw⟩ := hw
        exact bk_X4_laysRow_31 G C n0 s0 M0 Q X (wp_X4_laysRow_b7 G.2 Q n) ih n31 _ la0 lx1 (m_gi M7 la0 11) hw
theorem bk_X4_laysRow_0 (G : Gp) (C : m_Cx) (n0 s0 : Nat) (M0 : Mem) (Q : Mem → Prop) (X : m_in G C RX4 cX4_laysRow 3 none "laysRow" 3 67 n0 s0) (M : Mem) (a0 : Nat) (hw : wp_X4_laysRow G.2 M a0 Q) : pW G C 3 n0 s0 M0 (m_Q G C n0 s0 (va_Qv (m_q0 M0 Q) (m_W G) (m_A G))) M 0 [(0, vR (some a0))] [] := by
  refine pw_aload_n X dX4_laysRow_0 rfl rfl ?_
  refine pw_iconst X 0 dX4_laysRow_1 (by decide) ?_
  obtain ⟨ht1, hw⟩ := hw
  obtain ⟨M2, hM3⟩ : ∃ z : Mem, z = (m_pi M a0 11 0) := ⟨_, rfl⟩
  replace hw := hw M2 hM3
  refine pw_put X (q := (RX4, TX4, tyX4, 15)) (ci := 4) (k := 11) (ref := "PatrolDeskModel") M2 hM3.symm ht1 rfl (by decide) in_X4 tyX4_ok nmX4 q1957 (Or.inl rfl) rfl (m_kd_i (fun _ _ => rfl)) rfl rfl dX4_laysRow_2 ?_
  have hle4 : m_le M M2 := by rw [hM3]; exact m_le_pi
  have ht5 : m_tg M2 a0 = 5 := m_le_tg hle4 ht1
  refine pw_iconst X 0 dX4_laysRow_5 (by decide) ?_
  refine pw_istore_n X [(0, vR (some a0)), (1, vI 0)] [1, 0] dX4_laysRow_6 rfl (by decide) rfl ?_
  obtain ⟨n7, hw⟩ := hw
  exact bk_X4_laysRow_7 G C n0 s0 M0 Q X n7 _ a0 0 hw
theorem met_X4_laysRow (G : Gp) (l : Launch) (M : Mem) (a0 : Nat) (Q : Mem → Prop) (hw : wp_X4_laysRow G.2 M a0 Q) : m_K G l yX4_laysRow cX4_laysRow 3 none 3 67 [vR (some a0)] M (va_Qv (m_q0 M Q) (m_W G) (m_A G)) := by
  refine m_met (by decide) (Nat.le_of_ble_eq_true rfl) (fun C e X => ?_)
  exact bk_X4_laysRow_0 G C _ _ M Q X M a0 hw
theorem nh_X4_laysRow : m_nMH yX4_laysRow 0 := by decide +kernel

def wp_X4_mayTake (g : Nat → Nat) (M : Mem) (a0 : Nat) (x1 : Int32) (x2 : Int32) (Q : Int32 → Mem → Prop) : Prop := m_tg M a0 = 5 ∧ wp_X4_ofPatrol g M a0 x1 0 (fun (r4 : Int32) (M2 : Mem) => m_le M M2 → wp_X4_region g M2 r4 (fun (r8 : Int32) (M6 : Mem) => m_le M2 M6 → wp_X4_ofCall g M6 a0 x2 1 (fun (r12 : Int32) (M10 : Mem) => m_le M6 M10 → wp_X4_region g M10 r12 (fun (r16 : Int32) (M14 : Mem) => m_le M10 M14 → wp_X4_ofPatrol g M14 a0 x1 3 (fun (r20 : Int32) (M18 : Mem) => m_le M14 M18 → ((¬ r20 = 0 → Q 0 M18) ∧ (r20 = 0 → wp_X4_ofPatrol g M18 a0 x1 4 (fun (r25 : Int32) (M23 : Mem) => m_le M18 M23 → wp_X4_ofCall g M23 a0 x2 1 (fun (r29 : Int32) (M27 : Mem) => m_le M23 M27 → wp_X4_way g M27 a0 r25 r29 (fun (r33 : Int32) (M31 : Mem) => m_le M27 M31 → ((r33 < 100000 → wp_X4_ofCall g M31 a0 x2 5 (fun (r38 : Int32) (M36 : Mem) => m_le M31 M36 → ((¬ r38 = 0 → ((¬ r8 = r16 → Q 0 M36) ∧ (r8 = r16 → wp_X4_ofPatrol g M36 a0 x1 2 (fun (r44 : Int32) (M42 : Mem) => m_le M36 M42 → ((¬ r44 = 1 → Q 0 M42) ∧ (r44 = 1 → Q 1 M42)))))) ∧ (r38 = 0 → wp_X4_in g M36 (r8 - r16) (-1) 1 (fun (r49 : Int32) (M47 : Mem) => m_le M36 M47 → ((r49 = 0 ∨ r49 = 1) ∧ Q r49 M47)))))) ∧ (¬ r33 < 100000 → Q 0 M31))))))))))))
theorem bk_X4_mayTake_0 (G : Gp) (C : m_Cx) (n0 s0 : Nat) (M0 : Mem) (Q : Int32 → Mem → Prop) (X : m_in G C RX4 cX4_mayTake 5 (some .boolean) "mayTake" 1 22 n0 s0) (M : Mem) (a0 : Nat) (x1 : Int32) (x2 : Int32) (hw : wp_X4_mayTake G.2 M a0 x1 x2 Q) : pW G C 5 n0 s0 M0 (m_Q G C n0 s0 (va_Qi (m_q1 M0 Q) (m_W G) (m_A G))) M 0 [(0, vR (some a0)), (1, vI x1), (2, vI x2)] [] := by
  refine pw_aload_n X dX4_mayTake_0 rfl rfl ?_
  refine pw_iload_n X dX4_mayTake_1 rfl rfl ?_
  refine pw_iconst X 0 dX4_mayTake_2 (by decide) ?_
  obtain ⟨ht1, hw⟩ := hw
  refine pw_runi X (m_cV X (b := a0) (ci := 4) (q := (RX4, TX4, tyX4, 15)) (met_X4_ofPatrol G C.2.1 M a0 x1 0 _ hw) ht1 rfl (lw_V q2069 q2071 qs48 q107 q2072) ⟨rfl, nh_X4_ofPatrol⟩ ⟨Nat.le_of_ble_eq_true rfl, Nat.le_of_ble_eq_true rfl⟩ rfl (Nat.le_of_ble_eq_true rfl) dX4_mayTake_3) (fun r4 M2 hle3 hx => ?_)
  replace hw := hx hle3
  clear hx
  have ht5 : m_tg M2 a0 = 5 := m_le_tg hle3 ht1
  refine pw_runi X (m_cS X (met_X4_region G C.2.1 M2 r4 _ hw) (lw_S q2153 q2154 q107 q2155) nh_X4_region ⟨Nat.le_of_ble_eq_true rfl, Nat.le_of_ble_eq_true rfl⟩ rfl (Nat.le_of_ble_eq_true rfl) dX4_mayTake_6) (fun r8 M6 hle7 hx => ?_)
  replace hw := hx hle7
  clear hx
  have ht9 : m_tg M6 a0 = 5 := m_le_tg hle7 ht5
  refine pw_istore_n X [(0, vR (some a0)), (1, vI x1), (2, vI x2), (3, vI r8)] [1, 2, 3, 0] dX4_mayTake_9 rfl (by decide) rfl ?_
  refine pw_aload_n X dX4_mayTake_10 rfl rfl ?_
  refine pw_iload_n X dX4_mayTake_11 rfl rfl ?_
  refine pw_iconst X 1 dX4_mayTake_12 (by decide) ?_
  refine pw_runi X (m_cV X (b := a0) (ci := 4) (q := (RX4, TX4, tyX4, 15)) (met_X4_ofCall G C.2.1 M6 a0 x2 1 _ hw) ht9 rfl (lw_V q2053 q2055 qs44 q107 q2056) ⟨rfl, nh_X4_ofCall⟩ ⟨Nat.le_of_ble_eq_true rfl, Nat.le_of_ble_eq_true rfl⟩ rfl (Nat.le_of_ble_eq_true rfl) dX4_mayTake_13) (fun r12 M10 hle11 hx => ?_)
  replace hw := hx hle11
  clear hx
  have ht13 : m_tg M10 a0 = 5 := m_le_tg hle11 ht9
  refine pw_runi X (m_cS X (met_X4_region G C.2.1 M10 r12 _ hw) (lw_S q2153 q2154 q107 q2155) nh_X4_region ⟨Nat.le_of_ble_eq_true rfl, Nat.le_of_ble_eq_true rfl⟩ rfl (Nat.le_of_ble_eq_true rfl) dX4_mayTake_16) (fun r16 M14 hle15 hx => ?_)
  replace hw := hx hle15
  clear hx
  have ht17 : m_tg M14 a0 = 5 := m_le_tg hle15 ht13
  refine pw_istore X [(0, vR (some a0)), (1, vI x1), (2, vI x2), (3, vI r8), (4, vI r16)] [1, 2, 3, 4, 0] dX4_mayTake_19 (by decide) rfl ?_
  refine pw_aload_n X dX4_mayTake_21 rfl rfl ?_
  refine pw_iload_n X dX4_mayTake_22 rfl rfl ?_
  refine pw_iconst X 3 dX4_mayTake_23 (by decide) ?_
  refine pw_runi X (m_cV X (b := a0) (ci := 4) (q := (RX4, TX4, tyX4, 15)) (met_X4_ofPatrol G C.2.1 M14 a0 x1 3 _ hw) ht17 rfl (lw_V q2069 q2071 qs48 q107 q2072) ⟨rfl, nh_X4_ofPatrol⟩ ⟨Nat.le_of_ble_eq_true rfl, Nat.le_of_ble_eq_true rfl⟩ rfl (Nat.le_of_ble_eq_true rfl) dX4_mayTake_24) (fun r20 M18 hle19 hx => ?_)
  replace hw := hx hle19
  clear hx
  have ht21 : m_tg M18 a0 = 5 := m_le_tg hle19 ht17
  refine pw_if_ne X 51 dX4_mayTake_27 (by decide) (fun c22 => ?_) (fun c22 => ?_)
  · replace hw := hw.1 c22
    refine pw_iconst X 0 dX4_mayTake_51 (by decide) ?_
    exact pw_zret X (by decide) hw dX4_mayTake_52
  · replace hw := hw.2 c22
    refine pw_aload_n X dX4_mayTake_30 rfl rfl ?_
    refine pw_aload_n X dX4_mayTake_31 rfl rfl ?_
    refine pw_iload_n X dX4_mayTake_32 rfl rfl ?_
    refine pw_iconst X 4 dX4_mayTake_33 (by decide) ?_
    refine pw_runi X (m_cV X (b := a0) (ci := 4) (q := (RX4, TX4, tyX4, 15)) (met_X4_ofPatrol G C.2.1 M18 a0 x1 4 _ hw) ht21 rfl (lw_V q2069 q2071 qs48 q107 q2072) ⟨rfl, nh_X4_ofPatrol⟩ ⟨Nat.le_of_ble_eq_true rfl, Nat.le_of_ble_eq_true rfl⟩ rfl (Nat.le_of_ble_eq_true rfl) dX4_mayTake_34) (fun r25 M23 hle24 hx => ?_)
    replace hw := hx hle24
    clear hx
    have ht26 : m_tg M23 a0 = 5 := m_le_tg hle24 ht21
    refine pw_aload_n X dX4_mayTake_37 rfl rfl ?_
    refine pw_iload_n X dX4_mayTake_38 rfl rfl ?_
    refine pw_iconst X 1 dX4_mayTake_39 (by decide) ?_
    refine pw_runi X (m_cV X (b := a0) (ci := 4) (q := (RX4, TX4, tyX4, 15)) (met_X4_ofCall G C.2.1 M23 a0 x2 1 _ hw) ht26 rfl (lw_V q2053 q2055 qs44 q107 q2056) ⟨rfl, nh_X4_ofCall⟩ ⟨Nat.le_of_ble_eq_true rfl, Nat.le_of_ble_eq_true rfl⟩ rfl (Nat.le_of_ble_eq_true rfl) dX4_mayTake_40) (fun r29 M27 hle28 hx => ?_)
    replace hw := hx hle28
    clear hx
    have ht30 : m_tg M27 a0 = 5 := m_le_tg hle28 ht26
    refine pw_runi X (m_cV X (b := a0) (ci := 4) (q := (RX4, TX4, tyX4, 15)) (met_X4_way G C.2.1 M27 a0 r25 r29 _ hw) ht30 rfl (lw_V q2105 q2107 qs54 q107 q2108) ⟨rfl, nh_X4_way⟩ ⟨Nat.le_of_ble_eq_true rfl, Nat.le_of_ble_eq_true rfl⟩ rfl (Nat.le_of_ble_eq_true rfl) dX4_mayTake_43) (fun r33 M31 hle32 hx => ?_)
    replace hw := hx hle32
    clear hx
    have ht34 : m_tg M31 a0 = 5 := m_le_tg hle32 ht30
    refine pw_ldc X 100000 q1945 dX4_mayTake_46 ?_
    refine pw_icmp_lt X 53 dX4_mayTake_48 (by decide) (fun c35 => ?_) (fun c35 => ?_)
    · replace hw := hw.1 c35
      refine pw_aload_n X dX4_mayTake_53 rfl rfl ?_
      refine pw_iload_n X dX4_mayTake_54 rfl rfl ?_
      refine pw_iconst X 5 dX4_mayTake_55 (by decide) ?_
      refine pw_runi X (m_cV X (b := a0) (ci := 4) (q := (RX4, TX4, tyX4, 15)) (met_X4_ofCall G C.2.1 M31 a0 x2 5 _ hw) ht34 rfl (lw_V q2053 q2055 qs44 q107 q2056) ⟨rfl, nh_X4_ofCall⟩ ⟨Nat.le_of_ble_eq_true rfl, Nat.le_of_ble_eq_true rfl⟩ rfl (Nat.le_of_ble_eq_true rfl) dX4_mayTake_56) (fun r38 M36 hle37 hx => ?_)
      replace hw := hx hle37
      clear hx
      have ht39 : m_tg M36 a0 = 5 := m_le_tg hle37 ht34
      refine pw_if_ne X 74 dX4_mayTake_59 (by decide) (fun c40 => ?_) (fun c40 => ?_)
      · replace hw := hw.1 c40
        refine pw_iload_n X dX4_mayTake_74 rfl rfl ?_
        refine pw_iload X dX4_mayTake_75 rfl ?_
        refine pw_icmp_ne X 94 dX4_mayTake_77 (by decide) (fun c41 => ?_) (fun c41 => ?_)
        · replace hw := hw.1 c41
          refine pw_iconst X 0 dX4_mayTake_94 (by decide) ?_
          exact pw_zret X (by decide) hw dX4_mayTake_95
        · replace hw := hw.2 c41
          refine pw_aload_n X dX4_mayTake_80 rfl rfl ?_
          refine pw_iload_n X dX4_mayTake_81 rfl rfl ?_
          refine pw_iconst X 2 dX4_mayTake_82 (by decide) ?_
          refine pw_runi X (m_cV X (b := a0) (ci := 4) (q := (RX4, TX4, tyX4, 15)) (met_X4_ofPatrol G C.2.1 M36 a0 x1 2 _ hw) ht39 rfl (lw_V q2069 q2071 qs48 q107 q2072) ⟨rfl, nh_X4_ofPatrol⟩ ⟨Nat.le_of_ble_eq_true rfl, Nat.le_of_ble_eq_true rfl⟩ rfl (Nat.le_of_ble_eq_true rfl) dX4_mayTake_83) (fun r44 M42 hle43 hx => ?_)
          replace hw := hx hle43
          clear hx
          have ht45 : m_tg M42 a0 = 5 := m_le_tg hle43 ht39
          refine pw_iconst X 1 dX4_mayTake_86 (by decide) ?_
          refine pw_icmp_ne X 94 dX4_mayTake_87 (by decide) (fun c46 => ?_) (fun c46 => ?_)
          · replace hw := hw.1 c46
            refine pw_iconst X 0 dX4_mayTake_94 (by decide) ?_
            exact pw_zret X (by decide) hw dX4_mayTake_95
          · replace hw := hw.2 c46
            refine pw_iconst X 1 dX4_mayTake_90 (by decide) ?_
            refine pw_goto X 95 dX4_mayTake_91 (by decide) ?_
            exact pw_zret X (by decide) hw dX4_mayTake_95
      · replace hw := hw.2 c40
        refine pw_iload_n X dX4_mayTake_62 rfl rfl ?_
        refine pw_iload X dX4_mayTake_63 rfl ?_
        refine pw_isub X dX4_mayTake_65 ?_
        refine pw_iconst X (-1) dX4_mayTake_66 (by decide) ?_
        refine pw_iconst X 1 dX4_mayTake_67 (by decide) ?_
        refine pw_runi X (m_cS X (met_X4_in G C.2.1 M36 (r8 - r16) (-1) 1 _ hw) (lw_S q1999 q2000 q107 q2001) nh_X4_in ⟨Nat.le_of_ble_eq_true rfl, Nat.le_of_ble_eq_true rfl⟩ rfl (Nat.le_of_ble_eq_true rfl) dX4_mayTake_68) (fun r49 M47 hle48 hx => ?_)
        replace hw := hx hle48
        clear hx
        have ht50 : m_tg M47 a0 = 5 := m_le_tg hle48 ht39
        refine pw_goto X 95 dX4_mayTake_71 (by decide) ?_
        exact pw_zret X (m_nz hw.1) hw.2 dX4_mayTake_95
    · replace hw := hw.2 c35
      refine pw_iconst X 0 dX4_mayTake_51 (by decide) ?_
      exact pw_zret X (by decide) hw dX4_mayTake_52
theorem met_X4_mayTake (G : Gp) (l : Launch) (M : Mem) (a0 : Nat) (x1 : Int32) (x2 : Int32) (Q : Int32 → Mem → Prop) (hw : wp_X4_mayTake G.2 M a0 x1 x2 Q) : m_K G l yX4_mayTake cX4_mayTake 5 (some .boolean) 1 22 [vR (some a0), vI x1, vI x2] M (va_Qi (m_q1 M Q) (m_W G) (m_A G)) := by
  refine m_met (by decide) (Nat.le_of_ble_eq_true rfl) (fun C e X => ?_)
  exact bk_X4_mayTake_0 G C _ _ M Q X M a0 x1 x2 hw
theorem nh_X4_mayTake : m_nMH yX4_mayTake 2 := by decide +kernel

def wp_X4_nearestOf_b106 (g : Nat → Nat) (k5 : Mem → Nat → Int32 → Int32 → Int32 → Prop) (M : Mem) (la0 : Nat) (lx1 : Int32) (lx2 : Int32) (lx3 : Int32) (sx0 : Int32) (Q : Int32 → Mem → Prop) : Prop := ((sx0 = 0 → k5 M la0 lx1 lx2 (lx3 + 1)) ∧ (¬ sx0 = 0 → k5 M la0 lx1 lx3 (lx3 + 1)))
def wp_X4_nearestOf_b101 (g : Nat → Nat) (k5 : Mem → Nat → Int32 → Int32 → Int32 → Prop) (M : Mem) (la0 : Nat) (lx1 : Int32) (lx2 : Int32) (lx3 : Int32) (Q : Int32 → Mem → Prop) : Prop := wp_X4_nearestOf_b106 g k5 M la0 lx1 lx2 lx3 1 Q
def wp_X4_nearestOf_b105 (g : Nat → Nat) (k5 : Mem → Nat → Int32 → Int32 → Int32 → Prop) (M : Mem) (la0 : Nat) (lx1 : Int32) (lx2 : Int32) (lx3 : Int32) (Q : Int32 → Mem → Prop) : Prop := wp_X4_nearestOf_b106 g k5 M la0 lx1 lx2 lx3 0 Q
def wp_X4_nearestOf_b70 (g : Nat → Nat) (k5 : Mem → Nat → Int32 → Int32 → Int32 → Prop) (M : Mem) (la0 : Nat) (lx1 : Int32) (lx2 : Int32) (lx3 : Int32) (lx4 : Int32) (sx0 : Int32) (Q : Int32 → Mem → Prop) : Prop := ((lx4 < sx0 → wp_X4_nearestOf_b101 g k5 M la0 lx1 lx2 lx3 Q) ∧ (¬ lx4 < sx0 → ((¬ lx4 = sx0 → wp_X4_nearestOf_b105 g k5 M la0 lx1 lx2 lx3 Q) ∧ (lx4 = sx0 → m_tg M la0 = 5 ∧ wp_X4_ofPatrol g M la0 lx3 1 (fun (r6 : Int32) (M4 : Mem) => m_le M M4 → wp_X4_ofPatrol g M4 la0 lx2 1 (fun (r10 : Int32) (M8 : Mem) => m_le M4 M8 → ((r6 ≤ r10 → wp_X4_nearestOf_b105 g k5 M8 la0 lx1 lx2 lx3 Q) ∧ (¬ r6 ≤ r10 → wp_X4_nearestOf_b101 g k5 M8 la0 lx1 lx2 lx3 Q))))))))
def wp_X4_nearestOf_b5 (g : Nat → Nat) (Q : Int32 → Mem → Prop) : Nat → Mem → Nat → Int32 → Int32 → Int32 → Prop
  | 0 => fun _ _ _ _ _ => False
  | n + 1 => fun M la0 lx1 lx2 lx3 => m_tg M la0 = 5 ∧ ∃ u2 : Nat, (m_gr M la0 0) = some u2 ∧ m_tg M u2 = 101 ∧ vp_in 7 (m_ln M u2) ∧ (((m_gi M u2 (Int32.toNatClampNeg 7)) ≤ lx3 → Q lx2 M) ∧ (¬ (m_gi M u2 (Int32.toNatClampNeg 7)) ≤ lx3 → wp_X4_mayTake g M la0 lx3 lx1 (fun (r9 : Int32) (M7 : Mem) => m_le M M7 → ((r9 = 0 → wp_X4_nearestOf_b5 g Q n M7 la0 lx1 lx2 (lx3 + 1)) ∧ (¬ r9 = 0 → wp_X4_ofPatrol g M7 la0 lx3 4 (fun (r15 : Int32) (M13 : Mem) => m_le M7 M13 → wp_X4_ofCall g M13 la0 lx1 1 (fun (r20 : Int32) (M18 : Mem) => m_le M13 M18 → wp_X4_way g M18 la0 r15 r20 (fun (r25 : Int32) (M23 : Mem) => m_le M18 M23 → ((¬ lx2 = (-5) → wp_X4_ofPatrol g M23 la0 lx2 4 (fun (r31 : Int32) (M29 : Mem) => m_le M23 M29 → wp_X4_ofCall g M29 la0 lx1 1 (fun (r36 : Int32) (M34 : Mem) => m_le M29 M34 → wp_X4_way g M34 la0 r31 r36 (fun (r41 : Int32) (M39 : Mem) => m_le M34 M39 → wp_X4_nearestOf_b70 g (wp_X4_nearestOf_b5 g Q n) M39 la0 lx1 lx2 lx3 r25 r41 Q)))) ∧ (lx2 = (-5) → wp_X4_nearestOf_b70 g (wp_X4_nearestOf_b5 g Q n) M23 la0 lx1 lx2 lx3 r25 100000 Q))))))))))
def wp_X4_nearestOf (g : Nat → Nat) (M : Mem) (a0 : Nat) (x1 : Int32) (Q : Int32 → Mem → Prop) : Prop := ∃ j5 : Nat, wp_X4_nearestOf_b5 g Q j5 M a0 x1 (-5) 0
theorem bk_X4_nearestOf_106 (G : Gp) (C : m_Cx) (n0 s0 : Nat) (M0 : Mem) (Q : Int32 → Mem → Prop) (X : m_in G C RX4 cX4_nearestOf 7 (some .int) "nearestOf" 2 46 n0 s0) (k5 : Mem → Nat → Int32 → Int32 → Int32 → Prop) (hk5 : ∀ (M : Mem) (la0 : Nat) (lx1 : Int32) (lx2 : Int32) (lx3 : Int32), k5 M la0 lx1 lx2 lx3 → pW G C 7 n0 s0 M0 (m_Q G C n0 s0 (va_Qi (m_q1 M0 Q) (m_W G) (m_A G))) M 5 [(0, vR (some la0)), (1, vI lx1), (2, vI lx2), (3, vI lx3)] []) (M : Mem) (la0 : Nat) (lx1 : Int32) (lx2 : Int32) (lx3 : Int32) (sx0 : Int32) (hw : wp_X4_nearestOf_b106 G.2 k5 M la0 lx1 lx2 lx3 sx0 Q) : pW G C 7 n0 s0 M0 (m_Q G C n0 s0 (va_Qi (m_q1 M0 Q) (m_W G) (m_A G))) M 106 [(0, vR (some la0)), (1, vI lx1), (2, vI lx2), (3, vI lx3)] [vI sx0] := by
  refine pw_istore X [(0, vR (some la0)), (1, vI lx1), (2, vI lx2), (3, vI lx3), (6, vI sx0)] [1, 2, 3, 4, 0] dX4_nearestOf_106 (by decide) rfl ?_
  refine pw_iload X dX4_nearestOf_108 rfl ?_
  refine pw_if_eq X 117 dX4_nearestOf_110 (by decide) (fun c1 => ?_) (fun c1 => ?_)
  · replace hw := hw.1 c1
    refine pw_iload_n X dX4_nearestOf_117 rfl rfl ?_
    refine pw_istore_n X [(0, vR (some la0)), (1, vI lx1), (2, vI lx2), (3, vI lx3)] [1, 2, 0, 3] dX4_nearestOf_118 rfl (by decide) rfl ?_
    refine pw_iinc X (lx3 + 1) [(0, vR (some la0)), (1, vI lx1), (2, vI lx2), (3, vI (lx3 + 1))] [1, 2, 3, 0] dX4_nearestOf_119 rfl (by first | rfl | decide) (by decide) rfl ?_
    refine pw_goto X 5 dX4_nearestOf_122 (by decide) ?_
    exact hk5 _ la0 lx1 lx2 (lx3 + 1) hw
  · replace hw := hw.2 c1
    refine pw_iload_n X dX4_nearestOf_113 rfl rfl ?_
    refine pw_goto X 118 dX4_nearestOf_114 (by decide) ?_
    refine pw_istore_n X [(0, vR (some la0)), (1, vI lx1), (2, vI lx3), (3, vI lx3)] [1, 2, 0, 3] dX4_nearestOf_118 rfl (by decide) rfl ?_
    refine pw_iinc X (lx3 + 1) [(0, vR (some la0)), (1, vI lx1), (2, vI lx3), (3, vI (lx3 + 1))] [1, 2, 3, 0] dX4_nearestOf_119 rfl (by first | rfl | decide) (by decide) rfl ?_
    refine pw_goto X 5 dX4_nearestOf_122 (by decide) ?_
    exact hk5 _ la0 lx1 lx3 (lx3 + 1) hw
theorem bk_X4_nearestOf_101 (G : Gp) (C : m_Cx) (n0 s0 : Nat) (M0 : Mem) (Q : Int32 → Mem → Prop) (X : m_in G C RX4 cX4_nearestOf 7 (some .int) "nearestOf" 2 46 n0 s0) (k5 : Mem → Nat → Int32 → Int32 → Int32 → Prop) (hk5 : ∀ (M : Mem) (la0 : Nat) (lx1 : Int32) (lx2 : Int32) (lx3 : Int32), k5 M la0 lx1 lx2 lx3 → pW G C 7 n0 s0 M0 (m_Q G C n0 s0 (va_Qi (m_q1 M0 Q) (m_W G) (m_A G))) M 5 [(0, vR (some la0)), (1, vI lx1), (2, vI lx2), (3, vI lx3)] []) (M : Mem) (la0 : Nat) (lx1 : Int32) (lx2 : Int32) (lx3 : Int32) (hw : wp_X4_nearestOf_b101 G.2 k5 M la0 lx1 lx2 lx3 Q) : pW G C 7 n0 s0 M0 (m_Q G C n0 s0 (va_Qi (m_q1 M0 Q) (m_W G) (m_A G))) M 101 [(0, vR (some la0)), (1, vI lx1), (2, vI lx2), (3, vI lx3)] [] := by
  refine pw_iconst X 1 dX4_nearestOf_101 (by decide) ?_
  refine pw_goto X 106 dX4_nearestOf_102 (by decide) ?_
  exact bk_X4_nearestOf_106 G C n0 s0 M0 Q X k5 hk5 _ la0 lx1 lx2 lx3 1 hw
theorem bk_X4_nearestOf_105 (G : Gp) (C : m_Cx) (n0 s0 : Nat) (M0 : Mem) (Q : Int32 → Mem → Prop) (X : m_in G C RX4 cX4_nearestOf 7 (some .int) "nearestOf" 2 46 n0 s0) (k5 : Mem → Nat → Int32 → Int32 → Int32 → Prop) (hk5 : ∀ (M : Mem) (la0 : Nat) (lx1 : Int32) (lx2 : Int32) (lx3 : Int32), k5 M la0 lx1 lx2 lx3 → pW G C 7 n0 s0 M0 (m_Q G C n0 s0 (va_Qi (m_q1 M0 Q) (m_W G) (m_A G))) M 5 [(0, vR (some la0)), (1, vI lx1), (2, vI lx2), (3, vI lx3)] []) (M : Mem) (la0 : Nat) (lx1 : Int32) (lx2 : Int32) (lx3 : Int32) (hw : wp_X4_nearestOf_b105 G.2 k5 M la0 lx1 lx2 lx3 Q) : pW G C 7 n0 s0 M0 (m_Q G C n0 s0 (va_Qi (m_q1 M0 Q) (m_W G) (m_A G))) M 105 [(0, vR (some la0)), (1, vI lx1), (2, vI lx2), (3, vI lx3)] [] := by
  refine pw_iconst X 0 dX4_nearestOf_105 (by decide) ?_
  exact bk_X4_nearestOf_106 G C n0 s0 M0 Q X k5 hk5 _ la0 lx1 lx2 lx3 0 hw
theorem bk_X4_nearestOf_70 (G : Gp) (C : m_Cx) (n0 s0 : Nat) (M0 : Mem) (Q : Int32 → Mem → Prop) (X : m_in G C RX4 cX4_nearestOf 7 (some .int) "nearestOf" 2 46 n0 s0) (k5 : Mem → Nat → Int32 → Int32 → Int32 → Prop) (hk5 : ∀ (M : Mem) (la0 : Nat) (lx1 : Int32) (lx2 : Int32) (lx3 : Int32), k5 M la0 lx1 lx2 lx3 → pW G C 7 n0 s0 M0 (m_Q G C n0 s0 (va_Qi (m_q1 M0 Q) (m_W G) (m_A G))) M 5 [(0, vR (some la0)), (1, vI lx1), (2, vI lx2), (3, vI lx3)] []) (M : Mem) (la0 : Nat) (lx1 : Int32) (lx2 : Int32) (lx3 : Int32) (lx4 : Int32) (sx0 : Int32) (hw : wp_X4_nearestOf_b70 G.2 k5 M la0 lx1 lx2 lx3 lx4 sx0 Q) : pW G C 7 n0 s0 M0 (m_Q G C n0 s0 (va_Qi (m_q1 M0 Q) (m_W G) (m_A G))) M 70 [(0, vR (some la0)), (1, vI lx1), (2, vI lx2), (3, vI lx3), (4, vI lx4)] [vI sx0] := by
  refine pw_istore X [(0, vR (some la0)), (1, vI lx1), (2, vI lx2), (3, vI lx3), (4, vI lx4), (5, vI sx0)] [1, 2, 3, 4, 5, 0] dX4_nearestOf_70 (by decide) rfl ?_
  refine pw_iload X dX4_nearestOf_72 rfl ?_
  refine pw_iload X dX4_nearestOf_74 rfl ?_
  refine pw_icmp_lt X 101 dX4_nearestOf_76 (by decide) (fun c1 => ?_) (fun c1 => ?_)
  · replace hw := hw.1 c1
    refine pw_lo [0, 1, 2, 3] rfl ?_
    exact bk_X4_nearestOf_101 G C n0 s0 M0 Q X k5 hk5 _ la0 lx1 lx2 lx3 hw
  · replace hw := hw.2 c1
    refine pw_iload X dX4_nearestOf_79 rfl ?_
    refine pw_iload X dX4_nearestOf_81 rfl ?_
    refine pw_icmp_ne X 105 dX4_nearestOf_83 (by decide) (fun c2 => ?_) (fun c2 => ?_)
    · replace hw := hw.1 c2
      refine pw_lo [0, 1, 2, 3] rfl ?_
      exact bk_X4_nearestOf_105 G C n0 s0 M0 Q X k5 hk5 _ la0 lx1 lx2 lx3 hw
    · replace hw := hw.2 c2
      refine pw_aload_n X dX4_nearestOf_86 rfl rfl ?_
      refine pw_iload_n X dX4_nearestOf_87 rfl rfl ?_
      refine pw_iconst X 1 dX4_nearestOf_88 (by decide) ?_
      obtain ⟨ht3, hw⟩ := hw
      refine pw_runi X (m_cV X (b := la0) (ci := 4) (q := (RX4, TX4, tyX4, 15)) (met_X4_ofPatrol G C.2.1 M la0 lx3 1 _ hw) ht3 rfl (lw_V q2069 q2071 qs48 q107 q2072) ⟨rfl, nh_X4_ofPatrol⟩ ⟨Nat.le_of_ble_eq_true rfl, Nat.le_of_ble_eq_true rfl⟩ rfl (Nat.le_of_ble_eq_true rfl) dX4_nearestOf_89) (fun r6 M4 hle5 hx => ?_)
      replace hw := hx hle5
      clear hx
      have ht7 : m_tg M4 la0 = 5 := m_le_tg hle5 ht3
      refine pw_aload_n X dX4_nearestOf_92 rfl rfl ?_
      refine pw_iload_n X dX4_nearestOf_93 rfl rfl ?_
      refine pw_iconst X 1 dX4_nearestOf_94 (by decide) ?_
      refine pw_runi X (m_cV X (b := la0) (ci := 4) (q := (RX4, TX4, tyX4, 15)) (met_X4_ofPatrol G C.2.1 M4 la0 lx2 1 _ hw) ht7 rfl (lw_V q2069 q2071 qs48 q107 q2072) ⟨rfl, nh_X4_ofPatrol⟩ ⟨Nat.le_of_ble_eq_true rfl, Nat.le_of_ble_eq_true rfl⟩ rfl (Nat.le_of_ble_eq_true rfl) dX4_nearestOf_95) (fun r10 M8 hle9 hx => ?_)
      replace hw := hx hle9
      clear hx
      have ht11 : m_tg M8 la0 = 5 := m_le_tg hle9 ht7
      refine pw_icmp_le X 105 dX4_nearestOf_98 (by decide) (fun c12 => ?_) (fun c12 => ?_)
      · replace hw := hw.1 c12
        refine pw_lo [0, 1, 2, 3] rfl ?_
        exact bk_X4_nearestOf_105 G C n0 s0 M0 Q X k5 hk5 _ la0 lx1 lx2 lx3 hw
      · replace hw := hw.2 c12
        refine pw_lo [0, 1, 2, 3] rfl ?_
        exact bk_X4_nearestOf_101 G C n0 s0 M0 Q X k5 hk5 _ la0 lx1 lx2 lx3 hw
theorem bk_X4_nearestOf_5 (G : Gp) (C : m_Cx) (n0 s0 : Nat) (M0 : Mem) (Q : Int32 → Mem → Prop) (X : m_in G C RX4 cX4_nearestOf 7 (some .int) "nearestOf" 2 46 n0 s0) : ∀ (n : Nat) (M : Mem) (la0 : Nat) (lx1 : Int32) (lx2 : Int32) (lx3 : Int32) (hw : wp_X4_nearestOf_b5 G.2 Q n M la0 lx1 lx2 lx3), pW G C 7 n0 s0 M0 (m_Q G C n0 s0 (va_Qi (m_q1 M0 Q) (m_W G) (m_A G))) M 5 [(0, vR (some la0)), (1, vI lx1), (2, vI lx2), (3, vI lx3)] [] := by
  intro n
  induction n with
  | zero => intro M la0 lx1 lx2 lx3 hw; exact hw.elim
  | succ n ih =>
    intro M la0 lx1 lx2 lx3 hw
    refine pw_iload_n X dX4_nearestOf_5 rfl rfl ?_
    refine pw_aload_n X dX4_nearestOf_6 rfl rfl ?_
    obtain ⟨ht1, hw⟩ := hw
    obtain ⟨u2, he3, hw⟩ := hw
    refine pw_get X (q := (RX4, TX4, tyX4, 15)) (ci := 4) (k := 0) (ref := "PatrolDeskModel") (vR (some u2)) ht1 rfl (by decide) in_X4 q1946 (Or.inl rfl) (by rw [he3]; rfl) dX4_nearestOf_7 ?_
    refine pw_bipush X 7 dX4_nearestOf_10 (by decide) ?_
    obtain ⟨ht4, hw⟩ := hw
    obtain ⟨hi5, hw⟩ := hw
    refine pw_iald X ht4 hi5 dX4_nearestOf_12 ?_
    refine pw_icmp_ge X 125 dX4_nearestOf_13 (by decide) (fun c6 => ?_) (fun c6 => ?_)
    · replace hw := hw.1 c6
      refine pw_iload_n X dX4_nearestOf_125 rfl rfl ?_
      exact pw_iret X hw dX4_nearestOf_126
    · replace hw := hw.2 c6
      refine pw_aload_n X dX4_nearestOf_16 rfl rfl ?_
      refine pw_iload_n X dX4_nearestOf_17 rfl rfl ?_
      refine pw_iload_n X dX4_nearestOf_18 rfl rfl ?_
      refine pw_runi X (m_cV X (b := la0) (ci := 4) (q := (RX4, TX4, tyX4, 15)) (met_X4_mayTake G C.2.1 M la0 lx3 lx1 _ hw) ht1 rfl (lw_V q2192 q2194 qs73 q107 q2195) ⟨rfl, nh_X4_mayTake⟩ ⟨Nat.le_of_ble_eq_true rfl, Nat.le_of_ble_eq_true rfl⟩ rfl (Nat.le_of_ble_eq_true rfl) dX4_nearestOf_19) (fun r9 M7 hle8 hx => ?_)
      replace hw := hx hle8
      clear hx
      have ht10 : m_tg M7 la0 = 5 := m_le_tg hle8 ht1
      have ht11 : m_tg M7 u2 = 101 := m_le_tg hle8 ht4
      refine pw_if_eq X 119 dX4_nearestOf_22 (by decide) (fun c12 => ?_) (fun c12 => ?_)
      · replace hw := hw.1 c12
        refine pw_iinc X (lx3 + 1) [(0, vR (some la0)), (1, vI lx1), (2, vI lx2), (3, vI (lx3 + 1))] [1, 2, 3, 0] dX4_nearestOf_119 rfl (by first | rfl | decide) (by decide) rfl ?_
        refine pw_goto X 5 dX4_nearestOf_122 (by decide) ?_
        exact ih _ la0 lx1 lx2 (lx3 + 1) hw
      · replace hw := hw.2 c12
        refine pw_aload_n X dX4_nearestOf_25 rfl rfl ?_
        refine pw_aload_n X dX4_nearestOf_26 rfl rfl ?_
        refine pw_iload_n X dX4_nearestOf_27 rfl rfl ?_
        refine pw_iconst X 4 dX4_nearestOf_28 (by decide) ?_
        refine pw_runi X (m_cV X (b := la0) (ci := 4) (q := (RX4, TX4, tyX4, 15)) (met_X4_ofPatrol G C.2.1 M7 la0 lx3 4 _ hw) ht10 rfl (lw_V q2069 q2071 qs48 q107 q2072) ⟨rfl, nh_X4_ofPatrol⟩ ⟨Nat.le_of_ble_eq_true rfl, Nat.le_of_ble_eq_true rfl⟩ rfl (Nat.le_of_ble_eq_true rfl) dX4_nearestOf_29) (fun r15 M13 hle14 hx => ?_)
        replace hw := hx hle14
        clear hx
        have ht16 : m_tg M13 la0 = 5 := m_le_tg hle14 ht10
        have ht17 : m_tg M13 u2 = 101 := m_le_tg hle14 ht11
        refine pw_aload_n X dX4_nearestOf_32 rfl rfl ?_
        refine pw_iload_n X dX4_nearestOf_33 rfl rfl ?_
        refine pw_iconst X 1 dX4_nearestOf_34 (by decide) ?_
        refine pw_runi X (m_cV X (b := la0) (ci := 4) (q := (RX4, TX4, tyX4, 15)) (met_X4_ofCall G C.2.1 M13 la0 lx1 1 _ hw) ht16 rfl (lw_V q2053 q2055 qs44 q107 q2056) ⟨rfl, nh_X4_ofCall⟩ ⟨Nat.le_of_ble_eq_true rfl, Nat.le_of_ble_eq_true rfl⟩ rfl (Nat.le_of_ble_eq_true rfl) dX4_nearestOf_35) (fun r20 M18 hle19 hx => ?_)
        replace hw := hx hle19
        clear hx
        have ht21 : m_tg M18 la0 = 5 := m_le_tg hle19 ht16
        have ht22 : m_tg M18 u2 = 101 := m_le_tg hle19 ht17
        refine pw_runi X (m_cV X (b := la0) (ci := 4) (q := (RX4, TX4, tyX4, 15)) (met_X4_way G C.2.1 M18 la0 r15 r20 _ hw) ht21 rfl (lw_V q2105 q2107 qs54 q107 q2108) ⟨rfl, nh_X4_way⟩ ⟨Nat.le_of_ble_eq_true rfl, Nat.le_of_ble_eq_true rfl⟩ rfl (Nat.le_of_ble_eq_true rfl) dX4_nearestOf_38) (fun r25 M23 hle24 hx => ?_)
        replace hw := hx hle24
        clear hx
        have ht26 : m_tg M23 la0 = 5 := m_le_tg hle24 ht21
        have ht27 : m_tg M23 u2 = 101 := m_le_tg hle24 ht22
        refine pw_istore X [(0, vR (some la0)), (1, vI lx1), (2, vI lx2), (3, vI lx3), (4, vI r25)] [1, 2, 3, 4, 0] dX4_nearestOf_41 (by decide) rfl ?_
        refine pw_iload_n X dX4_nearestOf_43 rfl rfl ?_
        refine pw_bipush X (-5) dX4_nearestOf_44 (by decide) ?_
        refine pw_icmp_ne X 54 dX4_nearestOf_46 (by decide) (fun c28 => ?_) (fun c28 => ?_)
        · replace hw := hw.1 c28
          refine pw_aload_n X dX4_nearestOf_54 rfl rfl ?_
          refine pw_aload_n X dX4_nearestOf_55 rfl rfl ?_
          refine pw_iload_n X dX4_nearestOf_56 rfl rfl ?_
          refine pw_iconst X 4 dX4_nearestOf_57 (by decide) ?_
          refine pw_runi X (m_cV X (b := la0) (ci := 4) (q := (RX4, TX4, tyX4, 15)) (met_X4_ofPatrol G C.2.1 M23 la0 lx2 4 _ hw) ht26 rfl (lw_V q2069 q2071 qs48 q107 q2072) ⟨rfl, nh_X4_ofPatrol⟩ ⟨Nat.le_of_ble_eq_true rfl, Nat.le_of_ble_eq_true rfl⟩ rfl (Nat.le_of_ble_eq_true rfl) dX4_nearestOf_58) (fun r31 M29 hle30 hx => ?_)
          replace hw := hx hle30
          clear hx
          have ht32 : m_tg M29 la0 = 5 := m_le_tg hle30 ht26
          have ht33 : m_tg M29 u2 = 101 := m_le_tg hle30 ht27
          refine pw_aload_n X dX4_nearestOf_61 rfl rfl ?_
          refine pw_iload_n X dX4_nearestOf_62 rfl rfl ?_
          refine pw_iconst X 1 dX4_nearestOf_63 (by decide) ?_
          refine pw_runi X (m_cV X (b := la0) (ci := 4) (q := (RX4, TX4, tyX4, 15)) (met_X4_ofCall G C.2.1 M29 la0 lx1 1 _ hw) ht32 rfl (lw_V q2053 q2055 qs44 q107 q2056) ⟨rfl, nh_X4_ofCall⟩ ⟨Nat.le_of_ble_eq_true rfl, Nat.le_of_ble_eq_true rfl⟩ rfl (Nat.le_of_ble_eq_true rfl) dX4_nearestOf_64) (fun r36 M34 hle35 hx => ?_)
          replace hw := hx hle35
          clear hx
          have ht37 : m_tg M34 la0 = 5 := m_le_tg hle35 ht32
          have ht38 : m_tg M34 u2 = 101 := m_le_tg hle35 ht33
          refine pw_runi X (m_cV X (b := la0) (ci := 4) (q := (RX4, TX4, tyX4, 15)) (met_X4_way G C.2.1 M34 la0 r31 r36 _ hw) ht37 rfl (lw_V q2105 q2107 qs54 q107 q2108) ⟨rfl, nh_X4_way⟩ ⟨Nat.le_of_ble_eq_true rfl, Nat.le_of_ble_eq_true rfl⟩ rfl (Nat.le_of_ble_eq_true rfl) dX4_nearestOf_67) (fun r41 M39 hle40 hx => ?_)
          replace hw := hx hle40
          clear hx
          have ht42 : m_tg M39 la0 = 5 := m_le_tg hle40 ht37
          have ht43 : m_tg M39 u2 = 101 := m_le_tg hle40 ht38
          exact bk_X4_nearestOf_70 G C n0 s0 M0 Q X (wp_X4_nearestOf_b5 G.2 Q n) ih _ la0 lx1 lx2 lx3 r25 r41 hw
        · replace hw := hw.2 c28
          refine pw_ldc X 100000 q1945 dX4_nearestOf_49 ?_
          refine pw_goto X 70 dX4_nearestOf_51 (by decide) ?_
          exact bk_X4_nearestOf_70 G C n0 s0 M0 Q X (wp_X4_nearestOf_b5 G.2 Q n) ih _ la0 lx1 lx2 lx3 r25 100000 hw
theorem bk_X4_nearestOf_0 (G : Gp) (C : m_Cx) (n0 s0 : Nat) (M0 : Mem) (Q : Int32 → Mem → Prop) (X : m_in G C RX4 cX4_nearestOf 7 (some .int) "nearestOf" 2 46 n0 s0) (M : Mem) (a0 : Nat) (x1 : Int32) (hw : wp_X4_nearestOf G.2 M a0 x1 Q) : pW G C 7 n0 s0 M0 (m_Q G C n0 s0 (va_Qi (m_q1 M0 Q) (m_W G) (m_A G))) M 0 [(0, vR (some a0)), (1, vI x1)] [] := by
  refine pw_bipush X (-5) dX4_nearestOf_0 (by decide) ?_
  refine pw_istore_n X [(0, vR (some a0)), (1, vI x1), (2, vI (-5))] [1, 2, 0] dX4_nearestOf_2 rfl (by decide) rfl ?_
  refine pw_iconst X 0 dX4_nearestOf_3 (by decide) ?_
  refine pw_istore_n X [(0, vR (some a0)), (1, vI x1), (2, vI (-5)), (3, vI 0)] [1, 2, 3, 0] dX4_nearestOf_4 rfl (by decide) rfl ?_
  obtain ⟨n5, hw⟩ := hw
  exact bk_X4_nearestOf_5 G C n0 s0 M0 Q X n5 _ a0 x1 (-5) 0 hw
theorem met_X4_nearestOf (G : Gp) (l : Launch) (M : Mem) (a0 : Nat) (x1 : Int32) (Q : Int32 → Mem → Prop) (hw : wp_X4_nearestOf G.2 M a0 x1 Q) : m_K G l yX4_nearestOf cX4_nearestOf 7 (some .int) 2 46 [vR (some a0), vI x1] M (va_Qi (m_q1 M Q) (m_W G) (m_A G)) := by
  refine m_met (by decide) (Nat.le_of_ble_eq_true rfl) (fun C e X => ?_)
  exact bk_X4_nearestOf_0 G C _ _ M Q X M a0 x1 hw
theorem nh_X4_nearestOf : m_nMH yX4_nearestOf 1 := by decide +kernel

def wp_X4_sends_b91 (g : Nat → Nat) (k6 : Mem → Nat → Int32 → Prop) (M : Mem) (la0 : Nat) (lx1 : Int32) (lx2 : Int32) (lx3 : Int32) (lx4 : Int32) (sa0 : Nat) (sx1 : Int32) (sx2 : Int32) (sx3 : Int32) (Q : Mem → Prop) : Prop := m_tg M sa0 = 5 ∧ wp_X4_laysCall g M sa0 sx1 sx2 sx3 (fun (M2 : Mem) => m_le M M2 → m_tg M2 la0 = 5 ∧ wp_X4_laysCall g M2 la0 lx2 6 lx3 (fun (M6 : Mem) => m_le M2 M6 → ((¬ lx4 = 0 → k6 M6 la0 (lx1 + 1)) ∧ (lx4 = 0 → wp_X4_gets g M6 la0 lx3 (fun (M11 : Mem) => m_le M6 M11 → k6 M11 la0 (lx1 + 1))))))
def wp_X4_sends_b6 (g : Nat → Nat) (Q : Mem → Prop) : Nat → Mem → Nat → Int32 → Prop
  | 0 => fun _ _ _ => False
  | n + 1 => fun M la0 lx1 => m_tg M la0 = 5 ∧ (((m_gi M la0 11) ≤ lx1 → Q M) ∧ (¬ (m_gi M la0 11) ≤ lx1 → ∃ u3 : Nat, (m_gr M la0 10) = some u3 ∧ m_tg M u3 = 101 ∧ vp_in lx1 (m_ln M u3) ∧ wp_X4_nearestOf g M la0 (m_gi M u3 (Int32.toNatClampNeg lx1)) (fun (r9 : Int32) (M7 : Mem) => m_le M M7 → ((r9 = (-5) → wp_X4_sends_b6 g Q n M7 la0 (lx1 + 1)) ∧ (¬ r9 = (-5) → wp_X4_ofPatrol g M7 la0 r9 4 (fun (r15 : Int32) (M13 : Mem) => m_le M7 M13 → wp_X4_ofCall g M13 la0 (m_gi M u3 (Int32.toNatClampNeg lx1)) 1 (fun (r20 : Int32) (M18 : Mem) => m_le M13 M18 → wp_X4_way g M18 la0 r15 r20 (fun (r25 : Int32) (M23 : Mem) => m_le M18 M23 → wp_X4_laysPatrol g M23 la0 r9 3 1 (fun (M28 : Mem) => m_le M23 M28 → wp_X4_laysPatrol g M28 la0 r9 5 (m_gi M u3 (Int32.toNatClampNeg lx1)) (fun (M32 : Mem) => m_le M28 M32 → wp_X4_laysPatrol g M32 la0 r9 6 r25 (fun (M36 : Mem) => m_le M32 M36 → wp_X4_ofCall g M36 la0 (m_gi M u3 (Int32.toNatClampNeg lx1)) 5 (fun (r42 : Int32) (M40 : Mem) => m_le M36 M40 → ((¬ r42 = 0 → wp_X4_sends_b91 g (wp_X4_sends_b6 g Q n) M40 la0 lx1 (m_gi M u3 (Int32.toNatClampNeg lx1)) r9 r25 la0 (m_gi M u3 (Int32.toNatClampNeg lx1)) 5 3 Q) ∧ (r42 = 0 → wp_X4_sends_b91 g (wp_X4_sends_b6 g Q n) M40 la0 lx1 (m_gi M u3 (Int32.toNatClampNeg lx1)) r9 r25 la0 (m_gi M u3 (Int32.toNatClampNeg lx1)) 5 1 Q))))))))))))))
def wp_X4_sends (g : Nat → Nat) (M : Mem) (a0 : Nat) (Q : Mem → Prop) : Prop := m_tg M a0 = 5 ∧ wp_X4_laysRow g M a0 (fun (M2 : Mem) => m_le M M2 → ∃ j6 : Nat, wp_X4_sends_b6 g Q j6 M2 a0 0)
theorem bk_X4_sends_91 (G : Gp) (C : m_Cx) (n0 s0 : Nat) (M0 : Mem) (Q : Mem → Prop) (X : m_in G C RX4 cX4_sends 5 none "sends" 5 126 n0 s0) (k6 : Mem → Nat → Int32 → Prop) (hk6 : ∀ (M : Mem) (la0 : Nat) (lx1 : Int32), k6 M la0 lx1 → pW G C 5 n0 s0 M0 (m_Q G C n0 s0 (va_Qv (m_q0 M0 Q) (m_W G) (m_A G))) M 6 [(0, vR (some la0)), (1, vI lx1)] []) (M : Mem) (la0 : Nat) (lx1 : Int32) (lx2 : Int32) (lx3 : Int32) (lx4 : Int32) (sa0 : Nat) (sx1 : Int32) (sx2 : Int32) (sx3 : Int32) (hw : wp_X4_sends_b91 G.2 k6 M la0 lx1 lx2 lx3 lx4 sa0 sx1 sx2 sx3 Q) : pW G C 5 n0 s0 M0 (m_Q G C n0 s0 (va_Qv (m_q0 M0 Q) (m_W G) (m_A G))) M 91 [(0, vR (some la0)), (1, vI lx1), (2, vI lx2), (3, vI lx3), (4, vI lx4)] [vI sx3, vI sx2, vI sx1, vR (some sa0)] := by
  obtain ⟨ht1, hw⟩ := hw
  refine pw_runv X (m_cV X (b := sa0) (ci := 4) (q := (RX4, TX4, tyX4, 15)) (met_X4_laysCall G C.2.1 M sa0 sx1 sx2 sx3 _ hw) ht1 rfl (lw_V q2061 q2063 qs46 q107 q2064) ⟨rfl, nh_X4_laysCall⟩ ⟨Nat.le_of_ble_eq_true rfl, Nat.le_of_ble_eq_true rfl⟩ rfl (Nat.le_of_ble_eq_true rfl) dX4_sends_91) (fun M2 hle3 hx => ?_)
  replace hw := hx hle3
  clear hx
  have ht4 : m_tg M2 sa0 = 5 := m_le_tg hle3 ht1
  refine pw_aload_n X dX4_sends_94 rfl rfl ?_
  refine pw_iload_n X dX4_sends_95 rfl rfl ?_
  refine pw_bipush X 6 dX4_sends_96 (by decide) ?_
  refine pw_iload_n X dX4_sends_98 rfl rfl ?_
  obtain ⟨ht5, hw⟩ := hw
  refine pw_runv X (m_cV X (b := la0) (ci := 4) (q := (RX4, TX4, tyX4, 15)) (met_X4_laysCall G C.2.1 M2 la0 lx2 6 lx3 _ hw) ht5 rfl (lw_V q2061 q2063 qs46 q107 q2064) ⟨rfl, nh_X4_laysCall⟩ ⟨Nat.le_of_ble_eq_true rfl, Nat.le_of_ble_eq_true rfl⟩ rfl (Nat.le_of_ble_eq_true rfl) dX4_sends_99) (fun M6 hle7 hx => ?_)
  replace hw := hx hle7
  clear hx
  have ht8 : m_tg M6 sa0 = 5 := m_le_tg hle7 ht4
  have ht9 : m_tg M6 la0 = 5 := m_le_tg hle7 ht5
  refine pw_iload X dX4_sends_102 rfl ?_
  refine pw_if_ne X 112 dX4_sends_104 (by decide) (fun c10 => ?_) (fun c10 => ?_)
  · replace hw := hw.1 c10
    refine pw_iinc X (lx1 + 1) [(0, vR (some la0)), (1, vI (lx1 + 1))] [1, 0] dX4_sends_112 rfl (by first | rfl | decide) (by decide) rfl ?_
    refine pw_goto X 6 dX4_sends_115 (by decide) ?_
    exact hk6 _ la0 (lx1 + 1) hw
  · replace hw := hw.2 c10
    refine pw_aload_n X dX4_sends_107 rfl rfl ?_
    refine pw_iload_n X dX4_sends_108 rfl rfl ?_
    refine pw_runv X (m_cV X (b := la0) (ci := 4) (q := (RX4, TX4, tyX4, 15)) (met_X4_gets G C.2.1 M6 la0 lx3 _ hw) ht9 rfl (lw_V q2133 q2135 qs59 q107 q2136) ⟨rfl, nh_X4_gets⟩ ⟨Nat.le_of_ble_eq_true rfl, Nat.le_of_ble_eq_true rfl⟩ rfl (Nat.le_of_ble_eq_true rfl) dX4_sends_109) (fun M11 hle12 hx => ?_)
    replace hw := hx hle12
    clear hx
    have ht13 : m_tg M11 sa0 = 5 := m_le_tg hle12 ht8
    have ht14 : m_tg M11 la0 = 5 := m_le_tg hle12 ht9
    refine pw_iinc X (lx1 + 1) [(0, vR (some la0)), (1, vI (lx1 + 1))] [1, 0] dX4_sends_112 rfl (by first | rfl | decide) (by decide) rfl ?_
    refine pw_goto X 6 dX4_sends_115 (by decide) ?_
    exact hk6 _ la0 (lx1 + 1) hw
theorem bk_X4_sends_6 (G : Gp) (C : m_Cx) (n0 s0 : Nat) (M0 : Mem) (Q : Mem → Prop) (X : m_in G C RX4 cX4_sends 5 none "sends" 5 126 n0 s0) : ∀ (n : Nat) (M : Mem) (la0 : Nat) (lx1 : Int32) (hw : wp_X4_sends_b6 G.2 Q n M la0 lx1), pW G C 5 n0 s0 M0 (m_Q G C n0 s0 (va_Qv (m_q0 M0 Q) (m_W G) (m_A G))) M 6 [(0, vR (some la0)), (1, vI lx1)] [] := by
  intro n
  induction n with
  | zero => intro M la0 lx1 hw; exact hw.elim
  | succ n ih =>
    intro M la0 lx1 hw
    refine pw_iload_n X dX4_sends_6 rfl rfl ?_
    refine pw_aload_n X dX4_sends_7 rfl rfl ?_
    obtain ⟨ht1, hw⟩ := hw
    refine pw_get X (q := (RX4, TX4, tyX4, 15)) (ci := 4) (k := 11) (ref := "PatrolDeskModel") (vI (m_gi M la0 11)) ht1 rfl (by decide) in_X4 q1957 (Or.inl rfl) rfl dX4_sends_8 ?_
    refine pw_icmp_ge X 118 dX4_sends_11 (by decide) (fun c2 => ?_) (fun c2 => ?_)
    · replace hw := hw.1 c2
      exact pw_vret X hw dX4_sends_118
    · replace hw := hw.2 c2
      refine pw_aload_n X dX4_sends_14 rfl rfl ?_
      obtain ⟨u3, he4, hw⟩ := hw
      refine pw_get X (q := (RX4, TX4, tyX4, 15)) (ci := 4) (k := 10) (ref := "PatrolDeskModel") (vR (some u3)) ht1 rfl (by decide) in_X4 q1956 (Or.inl rfl) (by rw [he4]; rfl) dX4_sends_15 ?_
      refine pw_iload_n X dX4_sends_18 rfl rfl ?_
      obtain ⟨ht5, hw⟩ := hw
      obtain ⟨hi6, hw⟩ := hw
      refine pw_iald X ht5 hi6 dX4_sends_19 ?_
      refine pw_istore_n X [(0, vR (some la0)), (1, vI lx1), (2, vI (m_gi M u3 (Int32.toNatClampNeg lx1)))] [1, 2, 0] dX4_sends_20 rfl (by decide) rfl ?_
      refine pw_aload_n X dX4_sends_21 rfl rfl ?_
      refine pw_iload_n X dX4_sends_22 rfl rfl ?_
      refine pw_runi X (m_cV X (b := la0) (ci := 4) (q := (RX4, TX4, tyX4, 15)) (met_X4_nearestOf G C.2.1 M la0 (m_gi M u3 (Int32.toNatClampNeg lx1)) _ hw) ht1 rfl (lw_V q2188 q2190 qs72 q107 q2191) ⟨rfl, nh_X4_nearestOf⟩ ⟨Nat.le_of_ble_eq_true rfl, Nat.le_of_ble_eq_true rfl⟩ rfl (Nat.le_of_ble_eq_true rfl) dX4_sends_23) (fun r9 M7 hle8 hx => ?_)
      replace hw := hx hle8
      clear hx
      have ht10 : m_tg M7 la0 = 5 := m_le_tg hle8 ht1
      have ht11 : m_tg M7 u3 = 101 := m_le_tg hle8 ht5
      refine pw_istore_n X [(0, vR (some la0)), (1, vI lx1), (2, vI (m_gi M u3 (Int32.toNatClampNeg lx1))), (3, vI r9)] [1, 2, 3, 0] dX4_sends_26 rfl (by decide) rfl ?_
      refine pw_iload_n X dX4_sends_27 rfl rfl ?_
      refine pw_bipush X (-5) dX4_sends_28 (by decide) ?_
      refine pw_icmp_eq X 112 dX4_sends_30 (by decide) (fun c12 => ?_) (fun c12 => ?_)
      · replace hw := hw.1 c12
        refine pw_iinc X (lx1 + 1) [(0, vR (some la0)), (1, vI (lx1 + 1))] [1, 0] dX4_sends_112 rfl (by first | rfl | decide) (by decide) rfl ?_
        refine pw_goto X 6 dX4_sends_115 (by decide) ?_
        exact ih _ la0 (lx1 + 1) hw
      · replace hw := hw.2 c12
        refine pw_aload_n X dX4_sends_33 rfl rfl ?_
        refine pw_aload_n X dX4_sends_34 rfl rfl ?_
        refine pw_iload_n X dX4_sends_35 rfl rfl ?_
        refine pw_iconst X 4 dX4_sends_36 (by decide) ?_
        refine pw_runi X (m_cV X (b := la0) (ci := 4) (q := (RX4, TX4, tyX4, 15)) (met_X4_ofPatrol G C.2.1 M7 la0 r9 4 _ hw) ht10 rfl (lw_V q2069 q2071 qs48 q107 q2072) ⟨rfl, nh_X4_ofPatrol⟩ ⟨Nat.le_of_ble_eq_true rfl, Nat.le_of_ble_eq_true rfl⟩ rfl (Nat.le_of_ble_eq_true rfl) dX4_sends_37) (fun r15 M13 hle14 hx => ?_)
        replace hw := hx hle14
        clear hx
        have ht16 : m_tg M13 la0 = 5 := m_le_tg hle14 ht10
        have ht17 : m_tg M13 u3 = 101 := m_le_tg hle14 ht11
        refine pw_aload_n X dX4_sends_40 rfl rfl ?_
        refine pw_iload_n X dX4_sends_41 rfl rfl ?_
        refine pw_iconst X 1 dX4_sends_42 (by decide) ?_
        refine pw_runi X (m_cV X (b := la0) (ci := 4) (q := (RX4, TX4, tyX4, 15)) (met_X4_ofCall G C.2.1 M13 la0 (m_gi M u3 (Int32.toNatClampNeg lx1)) 1 _ hw) ht16 rfl (lw_V q2053 q2055 qs44 q107 q2056) ⟨rfl, nh_X4_ofCall⟩ ⟨Nat.le_of_ble_eq_true rfl, Nat.le_of_ble_eq_true rfl⟩ rfl (Nat.le_of_ble_eq_true rfl) dX4_sends_43) (fun r20 M18 hle19 hx => ?_)
        replace hw := hx hle19
        clear hx
        have ht21 : m_tg M18 la0 = 5 := m_le_tg hle19 ht16
        have ht22 : m_tg M18 u3 = 101 := m_le_tg hle19 ht17
        refine pw_runi X (m_cV X (b := la0) (ci := 4) (q := (RX4, TX4, tyX4, 15)) (met_X4_way G C.2.1 M18 la0 r15 r20 _ hw) ht21 rfl (lw_V q2105 q2107 qs54 q107 q2108) ⟨rfl, nh_X4_way⟩ ⟨Nat.le_of_ble_eq_true rfl, Nat.le_of_ble_eq_true rfl⟩ rfl (Nat.le_of_ble_eq_true rfl) dX4_sends_46) (fun r25 M23 hle24 hx => ?_)
        replace hw := hx hle24
        clear hx
        have ht26 : m_tg M23 la0 = 5 := m_le_tg hle24 ht21
        have ht27 : m_tg M23 u3 = 101 := m_le_tg hle24 ht22
        refine pw_istore X [(0, vR (some la0)), (1, vI lx1), (2, vI (m_gi M u3 (Int32.toNatClampNeg lx1))), (3, vI r9), (4, vI r25)] [1, 2, 3, 4, 0] dX4_sends_49 (by decide) rfl ?_
        refine pw_aload_n X dX4_sends_51 rfl rfl ?_
        refine pw_iload_n X dX4_sends_52 rfl rfl ?_
        refine pw_iconst X 3 dX4_sends_53 (by decide) ?_
        refine pw_iconst X 1 dX4_sends_54 (by decide) ?_
        refine pw_runv X (m_cV X (b := la0) (ci := 4) (q := (RX4, TX4, tyX4, 15)) (met_X4_laysPatrol G C.2.1 M23 la0 r9 3 1 _ hw) ht26 rfl (lw_V q2017 q2019 qs39 q107 q2020) ⟨rfl, nh_X4_laysPatrol⟩ ⟨Nat.le_of_ble_eq_true rfl, Nat.le_of_ble_eq_true rfl⟩ rfl (Nat.le_of_ble_eq_true rfl) dX4_sends_55) (fun M28 hle29 hx => ?_)
        replace hw := hx hle29
        clear hx
        have ht30 : m_tg M28 la0 = 5 := m_le_tg hle29 ht26
        have ht31 : m_tg M28 u3 = 101 := m_le_tg hle29 ht27
        refine pw_aload_n X dX4_sends_58 rfl rfl ?_
        refine pw_iload_n X dX4_sends_59 rfl rfl ?_
        refine pw_iconst X 5 dX4_sends_60 (by decide) ?_
        refine pw_iload_n X dX4_sends_61 rfl rfl ?_
        refine pw_runv X (m_cV X (b := la0) (ci := 4) (q := (RX4, TX4, tyX4, 15)) (met_X4_laysPatrol G C.2.1 M28 la0 r9 5 (m_gi M u3 (Int32.toNatClampNeg lx1)) _ hw) ht30 rfl (lw_V q2017 q2019 qs39 q107 q2020) ⟨rfl, nh_X4_laysPatrol⟩ ⟨Nat.le_of_ble_eq_true rfl, Nat.le_of_ble_eq_true rfl⟩ rfl (Nat.le_of_ble_eq_true rfl) dX4_sends_62) (fun M32 hle33 hx => ?_)
        replace hw := hx hle33
        clear hx
        have ht34 : m_tg M32 la0 = 5 := m_le_tg hle33 ht30
        have ht35 : m_tg M32 u3 = 101 := m_le_tg hle33 ht31
        refine pw_aload_n X dX4_sends_65 rfl rfl ?_
        refine pw_iload_n X dX4_sends_66 rfl rfl ?_
        refine pw_bipush X 6 dX4_sends_67 (by decide) ?_
        refine pw_iload X dX4_sends_69 rfl ?_
        refine pw_runv X (m_cV X (b := la0) (ci := 4) (q := (RX4, TX4, tyX4, 15)) (met_X4_laysPatrol G C.2.1 M32 la0 r9 6 r25 _ hw) ht34 rfl (lw_V q2017 q2019 qs39 q107 q2020) ⟨rfl, nh_X4_laysPatrol⟩ ⟨Nat.le_of_ble_eq_true rfl, Nat.le_of_ble_eq_true rfl⟩ rfl (Nat.le_of_ble_eq_true rfl) dX4_sends_71) (fun M36 hle37 hx => ?_)
        replace hw := hx hle37
        clear hx
        have ht38 : m_tg M36 la0 = 5 := m_le_tg hle37 ht34
        have ht39 : m_tg M36 u3 = 101 := m_le_tg hle37 ht35
        refine pw_aload_n X dX4_sends_74 rfl rfl ?_
        refine pw_iload_n X dX4_sends_75 rfl rfl ?_
        refine pw_iconst X 5 dX4_sends_76 (by decide) ?_
        refine pw_aload_n X dX4_sends_77 rfl rfl ?_
        refine pw_iload_n X dX4_sends_78 rfl rfl ?_
        refine pw_iconst X 5 dX4_sends_79 (by decide) ?_
        refine pw_runi X (m_cV X (b := la0) (ci := 4) (q := (RX4, TX4, tyX4, 15)) (met_X4_ofCall G C.2.1 M36 la0 (m_gi M u3 (Int32.toNatClampNeg lx1)) 5 _ hw) ht38 rfl (lw_V q2053 q2055 qs44 q107 q2056) ⟨rfl, nh_X4_ofCall⟩ ⟨Nat.le_of_ble_eq_true rfl, Nat.le_of_ble_eq_true rfl⟩ rfl (Nat.le_of_ble_eq_true rfl) dX4_sends_80) (fun r42 M40 hle41 hx => ?_)
        replace hw := hx hle41
        clear hx
        have ht43 : m_tg M40 la0 = 5 := m_le_tg hle41 ht38
        have ht44 : m_tg M40 u3 = 101 := m_le_tg hle41 ht39
        refine pw_if_ne X 90 dX4_sends_83 (by decide) (fun c45 => ?_) (fun c45 => ?_)
        · replace hw := hw.1 c45
          refine pw_iconst X 3 dX4_sends_90 (by decide) ?_
          exact bk_X4_sends_91 G C n0 s0 M0 Q X (wp_X4_sends_b6 G.2 Q n) ih _ la0 lx1 (m_gi M u3 (Int32.toNatClampNeg lx1)) r9 r25 la0 (m_gi M u3 (Int32.toNatClampNeg lx1)) 5 3 hw
        · replace hw := hw.2 c45
          refine pw_iconst X 1 dX4_sends_86 (by decide) ?_
          refine pw_goto X 91 dX4_sends_87 (by decide) ?_
          exact bk_X4_sends_91 G C n0 s0 M0 Q X (wp_X4_sends_b6 G.2 Q n) ih _ la0 lx1 (m_gi M u3 (Int32.toNatClampNeg lx1)) r9 r25 la0 (m_gi M u3 (Int32.toNatClampNeg lx1)) 5 1 hw
theorem bk_X4_sends_0 (G : Gp) (C : m_Cx) (n0 s0 : Nat) (M0 : Mem) (Q : Mem → Prop) (X : m_in G C RX4 cX4_sends 5 none "sends" 5 126 n0 s0) (M : Mem) (a0 : Nat) (hw : wp_X4_sends G.2 M a0 Q) : pW G C 5 n0 s0 M0 (m_Q G C n0 s0 (va_Qv (m_q0 M0 Q) (m_W G) (m_A G))) M 0 [(0, vR (some a0))] [] := by
  refine pw_aload_n X dX4_sends_0 rfl rfl ?_
  obtain ⟨ht1, hw⟩ := hw
  refine pw_runv X (m_cV X (b := a0) (ci := 4) (q := (RX4, TX4, tyX4, 15)) (met_X4_laysRow G C.2.1 M a0 _ hw) ht1 rfl (lw_V q2172 q2174 qs68 q107 q2175) ⟨rfl, nh_X4_laysRow⟩ ⟨Nat.le_of_ble_eq_true rfl, Nat.le_of_ble_eq_true rfl⟩ rfl (Nat.le_of_ble_eq_true rfl) dX4_sends_1) (fun M2 hle3 hx => ?_)
  replace hw := hx hle3
  clear hx
  have ht4 : m_tg M2 a0 = 5 := m_le_tg hle3 ht1
  refine pw_iconst X 0 dX4_sends_4 (by decide) ?_
  refine pw_istore_n X [(0, vR (some a0)), (1, vI 0)] [1, 0] dX4_sends_5 rfl (by decide) rfl ?_
  obtain ⟨n6, hw⟩ := hw
  exact bk_X4_sends_6 G C n0 s0 M0 Q X n6 _ a0 0 hw
theorem met_X4_sends (G : Gp) (l : Launch) (M : Mem) (a0 : Nat) (Q : Mem → Prop) (hw : wp_X4_sends G.2 M a0 Q) : m_K G l yX4_sends cX4_sends 5 none 5 126 [vR (some a0)] M (va_Qv (m_q0 M Q) (m_W G) (m_A G)) := by
  refine m_met (by decide) (Nat.le_of_ble_eq_true rfl) (fun C e X => ?_)
  exact bk_X4_sends_0 G C _ _ M Q X M a0 hw
theorem nh_X4_sends : m_nMH yX4_sends 0 := by decide +kernel

def wp_X4_passes_b2 (g : Nat → Nat) (Q : Mem → Prop) : Nat → Mem → Nat → Int32 → Prop
  | 0 => fun _ _ _ => False
  | n + 1 => fun M la0 lx1 => m_tg M la0 = 5 ∧ ∃ u2 : Nat, (m_gr M la0 0) = some u2 ∧ m_tg M u2 = 101 ∧ vp_in 7 (m_ln M u2) ∧ (((m_gi M u2 (Int32.toNatClampNeg 7)) ≤ lx1 → wp_X4_sends g M la0 (fun (M7 : Mem) => m_le M M7 → ∃ u11 : Nat, (m_gr M7 la0 0) = some u11 ∧ m_tg M7 u11 = 101 ∧ vp_in 0 (m_ln M7 u11) ∧ vp_in 0 (m_ln M7 u11) ∧ ∀ M16 : Mem, M16 = (m_pi M7 u11 (Int32.toNatClampNeg 0) ((m_gi M7 u11 (Int32.toNatClampNeg 0)) + 1)) → Q M16)) ∧ (¬ (m_gi M u2 (Int32.toNatClampNeg 7)) ≤ lx1 → wp_X4_ofPatrol g M la0 lx1 3 (fun (r24 : Int32) (M22 : Mem) => m_le M M22 → wp_X4_in g M22 r24 1 3 (fun (r29 : Int32) (M27 : Mem) => m_le M22 M27 → ((r29 = 0 → wp_X4_passes_b2 g Q n M27 la0 (lx1 + 1)) ∧ (¬ r29 = 0 → wp_X4_ofPatrol g M27 la0 lx1 6 (fun (r35 : Int32) (M33 : Mem) => m_le M27 M33 → wp_X4_laysPatrol g M33 la0 lx1 6 (r35 - 1) (fun (M38 : Mem) => m_le M33 M38 → wp_X4_ofPatrol g M38 la0 lx1 11 (fun (r44 : Int32) (M42 : Mem) => m_le M38 M42 → wp_X4_laysPatrol g M42 la0 lx1 11 (r44 + 1) (fun (M47 : Mem) => m_le M42 M47 → wp_X4_ofPatrol g M47 la0 lx1 6 (fun (r53 : Int32) (M51 : Mem) => m_le M47 M51 → ((¬ r53 = 0 → wp_X4_passes_b2 g Q n M51 la0 (lx1 + 1)) ∧ (r53 = 0 → ((¬ r24 = 1 → ((¬ r24 = 2 → wp_X4_towed g M51 la0 lx1 (fun (M59 : Mem) => m_le M51 M59 → wp_X4_passes_b2 g Q n M59 la0 (lx1 + 1))) ∧ (r24 = 2 → wp_X4_repaired g M51 la0 lx1 (fun (M63 : Mem) => m_le M51 M63 → wp_X4_passes_b2 g Q n M63 la0 (lx1 + 1))))) ∧ (r24 = 1 → wp_X4_gets g M51 la0 lx1 (fun (M67 : Mem) => m_le M51 M67 → wp_X4_passes_b2 g Q n M67 la0 (lx1 + 1)))))))))))))))))
def wp_X4_passes (g : Nat → Nat) (M : Mem) (a0 : Nat) (Q : Mem → Prop) : Prop := ∃ j2 : Nat, wp_X4_passes_b2 g Q j2 M a0 0
theorem bk_X4_passes_2 (G : Gp) (C : m_Cx) (n0 s0 : Nat) (M0 : Mem) (Q : Mem → Prop) (X : m_in G C RX4 cX4_passes 3 none "passes" 6 150 n0 s0) : ∀ (n : Nat) (M : Mem) (la0 : Nat) (lx1 : Int32) (hw : wp_X4_passes_b2 G.2 Q n M la0 lx1), pW G C 3 n0 s0 M0 (m_Q G C n0 s0 (va_Qv (m_q0 M0 Q) (m_W G) (m_A G))) M 2 [(0, vR (some la0)), (1, vI lx1)] [] := by
  intro n
  induction n with
  | zero => intro M la0 lx1 hw; exact hw.elim
  | succ n ih =>
    intro M la0 lx1 hw
    refine pw_iload_n X dX4_passes_2 rfl rfl ?_
    refine pw_aload_n X dX4_passes_3 rfl rfl ?_
    obtain ⟨ht1, hw⟩ := hw
    obtain ⟨u2, he3, hw⟩ := hw
    refine pw_get X (q := (RX4, TX4, tyX4, 15)) (ci := 4) (k := 0) (ref := "PatrolDeskModel") (vR (some u2)) ht1 rfl (by decide) in_X4 q1946 (Or.inl rfl) (by rw [he3]; rfl) dX4_passes_4 ?_
    refine pw_bipush X 7 dX4_passes_7 (by decide) ?_
    obtain ⟨ht4, hw⟩ := hw
    obtain ⟨hi5, hw⟩ := hw
    refine pw_iald X ht4 hi5 dX4_passes_9 ?_
    refine pw_icmp_ge X 108 dX4_passes_10 (by decide) (fun c6 => ?_) (fun c6 => ?_)
    · replace hw := hw.1 c6
      refine pw_aload_n X dX4_passes_108 rfl rfl ?_
      refine pw_runv X (m_cV X (b := la0) (ci := 4) (q := (RX4, TX4, tyX4, 15)) (met_X4_sends G C.2.1 M la0 _ hw) ht1 rfl (lw_V q2168 q2170 qs67 q107 q2171) ⟨rfl, nh_X4_sends⟩ ⟨Nat.le_of_ble_eq_true rfl, Nat.le_of_ble_eq_true rfl⟩ rfl (Nat.le_of_ble_eq_true rfl) dX4_passes_109) (fun M7 hle8 hx => ?_)
      replace hw := hx hle8
      clear hx
      have ht9 : m_tg M7 la0 = 5 := m_le_tg hle8 ht1
      have ht10 : m_tg M7 u2 = 101 := m_le_tg hle8 ht4
      refine pw_aload_n X dX4_passes_112 rfl rfl ?_
      obtain ⟨u11, he12, hw⟩ := hw
      refine pw_get X (q := (RX4, TX4, tyX4, 15)) (ci := 4) (k := 0) (ref := "PatrolDeskModel") (vR (some u11)) ht9 rfl (by decide) in_X4 q1946 (Or.inl rfl) (by rw [he12]; rfl) dX4_passes_113 ?_
      refine pw_iconst X 0 dX4_passes_116 (by decide) ?_
      refine pw_dup2 X dX4_passes_117 ?_
      obtain ⟨ht13, hw⟩ := hw
      obtain ⟨hi14, hw⟩ := hw
      refine pw_iald X ht13 hi14 dX4_passes_118 ?_
      refine pw_iconst X 1 dX4_passes_119 (by decide) ?_
      refine pw_iadd X dX4_passes_120 ?_
      obtain ⟨hi15, hw⟩ := hw
      obtain ⟨M16, hM17⟩ : ∃ z : Mem, z = (m_pi M7 u11 (Int32.toNatClampNeg 0) ((m_gi M7 u11 (Int32.toNatClampNeg 0)) + 1)) := ⟨_, rfl⟩
      replace hw := hw M16 hM17
      have hle18 : m_le M7 M16 := by rw [hM17]; exact m_le_pi
      refine pw_iast X ht13 hi15 dX4_passes_121 ?_
      rw [← hM17]
      have ht19 : m_tg M16 la0 = 5 := m_le_tg hle18 ht9
      have ht20 : m_tg M16 u2 = 101 := m_le_tg hle18 ht10
      have ht21 : m_tg M16 u11 = 101 := m_le_tg hle18 ht13
      exact pw_vret X hw dX4_passes_122
    · replace hw := hw.2 c6
      refine pw_aload_n X dX4_passes_13 rfl rfl ?_
      refine pw_iload_n X dX4_passes_14 rfl rfl ?_
      refine pw_iconst X 3 dX4_passes_15 (by decide) ?_
      refine pw_runi X (m_cV X (b := la0) (ci := 4) (q := (RX4, TX4, tyX4, 15)) (met_X4_ofPatrol G C.2.1 M la0 lx1 3 _ hw) ht1 rfl (lw_V q2069 q2071 qs48 q107 q2072) ⟨rfl, nh_X4_ofPatrol⟩ ⟨Nat.le_of_ble_eq_true rfl, Nat.le_of_ble_eq_true rfl⟩ rfl (Nat.le_of_ble_eq_true rfl) dX4_passes_16) (fun r24 M22 hle23 hx => ?_)
      replace hw := hx hle23
      clear hx
      have ht25 : m_tg M22 la0 = 5 := m_le_tg hle23 ht1
      have ht26 : m_tg M22 u2 = 101 := m_le_tg hle23 ht4
      refine pw_istore_n X [(0, vR (some la0)), (1, vI lx1), (2, vI r24)] [1, 2, 0] dX4_passes_19 rfl (by decide) rfl ?_
      refine pw_iload_n X dX4_passes_20 rfl rfl ?_
      refine pw_iconst X 1 dX4_passes_21 (by decide) ?_
      refine pw_iconst X 3 dX4_passes_22 (by decide) ?_
      refine pw_runi X (m_cS X (met_X4_in G C.2.1 M22 r24 1 3 _ hw) (lw_S q1999 q2000 q107 q2001) nh_X4_in ⟨Nat.le_of_ble_eq_true rfl, Nat.le_of_ble_eq_true rfl⟩ rfl (Nat.le_of_ble_eq_true rfl) dX4_passes_23) (fun r29 M27 hle28 hx => ?_)
      replace hw := hx hle28
      clear hx
      have ht30 : m_tg M27 la0 = 5 := m_le_tg hle28 ht25
      have ht31 : m_tg M27 u2 = 101 := m_le_tg hle28 ht26
      refine pw_if_eq X 102 dX4_passes_26 (by decide) (fun c32 => ?_) (fun c32 => ?_)
      · replace hw := hw.1 c32
        refine pw_iinc X (lx1 + 1) [(0, vR (some la0)), (1, vI (lx1 + 1))] [1, 0] dX4_passes_102 rfl (by first | rfl | decide) (by decide) rfl ?_
        refine pw_goto X 2 dX4_passes_105 (by decide) ?_
        exact ih _ la0 (lx1 + 1) hw
      · replace hw := hw.2 c32
        refine pw_aload_n X dX4_passes_29 rfl rfl ?_
        refine pw_iload_n X dX4_passes_30 rfl rfl ?_
        refine pw_bipush X 6 dX4_passes_31 (by decide) ?_
        refine pw_aload_n X dX4_passes_33 rfl rfl ?_
        refine pw_iload_n X dX4_passes_34 rfl rfl ?_
        refine pw_bipush X 6 dX4_passes_35 (by decide) ?_
        refine pw_runi X (m_cV X (b := la0) (ci := 4) (q := (RX4, TX4, tyX4, 15)) (met_X4_ofPatrol G C.2.1 M27 la0 lx1 6 _ hw) ht30 rfl (lw_V q2069 q2071 qs48 q107 q2072) ⟨rfl, nh_X4_ofPatrol⟩ ⟨Nat.le_of_ble_eq_true rfl, Nat.le_of_ble_eq_true rfl⟩ rfl (Nat.le_of_ble_eq_true rfl) dX4_passes_37) (fun r35 M33 hle34 hx => ?_)
        replace hw := hx hle34
        clear hx
        have ht36 : m_tg M33 la0 = 5 := m_le_tg hle34 ht30
        have ht37 : m_tg M33 u2 = 101 := m_le_tg hle34 ht31
        refine pw_iconst X 1 dX4_passes_40 (by decide) ?_
        refine pw_isub X dX4_passes_41 ?_
        refine pw_runv X (m_cV X (b := la0) (ci := 4) (q := (RX4, TX4, tyX4, 15)) (met_X4_laysPatrol G C.2.1 M33 la0 lx1 6 (r35 - 1) _ hw) ht36 rfl (lw_V q2017 q2019 qs39 q107 q2020) ⟨rfl, nh_X4_laysPatrol⟩ ⟨Nat.le_of_ble_eq_true rfl, Nat.le_of_ble_eq_true rfl⟩ rfl (Nat.le_of_ble_eq_true rfl) dX4_passes_42) (fun M38 hle39 hx => ?_)
        replace hw := hx hle39
        clear hx
        have ht40 : m_tg M38 la0 = 5 := m_le_tg hle39 ht36
        have ht41 : m_tg M38 u2 = 101 := m_le_tg hle39 ht37
        refine pw_aload_n X dX4_passes_45 rfl rfl ?_
        refine pw_iload_n X dX4_passes_46 rfl rfl ?_
        refine pw_bipush X 11 dX4_passes_47 (by decide) ?_
        refine pw_aload_n X dX4_passes_49 rfl rfl ?_
        refine pw_iload_n X dX4_passes_50 rfl rfl ?_
        refine pw_bipush X 11 dX4_passes_51 (by decide) ?_
        refine pw_runi X (m_cV X (b := la0) (ci := 4) (q := (RX4, TX4, tyX4, 15)) (met_X4_ofPatrol G C.2.1 M38 la0 lx1 11 _ hw) ht40 rfl (lw_V q2069 q2071 qs48 q107 q2072) ⟨rfl, nh_X4_ofPatrol⟩ ⟨Nat.le_of_ble_eq_true rfl, Nat.le_of_ble_eq_true rfl⟩ rfl (Nat.le_of_ble_eq_true rfl) dX4_passes_53) (fun r44 M42 hle43 hx => ?_)
        replace hw := hx hle43
        clear hx
        have ht45 : m_tg M42 la0 = 5 := m_le_tg hle43 ht40
        have ht46 : m_tg M42 u2 = 101 := m_le_tg hle43 ht41
        refine pw_iconst X 1 dX4_passes_56 (by decide) ?_
        refine pw_iadd X dX4_passes_57 ?_
        refine pw_runv X (m_cV X (b := la0) (ci := 4) (q := (RX4, TX4, tyX4, 15)) (met_X4_laysPatrol G C.2.1 M42 la0 lx1 11 (r44 + 1) _ hw) ht45 rfl (lw_V q2017 q2019 qs39 q107 q2020) ⟨rfl, nh_X4_laysPatrol⟩ ⟨Nat.le_of_ble_eq_true rfl, Nat.le_of_ble_eq_true rfl⟩ rfl (Nat.le_of_ble_eq_true rfl) dX4_passes_58) (fun M47 hle48 hx => ?_)
        replace hw := hx hle48
        clear hx
        have ht49 : m_tg M47 la0 = 5 := m_le_tg hle48 ht45
        have ht50 : m_tg M47 u2 = 101 := m_le_tg hle48 ht46
        refine pw_aload_n X dX4_passes_61 rfl rfl ?_
        refine pw_iload_n X dX4_passes_62 rfl rfl ?_
        refine pw_bipush X 6 dX4_passes_63 (by decide) ?_
        refine pw_runi X (m_cV X (b := la0) (ci := 4) (q := (RX4, TX4, tyX4, 15)) (met_X4_ofPatrol G C.2.1 M47 la0 lx1 6 _ hw) ht49 rfl (lw_V q2069 q2071 qs48 q107 q2072) ⟨rfl, nh_X4_ofPatrol⟩ ⟨Nat.le_of_ble_eq_true rfl, Nat.le_of_ble_eq_true rfl⟩ rfl (Nat.le_of_ble_eq_true rfl) dX4_passes_65) (fun r53 M51 hle52 hx => ?_)
        replace hw := hx hle52
        clear hx
        have ht54 : m_tg M51 la0 = 5 := m_le_tg hle52 ht49
        have ht55 : m_tg M51 u2 = 101 := m_le_tg hle52 ht50
        refine pw_if_ne X 102 dX4_passes_68 (by decide) (fun c56 => ?_) (fun c56 => ?_)
        · replace hw := hw.1 c56
          refine pw_iinc X (lx1 + 1) [(0, vR (some la0)), (1, vI (lx1 + 1))] [1, 0] dX4_passes_102 rfl (by first | rfl | decide) (by decide) rfl ?_
          refine pw_goto X 2 dX4_passes_105 (by decide) ?_
          exact ih _ la0 (lx1 + 1) hw
        · replace hw := hw.2 c56
          refine pw_iload_n X dX4_passes_71 rfl rfl ?_
          refine pw_iconst X 1 dX4_passes_72 (by decide) ?_
          refine pw_icmp_ne X 84 dX4_passes_73 (by decide) (fun c57 => ?_) (fun c57 => ?_)
          · replace hw := hw.1 c57
            refine pw_iload_n X dX4_passes_84 rfl rfl ?_
            refine pw_iconst X 2 dX4_passes_85 (by decide) ?_
            refine pw_icmp_ne X 97 dX4_passes_86 (by decide) (fun c58 => ?_) (fun c58 => ?_)
            · replace hw := hw.1 c58
              refine pw_aload_n X dX4_passes_97 rfl rfl ?_
              refine pw_iload_n X dX4_passes_98 rfl rfl ?_
              refine pw_runv X (m_cV X (b := la0) (ci := 4) (q := (RX4, TX4, tyX4, 15)) (met_X4_towed G C.2.1 M51 la0 lx1 _ hw) ht54 rfl (lw_V q2164 q2166 qs66 q107 q2167) ⟨rfl, nh_X4_towed⟩ ⟨Nat.le_of_ble_eq_true rfl, Nat.le_of_ble_eq_true rfl⟩ rfl (Nat.le_of_ble_eq_true rfl) dX4_passes_99) (fun M59 hle60 hx => ?_)
              replace hw := hx hle60
              clear hx
              have ht61 : m_tg M59 la0 = 5 := m_le_tg hle60 ht54
              have ht62 : m_tg M59 u2 = 101 := m_le_tg hle60 ht55
              refine pw_iinc X (lx1 + 1) [(0, vR (some la0)), (1, vI (lx1 + 1))] [1, 0] dX4_passes_102 rfl (by first | rfl | decide) (by decide) rfl ?_
              refine pw_goto X 2 dX4_passes_105 (by decide) ?_
              exact ih _ la0 (lx1 + 1) hw
            · replace hw := hw.2 c58
              refine pw_aload_n X dX4_passes_89 rfl rfl ?_
              refine pw_iload_n X dX4_passes_90 rfl rfl ?_
              refine pw_runv X (m_cV X (b := la0) (ci := 4) (q := (RX4, TX4, tyX4, 15)) (met_X4_repaired G C.2.1 M51 la0 lx1 _ hw) ht54 rfl (lw_V q2160 q2162 qs65 q107 q2163) ⟨rfl, nh_X4_repaired⟩ ⟨Nat.le_of_ble_eq_true rfl, Nat.le_of_ble_eq_true rfl⟩ rfl (Nat.le_of_ble_eq_true rfl) dX4_passes_91) (fun M63 hle64 hx => ?_)
              replace hw := hx hle64
              clear hx
              have ht65 : m_tg M63 la0 = 5 := m_le_tg hle64 ht54
              have ht66 : m_tg M63 u2 = 101 := m_le_tg hle64 ht55
              refine pw_goto X 102 dX4_passes_94 (by decide) ?_
              refine pw_iinc X (lx1 + 1) [(0, vR (some la0)), (1, vI (lx1 + 1))] [1, 0] dX4_passes_102 rfl (by first | rfl | decide) (by decide) rfl ?_
              refine pw_goto X 2 dX4_passes_105 (by decide) ?_
              exact ih _ la0 (lx1 + 1) hw
          · replace hw := hw.2 c57
            refine pw_aload_n X dX4_passes_76 rfl rfl ?_
            refine pw_iload_n X dX4_passes_77 rfl rfl ?_
            refine pw_runv X (m_cV X (b := la0) (ci := 4) (q := (RX4, TX4, tyX4, 15)) (met_X4_gets G C.2.1 M51 la0 lx1 _ hw) ht54 rfl (lw_V q2133 q2135 qs59 q107 q2136) ⟨rfl, nh_X4_gets⟩ ⟨Nat.le_of_ble_eq_true rfl, Nat.le_of_ble_eq_true rfl⟩ rfl (Nat.le_of_ble_eq_true rfl) dX4_passes_78) (fun M67 hle68 hx => ?_)
            replace hw := hx hle68
            clear hx
            have ht69 : m_tg M67 la0 = 5 := m_le_tg hle68 ht54
            have ht70 : m_tg M67 u2 = 101 := m_le_tg hle68 ht55
            refine pw_goto X 102 dX4_passes_81 (by decide) ?_
            refine pw_iinc X (lx1 + 1) [(0, vR (some la0)), (1, vI (lx1 + 1))] [1, 0] dX4_passes_102 rfl (by first | rfl | decide) (by decide) rfl ?_
            refine pw_goto X 2 dX4_passes_105 (by decide) ?_
            exact ih _ la0 (lx1 + 1) hw
theorem bk_X4_passes_0 (G : Gp) (C : m_Cx) (n0 s0 : Nat) (M0 : Mem) (Q : Mem → Prop) (X : m_in G C RX4 cX4_passes 3 none "passes" 6 150 n0 s0) (M : Mem) (a0 : Nat) (hw : wp_X4_passes G.2 M a0 Q) : pW G C 3 n0 s0 M0 (m_Q G C n0 s0 (va_Qv (m_q0 M0 Q) (m_W G) (m_A G))) M 0 [(0, vR (some a0))] [] := by
  refine pw_iconst X 0 dX4_passes_0 (by decide) ?_
  refine pw_istore_n X [(0, vR (some a0)), (1, vI 0)] [1, 0] dX4_passes_1 rfl (by decide) rfl ?_
  obtain ⟨n2, hw⟩ := hw
  exact bk_X4_passes_2 G C n0 s0 M0 Q X n2 _ a0 0 hw
theorem met_X4_passes (G : Gp) (l : Launch) (M : Mem) (a0 : Nat) (Q : Mem → Prop) (hw : wp_X4_passes G.2 M a0 Q) : m_K G l yX4_passes cX4_passes 3 none 6 150 [vR (some a0)] M (va_Qv (m_q0 M Q) (m_W G) (m_A G)) := by
  refine m_met (by decide) (Nat.le_of_ble_eq_true rfl) (fun C e X => ?_)
  exact bk_X4_passes_0 G C _ _ M Q X M a0 hw
theorem nh_X4_passes : m_nMH yX4_passes 0 := by decide +kernel

def wp_X4_pass_b49 (g : Nat → Nat) (Q : Int32 → Mem → Prop) : Nat → Mem → Nat → Int32 → Int32 → Int32 → Prop
  | 0 => fun _ _ _ _ _ => False
  | n + 1 => fun M la0 lx1 lx2 lx3 => ((lx1 ≤ lx3 → m_tg M la0 = 5 ∧ wp_X4_manyIn g M la0 5 (fun (r5 : Int32) (M3 : Mem) => m_le M M3 → wp_X4_manyIn g M3 la0 6 (fun (r9 : Int32) (M7 : Mem) => m_le M3 M7 → Q ((r5 + r9) - lx2) M7))) ∧ (¬ lx1 ≤ lx3 → m_tg M la0 = 5 ∧ wp_X4_passes g M la0 (fun (M12 : Mem) => m_le M M12 → wp_X4_pass_b49 g Q n M12 la0 lx1 lx2 (lx3 + 1))))
def wp_X4_pass (g : Nat → Nat) (M : Mem) (a0 : Nat) (x1 : Int32) (Q : Int32 → Mem → Prop) : Prop := wp_X4_in g M x1 1 120 (fun (r3 : Int32) (M1 : Mem) => m_le M M1 → ((¬ r3 = 0 → m_tg M1 a0 = 5 ∧ ∃ u6 : Nat, (m_gr M1 a0 0) = some u6 ∧ m_tg M1 u6 = 101 ∧ vp_in 0 (m_ln M1 u6) ∧ ((((m_gi M1 u6 (Int32.toNatClampNeg 0)) + x1) ≤ 2880 → wp_X4_records g M1 a0 (fun (M11 : Mem) => m_le M1 M11 → wp_X4_manyIn g M11 a0 5 (fun (r17 : Int32) (M15 : Mem) => m_le M11 M15 → wp_X4_manyIn g M15 a0 6 (fun (r22 : Int32) (M20 : Mem) => m_le M15 M20 → ∃ j49 : Nat, wp_X4_pass_b49 g Q j49 M20 a0 x1 (r17 + r22) 0)))) ∧ (¬ ((m_gi M1 u6 (Int32.toNatClampNeg 0)) + x1) ≤ 2880 → Q (-4) M1))) ∧ (r3 = 0 → Q (-2) M1)))
theorem bk_X4_pass_49 (G : Gp) (C : m_Cx) (n0 s0 : Nat) (M0 : Mem) (Q : Int32 → Mem → Prop) (X : m_in G C RX4 cX4_pass 4 (some .int) "pass" 7 172 n0 s0) : ∀ (n : Nat) (M : Mem) (la0 : Nat) (lx1 : Int32) (lx2 : Int32) (lx3 : Int32) (hw : wp_X4_pass_b49 G.2 Q n M la0 lx1 lx2 lx3), pW G C 4 n0 s0 M0 (m_Q G C n0 s0 (va_Qi (m_q1 M0 Q) (m_W G) (m_A G))) M 49 [(0, vR (some la0)), (1, vI lx1), (2, vI lx2), (3, vI lx3)] [] := by
  intro n
  induction n with
  | zero => intro M la0 lx1 lx2 lx3 hw; exact hw.elim
  | succ n ih =>
    intro M la0 lx1 lx2 lx3 hw
    refine pw_iload_n X dX4_pass_49 rfl rfl ?_
    refine pw_iload_n X dX4_pass_50 rfl rfl ?_
    refine pw_icmp_ge X 64 dX4_pass_51 (by decide) (fun c1 => ?_) (fun c1 => ?_)
    · replace hw := hw.1 c1
      refine pw_aload_n X dX4_pass_64 rfl rfl ?_
      refine pw_iconst X 5 dX4_pass_65 (by decide) ?_
      obtain ⟨ht2, hw⟩ := hw
      refine pw_runi X (m_cV X (b := la0) (ci := 4) (q := (RX4, TX4, tyX4, 15)) (met_X4_manyIn G C.2.1 M la0 5 _ hw) ht2 rfl (lw_V q2125 q2127 qs57 q107 q2128) ⟨rfl, nh_X4_manyIn⟩ ⟨Nat.le_of_ble_eq_true rfl, Nat.le_of_ble_eq_true rfl⟩ rfl (Nat.le_of_ble_eq_true rfl) dX4_pass_66) (fun r5 M3 hle4 hx => ?_)
      replace hw := hx hle4
      clear hx
      have ht6 : m_tg M3 la0 = 5 := m_le_tg hle4 ht2
      refine pw_aload_n X dX4_pass_69 rfl rfl ?_
      refine pw_bipush X 6 dX4_pass_70 (by decide) ?_
      refine pw_runi X (m_cV X (b := la0) (ci := 4) (q := (RX4, TX4, tyX4, 15)) (met_X4_manyIn G C.2.1 M3 la0 6 _ hw) ht6 rfl (lw_V q2125 q2127 qs57 q107 q2128) ⟨rfl, nh_X4_manyIn⟩ ⟨Nat.le_of_ble_eq_true rfl, Nat.le_of_ble_eq_true rfl⟩ rfl (Nat.le_of_ble_eq_true rfl) dX4_pass_72) (fun r9 M7 hle8 hx => ?_)
      replace hw := hx hle8
      clear hx
      have ht10 : m_tg M7 la0 = 5 := m_le_tg hle8 ht6
      refine pw_iadd X dX4_pass_75 ?_
      refine pw_iload_n X dX4_pass_76 rfl rfl ?_
      refine pw_isub X dX4_pass_77 ?_
      exact pw_iret X hw dX4_pass_78
    · replace hw := hw.2 c1
      refine pw_aload_n X dX4_pass_54 rfl rfl ?_
      obtain ⟨ht11, hw⟩ := hw
      refine pw_runv X (m_cV X (b := la0) (ci := 4) (q := (RX4, TX4, tyX4, 15)) (met_X4_passes G C.2.1 M la0 _ hw) ht11 rfl (lw_V q2129 q2131 qs58 q107 q2132) ⟨rfl, nh_X4_passes⟩ ⟨Nat.le_of_ble_eq_true rfl, Nat.le_of_ble_eq_true rfl⟩ rfl (Nat.le_of_ble_eq_true rfl) dX4_pass_55) (fun M12 hle13 hx => ?_)
      replace hw := hx hle13
      clear hx
      have ht14 : m_tg M12 la0 = 5 := m_le_tg hle13 ht11
      refine pw_iinc X (lx3 + 1) [(0, vR (some la0)), (1, vI lx1), (2, vI lx2), (3, vI (lx3 + 1))] [1, 2, 3, 0] dX4_pass_58 rfl (by first | rfl | decide) (by decide) rfl ?_
      refine pw_goto X 49 dX4_pass_61 (by decide) ?_
      exact ih _ la0 lx1 lx2 (lx3 + 1) hw
theorem bk_X4_pass_0 (G : Gp) (C : m_Cx) (n0 s0 : Nat) (M0 : Mem) (Q : Int32 → Mem → Prop) (X : m_in G C RX4 cX4_pass 4 (some .int) "pass" 7 172 n0 s0) (M : Mem) (a0 : Nat) (x1 : Int32) (hw : wp_X4_pass G.2 M a0 x1 Q) : pW G C 4 n0 s0 M0 (m_Q G C n0 s0 (va_Qi (m_q1 M0 Q) (m_W G) (m_A G))) M 0 [(0, vR (some a0)), (1, vI x1)] [] := by
  refine pw_iload_n X dX4_pass_0 rfl rfl ?_
  refine pw_iconst X 1 dX4_pass_1 (by decide) ?_
  refine pw_bipush X 120 dX4_pass_2 (by decide) ?_
  refine pw_runi X (m_cS X (met_X4_in G C.2.1 M x1 1 120 _ hw) (lw_S q1999 q2000 q107 q2001) nh_X4_in ⟨Nat.le_of_ble_eq_true rfl, Nat.le_of_ble_eq_true rfl⟩ rfl (Nat.le_of_ble_eq_true rfl) dX4_pass_4) (fun r3 M1 hle2 hx => ?_)
  replace hw := hx hle2
  clear hx
  refine pw_if_ne X 13 dX4_pass_7 (by decide) (fun c4 => ?_) (fun c4 => ?_)
  · replace hw := hw.1 c4
    refine pw_aload_n X dX4_pass_13 rfl rfl ?_
    obtain ⟨ht5, hw⟩ := hw
    obtain ⟨u6, he7, hw⟩ := hw
    refine pw_get X (q := (RX4, TX4, tyX4, 15)) (ci := 4) (k := 0) (ref := "PatrolDeskModel") (vR (some u6)) ht5 rfl (by decide) in_X4 q1946 (Or.inl rfl) (by rw [he7]; rfl) dX4_pass_14 ?_
    refine pw_iconst X 0 dX4_pass_17 (by decide) ?_
    obtain ⟨ht8, hw⟩ := hw
    obtain ⟨hi9, hw⟩ := hw
    refine pw_iald X ht8 hi9 dX4_pass_18 ?_
    refine pw_iload_n X dX4_pass_19 rfl rfl ?_
    refine pw_iadd X dX4_pass_20 ?_
    refine pw_sipush X 2880 dX4_pass_21 (by decide) ?_
    refine pw_icmp_le X 30 dX4_pass_24 (by decide) (fun c10 => ?_) (fun c10 => ?_)
    · replace hw := hw.1 c10
      refine pw_aload_n X dX4_pass_30 rfl rfl ?_
      refine pw_runv X (m_cV X (b := a0) (ci := 4) (q := (RX4, TX4, tyX4, 15)) (met_X4_records G C.2.1 M1 a0 _ hw) ht5 rfl (lw_V q2002 q2004 qs38 q107 q2005) ⟨rfl, nh_X4_records⟩ ⟨Nat.le_of_ble_eq_true rfl, Nat.le_of_ble_eq_true rfl⟩ rfl (Nat.le_of_ble_eq_true rfl) dX4_pass_31) (fun M11 hle12 hx => ?_)
      replace hw := hx hle12
      clear hx
      have ht13 : m_tg M11 a0 = 5 := m_le_tg hle12 ht5
      have ht14 : m_tg M11 u6 = 101 := m_le_tg hle12 ht8
      refine pw_aload_n X dX4_pass_34 rfl rfl ?_
      refine pw_iconst X 5 dX4_pass_35 (by decide) ?_
      refine pw_runi X (m_cV X (b := a0) (ci := 4) (q := (RX4, TX4, tyX4, 15)) (met_X4_manyIn G C.2.1 M11 a0 5 _ hw) ht13 rfl (lw_V q2125 q2127 qs57 q107 q2128) ⟨rfl, nh_X4_manyIn⟩ ⟨Nat.le_of_ble_eq_true rfl, Nat.le_of_ble_eq_true rfl⟩ rfl (Nat.le_of_ble_eq_true rfl) dX4_pass_36) (fun r17 M15 hle16 hx => ?_)
      replace hw := hx hle16
      clear hx
      have ht18 : m_tg M15 a0 = 5 := m_le_tg hle16 ht13
      have ht19 : m_tg M15 u6 = 101 := m_le_tg hle16 ht14
      refine pw_aload_n X dX4_pass_39 rfl rfl ?_
      refine pw_bipush X 6 dX4_pass_40 (by decide) ?_
      refine pw_runi X (m_cV X (b := a0) (ci := 4) (q := (RX4, TX4, tyX4, 15)) (met_X4_manyIn G C.2.1 M15 a0 6 _ hw) ht18 rfl (lw_V q2125 q2127 qs57 q107 q2128) ⟨rfl, nh_X4_manyIn⟩ ⟨Nat.le_of_ble_eq_true rfl, Nat.le_of_ble_eq_true rfl⟩ rfl (Nat.le_of_ble_eq_true rfl) dX4_pass_42) (fun r22 M20 hle21 hx => ?_)
      replace hw := hx hle21
      clear hx
      have ht23 : m_tg M20 a0 = 5 := m_le_tg hle21 ht18
      have ht24 : m_tg M20 u6 = 101 := m_le_tg hle21 ht19
      refine pw_iadd X dX4_pass_45 ?_
      refine pw_istore_n X [(0, vR (some a0)), (1, vI x1), (2, vI (r17 + r22))] [1, 2, 0] dX4_pass_46 rfl (by decide) rfl ?_
      refine pw_iconst X 0 dX4_pass_47 (by decide) ?_
      refine pw_istore_n X [(0, vR (some a0)), (1, vI x1), (2, vI (r17 + r22)), (3, vI 0)] [1, 2, 3, 0] dX4_pass_48 rfl (by decide) rfl ?_
      obtain ⟨n49, hw⟩ := hw
      exact bk_X4_pass_49 G C n0 s0 M0 Q X n49 _ a0 x1 (r17 + r22) 0 hw
    · replace hw := hw.2 c10
      refine pw_bipush X (-4) dX4_pass_27 (by decide) ?_
      exact pw_iret X hw dX4_pass_29
  · replace hw := hw.2 c4
    refine pw_bipush X (-2) dX4_pass_10 (by decide) ?_
    exact pw_iret X hw dX4_pass_12
theorem met_X4_pass (G : Gp) (l : Launch) (M : Mem) (a0 : Nat) (x1 : Int32) (Q : Int32 → Mem → Prop) (hw : wp_X4_pass G.2 M a0 x1 Q) : m_K G l yX4_pass cX4_pass 4 (some .int) 7 172 [vR (some a0), vI x1] M (va_Qi (m_q1 M Q) (m_W G) (m_A G)) := by
  refine m_met (by decide) (Nat.le_of_ble_eq_true rfl) (fun C e X => ?_)
  exact bk_X4_pass_0 G C _ _ M Q X M a0 x1 hw
theorem nh_X4_pass : m_nMH yX4_pass 1 := by decide +kernel

def wp_X4_type (g : Nat → Nat) (M : Mem) (a0 : Nat) (x1 : Int32) (Q : Int32 → Mem → Prop) : Prop := m_tg M a0 = 5 ∧ ((¬ (m_gi M a0 7) = 60 → ∃ u3 : Nat, (m_gr M a0 6) = some u3 ∧ m_tg M u3 = 101 ∧ vp_in (m_gi M a0 7) (m_ln M u3) ∧ ∀ M7 : Mem, M7 = (m_pi M u3 (Int32.toNatClampNeg (m_gi M a0 7)) x1) → ∀ M12 : Mem, M12 = (m_pi M7 a0 7 ((m_gi M7 a0 7) + 1)) → Q (m_gi M12 a0 7) M12) ∧ ((m_gi M a0 7) = 60 → Q (-3) M))
theorem bk_X4_type_0 (G : Gp) (C : m_Cx) (n0 s0 : Nat) (M0 : Mem) (Q : Int32 → Mem → Prop) (X : m_in G C RX4 cX4_type 2 (some .int) "type" 0 0 n0 s0) (M : Mem) (a0 : Nat) (x1 : Int32) (hw : wp_X4_type G.2 M a0 x1 Q) : pW G C 2 n0 s0 M0 (m_Q G C n0 s0 (va_Qi (m_q1 M0 Q) (m_W G) (m_A G))) M 0 [(0, vR (some a0)), (1, vI x1)] [] := by
  refine pw_aload_n X dX4_type_0 rfl rfl ?_
  obtain ⟨ht1, hw⟩ := hw
  refine pw_get X (q := (RX4, TX4, tyX4, 15)) (ci := 4) (k := 7) (ref := "PatrolDeskModel") (vI (m_gi M a0 7)) ht1 rfl (by decide) in_X4 q1953 (Or.inl rfl) rfl dX4_type_1 ?_
  refine pw_bipush X 60 dX4_type_4 (by decide) ?_
  refine pw_icmp_ne X 12 dX4_type_6 (by decide) (fun c2 => ?_) (fun c2 => ?_)
  · replace hw := hw.1 c2
    refine pw_aload_n X dX4_type_12 rfl rfl ?_
    obtain ⟨u3, he4, hw⟩ := hw
    refine pw_get X (q := (RX4, TX4, tyX4, 15)) (ci := 4) (k := 6) (ref := "PatrolDeskModel") (vR (some u3)) ht1 rfl (by decide) in_X4 q1952 (Or.inl rfl) (by rw [he4]; rfl) dX4_type_13 ?_
    refine pw_aload_n X dX4_type_16 rfl rfl ?_
    refine pw_get X (q := (RX4, TX4, tyX4, 15)) (ci := 4) (k := 7) (ref := "PatrolDeskModel") (vI (m_gi M a0 7)) ht1 rfl (by decide) in_X4 q1953 (Or.inl rfl) rfl dX4_type_17 ?_
    refine pw_iload_n X dX4_type_20 rfl rfl ?_
    obtain ⟨ht5, hw⟩ := hw
    obtain ⟨hi6, hw⟩ := hw
    obtain ⟨M7, hM8⟩ : ∃ z : Mem, z = (m_pi M u3 (Int32.toNatClampNeg (m_gi M a0 7)) x1) := ⟨_, rfl⟩
    replace hw := hw M7 hM8
    have hle9 : m_le M M7 := by rw [hM8]; exact m_le_pi
    refine pw_iast X ht5 hi6 dX4_type_21 ?_
    rw [← hM8]
    have ht10 : m_tg M7 a0 = 5 := m_le_tg hle9 ht1
    have ht11 : m_tg M7 u3 = 101 := m_le_tg hle9 ht5
    refine pw_aload_n X dX4_type_22 rfl rfl ?_
    refine pw_dup X dX4_type_23 ?_
    refine pw_get X (q := (RX4, TX4, tyX4, 15)) (ci := 4) (k := 7) (ref := "PatrolDeskModel") (vI (m_gi M7 a0 7)) ht10 rfl (by decide) in_X4 q1953 (Or.inl rfl) rfl dX4_type_24 ?_
    refine pw_iconst X 1 dX4_type_27 (by decide) ?_
    refine pw_iadd X dX4_type_28 ?_
    obtain ⟨M12, hM13⟩ : ∃ z : Mem, z = (m_pi M7 a0 7 ((m_gi M7 a0 7) + 1)) := ⟨_, rfl⟩
    replace hw := hw M12 hM13
    refine pw_put X (q := (RX4, TX4, tyX4, 15)) (ci := 4) (k := 7) (ref := "PatrolDeskModel") M12 hM13.symm ht10 rfl (by decide) in_X4 tyX4_ok nmX4 q1953 (Or.inl rfl) rfl (m_kd_i (fun _ _ => rfl)) rfl rfl dX4_type_29 ?_
    have hle14 : m_le M7 M12 := by rw [hM13]; exact m_le_pi
    have ht15 : m_tg M12 a0 = 5 := m_le_tg hle14 ht10
    have ht16 : m_tg M12 u3 = 101 := m_le_tg hle14 ht11
    refine pw_aload_n X dX4_type_32 rfl rfl ?_
    refine pw_get X (q := (RX4, TX4, tyX4, 15)) (ci := 4) (k := 7) (ref := "PatrolDeskModel") (vI (m_gi M12 a0 7)) ht15 rfl (by decide) in_X4 q1953 (Or.inl rfl) rfl dX4_type_33 ?_
    exact pw_iret X hw dX4_type_36
  · replace hw := hw.2 c2
    refine pw_bipush X (-3) dX4_type_9 (by decide) ?_
    exact pw_iret X hw dX4_type_11
theorem met_X4_type (G : Gp) (l : Launch) (M : Mem) (a0 : Nat) (x1 : Int32) (Q : Int32 → Mem → Prop) (hw : wp_X4_type G.2 M a0 x1 Q) : m_K G l yX4_type cX4_type 2 (some .int) 0 0 [vR (some a0), vI x1] M (va_Qi (m_q1 M Q) (m_W G) (m_A G)) := by
  refine m_met (by decide) (Nat.le_of_ble_eq_true rfl) (fun C e X => ?_)
  exact bk_X4_type_0 G C _ _ M Q X M a0 x1 hw
theorem nh_X4_type : m_nMH yX4_type 1 := by decide +kernel

def wp_X4_clearText (g : Nat → Nat) (M : Mem) (a0 : Nat) (Q : Int32 → Mem → Prop) : Prop := m_tg M a0 = 5 ∧ ∀ M2 : Mem, M2 = (m_pi M a0 7 0) → Q (m_gi M a0 7) M2
theorem bk_X4_clearText_0 (G : Gp) (C : m_Cx) (n0 s0 : Nat) (M0 : Mem) (Q : Int32 → Mem → Prop) (X : m_in G C RX4 cX4_clearText 2 (some .int) "clearText" 0 0 n0 s0) (M : Mem) (a0 : Nat) (hw : wp_X4_clearText G.2 M a0 Q) : pW G C 2 n0 s0 M0 (m_Q G C n0 s0 (va_Qi (m_q1 M0 Q) (m_W G) (m_A G))) M 0 [(0, vR (some a0))] [] := by
  refine pw_aload_n X dX4_clearText_0 rfl rfl ?_
  obtain ⟨ht1, hw⟩ := hw
  refine pw_get X (q := (RX4, TX4, tyX4, 15)) (ci := 4) (k := 7) (ref := "PatrolDeskModel") (vI (m_gi M a0 7)) ht1 rfl (by decide) in_X4 q1953 (Or.inl rfl) rfl dX4_clearText_1 ?_
  refine pw_istore_n X [(0, vR (some a0)), (1, vI (m_gi M a0 7))] [1, 0] dX4_clearText_4 rfl (by decide) rfl ?_
  refine pw_aload_n X dX4_clearText_5 rfl rfl ?_
  refine pw_iconst X 0 dX4_clearText_6 (by decide) ?_
  obtain ⟨M2, hM3⟩ : ∃ z : Mem, z = (m_pi M a0 7 0) := ⟨_, rfl⟩
  replace hw := hw M2 hM3
  refine pw_put X (q := (RX4, TX4, tyX4, 15)) (ci := 4) (k := 7) (ref := "PatrolDeskModel") M2 hM3.symm ht1 rfl (by decide) in_X4 tyX4_ok nmX4 q1953 (Or.inl rfl) rfl (m_kd_i (fun _ _ => rfl)) rfl rfl dX4_clearText_7 ?_
  have hle4 : m_le M M2 := by rw [hM3]; exact m_le_pi
  have ht5 : m_tg M2 a0 = 5 := m_le_tg hle4 ht1
  refine pw_iload_n X dX4_clearText_10 rfl rfl ?_
  exact pw_iret X hw dX4_clearText_11
theorem met_X4_clearText (G : Gp) (l : Launch) (M : Mem) (a0 : Nat) (Q : Int32 → Mem → Prop) (hw : wp_X4_clearText G.2 M a0 Q) : m_K G l yX4_clearText cX4_clearText 2 (some .int) 0 0 [vR (some a0)] M (va_Qi (m_q1 M Q) (m_W G) (m_A G)) := by
  refine m_met (by decide) (Nat.le_of_ble_eq_true rfl) (fun C e X => ?_)
  exact bk_X4_clearText_0 G C _ _ M Q X M a0 hw
theorem nh_X4_clearText : m_nMH yX4_clearText 0 := by decide +kernel

def wp_X4_signAt (g : Nat → Nat) (M : Mem) (a0 : Nat) (x1 : Int32) (Q : Int32 → Mem → Prop) : Prop := m_tg M a0 = 5 ∧ (((m_gi M a0 7) ≤ x1 → Q (-5) M) ∧ (¬ (m_gi M a0 7) ≤ x1 → ∃ u3 : Nat, (m_gr M a0 6) = some u3 ∧ m_tg M u3 = 101 ∧ vp_in x1 (m_ln M u3) ∧ Q (m_gi M u3 (Int32.toNatClampNeg x1)) M))
theorem bk_X4_signAt_0 (G : Gp) (C : m_Cx) (n0 s0 : Nat) (M0 : Mem) (Q : Int32 → Mem → Prop) (X : m_in G C RX4 cX4_signAt 2 (some .int) "signAt" 0 0 n0 s0) (M : Mem) (a0 : Nat) (x1 : Int32) (hw : wp_X4_signAt G.2 M a0 x1 Q) : pW G C 2 n0 s0 M0 (m_Q G C n0 s0 (va_Qi (m_q1 M0 Q) (m_W G) (m_A G))) M 0 [(0, vR (some a0)), (1, vI x1)] [] := by
  refine pw_iload_n X dX4_signAt_0 rfl rfl ?_
  refine pw_aload_n X dX4_signAt_1 rfl rfl ?_
  obtain ⟨ht1, hw⟩ := hw
  refine pw_get X (q := (RX4, TX4, tyX4, 15)) (ci := 4) (k := 7) (ref := "PatrolDeskModel") (vI (m_gi M a0 7)) ht1 rfl (by decide) in_X4 q1953 (Or.inl rfl) rfl dX4_signAt_2 ?_
  refine pw_icmp_ge X 17 dX4_signAt_5 (by decide) (fun c2 => ?_) (fun c2 => ?_)
  · replace hw := hw.1 c2
    refine pw_bipush X (-5) dX4_signAt_17 (by decide) ?_
    exact pw_iret X hw dX4_signAt_19
  · replace hw := hw.2 c2
    refine pw_aload_n X dX4_signAt_8 rfl rfl ?_
    obtain ⟨u3, he4, hw⟩ := hw
    refine pw_get X (q := (RX4, TX4, tyX4, 15)) (ci := 4) (k := 6) (ref := "PatrolDeskModel") (vR (some u3)) ht1 rfl (by decide) in_X4 q1952 (Or.inl rfl) (by rw [he4]; rfl) dX4_signAt_9 ?_
    refine pw_iload_n X dX4_signAt_12 rfl rfl ?_
    obtain ⟨ht5, hw⟩ := hw
    obtain ⟨hi6, hw⟩ := hw
    refine pw_iald X ht5 hi6 dX4_signAt_13 ?_
    refine pw_goto X 19 dX4_signAt_14 (by decide) ?_
    exact pw_iret X hw dX4_signAt_19
theorem met_X4_signAt (G : Gp) (l : Launch) (M : Mem) (a0 : Nat) (x1 : Int32) (Q : Int32 → Mem → Prop) (hw : wp_X4_signAt G.2 M a0 x1 Q) : m_K G l yX4_signAt cX4_signAt 2 (some .int) 0 0 [vR (some a0), vI x1] M (va_Qi (m_q1 M Q) (m_W G) (m_A G)) := by
  refine m_met (by decide) (Nat.le_of_ble_eq_true rfl) (fun C e X => ?_)
  exact bk_X4_signAt_0 G C _ _ M Q X M a0 x1 hw
theorem nh_X4_signAt : m_nMH yX4_signAt 1 := by decide +kernel

def wp_X4_reads_b115 (g : Nat → Nat) (M : Mem) (la0 : Nat) (lx2 : Int32) (lx3 : Int32) (Q : Int32 → Mem → Prop) : Prop := m_tg M la0 = 5 ∧ ∃ u2 : Nat, (m_gr M la0 12) = some u2 ∧ m_tg M u2 = 101 ∧ vp_in lx2 (m_ln M u2) ∧ ∀ M6 : Mem, M6 = (m_pi M u2 (Int32.toNatClampNeg lx2) lx3) → Q 1 M6
def wp_X4_reads (g : Nat → Nat) (M : Mem) (a0 : Nat) (x1 : Int32) (x2 : Int32) (Q : Int32 → Mem → Prop) : Prop := m_tg M a0 = 5 ∧ wp_X4_signAt g M a0 (m_gi M a0 14) (fun (r4 : Int32) (M2 : Mem) => m_le M M2 → ((r4 = x1 → ∀ M7 : Mem, M7 = (m_pi M2 a0 14 ((m_gi M2 a0 14) + 1)) → wp_X4_signAt g M7 a0 (m_gi M7 a0 14) (fun (r13 : Int32) (M11 : Mem) => m_le M7 M11 → wp_X4_in g M11 r13 48 57 (fun (r17 : Int32) (M15 : Mem) => m_le M11 M15 → ((¬ r17 = 0 → wp_X4_signAt g M15 a0 (m_gi M15 a0 14) (fun (r22 : Int32) (M20 : Mem) => m_le M15 M20 → ∀ M24 : Mem, M24 = (m_pi M20 a0 14 ((m_gi M20 a0 14) + 1)) → (((r22 - 48) ≤ 0 → wp_X4_reads_b115 g M24 a0 x2 (r22 - 48) Q) ∧ (¬ (r22 - 48) ≤ 0 → wp_X4_signAt g M24 a0 (m_gi M24 a0 14) (fun (r31 : Int32) (M29 : Mem) => m_le M24 M29 → wp_X4_in g M29 r31 48 57 (fun (r35 : Int32) (M33 : Mem) => m_le M29 M33 → ((r35 = 0 → wp_X4_reads_b115 g M33 a0 x2 (r22 - 48) Q) ∧ (¬ r35 = 0 → wp_X4_signAt g M33 a0 (m_gi M33 a0 14) (fun (r40 : Int32) (M38 : Mem) => m_le M33 M38 → ∀ M42 : Mem, M42 = (m_pi M38 a0 14 ((m_gi M38 a0 14) + 1)) → wp_X4_reads_b115 g M42 a0 x2 (((10 * (r22 - 48)) + r40) - 48) Q))))))))) ∧ (r17 = 0 → Q 0 M15))))) ∧ (¬ r4 = x1 → Q 0 M2)))
theorem bk_X4_reads_115 (G : Gp) (C : m_Cx) (n0 s0 : Nat) (M0 : Mem) (Q : Int32 → Mem → Prop) (X : m_in G C RX4 cX4_reads 4 (some .boolean) "reads" 1 22 n0 s0) (M : Mem) (la0 : Nat) (lx2 : Int32) (lx3 : Int32) (hw : wp_X4_reads_b115 G.2 M la0 lx2 lx3 Q) : pW G C 4 n0 s0 M0 (m_Q G C n0 s0 (va_Qi (m_q1 M0 Q) (m_W G) (m_A G))) M 115 [(0, vR (some la0)), (2, vI lx2), (3, vI lx3)] [] := by
  refine pw_aload_n X dX4_reads_115 rfl rfl ?_
  obtain ⟨ht1, hw⟩ := hw
  obtain ⟨u2, he3, hw⟩ := hw
  refine pw_get X (q := (RX4, TX4, tyX4, 15)) (ci := 4) (k := 12) (ref := "PatrolDeskModel") (vR (some u2)) ht1 rfl (by decide) in_X4 q1958 (Or.inl rfl) (by rw [he3]; rfl) dX4_reads_116 ?_
  refine pw_iload_n X dX4_reads_119 rfl rfl ?_
  refine pw_iload_n X dX4_reads_120 rfl rfl ?_
  obtain ⟨ht4, hw⟩ := hw
  obtain ⟨hi5, hw⟩ := hw
  obtain ⟨M6, hM7⟩ : ∃ z : Mem, z = (m_pi M u2 (Int32.toNatClampNeg lx2) lx3) := ⟨_, rfl⟩
  replace hw := hw M6 hM7
  have hle8 : m_le M M6 := by rw [hM7]; exact m_le_pi
  refine pw_iast X ht4 hi5 dX4_reads_121 ?_
  rw [← hM7]
  have ht9 : m_tg M6 la0 = 5 := m_le_tg hle8 ht1
  have ht10 : m_tg M6 u2 = 101 := m_le_tg hle8 ht4
  refine pw_iconst X 1 dX4_reads_122 (by decide) ?_
  exact pw_zret X (by decide) hw dX4_reads_123
theorem bk_X4_reads_0 (G : Gp) (C : m_Cx) (n0 s0 : Nat) (M0 : Mem) (Q : Int32 → Mem → Prop) (X : m_in G C RX4 cX4_reads 4 (some .boolean) "reads" 1 22 n0 s0) (M : Mem) (a0 : Nat) (x1 : Int32) (x2 : Int32) (hw : wp_X4_reads G.2 M a0 x1 x2 Q) : pW G C 4 n0 s0 M0 (m_Q G C n0 s0 (va_Qi (m_q1 M0 Q) (m_W G) (m_A G))) M 0 [(0, vR (some a0)), (1, vI x1), (2, vI x2)] [] := by
  refine pw_aload_n X dX4_reads_0 rfl rfl ?_
  refine pw_aload_n X dX4_reads_1 rfl rfl ?_
  obtain ⟨ht1, hw⟩ := hw
  refine pw_get X (q := (RX4, TX4, tyX4, 15)) (ci := 4) (k := 14) (ref := "PatrolDeskModel") (vI (m_gi M a0 14)) ht1 rfl (by decide) in_X4 q1960 (Or.inl rfl) rfl dX4_reads_2 ?_
  refine pw_runi X (m_cV X (b := a0) (ci := 4) (q := (RX4, TX4, tyX4, 15)) (met_X4_signAt G C.2.1 M a0 (m_gi M a0 14) _ hw) ht1 rfl (lw_V q2216 q2218 qs76 q107 q2219) ⟨rfl, nh_X4_signAt⟩ ⟨Nat.le_of_ble_eq_true rfl, Nat.le_of_ble_eq_true rfl⟩ rfl (Nat.le_of_ble_eq_true rfl) dX4_reads_5) (fun r4 M2 hle3 hx => ?_)
  replace hw := hx hle3
  clear hx
  have ht5 : m_tg M2 a0 = 5 := m_le_tg hle3 ht1
  refine pw_iload_n X dX4_reads_8 rfl rfl ?_
  refine pw_icmp_eq X 14 dX4_reads_9 (by decide) (fun c6 => ?_) (fun c6 => ?_)
  · replace hw := hw.1 c6
    refine pw_aload_n X dX4_reads_14 rfl rfl ?_
    refine pw_dup X dX4_reads_15 ?_
    refine pw_get X (q := (RX4, TX4, tyX4, 15)) (ci := 4) (k := 14) (ref := "PatrolDeskModel") (vI (m_gi M2 a0 14)) ht5 rfl (by decide) in_X4 q1960 (Or.inl rfl) rfl dX4_reads_16 ?_
    refine pw_iconst X 1 dX4_reads_19 (by decide) ?_
    refine pw_iadd X dX4_reads_20 ?_
    obtain ⟨M7, hM8⟩ : ∃ z : Mem, z = (m_pi M2 a0 14 ((m_gi M2 a0 14) + 1)) := ⟨_, rfl⟩
    replace hw := hw M7 hM8
    refine pw_put X (q := (RX4, TX4, tyX4, 15)) (ci := 4) (k := 14) (ref := "PatrolDeskModel") M7 hM8.symm ht5 rfl (by decide) in_X4 tyX4_ok nmX4 q1960 (Or.inl rfl) rfl (m_kd_i (fun _ _ => rfl)) rfl rfl dX4_reads_21 ?_
    have hle9 : m_le M2 M7 := by rw [hM8]; exact m_le_pi
    have ht10 : m_tg M7 a0 = 5 := m_le_tg hle9 ht5
    refine pw_aload_n X dX4_reads_24 rfl rfl ?_
    refine pw_aload_n X dX4_reads_25 rfl rfl ?_
    refine pw_get X (q := (RX4, TX4, tyX4, 15)) (ci := 4) (k := 14) (ref := "PatrolDeskModel") (vI (m_gi M7 a0 14)) ht10 rfl (by decide) in_X4 q1960 (Or.inl rfl) rfl dX4_reads_26 ?_
    refine pw_runi X (m_cV X (b := a0) (ci := 4) (q := (RX4, TX4, tyX4, 15)) (met_X4_signAt G C.2.1 M7 a0 (m_gi M7 a0 14) _ hw) ht10 rfl (lw_V q2216 q2218 qs76 q107 q2219) ⟨rfl, nh_X4_signAt⟩ ⟨Nat.le_of_ble_eq_true rfl, Nat.le_of_ble_eq_true rfl⟩ rfl (Nat.le_of_ble_eq_true rfl) dX4_reads_29) (fun r13 M11 hle12 hx => ?_)
    replace hw := hx hle12
    clear hx
    have ht14 : m_tg M11 a0 = 5 := m_le_tg hle12 ht10
    refine pw_bipush X 48 dX4_reads_32 (by decide) ?_
    refine pw_bipush X 57 dX4_reads_34 (by decide) ?_
    refine pw_runi X (m_cS X (met_X4_in G C.2.1 M11 r13 48 57 _ hw) (lw_S q1999 q2000 q107 q2001) nh_X4_in ⟨Nat.le_of_ble_eq_true rfl, Nat.le_of_ble_eq_true rfl⟩ rfl (Nat.le_of_ble_eq_true rfl) dX4_reads_36) (fun r17 M15 hle16 hx => ?_)
    replace hw := hx hle16
    clear hx
    have ht18 : m_tg M15 a0 = 5 := m_le_tg hle16 ht14
    refine pw_if_ne X 44 dX4_reads_39 (by decide) (fun c19 => ?_) (fun c19 => ?_)
    · replace hw := hw.1 c19
      refine pw_aload_n X dX4_reads_44 rfl rfl ?_
      refine pw_aload_n X dX4_reads_45 rfl rfl ?_
      refine pw_get X (q := (RX4, TX4, tyX4, 15)) (ci := 4) (k := 14) (ref := "PatrolDeskModel") (vI (m_gi M15 a0 14)) ht18 rfl (by decide) in_X4 q1960 (Or.inl rfl) rfl dX4_reads_46 ?_
      refine pw_runi X (m_cV X (b := a0) (ci := 4) (q := (RX4, TX4, tyX4, 15)) (met_X4_signAt G C.2.1 M15 a0 (m_gi M15 a0 14) _ hw) ht18 rfl (lw_V q2216 q2218 qs76 q107 q2219) ⟨rfl, nh_X4_signAt⟩ ⟨Nat.le_of_ble_eq_true rfl, Nat.le_of_ble_eq_true rfl⟩ rfl (Nat.le_of_ble_eq_true rfl) dX4_reads_49) (fun r22 M20 hle21 hx => ?_)
      replace hw := hx hle21
      clear hx
      have ht23 : m_tg M20 a0 = 5 := m_le_tg hle21 ht18
      refine pw_bipush X 48 dX4_reads_52 (by decide) ?_
      refine pw_isub X dX4_reads_54 ?_
      refine pw_istore_n X [(0, vR (some a0)), (2, vI x2), (3, vI (r22 - 48))] [1, 3, 0] dX4_reads_55 rfl (by decide) rfl ?_
      refine pw_aload_n X dX4_reads_56 rfl rfl ?_
      refine pw_dup X dX4_reads_57 ?_
      refine pw_get X (q := (RX4, TX4, tyX4, 15)) (ci := 4) (k := 14) (ref := "PatrolDeskModel") (vI (m_gi M20 a0 14)) ht23 rfl (by decide) in_X4 q1960 (Or.inl rfl) rfl dX4_reads_58 ?_
      refine pw_iconst X 1 dX4_reads_61 (by decide) ?_
      refine pw_iadd X dX4_reads_62 ?_
      obtain ⟨M24, hM25⟩ : ∃ z : Mem, z = (m_pi M20 a0 14 ((m_gi M20 a0 14) + 1)) := ⟨_, rfl⟩
      replace hw := hw M24 hM25
      refine pw_put X (q := (RX4, TX4, tyX4, 15)) (ci := 4) (k := 14) (ref := "PatrolDeskModel") M24 hM25.symm ht23 rfl (by decide) in_X4 tyX4_ok nmX4 q1960 (Or.inl rfl) rfl (m_kd_i (fun _ _ => rfl)) rfl rfl dX4_reads_63 ?_
      have hle26 : m_le M20 M24 := by rw [hM25]; exact m_le_pi
      have ht27 : m_tg M24 a0 = 5 := m_le_tg hle26 ht23
      refine pw_iload_n X dX4_reads_66 rfl rfl ?_
      refine pw_if_le X 115 dX4_reads_67 (by decide) (fun c28 => ?_) (fun c28 => ?_)
      · replace hw := hw.1 c28
        exact bk_X4_reads_115 G C n0 s0 M0 Q X _ a0 x2 (r22 - 48) hw
      · replace hw := hw.2 c28
        refine pw_aload_n X dX4_reads_70 rfl rfl ?_
        refine pw_aload_n X dX4_reads_71 rfl rfl ?_
        refine pw_get X (q := (RX4, TX4, tyX4, 15)) (ci := 4) (k := 14) (ref := "PatrolDeskModel") (vI (m_gi M24 a0 14)) ht27 rfl (by decide) in_X4 q1960 (Or.inl rfl) rfl dX4_reads_72 ?_
        refine pw_runi X (m_cV X (b := a0) (ci := 4) (q := (RX4, TX4, tyX4, 15)) (met_X4_signAt G C.2.1 M24 a0 (m_gi M24 a0 14) _ hw) ht27 rfl (lw_V q2216 q2218 qs76 q107 q2219) ⟨rfl, nh_X4_signAt⟩ ⟨Nat.le_of_ble_eq_true rfl, Nat.le_of_ble_eq_true rfl⟩ rfl (Nat.le_of_ble_eq_true rfl) dX4_reads_75) (fun r31 M29 hle30 hx => ?_)
        replace hw := hx hle30
        clear hx
        have ht32 : m_tg M29 a0 = 5 := m_le_tg hle30 ht27
        refine pw_bipush X 48 dX4_reads_78 (by decide) ?_
        refine pw_bipush X 57 dX4_reads_80 (by decide) ?_
        refine pw_runi X (m_cS X (met_X4_in G C.2.1 M29 r31 48 57 _ hw) (lw_S q1999 q2000 q107 q2001) nh_X4_in ⟨Nat.le_of_ble_eq_true rfl, Nat.le_of_ble_eq_true rfl⟩ rfl (Nat.le_of_ble_eq_true rfl) dX4_reads_82) (fun r35 M33 hle34 hx => ?_)
        replace hw := hx hle34
        clear hx
        have ht36 : m_tg M33 a0 = 5 := m_le_tg hle34 ht32
        refine pw_if_eq X 115 dX4_reads_85 (by decide) (fun c37 => ?_) (fun c37 => ?_)
        · replace hw := hw.1 c37
          exact bk_X4_reads_115 G C n0 s0 M0 Q X _ a0 x2 (r22 - 48) hw
        · replace hw := hw.2 c37
          refine pw_bipush X 10 dX4_reads_88 (by decide) ?_
          refine pw_iload_n X dX4_reads_90 rfl rfl ?_
          refine pw_imul X dX4_reads_91 ?_
          refine pw_aload_n X dX4_reads_92 rfl rfl ?_
          refine pw_aload_n X dX4_reads_93 rfl rfl ?_
          refine pw_get X (q := (RX4, TX4, tyX4, 15)) (ci := 4) (k := 14) (ref := "PatrolDeskModel") (vI (m_gi M33 a0 14)) ht36 rfl (by decide) in_X4 q1960 (Or.inl rfl) rfl dX4_reads_94 ?_
          refine pw_runi X (m_cV X (b := a0) (ci := 4) (q := (RX4, TX4, tyX4, 15)) (met_X4_signAt G C.2.1 M33 a0 (m_gi M33 a0 14) _ hw) ht36 rfl (lw_V q2216 q2218 qs76 q107 q2219) ⟨rfl, nh_X4_signAt⟩ ⟨Nat.le_of_ble_eq_true rfl, Nat.le_of_ble_eq_true rfl⟩ rfl (Nat.le_of_ble_eq_true rfl) dX4_reads_97) (fun r40 M38 hle39 hx => ?_)
          replace hw := hx hle39
          clear hx
          have ht41 : m_tg M38 a0 = 5 := m_le_tg hle39 ht36
          refine pw_iadd X dX4_reads_100 ?_
          refine pw_bipush X 48 dX4_reads_101 (by decide) ?_
          refine pw_isub X dX4_reads_103 ?_
          refine pw_istore_n X [(0, vR (some a0)), (2, vI x2), (3, vI (((10 * (r22 - 48)) + r40) - 48))] [1, 2, 0] dX4_reads_104 rfl (by decide) rfl ?_
          refine pw_aload_n X dX4_reads_105 rfl rfl ?_
          refine pw_dup X dX4_reads_106 ?_
          refine pw_get X (q := (RX4, TX4, tyX4, 15)) (ci := 4) (k := 14) (ref := "PatrolDeskModel") (vI (m_gi M38 a0 14)) ht41 rfl (by decide) in_X4 q1960 (Or.inl rfl) rfl dX4_reads_107 ?_
          refine pw_iconst X 1 dX4_reads_110 (by decide) ?_
          refine pw_iadd X dX4_reads_111 ?_
          obtain ⟨M42, hM43⟩ : ∃ z : Mem, z = (m_pi M38 a0 14 ((m_gi M38 a0 14) + 1)) := ⟨_, rfl⟩
          replace hw := hw M42 hM43
          refine pw_put X (q := (RX4, TX4, tyX4, 15)) (ci := 4) (k := 14) (ref := "PatrolDeskModel") M42 hM43.symm ht41 rfl (by decide) in_X4 tyX4_ok nmX4 q1960 (Or.inl rfl) rfl (m_kd_i (fun _ _ => rfl)) rfl rfl dX4_reads_112 ?_
          have hle44 : m_le M38 M42 := by rw [hM43]; exact m_le_pi
          have ht45 : m_tg M42 a0 = 5 := m_le_tg hle44 ht41
          exact bk_X4_reads_115 G C n0 s0 M0 Q X _ a0 x2 (((10 * (r22 - 48)) + r40) - 48) hw
    · replace hw := hw.2 c19
      refine pw_iconst X 0 dX4_reads_42 (by decide) ?_
      exact pw_zret X (by decide) hw dX4_reads_43
  · replace hw := hw.2 c6
    refine pw_iconst X 0 dX4_reads_12 (by decide) ?_
    exact pw_zret X (by decide) hw dX4_reads_13
theorem met_X4_reads (G : Gp) (l : Launch) (M : Mem) (a0 : Nat) (x1 : Int32) (x2 : Int32) (Q : Int32 → Mem → Prop) (hw : wp_X4_reads G.2 M a0 x1 x2 Q) : m_K G l yX4_reads cX4_reads 4 (some .boolean) 1 22 [vR (some a0), vI x1, vI x2] M (va_Qi (m_q1 M Q) (m_W G) (m_A G)) := by
  refine m_met (by decide) (Nat.le_of_ble_eq_true rfl) (fun C e X => ?_)
  exact bk_X4_reads_0 G C _ _ M Q X M a0 x1 x2 hw
theorem nh_X4_reads : m_nMH yX4_reads 2 := by decide +kernel

def wp_X4_faultOf_b119 (g : Nat → Nat) (k12 : Mem → Nat → Int32 → Prop) (M : Mem) (la0 : Nat) (lx1 : Int32) (Q : Int32 → Mem → Prop) : Prop := m_tg M la0 = 5 ∧ ((lx1 = 0 → ∀ M3 : Mem, M3 = (m_pi M la0 14 ((m_gi M la0 14) + 0)) → k12 M3 la0 lx1) ∧ (¬ lx1 = 0 → ∀ M7 : Mem, M7 = (m_pi M la0 14 ((m_gi M la0 14) + 1)) → k12 M7 la0 lx1))
def wp_X4_faultOf_b96 (g : Nat → Nat) (k12 : Mem → Nat → Int32 → Prop) (M : Mem) (la0 : Nat) (sx0 : Int32) (Q : Int32 → Mem → Prop) : Prop := ((sx0 = 0 → wp_X4_faultOf_b119 g k12 M la0 sx0 Q) ∧ (¬ sx0 = 0 → m_tg M la0 = 5 ∧ wp_X4_signAt g M la0 (m_gi M la0 14) (fun (r5 : Int32) (M3 : Mem) => m_le M M3 → ((r5 = 59 → wp_X4_faultOf_b119 g k12 M3 la0 sx0 Q) ∧ (¬ r5 = 59 → Q (m_gi M3 la0 14) M3)))))
def wp_X4_faultOf_b12 (g : Nat → Nat) (Q : Int32 → Mem → Prop) : Nat → Mem → Nat → Int32 → Prop
  | 0 => fun _ _ _ => False
  | n + 1 => fun M la0 lx1 => ((lx1 = 0 → Q (-5) M) ∧ (¬ lx1 = 0 → m_tg M la0 = 5 ∧ wp_X4_reads g M la0 109 (3 * (m_gi M la0 13)) (fun (r5 : Int32) (M3 : Mem) => m_le M M3 → ((r5 = 0 → Q (m_gi M3 la0 14) M3) ∧ (¬ r5 = 0 → wp_X4_reads g M3 la0 64 ((3 * (m_gi M3 la0 13)) + 1) (fun (r10 : Int32) (M8 : Mem) => m_le M3 M8 → ((r10 = 0 → Q (m_gi M8 la0 14) M8) ∧ (¬ r10 = 0 → wp_X4_reads g M8 la0 33 ((3 * (m_gi M8 la0 13)) + 2) (fun (r15 : Int32) (M13 : Mem) => m_le M8 M13 → ((¬ r15 = 0 → ∀ M18 : Mem, M18 = (m_pi M13 la0 13 ((m_gi M13 la0 13) + 1)) → (((m_gi M18 la0 7) ≤ (m_gi M18 la0 14) → wp_X4_faultOf_b96 g (wp_X4_faultOf_b12 g Q n) M18 la0 0 Q) ∧ (¬ (m_gi M18 la0 7) ≤ (m_gi M18 la0 14) → wp_X4_faultOf_b96 g (wp_X4_faultOf_b12 g Q n) M18 la0 1 Q))) ∧ (r15 = 0 → Q (m_gi M13 la0 14) M13)))))))))))
def wp_X4_faultOf (g : Nat → Nat) (M : Mem) (a0 : Nat) (Q : Int32 → Mem → Prop) : Prop := m_tg M a0 = 5 ∧ ∀ M2 : Mem, M2 = (m_pi M a0 14 0) → ∀ M6 : Mem, M6 = (m_pi M2 a0 13 0) → ∃ j12 : Nat, wp_X4_faultOf_b12 g Q j12 M6 a0 1
theorem bk_X4_faultOf_119 (G : Gp) (C : m_Cx) (n0 s0 : Nat) (M0 : Mem) (Q : Int32 → Mem → Prop) (X : m_in G C RX4 cX4_faultOf 2 (some .int) "faultOf" 2 45 n0 s0) (k12 : Mem → Nat → Int32 → Prop) (hk12 : ∀ (M : Mem) (la0 : Nat) (lx1 : Int32), k12 M la0 lx1 → pW G C 2 n0 s0 M0 (m_Q G C n0 s0 (va_Qi (m_q1 M0 Q) (m_W G) (m_A G))) M 12 [(0, vR (some la0)), (1, vI lx1)] []) (M : Mem) (la0 : Nat) (lx1 : Int32) (hw : wp_X4_faultOf_b119 G.2 k12 M la0 lx1 Q) : pW G C 2 n0 s0 M0 (m_Q G C n0 s0 (va_Qi (m_q1 M0 Q) (m_W G) (m_A G))) M 119 [(0, vR (some la0)), (1, vI lx1)] [] := by
  refine pw_aload_n X dX4_faultOf_119 rfl rfl ?_
  refine pw_dup X dX4_faultOf_120 ?_
  obtain ⟨ht1, hw⟩ := hw
  refine pw_get X (q := (RX4, TX4, tyX4, 15)) (ci := 4) (k := 14) (ref := "PatrolDeskModel") (vI (m_gi M la0 14)) ht1 rfl (by decide) in_X4 q1960 (Or.inl rfl) rfl dX4_faultOf_121 ?_
  refine pw_iload_n X dX4_faultOf_124 rfl rfl ?_
  refine pw_if_eq X 132 dX4_faultOf_125 (by decide) (fun c2 => ?_) (fun c2 => ?_)
  · replace hw := hw.1 c2
    refine pw_iconst X 0 dX4_faultOf_132 (by decide) ?_
    refine pw_iadd X dX4_faultOf_133 ?_
    obtain ⟨M3, hM4⟩ : ∃ z : Mem, z = (m_pi M la0 14 ((m_gi M la0 14) + 0)) := ⟨_, rfl⟩
    replace hw := hw M3 hM4
    refine pw_put X (q := (RX4, TX4, tyX4, 15)) (ci := 4) (k := 14) (ref := "PatrolDeskModel") M3 hM4.symm ht1 rfl (by decide) in_X4 tyX4_ok nmX4 q1960 (Or.inl rfl) rfl (m_kd_i (fun _ _ => rfl)) rfl rfl dX4_faultOf_134 ?_
    have hle5 : m_le M M3 := by rw [hM4]; exact m_le_pi
    have ht6 : m_tg M3 la0 = 5 := m_le_tg hle5 ht1
    refine pw_goto X 12 dX4_faultOf_137 (by decide) ?_
    exact hk12 _ la0 lx1 hw
  · replace hw := hw.2 c2
    refine pw_iconst X 1 dX4_faultOf_128 (by decide) ?_
    refine pw_goto X 133 dX4_faultOf_129 (by decide) ?_
    refine pw_iadd X dX4_faultOf_133 ?_
    obtain ⟨M7, hM8⟩ : ∃ z : Mem, z = (m_pi M la0 14 ((m_gi M la0 14) + 1)) := ⟨_, rfl⟩
    replace hw := hw M7 hM8
    refine pw_put X (q := (RX4, TX4, tyX4, 15)) (ci := 4) (k := 14) (ref := "PatrolDeskModel") M7 hM8.symm ht1 rfl (by decide) in_X4 tyX4_ok nmX4 q1960 (Or.inl rfl) rfl (m_kd_i (fun _ _ => rfl)) rfl rfl dX4_faultOf_134 ?_
    have hle9 : m_le M M7 := by rw [hM8]; exact m_le_pi
    have ht10 : m_tg M7 la0 = 5 := m_le_tg hle9 ht1
    refine pw_goto X 12 dX4_faultOf_137 (by decide) ?_
    exact hk12 _ la0 lx1 hw
theorem bk_X4_faultOf_96 (G : Gp) (C : m_Cx) (n0 s0 : Nat) (M0 : Mem) (Q : Int32 → Mem → Prop) (X : m_in G C RX4 cX4_faultOf 2 (some .int) "faultOf" 2 45 n0 s0) (k12 : Mem → Nat → Int32 → Prop) (hk12 : ∀ (M : Mem) (la0 : Nat) (lx1 : Int32), k12 M la0 lx1 → pW G C 2 n0 s0 M0 (m_Q G C n0 s0 (va_Qi (m_q1 M0 Q) (m_W G) (m_A G))) M 12 [(0, vR (some la0)), (1, vI lx1)] []) (M : Mem) (la0 : Nat) (sx0 : Int32) (hw : wp_X4_faultOf_b96 G.2 k12 M la0 sx0 Q) : pW G C 2 n0 s0 M0 (m_Q G C n0 s0 (va_Qi (m_q1 M0 Q) (m_W G) (m_A G))) M 96 [(0, vR (some la0))] [vI sx0] := by
  refine pw_istore_n X [(0, vR (some la0)), (1, vI sx0)] [1, 0] dX4_faultOf_96 rfl (by decide) rfl ?_
  refine pw_iload_n X dX4_faultOf_97 rfl rfl ?_
  refine pw_if_eq X 119 dX4_faultOf_98 (by decide) (fun c1 => ?_) (fun c1 => ?_)
  · replace hw := hw.1 c1
    exact bk_X4_faultOf_119 G C n0 s0 M0 Q X k12 hk12 _ la0 sx0 hw
  · replace hw := hw.2 c1
    refine pw_aload_n X dX4_faultOf_101 rfl rfl ?_
    refine pw_aload_n X dX4_faultOf_102 rfl rfl ?_
    obtain ⟨ht2, hw⟩ := hw
    refine pw_get X (q := (RX4, TX4, tyX4, 15)) (ci := 4) (k := 14) (ref := "PatrolDeskModel") (vI (m_gi M la0 14)) ht2 rfl (by decide) in_X4 q1960 (Or.inl rfl) rfl dX4_faultOf_103 ?_
    refine pw_runi X (m_cV X (b := la0) (ci := 4) (q := (RX4, TX4, tyX4, 15)) (met_X4_signAt G C.2.1 M la0 (m_gi M la0 14) _ hw) ht2 rfl (lw_V q2216 q2218 qs76 q107 q2219) ⟨rfl, nh_X4_signAt⟩ ⟨Nat.le_of_ble_eq_true rfl, Nat.le_of_ble_eq_true rfl⟩ rfl (Nat.le_of_ble_eq_true rfl) dX4_faultOf_106) (fun r5 M3 hle4 hx => ?_)
    replace hw := hx hle4
    clear hx
    have ht6 : m_tg M3 la0 = 5 := m_le_tg hle4 ht2
    refine pw_bipush X 59 dX4_faultOf_109 (by decide) ?_
    refine pw_icmp_eq X 119 dX4_faultOf_111 (by decide) (fun c7 => ?_) (fun c7 => ?_)
    · replace hw := hw.1 c7
      exact bk_X4_faultOf_119 G C n0 s0 M0 Q X k12 hk12 _ la0 sx0 hw
    · replace hw := hw.2 c7
      refine pw_aload_n X dX4_faultOf_114 rfl rfl ?_
      refine pw_get X (q := (RX4, TX4, tyX4, 15)) (ci := 4) (k := 14) (ref := "PatrolDeskModel") (vI (m_gi M3 la0 14)) ht6 rfl (by decide) in_X4 q1960 (Or.inl rfl) rfl dX4_faultOf_115 ?_
      exact pw_iret X hw dX4_faultOf_118
theorem bk_X4_faultOf_12 (G : Gp) (C : m_Cx) (n0 s0 : Nat) (M0 : Mem) (Q : Int32 → Mem → Prop) (X : m_in G C RX4 cX4_faultOf 2 (some .int) "faultOf" 2 45 n0 s0) : ∀ (n : Nat) (M : Mem) (la0 : Nat) (lx1 : Int32) (hw : wp_X4_faultOf_b12 G.2 Q n M la0 lx1), pW G C 2 n0 s0 M0 (m_Q G C n0 s0 (va_Qi (m_q1 M0 Q) (m_W G) (m_A G))) M 12 [(0, vR (some la0)), (1, vI lx1)] [] := by
  intro n
  induction n with
  | zero => intro M la0 lx1 hw; exact hw.elim
  | succ n ih =>
    intro M la0 lx1 hw
    refine pw_iload_n X dX4_faultOf_12 rfl rfl ?_
    refine pw_if_eq X 140 dX4_faultOf_13 (by decide) (fun c1 => ?_) (fun c1 => ?_)
    · replace hw := hw.1 c1
      refine pw_bipush X (-5) dX4_faultOf_140 (by decide) ?_
      exact pw_iret X hw dX4_faultOf_142
    · replace hw := hw.2 c1
      refine pw_aload_n X dX4_faultOf_16 rfl rfl ?_
      refine pw_bipush X 109 dX4_faultOf_17 (by decide) ?_
      refine pw_iconst X 3 dX4_faultOf_19 (by decide) ?_
      refine pw_aload_n X dX4_faultOf_20 rfl rfl ?_
      obtain ⟨ht2, hw⟩ := hw
      refine pw_get X (q := (RX4, TX4, tyX4, 15)) (ci := 4) (k := 13) (ref := "PatrolDeskModel") (vI (m_gi M la0 13)) ht2 rfl (by decide) in_X4 q1959 (Or.inl rfl) rfl dX4_faultOf_21 ?_
      refine pw_imul X dX4_faultOf_24 ?_
      refine pw_runi X (m_cV X (b := la0) (ci := 4) (q := (RX4, TX4, tyX4, 15)) (met_X4_reads G C.2.1 M la0 109 (3 * (m_gi M la0 13)) _ hw) ht2 rfl (lw_V q2212 q2214 qs75 q107 q2215) ⟨rfl, nh_X4_reads⟩ ⟨Nat.le_of_ble_eq_true rfl, Nat.le_of_ble_eq_true rfl⟩ rfl (Nat.le_of_ble_eq_true rfl) dX4_faultOf_25) (fun r5 M3 hle4 hx => ?_)
      replace hw := hx hle4
      clear hx
      have ht6 : m_tg M3 la0 = 5 := m_le_tg hle4 ht2
      refine pw_if_eq X 65 dX4_faultOf_28 (by decide) (fun c7 => ?_) (fun c7 => ?_)
      · replace hw := hw.1 c7
        refine pw_aload_n X dX4_faultOf_65 rfl rfl ?_
        refine pw_get X (q := (RX4, TX4, tyX4, 15)) (ci := 4) (k := 14) (ref := "PatrolDeskModel") (vI (m_gi M3 la0 14)) ht6 rfl (by decide) in_X4 q1960 (Or.inl rfl) rfl dX4_faultOf_66 ?_
        exact pw_iret X hw dX4_faultOf_69
      · replace hw := hw.2 c7
        refine pw_aload_n X dX4_faultOf_31 rfl rfl ?_
        refine pw_bipush X 64 dX4_faultOf_32 (by decide) ?_
        refine pw_iconst X 3 dX4_faultOf_34 (by decide) ?_
        refine pw_aload_n X dX4_faultOf_35 rfl rfl ?_
        refine pw_get X (q := (RX4, TX4, tyX4, 15)) (ci := 4) (k := 13) (ref := "PatrolDeskModel") (vI (m_gi M3 la0 13)) ht6 rfl (by decide) in_X4 q1959 (Or.inl rfl) rfl dX4_faultOf_36 ?_
        refine pw_imul X dX4_faultOf_39 ?_
        refine pw_iconst X 1 dX4_faultOf_40 (by decide) ?_
        refine pw_iadd X dX4_faultOf_41 ?_
        refine pw_runi X (m_cV X (b := la0) (ci := 4) (q := (RX4, TX4, tyX4, 15)) (met_X4_reads G C.2.1 M3 la0 64 ((3 * (m_gi M3 la0 13)) + 1) _ hw) ht6 rfl (lw_V q2212 q2214 qs75 q107 q2215) ⟨rfl, nh_X4_reads⟩ ⟨Nat.le_of_ble_eq_true rfl, Nat.le_of_ble_eq_true rfl⟩ rfl (Nat.le_of_ble_eq_true rfl) dX4_faultOf_42) (fun r10 M8 hle9 hx => ?_)
        replace hw := hx hle9
        clear hx
        have ht11 : m_tg M8 la0 = 5 := m_le_tg hle9 ht6
        refine pw_if_eq X 65 dX4_faultOf_45 (by decide) (fun c12 => ?_) (fun c12 => ?_)
        · replace hw := hw.1 c12
          refine pw_aload_n X dX4_faultOf_65 rfl rfl ?_
          refine pw_get X (q := (RX4, TX4, tyX4, 15)) (ci := 4) (k := 14) (ref := "PatrolDeskModel") (vI (m_gi M8 la0 14)) ht11 rfl (by decide) in_X4 q1960 (Or.inl rfl) rfl dX4_faultOf_66 ?_
          exact pw_iret X hw dX4_faultOf_69
        · replace hw := hw.2 c12
          refine pw_aload_n X dX4_faultOf_48 rfl rfl ?_
          refine pw_bipush X 33 dX4_faultOf_49 (by decide) ?_
          refine pw_iconst X 3 dX4_faultOf_51 (by decide) ?_
          refine pw_aload_n X dX4_faultOf_52 rfl rfl ?_
          refine pw_get X (q := (RX4, TX4, tyX4, 15)) (ci := 4) (k := 13) (ref := "PatrolDeskModel") (vI (m_gi M8 la0 13)) ht11 rfl (by decide) in_X4 q1959 (Or.inl rfl) rfl dX4_faultOf_53 ?_
          refine pw_imul X dX4_faultOf_56 ?_
          refine pw_iconst X 2 dX4_faultOf_57 (by decide) ?_
          refine pw_iadd X dX4_faultOf_58 ?_
          refine pw_runi X (m_cV X (b := la0) (ci := 4) (q := (RX4, TX4, tyX4, 15)) (met_X4_reads G C.2.1 M8 la0 33 ((3 * (m_gi M8 la0 13)) + 2) _ hw) ht11 rfl (lw_V q2212 q2214 qs75 q107 q2215) ⟨rfl, nh_X4_reads⟩ ⟨Nat.le_of_ble_eq_true rfl, Nat.le_of_ble_eq_true rfl⟩ rfl (Nat.le_of_ble_eq_true rfl) dX4_faultOf_59) (fun r15 M13 hle14 hx => ?_)
          replace hw := hx hle14
          clear hx
          have ht16 : m_tg M13 la0 = 5 := m_le_tg hle14 ht11
          refine pw_if_ne X 70 dX4_faultOf_62 (by decide) (fun c17 => ?_) (fun c17 => ?_)
          · replace hw := hw.1 c17
            refine pw_aload_n X dX4_faultOf_70 rfl rfl ?_
            refine pw_dup X dX4_faultOf_71 ?_
            refine pw_get X (q := (RX4, TX4, tyX4, 15)) (ci := 4) (k := 13) (ref := "PatrolDeskModel") (vI (m_gi M13 la0 13)) ht16 rfl (by decide) in_X4 q1959 (Or.inl rfl) rfl dX4_faultOf_72 ?_
            refine pw_iconst X 1 dX4_faultOf_75 (by decide) ?_
            refine pw_iadd X dX4_faultOf_76 ?_
            obtain ⟨M18, hM19⟩ : ∃ z : Mem, z = (m_pi M13 la0 13 ((m_gi M13 la0 13) + 1)) := ⟨_, rfl⟩
            replace hw := hw M18 hM19
            refine pw_put X (q := (RX4, TX4, tyX4, 15)) (ci := 4) (k := 13) (ref := "PatrolDeskModel") M18 hM19.symm ht16 rfl (by decide) in_X4 tyX4_ok nmX4 q1959 (Or.inl rfl) rfl (m_kd_i (fun _ _ => rfl)) rfl rfl dX4_faultOf_77 ?_
            have hle20 : m_le M13 M18 := by rw [hM19]; exact m_le_pi
            have ht21 : m_tg M18 la0 = 5 := m_le_tg hle20 ht16
            refine pw_aload_n X dX4_faultOf_80 rfl rfl ?_
            refine pw_get X (q := (RX4, TX4, tyX4, 15)) (ci := 4) (k := 14) (ref := "PatrolDeskModel") (vI (m_gi M18 la0 14)) ht21 rfl (by decide) in_X4 q1960 (Or.inl rfl) rfl dX4_faultOf_81 ?_
            refine pw_aload_n X dX4_faultOf_84 rfl rfl ?_
            refine pw_get X (q := (RX4, TX4, tyX4, 15)) (ci := 4) (k := 7) (ref := "PatrolDeskModel") (vI (m_gi M18 la0 7)) ht21 rfl (by decide) in_X4 q1953 (Or.inl rfl) rfl dX4_faultOf_85 ?_
            refine pw_icmp_ge X 95 dX4_faultOf_88 (by decide) (fun c22 => ?_) (fun c22 => ?_)
            · replace hw := hw.1 c22
              refine pw_iconst X 0 dX4_faultOf_95 (by decide) ?_
              refine pw_lo [0] rfl ?_
              exact bk_X4_faultOf_96 G C n0 s0 M0 Q X (wp_X4_faultOf_b12 G.2 Q n) ih _ la0 0 hw
            · replace hw := hw.2 c22
              refine pw_iconst X 1 dX4_faultOf_91 (by decide) ?_
              refine pw_goto X 96 dX4_faultOf_92 (by decide) ?_
              refine pw_lo [0] rfl ?_
              exact bk_X4_faultOf_96 G C n0 s0 M0 Q X (wp_X4_faultOf_b12 G.2 Q n) ih _ la0 1 hw
          · replace hw := hw.2 c17
            refine pw_aload_n X dX4_faultOf_65 rfl rfl ?_
            refine pw_get X (q := (RX4, TX4, tyX4, 15)) (ci := 4) (k := 14) (ref := "PatrolDeskModel") (vI (m_gi M13 la0 14)) ht16 rfl (by decide) in_X4 q1960 (Or.inl rfl) rfl dX4_faultOf_66 ?_
            exact pw_iret X hw dX4_faultOf_69
theorem bk_X4_faultOf_0 (G : Gp) (C : m_Cx) (n0 s0 : Nat) (M0 : Mem) (Q : Int32 → Mem → Prop) (X : m_in G C RX4 cX4_faultOf 2 (some .int) "faultOf" 2 45 n0 s0) (M : Mem) (a0 : Nat) (hw : wp_X4_faultOf G.2 M a0 Q) : pW G C 2 n0 s0 M0 (m_Q G C n0 s0 (va_Qi (m_q1 M0 Q) (m_W G) (m_A G))) M 0 [(0, vR (some a0))] [] := by
  refine pw_aload_n X dX4_faultOf_0 rfl rfl ?_
  refine pw_iconst X 0 dX4_faultOf_1 (by decide) ?_
  obtain ⟨ht1, hw⟩ := hw
  obtain ⟨M2, hM3⟩ : ∃ z : Mem, z = (m_pi M a0 14 0) := ⟨_, rfl⟩
  replace hw := hw M2 hM3
  refine pw_put X (q := (RX4, TX4, tyX4, 15)) (ci := 4) (k := 14) (ref := "PatrolDeskModel") M2 hM3.symm ht1 rfl (by decide) in_X4 tyX4_ok nmX4 q1960 (Or.inl rfl) rfl (m_kd_i (fun _ _ => rfl)) rfl rfl dX4_faultOf_2 ?_
  have hle4 : m_le M M2 := by rw [hM3]; exact m_le_pi
  have ht5 : m_tg M2 a0 = 5 := m_le_tg hle4 ht1
  refine pw_aload_n X dX4_faultOf_5 rfl rfl ?_
  refine pw_iconst X 0 dX4_faultOf_6 (by decide) ?_
  obtain ⟨M6, hM7⟩ : ∃ z : Mem, z = (m_pi M2 a0 13 0) := ⟨_, rfl⟩
  replace hw := hw M6 hM7
  refine pw_put X (q := (RX4, TX4, tyX4, 15)) (ci := 4) (k := 13) (ref := "PatrolDeskModel") M6 hM7.symm ht5 rfl (by decide) in_X4 tyX4_ok nmX4 q1959 (Or.inl rfl) rfl (m_kd_i (fun _ _ => rfl)) rfl rfl dX4_faultOf_7 ?_
  have hle8 : m_le M2 M6 := by rw [hM7]; exact m_le_pi
  have ht9 : m_tg M6 a0 = 5 := m_le_tg hle8 ht5
  refine pw_iconst X 1 dX4_faultOf_10 (by decide) ?_
  refine pw_istore_n X [(0, vR (some a0)), (1, vI 1)] [1, 0] dX4_faultOf_11 rfl (by decide) rfl ?_
  obtain ⟨n12, hw⟩ := hw
  exact bk_X4_faultOf_12 G C n0 s0 M0 Q X n12 _ a0 1 hw
theorem met_X4_faultOf (G : Gp) (l : Launch) (M : Mem) (a0 : Nat) (Q : Int32 → Mem → Prop) (hw : wp_X4_faultOf G.2 M a0 Q) : m_K G l yX4_faultOf cX4_faultOf 2 (some .int) 2 45 [vR (some a0)] M (va_Qi (m_q1 M Q) (m_W G) (m_A G)) := by
  refine m_met (by decide) (Nat.le_of_ble_eq_true rfl) (fun C e X => ?_)
  exact bk_X4_faultOf_0 G C _ _ M Q X M a0 hw
theorem nh_X4_faultOf : m_nMH yX4_faultOf 0 := by decide +kernel

def wp_X4_readCalls_b148 (g : Nat → Nat) (Q : Int32 → Mem → Prop) : Nat → Mem → Nat → Int32 → Prop
  | 0 => fun _ _ _ => False
  | n + 1 => fun M la0 lx2 => m_tg M la0 = 5 ∧ (((m_gi M la0 13) ≤ lx2 → Q (m_gi M la0 13) M) ∧ (¬ (m_gi M la0 13) ≤ lx2 → ∃ u3 : Nat, (m_gr M la0 12) = some u3 ∧ m_tg M u3 = 101 ∧ vp_in (3 * lx2) (m_ln M u3) ∧ ∃ u7 : Nat, (m_gr M la0 12) = some u7 ∧ m_tg M u7 = 101 ∧ vp_in ((3 * lx2) + 1) (m_ln M u7) ∧ ∃ u11 : Nat, (m_gr M la0 12) = some u11 ∧ m_tg M u11 = 101 ∧ vp_in ((3 * lx2) + 2) (m_ln M u11) ∧ wp_X4_comes g M la0 (m_gi M u3 (Int32.toNatClampNeg (3 * lx2))) (m_gi M u7 (Int32.toNatClampNeg ((3 * lx2) + 1))) (m_gi M u11 (Int32.toNatClampNeg ((3 * lx2) + 2))) (fun (M15 : Mem) => m_le M M15 → wp_X4_readCalls_b148 g Q n M15 la0 (lx2 + 1))))
def wp_X4_readCalls_b31 (g : Nat → Nat) (Q : Int32 → Mem → Prop) : Nat → Mem → Nat → Int32 → Prop
  | 0 => fun _ _ _ => False
  | n + 1 => fun M la0 lx2 => m_tg M la0 = 5 ∧ (((m_gi M la0 13) ≤ lx2 → ∃ u3 : Nat, (m_gr M la0 5) = some u3 ∧ ∃ u5 : Nat, (m_gr M la0 0) = some u5 ∧ wp_X4_copies g M u3 0 u5 0 (fun (M7 : Mem) => m_le M M7 → wp_X4_records g M7 la0 (fun (M10 : Mem) => m_le M7 M10 → ∃ j148 : Nat, wp_X4_readCalls_b148 g Q j148 M10 la0 0))) ∧ (¬ (m_gi M la0 13) ≤ lx2 → ∃ u13 : Nat, (m_gr M la0 12) = some u13 ∧ m_tg M u13 = 101 ∧ vp_in (3 * lx2) (m_ln M u13) ∧ ∃ u17 : Nat, (m_gr M la0 12) = some u17 ∧ m_tg M u17 = 101 ∧ vp_in ((3 * lx2) + 1) (m_ln M u17) ∧ ∃ u21 : Nat, (m_gr M la0 12) = some u21 ∧ m_tg M u21 = 101 ∧ vp_in ((3 * lx2) + 2) (m_ln M u21) ∧ wp_X4_against g M la0 (m_gi M u13 (Int32.toNatClampNeg (3 * lx2))) (m_gi M u17 (Int32.toNatClampNeg ((3 * lx2) + 1))) (m_gi M u21 (Int32.toNatClampNeg ((3 * lx2) + 2))) (fun (r27 : Int32) (M25 : Mem) => m_le M M25 → ((r27 = 0 → ∃ u33 : Nat, (m_gr M25 la0 12) = some u33 ∧ m_tg M25 u33 = 101 ∧ vp_in (3 * lx2) (m_ln M25 u33) ∧ ∃ u37 : Nat, (m_gr M25 la0 12) = some u37 ∧ m_tg M25 u37 = 101 ∧ vp_in ((3 * lx2) + 1) (m_ln M25 u37) ∧ ∃ u41 : Nat, (m_gr M25 la0 12) = some u41 ∧ m_tg M25 u41 = 101 ∧ vp_in ((3 * lx2) + 2) (m_ln M25 u41) ∧ wp_X4_comes g M25 la0 (m_gi M25 u33 (Int32.toNatClampNeg (3 * lx2))) (m_gi M25 u37 (Int32.toNatClampNeg ((3 * lx2) + 1))) (m_gi M25 u41 (Int32.toNatClampNeg ((3 * lx2) + 2))) (fun (M45 : Mem) => m_le M25 M45 → wp_X4_readCalls_b31 g Q n M45 la0 (lx2 + 1))) ∧ (¬ r27 = 0 → ∃ u54 : Nat, (m_gr M25 la0 5) = some u54 ∧ ∃ u56 : Nat, (m_gr M25 la0 0) = some u56 ∧ wp_X4_copies g M25 u54 0 u56 0 (fun (M58 : Mem) => m_le M25 M58 → Q r27 M58))))))
def wp_X4_readCalls (g : Nat → Nat) (M : Mem) (a0 : Nat) (Q : Int32 → Mem → Prop) : Prop := m_tg M a0 = 5 ∧ wp_X4_faultOf g M a0 (fun (r4 : Int32) (M2 : Mem) => m_le M M2 → ((r4 = (-5) → ∃ u7 : Nat, (m_gr M2 a0 0) = some u7 ∧ ∃ u9 : Nat, (m_gr M2 a0 5) = some u9 ∧ wp_X4_copies g M2 u7 0 u9 0 (fun (M11 : Mem) => m_le M2 M11 → ∃ j31 : Nat, wp_X4_readCalls_b31 g Q j31 M11 a0 0)) ∧ (¬ r4 = (-5) → Q ((-100) - r4) M2)))
theorem bk_X4_readCalls_148 (G : Gp) (C : m_Cx) (n0 s0 : Nat) (M0 : Mem) (Q : Int32 → Mem → Prop) (X : m_in G C RX4 cX4_readCalls 4 (some .int) "readCalls" 3 67 n0 s0) : ∀ (n : Nat) (M : Mem) (la0 : Nat) (lx2 : Int32) (hw : wp_X4_readCalls_b148 G.2 Q n M la0 lx2), pW G C 4 n0 s0 M0 (m_Q G C n0 s0 (va_Qi (m_q1 M0 Q) (m_W G) (m_A G))) M 148 [(0, vR (some la0)), (2, vI lx2)] [] := by
  intro n
  induction n with
  | zero => intro M la0 lx2 hw; exact hw.elim
  | succ n ih =>
    intro M la0 lx2 hw
    refine pw_iload_n X dX4_readCalls_148 rfl rfl ?_
    refine pw_aload_n X dX4_readCalls_149 rfl rfl ?_
    obtain ⟨ht1, hw⟩ := hw
    refine pw_get X (q := (RX4, TX4, tyX4, 15)) (ci := 4) (k := 13) (ref := "PatrolDeskModel") (vI (m_gi M la0 13)) ht1 rfl (by decide) in_X4 q1959 (Or.inl rfl) rfl dX4_readCalls_150 ?_
    refine pw_icmp_ge X 194 dX4_readCalls_153 (by decide) (fun c2 => ?_) (fun c2 => ?_)
    · replace hw := hw.1 c2
      refine pw_aload_n X dX4_readCalls_194 rfl rfl ?_
      refine pw_get X (q := (RX4, TX4, tyX4, 15)) (ci := 4) (k := 13) (ref := "PatrolDeskModel") (vI (m_gi M la0 13)) ht1 rfl (by decide) in_X4 q1959 (Or.inl rfl) rfl dX4_readCalls_195 ?_
      exact pw_iret X hw dX4_readCalls_198
    · replace hw := hw.2 c2
      refine pw_aload_n X dX4_readCalls_156 rfl rfl ?_
      refine pw_aload_n X dX4_readCalls_157 rfl rfl ?_
      obtain ⟨u3, he4, hw⟩ := hw
      refine pw_get X (q := (RX4, TX4, tyX4, 15)) (ci := 4) (k := 12) (ref := "PatrolDeskModel") (vR (some u3)) ht1 rfl (by decide) in_X4 q1958 (Or.inl rfl) (by rw [he4]; rfl) dX4_readCalls_158 ?_
      refine pw_iconst X 3 dX4_readCalls_161 (by decide) ?_
      refine pw_iload_n X dX4_readCalls_162 rfl rfl ?_
      refine pw_imul X dX4_readCalls_163 ?_
      obtain ⟨ht5, hw⟩ := hw
      obtain ⟨hi6, hw⟩ := hw
      refine pw_iald X ht5 hi6 dX4_readCalls_164 ?_
      refine pw_aload_n X dX4_readCalls_165 rfl rfl ?_
      obtain ⟨u7, he8, hw⟩ := hw
      refine pw_get X (q := (RX4, TX4, tyX4, 15)) (ci := 4) (k := 12) (ref := "PatrolDeskModel") (vR (some u7)) ht1 rfl (by decide) in_X4 q1958 (Or.inl rfl) (by rw [he8]; rfl) dX4_readCalls_166 ?_
      refine pw_iconst X 3 dX4_readCalls_169 (by decide) ?_
      refine pw_iload_n X dX4_readCalls_170 rfl rfl ?_
      refine pw_imul X dX4_readCalls_171 ?_
      refine pw_iconst X 1 dX4_readCalls_172 (by decide) ?_
      refine pw_iadd X dX4_readCalls_173 ?_
      obtain ⟨ht9, hw⟩ := hw
      obtain ⟨hi10, hw⟩ := hw
      refine pw_iald X ht9 hi10 dX4_readCalls_174 ?_
      refine pw_aload_n X dX4_readCalls_175 rfl rfl ?_
      obtain ⟨u11, he12, hw⟩ := hw
      refine pw_get X (q := (RX4, TX4, tyX4, 15)) (ci := 4) (k := 12) (ref := "PatrolDeskModel") (vR (some u11)) ht1 rfl (by decide) in_X4 q1958 (Or.inl rfl) (by rw [he12]; rfl) dX4_readCalls_176 ?_
      refine pw_iconst X 3 dX4_readCalls_179 (by decide) ?_
      refine pw_iload_n X dX4_readCalls_180 rfl rfl ?_
      refine pw_imul X dX4_readCalls_181 ?_
      refine pw_iconst X 2 dX4_readCalls_182 (by decide) ?_
      refine pw_iadd X dX4_readCalls_183 ?_
      obtain ⟨ht13, hw⟩ := hw
      obtain ⟨hi14, hw⟩ := hw
      refine pw_iald X ht13 hi14 dX4_readCalls_184 ?_
      refine pw_runv X (m_cV X (b := la0) (ci := 4) (q := (RX4, TX4, tyX4, 15)) (met_X4_comes G C.2.1 M la0 (m_gi M u3 (Int32.toNatClampNeg (3 * lx2))) (m_gi M u7 (Int32.toNatClampNeg ((3 * lx2) + 1))) (m_gi M u11 (Int32.toNatClampNeg ((3 * lx2) + 2))) _ hw) ht1 rfl (lw_V q2057 q2059 qs45 q107 q2060) ⟨rfl, nh_X4_comes⟩ ⟨Nat.le_of_ble_eq_true rfl, Nat.le_of_ble_eq_true rfl⟩ rfl (Nat.le_of_ble_eq_true rfl) dX4_readCalls_185) (fun M15 hle16 hx => ?_)
      replace hw := hx hle16
      clear hx
      have ht17 : m_tg M15 la0 = 5 := m_le_tg hle16 ht1
      have ht18 : m_tg M15 u3 = 101 := m_le_tg hle16 ht5
      have ht19 : m_tg M15 u7 = 101 := m_le_tg hle16 ht9
      have ht20 : m_tg M15 u11 = 101 := m_le_tg hle16 ht13
      refine pw_iinc X (lx2 + 1) [(0, vR (some la0)), (2, vI (lx2 + 1))] [1, 0] dX4_readCalls_188 rfl (by first | rfl | decide) (by decide) rfl ?_
      refine pw_goto X 148 dX4_readCalls_191 (by decide) ?_
      exact ih _ la0 (lx2 + 1) hw
theorem bk_X4_readCalls_31 (G : Gp) (C : m_Cx) (n0 s0 : Nat) (M0 : Mem) (Q : Int32 → Mem → Prop) (X : m_in G C RX4 cX4_readCalls 4 (some .int) "readCalls" 3 67 n0 s0) : ∀ (n : Nat) (M : Mem) (la0 : Nat) (lx2 : Int32) (hw : wp_X4_readCalls_b31 G.2 Q n M la0 lx2), pW G C 4 n0 s0 M0 (m_Q G C n0 s0 (va_Qi (m_q1 M0 Q) (m_W G) (m_A G))) M 31 [(0, vR (some la0)), (2, vI lx2)] [] := by
  intro n
  induction n with
  | zero => intro M la0 lx2 hw; exact hw.elim
  | succ n ih =>
    intro M la0 lx2 hw
    refine pw_iload_n X dX4_readCalls_31 rfl rfl ?_
    refine pw_aload_n X dX4_readCalls_32 rfl rfl ?_
    obtain ⟨ht1, hw⟩ := hw
    refine pw_get X (q := (RX4, TX4, tyX4, 15)) (ci := 4) (k := 13) (ref := "PatrolDeskModel") (vI (m_gi M la0 13)) ht1 rfl (by decide) in_X4 q1959 (Or.inl rfl) rfl dX4_readCalls_33 ?_
    refine pw_icmp_ge X 129 dX4_readCalls_36 (by decide) (fun c2 => ?_) (fun c2 => ?_)
    · replace hw := hw.1 c2
      refine pw_aload_n X dX4_readCalls_129 rfl rfl ?_
      obtain ⟨u3, he4, hw⟩ := hw
      refine pw_get X (q := (RX4, TX4, tyX4, 15)) (ci := 4) (k := 5) (ref := "PatrolDeskModel") (vR (some u3)) ht1 rfl (by decide) in_X4 q1951 (Or.inl rfl) (by rw [he4]; rfl) dX4_readCalls_130 ?_
      refine pw_iconst X 0 dX4_readCalls_133 (by decide) ?_
      refine pw_aload_n X dX4_readCalls_134 rfl rfl ?_
      obtain ⟨u5, he6, hw⟩ := hw
      refine pw_get X (q := (RX4, TX4, tyX4, 15)) (ci := 4) (k := 0) (ref := "PatrolDeskModel") (vR (some u5)) ht1 rfl (by decide) in_X4 q1946 (Or.inl rfl) (by rw [he6]; rfl) dX4_readCalls_135 ?_
      refine pw_iconst X 0 dX4_readCalls_138 (by decide) ?_
      refine pw_runv X (m_cS X (met_X4_copies G C.2.1 M u3 0 u5 0 _ hw) (lw_S q2006 q2007 q107 q2008) nh_X4_copies ⟨Nat.le_of_ble_eq_true rfl, Nat.le_of_ble_eq_true rfl⟩ rfl (Nat.le_of_ble_eq_true rfl) dX4_readCalls_139) (fun M7 hle8 hx => ?_)
      replace hw := hx hle8
      clear hx
      have ht9 : m_tg M7 la0 = 5 := m_le_tg hle8 ht1
      refine pw_aload_n X dX4_readCalls_142 rfl rfl ?_
      refine pw_runv X (m_cV X (b := la0) (ci := 4) (q := (RX4, TX4, tyX4, 15)) (met_X4_records G C.2.1 M7 la0 _ hw) ht9 rfl (lw_V q2002 q2004 qs38 q107 q2005) ⟨rfl, nh_X4_records⟩ ⟨Nat.le_of_ble_eq_true rfl, Nat.le_of_ble_eq_true rfl⟩ rfl (Nat.le_of_ble_eq_true rfl) dX4_readCalls_143) (fun M10 hle11 hx => ?_)
      replace hw := hx hle11
      clear hx
      have ht12 : m_tg M10 la0 = 5 := m_le_tg hle11 ht9
      refine pw_iconst X 0 dX4_readCalls_146 (by decide) ?_
      refine pw_istore_n X [(0, vR (some la0)), (2, vI 0)] [1, 0] dX4_readCalls_147 rfl (by decide) rfl ?_
      obtain ⟨n148, hw⟩ := hw
      exact bk_X4_readCalls_148 G C n0 s0 M0 Q X n148 _ la0 0 hw
    · replace hw := hw.2 c2
      refine pw_aload_n X dX4_readCalls_39 rfl rfl ?_
      refine pw_aload_n X dX4_readCalls_40 rfl rfl ?_
      obtain ⟨u13, he14, hw⟩ := hw
      refine pw_get X (q := (RX4, TX4, tyX4, 15)) (ci := 4) (k := 12) (ref := "PatrolDeskModel") (vR (some u13)) ht1 rfl (by decide) in_X4 q1958 (Or.inl rfl) (by rw [he14]; rfl) dX4_readCalls_41 ?_
      refine pw_iconst X 3 dX4_readCalls_44 (by decide) ?_
      refine pw_iload_n X dX4_readCalls_45 rfl rfl ?_
      refine pw_imul X dX4_readCalls_46 ?_
      obtain ⟨ht15, hw⟩ := hw
      obtain ⟨hi16, hw⟩ := hw
      refine pw_iald X ht15 hi16 dX4_readCalls_47 ?_
      refine pw_aload_n X dX4_readCalls_48 rfl rfl ?_
      obtain ⟨u17, he18, hw⟩ := hw
      refine pw_get X (q := (RX4, TX4, tyX4, 15)) (ci := 4) (k := 12) (ref := "PatrolDeskModel") (vR (some u17)) ht1 rfl (by decide) in_X4 q1958 (Or.inl rfl) (by rw [he18]; rfl) dX4_readCalls_49 ?_
      refine pw_iconst X 3 dX4_readCalls_52 (by decide) ?_
      refine pw_iload_n X dX4_readCalls_53 rfl rfl ?_
      refine pw_imul X dX4_readCalls_54 ?_
      refine pw_iconst X 1 dX4_readCalls_55 (by decide) ?_
      refine pw_iadd X dX4_readCalls_56 ?_
      obtain ⟨ht19, hw⟩ := hw
      obtain ⟨hi20, hw⟩ := hw
      refine pw_iald X ht19 hi20 dX4_readCalls_57 ?_
      refine pw_aload_n X dX4_readCalls_58 rfl rfl ?_
      obtain ⟨u21, he22, hw⟩ := hw
      refine pw_get X (q := (RX4, TX4, tyX4, 15)) (ci := 4) (k := 12) (ref := "PatrolDeskModel") (vR (some u21)) ht1 rfl (by decide) in_X4 q1958 (Or.inl rfl) (by rw [he22]; rfl) dX4_readCalls_59 ?_
      refine pw_iconst X 3 dX4_readCalls_62 (by decide) ?_
      refine pw_iload_n X dX4_readCalls_63 rfl rfl ?_
      refine pw_imul X dX4_readCalls_64 ?_
      refine pw_iconst X 2 dX4_readCalls_65 (by decide) ?_
      refine pw_iadd X dX4_readCalls_66 ?_
      obtain ⟨ht23, hw⟩ := hw
      obtain ⟨hi24, hw⟩ := hw
      refine pw_iald X ht23 hi24 dX4_readCalls_67 ?_
      refine pw_runi X (m_cV X (b := la0) (ci := 4) (q := (RX4, TX4, tyX4, 15)) (met_X4_against G C.2.1 M la0 (m_gi M u13 (Int32.toNatClampNeg (3 * lx2))) (m_gi M u17 (Int32.toNatClampNeg ((3 * lx2) + 1))) (m_gi M u21 (Int32.toNatClampNeg ((3 * lx2) + 2))) _ hw) ht1 rfl (lw_V q2041 q2043 qs41 q107 q2044) ⟨rfl, nh_X4_against⟩ ⟨Nat.le_of_ble_eq_true rfl, Nat.le_of_ble_eq_true rfl⟩ rfl (Nat.le_of_ble_eq_true rfl) dX4_readCalls_68) (fun r27 M25 hle26 hx => ?_)
      replace hw := hx hle26
      clear hx
      have ht28 : m_tg M25 la0 = 5 := m_le_tg hle26 ht1
      have ht29 : m_tg M25 u13 = 101 := m_le_tg hle26 ht15
      have ht30 : m_tg M25 u17 = 101 := m_le_tg hle26 ht19
      have ht31 : m_tg M25 u21 = 101 := m_le_tg hle26 ht23
      refine pw_istore_n X [(0, vR (some la0)), (2, vI lx2), (3, vI r27)] [1, 2, 0] dX4_readCalls_71 rfl (by decide) rfl ?_
      refine pw_iload_n X dX4_readCalls_72 rfl rfl ?_
      refine pw_if_eq X 91 dX4_readCalls_73 (by decide) (fun c32 => ?_) (fun c32 => ?_)
      · replace hw := hw.1 c32
        refine pw_aload_n X dX4_readCalls_91 rfl rfl ?_
        refine pw_aload_n X dX4_readCalls_92 rfl rfl ?_
        obtain ⟨u33, he34, hw⟩ := hw
        refine pw_get X (q := (RX4, TX4, tyX4, 15)) (ci := 4) (k := 12) (ref := "PatrolDeskModel") (vR (some u33)) ht28 rfl (by decide) in_X4 q1958 (Or.inl rfl) (by rw [he34]; rfl) dX4_readCalls_93 ?_
        refine pw_iconst X 3 dX4_readCalls_96 (by decide) ?_
        refine pw_iload_n X dX4_readCalls_97 rfl rfl ?_
        refine pw_imul X dX4_readCalls_98 ?_
        obtain ⟨ht35, hw⟩ := hw
        obtain ⟨hi36, hw⟩ := hw
        refine pw_iald X ht35 hi36 dX4_readCalls_99 ?_
        refine pw_aload_n X dX4_readCalls_100 rfl rfl ?_
        obtain ⟨u37, he38, hw⟩ := hw
        refine pw_get X (q := (RX4, TX4, tyX4, 15)) (ci := 4) (k := 12) (ref := "PatrolDeskModel") (vR (some u37)) ht28 rfl (by decide) in_X4 q1958 (Or.inl rfl) (by rw [he38]; rfl) dX4_readCalls_101 ?_
        refine pw_iconst X 3 dX4_readCalls_104 (by decide) ?_
        refine pw_iload_n X dX4_readCalls_105 rfl rfl ?_
        refine pw_imul X dX4_readCalls_106 ?_
        refine pw_iconst X 1 dX4_readCalls_107 (by decide) ?_
        refine pw_iadd X dX4_readCalls_108 ?_
        obtain ⟨ht39, hw⟩ := hw
        obtain ⟨hi40, hw⟩ := hw
        refine pw_iald X ht39 hi40 dX4_readCalls_109 ?_
        refine pw_aload_n X dX4_readCalls_110 rfl rfl ?_
        obtain ⟨u41, he42, hw⟩ := hw
        refine pw_get X (q := (RX4, TX4, tyX4, 15)) (ci := 4) (k := 12) (ref := "PatrolDeskModel") (vR (some u41)) ht28 rfl (by decide) in_X4 q1958 (Or.inl rfl) (by rw [he42]; rfl) dX4_readCalls_111 ?_
        refine pw_iconst X 3 dX4_readCalls_114 (by decide) ?_
        refine pw_iload_n X dX4_readCalls_115 rfl rfl ?_
        refine pw_imul X dX4_readCalls_116 ?_
        refine pw_iconst X 2 dX4_readCalls_117 (by decide) ?_
        refine pw_iadd X dX4_readCalls_118 ?_
        obtain ⟨ht43, hw⟩ := hw
        obtain ⟨hi44, hw⟩ := hw
        refine pw_iald X ht43 hi44 dX4_readCalls_119 ?_
        refine pw_runv X (m_cV X (b := la0) (ci := 4) (q := (RX4, TX4, tyX4, 15)) (met_X4_comes G C.2.1 M25 la0 (m_gi M25 u33 (Int32.toNatClampNeg (3 * lx2))) (m_gi M25 u37 (Int32.toNatClampNeg ((3 * lx2) + 1))) (m_gi M25 u41 (Int32.toNatClampNeg ((3 * lx2) + 2))) _ hw) ht28 rfl (lw_V q2057 q2059 qs45 q107 q2060) ⟨rfl, nh_X4_comes⟩ ⟨Nat.le_of_ble_eq_true rfl, Nat.le_of_ble_eq_true rfl⟩ rfl (Nat.le_of_ble_eq_true rfl) dX4_readCalls_120) (fun M45 hle46 hx => ?_)
        replace hw := hx hle46
        clear hx
        have ht47 : m_tg M45 la0 = 5 := m_le_tg hle46 ht28
        have ht48 : m_tg M45 u13 = 101 := m_le_tg hle46 ht29
        have ht49 : m_tg M45 u17 = 101 := m_le_tg hle46 ht30
        have ht50 : m_tg M45 u21 = 101 := m_le_tg hle46 ht31
        have ht51 : m_tg M45 u33 = 101 := m_le_tg hle46 ht35
        have ht52 : m_tg M45 u37 = 101 := m_le_tg hle46 ht39
        have ht53 : m_tg M45 u41 = 101 := m_le_tg hle46 ht43
        refine pw_iinc X (lx2 + 1) [(0, vR (some la0)), (2, vI (lx2 + 1))] [1, 0] dX4_readCalls_123 rfl (by first | rfl | decide) (by decide) rfl ?_
        refine pw_goto X 31 dX4_readCalls_126 (by decide) ?_
        exact ih _ la0 (lx2 + 1) hw
      · replace hw := hw.2 c32
        refine pw_aload_n X dX4_readCalls_76 rfl rfl ?_
        obtain ⟨u54, he55, hw⟩ := hw
        refine pw_get X (q := (RX4, TX4, tyX4, 15)) (ci := 4) (k := 5) (ref := "PatrolDeskModel") (vR (some u54)) ht28 rfl (by decide) in_X4 q1951 (Or.inl rfl) (by rw [he55]; rfl) dX4_readCalls_77 ?_
        refine pw_iconst X 0 dX4_readCalls_80 (by decide) ?_
        refine pw_aload_n X dX4_readCalls_81 rfl rfl ?_
        obtain ⟨u56, he57, hw⟩ := hw
        refine pw_get X (q := (RX4, TX4, tyX4, 15)) (ci := 4) (k := 0) (ref := "PatrolDeskModel") (vR (some u56)) ht28 rfl (by decide) in_X4 q1946 (Or.inl rfl) (by rw [he57]; rfl) dX4_readCalls_82 ?_
        refine pw_iconst X 0 dX4_readCalls_85 (by decide) ?_
        refine pw_runv X (m_cS X (met_X4_copies G C.2.1 M25 u54 0 u56 0 _ hw) (lw_S q2006 q2007 q107 q2008) nh_X4_copies ⟨Nat.le_of_ble_eq_true rfl, Nat.le_of_ble_eq_true rfl⟩ rfl (Nat.le_of_ble_eq_true rfl) dX4_readCalls_86) (fun M58 hle59 hx => ?_)
        replace hw := hx hle59
        clear hx
        have ht60 : m_tg M58 la0 = 5 := m_le_tg hle59 ht28
        have ht61 : m_tg M58 u13 = 101 := m_le_tg hle59 ht29
        have ht62 : m_tg M58 u17 = 101 := m_le_tg hle59 ht30
        have ht63 : m_tg M58 u21 = 101 := m_le_tg hle59 ht31
        refine pw_iload_n X dX4_readCalls_89 rfl rfl ?_
        exact pw_iret X hw dX4_readCalls_90
theorem bk_X4_readCalls_0 (G : Gp) (C : m_Cx) (n0 s0 : Nat) (M0 : Mem) (Q : Int32 → Mem → Prop) (X : m_in G C RX4 cX4_readCalls 4 (some .int) "readCalls" 3 67 n0 s0) (M : Mem) (a0 : Nat) (hw : wp_X4_readCalls G.2 M a0 Q) : pW G C 4 n0 s0 M0 (m_Q G C n0 s0 (va_Qi (m_q1 M0 Q) (m_W G) (m_A G))) M 0 [(0, vR (some a0))] [] := by
  refine pw_aload_n X dX4_readCalls_0 rfl rfl ?_
  obtain ⟨ht1, hw⟩ := hw
  refine pw_runi X (m_cV X (b := a0) (ci := 4) (q := (RX4, TX4, tyX4, 15)) (met_X4_faultOf G C.2.1 M a0 _ hw) ht1 rfl (lw_V q2208 q2210 qs74 q107 q2211) ⟨rfl, nh_X4_faultOf⟩ ⟨Nat.le_of_ble_eq_true rfl, Nat.le_of_ble_eq_true rfl⟩ rfl (Nat.le_of_ble_eq_true rfl) dX4_readCalls_1) (fun r4 M2 hle3 hx => ?_)
  replace hw := hx hle3
  clear hx
  have ht5 : m_tg M2 a0 = 5 := m_le_tg hle3 ht1
  refine pw_istore_n X [(0, vR (some a0)), (1, vI r4)] [1, 0] dX4_readCalls_4 rfl (by decide) rfl ?_
  refine pw_iload_n X dX4_readCalls_5 rfl rfl ?_
  refine pw_bipush X (-5) dX4_readCalls_6 (by decide) ?_
  refine pw_icmp_eq X 16 dX4_readCalls_8 (by decide) (fun c6 => ?_) (fun c6 => ?_)
  · replace hw := hw.1 c6
    refine pw_aload_n X dX4_readCalls_16 rfl rfl ?_
    obtain ⟨u7, he8, hw⟩ := hw
    refine pw_get X (q := (RX4, TX4, tyX4, 15)) (ci := 4) (k := 0) (ref := "PatrolDeskModel") (vR (some u7)) ht5 rfl (by decide) in_X4 q1946 (Or.inl rfl) (by rw [he8]; rfl) dX4_readCalls_17 ?_
    refine pw_iconst X 0 dX4_readCalls_20 (by decide) ?_
    refine pw_aload_n X dX4_readCalls_21 rfl rfl ?_
    obtain ⟨u9, he10, hw⟩ := hw
    refine pw_get X (q := (RX4, TX4, tyX4, 15)) (ci := 4) (k := 5) (ref := "PatrolDeskModel") (vR (some u9)) ht5 rfl (by decide) in_X4 q1951 (Or.inl rfl) (by rw [he10]; rfl) dX4_readCalls_22 ?_
    refine pw_iconst X 0 dX4_readCalls_25 (by decide) ?_
    refine pw_runv X (m_cS X (met_X4_copies G C.2.1 M2 u7 0 u9 0 _ hw) (lw_S q2006 q2007 q107 q2008) nh_X4_copies ⟨Nat.le_of_ble_eq_true rfl, Nat.le_of_ble_eq_true rfl⟩ rfl (Nat.le_of_ble_eq_true rfl) dX4_readCalls_26) (fun M11 hle12 hx => ?_)
    replace hw := hx hle12
    clear hx
    have ht13 : m_tg M11 a0 = 5 := m_le_tg hle12 ht5
    refine pw_iconst X 0 dX4_readCalls_29 (by decide) ?_
    refine pw_istore_n X [(0, vR (some a0)), (2, vI 0)] [1, 0] dX4_readCalls_30 rfl (by decide) rfl ?_
    obtain ⟨n31, hw⟩ := hw
    exact bk_X4_readCalls_31 G C n0 s0 M0 Q X n31 _ a0 0 hw
  · replace hw := hw.2 c6
    refine pw_bipush X (-100) dX4_readCalls_11 (by decide) ?_
    refine pw_iload_n X dX4_readCalls_13 rfl rfl ?_
    refine pw_isub X dX4_readCalls_14 ?_
    exact pw_iret X hw dX4_readCalls_15
theorem met_X4_readCalls (G : Gp) (l : Launch) (M : Mem) (a0 : Nat) (Q : Int32 → Mem → Prop) (hw : wp_X4_readCalls G.2 M a0 Q) : m_K G l yX4_readCalls cX4_readCalls 4 (some .int) 3 67 [vR (some a0)] M (va_Qi (m_q1 M Q) (m_W G) (m_A G)) := by
  refine m_met (by decide) (Nat.le_of_ble_eq_true rfl) (fun C e X => ?_)
  exact bk_X4_readCalls_0 G C _ _ M Q X M a0 hw
theorem nh_X4_readCalls : m_nMH yX4_readCalls 0 := by decide +kernel

def wp_X4_undo (g : Nat → Nat) (M : Mem) (a0 : Nat) (Q : Int32 → Mem → Prop) : Prop := m_tg M a0 = 5 ∧ ((¬ (m_gi M a0 2) = 0 → ∀ M3 : Mem, M3 = (m_pi M a0 2 ((m_gi M a0 2) - 1)) → ∃ u7 : Nat, (m_gr M3 a0 1) = some u7 ∧ ∃ u9 : Nat, (m_gr M3 a0 0) = some u9 ∧ wp_X4_copies g M3 u7 ((m_gi M3 a0 2) * 810) u9 0 (fun (M11 : Mem) => m_le M3 M11 → wp_X4_laysWays g M11 a0 (fun (M14 : Mem) => m_le M11 M14 → Q (m_gi M14 a0 2) M14))) ∧ ((m_gi M a0 2) = 0 → Q (-5) M))
theorem bk_X4_undo_0 (G : Gp) (C : m_Cx) (n0 s0 : Nat) (M0 : Mem) (Q : Int32 → Mem → Prop) (X : m_in G C RX4 cX4_undo 1 (some .int) "undo" 1 24 n0 s0) (M : Mem) (a0 : Nat) (hw : wp_X4_undo G.2 M a0 Q) : pW G C 1 n0 s0 M0 (m_Q G C n0 s0 (va_Qi (m_q1 M0 Q) (m_W G) (m_A G))) M 0 [(0, vR (some a0))] [] := by
  refine pw_aload_n X dX4_undo_0 rfl rfl ?_
  obtain ⟨ht1, hw⟩ := hw
  refine pw_get X (q := (RX4, TX4, tyX4, 15)) (ci := 4) (k := 2) (ref := "PatrolDeskModel") (vI (m_gi M a0 2)) ht1 rfl (by decide) in_X4 q1948 (Or.inl rfl) rfl dX4_undo_1 ?_
  refine pw_if_ne X 10 dX4_undo_4 (by decide) (fun c2 => ?_) (fun c2 => ?_)
  · replace hw := hw.1 c2
    refine pw_aload_n X dX4_undo_10 rfl rfl ?_
    refine pw_dup X dX4_undo_11 ?_
    refine pw_get X (q := (RX4, TX4, tyX4, 15)) (ci := 4) (k := 2) (ref := "PatrolDeskModel") (vI (m_gi M a0 2)) ht1 rfl (by decide) in_X4 q1948 (Or.inl rfl) rfl dX4_undo_12 ?_
    refine pw_iconst X 1 dX4_undo_15 (by decide) ?_
    refine pw_isub X dX4_undo_16 ?_
    obtain ⟨M3, hM4⟩ : ∃ z : Mem, z = (m_pi M a0 2 ((m_gi M a0 2) - 1)) := ⟨_, rfl⟩
    replace hw := hw M3 hM4
    refine pw_put X (q := (RX4, TX4, tyX4, 15)) (ci := 4) (k := 2) (ref := "PatrolDeskModel") M3 hM4.symm ht1 rfl (by decide) in_X4 tyX4_ok nmX4 q1948 (Or.inl rfl) rfl (m_kd_i (fun _ _ => rfl)) rfl rfl dX4_undo_17 ?_
    have hle5 : m_le M M3 := by rw [hM4]; exact m_le_pi
    have ht6 : m_tg M3 a0 = 5 := m_le_tg hle5 ht1
    refine pw_aload_n X dX4_undo_20 rfl rfl ?_
    obtain ⟨u7, he8, hw⟩ := hw
    refine pw_get X (q := (RX4, TX4, tyX4, 15)) (ci := 4) (k := 1) (ref := "PatrolDeskModel") (vR (some u7)) ht6 rfl (by decide) in_X4 q1947 (Or.inl rfl) (by rw [he8]; rfl) dX4_undo_21 ?_
    refine pw_aload_n X dX4_undo_24 rfl rfl ?_
    refine pw_get X (q := (RX4, TX4, tyX4, 15)) (ci := 4) (k := 2) (ref := "PatrolDeskModel") (vI (m_gi M3 a0 2)) ht6 rfl (by decide) in_X4 q1948 (Or.inl rfl) rfl dX4_undo_25 ?_
    refine pw_sipush X 810 dX4_undo_28 (by decide) ?_
    refine pw_imul X dX4_undo_31 ?_
    refine pw_aload_n X dX4_undo_32 rfl rfl ?_
    obtain ⟨u9, he10, hw⟩ := hw
    refine pw_get X (q := (RX4, TX4, tyX4, 15)) (ci := 4) (k := 0) (ref := "PatrolDeskModel") (vR (some u9)) ht6 rfl (by decide) in_X4 q1946 (Or.inl rfl) (by rw [he10]; rfl) dX4_undo_33 ?_
    refine pw_iconst X 0 dX4_undo_36 (by decide) ?_
    refine pw_runv X (m_cS X (met_X4_copies G C.2.1 M3 u7 ((m_gi M3 a0 2) * 810) u9 0 _ hw) (lw_S q2006 q2007 q107 q2008) nh_X4_copies ⟨Nat.le_of_ble_eq_true rfl, Nat.le_of_ble_eq_true rfl⟩ rfl (Nat.le_of_ble_eq_true rfl) dX4_undo_37) (fun M11 hle12 hx => ?_)
    replace hw := hx hle12
    clear hx
    have ht13 : m_tg M11 a0 = 5 := m_le_tg hle12 ht6
    refine pw_aload_n X dX4_undo_40 rfl rfl ?_
    refine pw_runv X (m_cV X (b := a0) (ci := 4) (q := (RX4, TX4, tyX4, 15)) (met_X4_laysWays G C.2.1 M11 a0 _ hw) ht13 rfl (lw_V q1941 q1943 qs37 q107 q1944) ⟨rfl, nh_X4_laysWays⟩ ⟨Nat.le_of_ble_eq_true rfl, Nat.le_of_ble_eq_true rfl⟩ rfl (Nat.le_of_ble_eq_true rfl) dX4_undo_41) (fun M14 hle15 hx => ?_)
    replace hw := hx hle15
    clear hx
    have ht16 : m_tg M14 a0 = 5 := m_le_tg hle15 ht13
    refine pw_aload_n X dX4_undo_44 rfl rfl ?_
    refine pw_get X (q := (RX4, TX4, tyX4, 15)) (ci := 4) (k := 2) (ref := "PatrolDeskModel") (vI (m_gi M14 a0 2)) ht16 rfl (by decide) in_X4 q1948 (Or.inl rfl) rfl dX4_undo_45 ?_
    exact pw_iret X hw dX4_undo_48
  · replace hw := hw.2 c2
    refine pw_bipush X (-5) dX4_undo_7 (by decide) ?_
    exact pw_iret X hw dX4_undo_9
theorem met_X4_undo (G : Gp) (l : Launch) (M : Mem) (a0 : Nat) (Q : Int32 → Mem → Prop) (hw : wp_X4_undo G.2 M a0 Q) : m_K G l yX4_undo cX4_undo 1 (some .int) 1 24 [vR (some a0)] M (va_Qi (m_q1 M Q) (m_W G) (m_A G)) := by
  refine m_met (by decide) (Nat.le_of_ble_eq_true rfl) (fun C e X => ?_)
  exact bk_X4_undo_0 G C _ _ M Q X M a0 hw
theorem nh_X4_undo : m_nMH yX4_undo 0 := by decide +kernel

def wp_X4_keep (g : Nat → Nat) (M : Mem) (a0 : Nat) (Q : Int32 → Mem → Prop) : Prop := m_tg M a0 = 5 ∧ ∃ u2 : Nat, (m_gr M a0 0) = some u2 ∧ ∃ u4 : Nat, (m_gr M a0 3) = some u4 ∧ wp_X4_copies g M u2 0 u4 0 (fun (M6 : Mem) => m_le M M6 → ∀ M9 : Mem, M9 = (m_pi M6 a0 4 1) → ∃ u13 : Nat, (m_gr M9 a0 0) = some u13 ∧ m_tg M9 u13 = 101 ∧ vp_in 0 (m_ln M9 u13) ∧ Q (m_gi M9 u13 (Int32.toNatClampNeg 0)) M9)
theorem bk_X4_keep_0 (G : Gp) (C : m_Cx) (n0 s0 : Nat) (M0 : Mem) (Q : Int32 → Mem → Prop) (X : m_in G C RX4 cX4_keep 1 (some .int) "keep" 1 24 n0 s0) (M : Mem) (a0 : Nat) (hw : wp_X4_keep G.2 M a0 Q) : pW G C 1 n0 s0 M0 (m_Q G C n0 s0 (va_Qi (m_q1 M0 Q) (m_W G) (m_A G))) M 0 [(0, vR (some a0))] [] := by
  refine pw_aload_n X dX4_keep_0 rfl rfl ?_
  obtain ⟨ht1, hw⟩ := hw
  obtain ⟨u2, he3, hw⟩ := hw
  refine pw_get X (q := (RX4, TX4, tyX4, 15)) (ci := 4) (k := 0) (ref := "PatrolDeskModel") (vR (some u2)) ht1 rfl (by decide) in_X4 q1946 (Or.inl rfl) (by rw [he3]; rfl) dX4_keep_1 ?_
  refine pw_iconst X 0 dX4_keep_4 (by decide) ?_
  refine pw_aload_n X dX4_keep_5 rfl rfl ?_
  obtain ⟨u4, he5, hw⟩ := hw
  refine pw_get X (q := (RX4, TX4, tyX4, 15)) (ci := 4) (k := 3) (ref := "PatrolDeskModel") (vR (some u4)) ht1 rfl (by decide) in_X4 q1949 (Or.inl rfl) (by rw [he5]; rfl) dX4_keep_6 ?_
  refine pw_iconst X 0 dX4_keep_9 (by decide) ?_
  refine pw_runv X (m_cS X (met_X4_copies G C.2.1 M u2 0 u4 0 _ hw) (lw_S q2006 q2007 q107 q2008) nh_X4_copies ⟨Nat.le_of_ble_eq_true rfl, Nat.le_of_ble_eq_true rfl⟩ rfl (Nat.le_of_ble_eq_true rfl) dX4_keep_10) (fun M6 hle7 hx => ?_)
  replace hw := hx hle7
  clear hx
  have ht8 : m_tg M6 a0 = 5 := m_le_tg hle7 ht1
  refine pw_aload_n X dX4_keep_13 rfl rfl ?_
  refine pw_iconst X 1 dX4_keep_14 (by decide) ?_
  obtain ⟨M9, hM10⟩ : ∃ z : Mem, z = (m_pi M6 a0 4 1) := ⟨_, rfl⟩
  replace hw := hw M9 hM10
  refine pw_put X (q := (RX4, TX4, tyX4, 15)) (ci := 4) (k := 4) (ref := "PatrolDeskModel") M9 hM10.symm ht8 rfl (by decide) in_X4 tyX4_ok nmX4 q1950 (Or.inl rfl) rfl (m_kd_i (fun _ _ => rfl)) (by decide) (by decide) dX4_keep_15 ?_
  have hle11 : m_le M6 M9 := by rw [hM10]; exact m_le_pi
  have ht12 : m_tg M9 a0 = 5 := m_le_tg hle11 ht8
  refine pw_aload_n X dX4_keep_18 rfl rfl ?_
  obtain ⟨u13, he14, hw⟩ := hw
  refine pw_get X (q := (RX4, TX4, tyX4, 15)) (ci := 4) (k := 0) (ref := "PatrolDeskModel") (vR (some u13)) ht12 rfl (by decide) in_X4 q1946 (Or.inl rfl) (by rw [he14]; rfl) dX4_keep_19 ?_
  refine pw_iconst X 0 dX4_keep_22 (by decide) ?_
  obtain ⟨ht15, hw⟩ := hw
  obtain ⟨hi16, hw⟩ := hw
  refine pw_iald X ht15 hi16 dX4_keep_23 ?_
  exact pw_iret X hw dX4_keep_24
theorem met_X4_keep (G : Gp) (l : Launch) (M : Mem) (a0 : Nat) (Q : Int32 → Mem → Prop) (hw : wp_X4_keep G.2 M a0 Q) : m_K G l yX4_keep cX4_keep 1 (some .int) 1 24 [vR (some a0)] M (va_Qi (m_q1 M Q) (m_W G) (m_A G)) := by
  refine m_met (by decide) (Nat.le_of_ble_eq_true rfl) (fun C e X => ?_)
  exact bk_X4_keep_0 G C _ _ M Q X M a0 hw
theorem nh_X4_keep : m_nMH yX4_keep 0 := by decide +kernel

def wp_X4_restore (g : Nat → Nat) (M : Mem) (a0 : Nat) (Q : Int32 → Mem → Prop) : Prop := m_tg M a0 = 5 ∧ ((¬ (m_gi M a0 4) = 0 → wp_X4_records g M a0 (fun (M3 : Mem) => m_le M M3 → ∃ u6 : Nat, (m_gr M3 a0 3) = some u6 ∧ ∃ u8 : Nat, (m_gr M3 a0 0) = some u8 ∧ wp_X4_copies g M3 u6 0 u8 0 (fun (M10 : Mem) => m_le M3 M10 → wp_X4_laysWays g M10 a0 (fun (M13 : Mem) => m_le M10 M13 → ∃ u16 : Nat, (m_gr M13 a0 0) = some u16 ∧ m_tg M13 u16 = 101 ∧ vp_in 0 (m_ln M13 u16) ∧ Q (m_gi M13 u16 (Int32.toNatClampNeg 0)) M13)))) ∧ ((m_gi M a0 4) = 0 → Q (-5) M))
theorem bk_X4_restore_0 (G : Gp) (C : m_Cx) (n0 s0 : Nat) (M0 : Mem) (Q : Int32 → Mem → Prop) (X : m_in G C RX4 cX4_restore 1 (some .int) "restore" 2 45 n0 s0) (M : Mem) (a0 : Nat) (hw : wp_X4_restore G.2 M a0 Q) : pW G C 1 n0 s0 M0 (m_Q G C n0 s0 (va_Qi (m_q1 M0 Q) (m_W G) (m_A G))) M 0 [(0, vR (some a0))] [] := by
  refine pw_aload_n X dX4_restore_0 rfl rfl ?_
  obtain ⟨ht1, hw⟩ := hw
  refine pw_get X (q := (RX4, TX4, tyX4, 15)) (ci := 4) (k := 4) (ref := "PatrolDeskModel") (vI (m_gi M a0 4)) ht1 rfl (by decide) in_X4 q1950 (Or.inl rfl) rfl dX4_restore_1 ?_
  refine pw_if_ne X 10 dX4_restore_4 (by decide) (fun c2 => ?_) (fun c2 => ?_)
  · replace hw := hw.1 c2
    refine pw_aload_n X dX4_restore_10 rfl rfl ?_
    refine pw_runv X (m_cV X (b := a0) (ci := 4) (q := (RX4, TX4, tyX4, 15)) (met_X4_records G C.2.1 M a0 _ hw) ht1 rfl (lw_V q2002 q2004 qs38 q107 q2005) ⟨rfl, nh_X4_records⟩ ⟨Nat.le_of_ble_eq_true rfl, Nat.le_of_ble_eq_true rfl⟩ rfl (Nat.le_of_ble_eq_true rfl) dX4_restore_11) (fun M3 hle4 hx => ?_)
    replace hw := hx hle4
    clear hx
    have ht5 : m_tg M3 a0 = 5 := m_le_tg hle4 ht1
    refine pw_aload_n X dX4_restore_14 rfl rfl ?_
    obtain ⟨u6, he7, hw⟩ := hw
    refine pw_get X (q := (RX4, TX4, tyX4, 15)) (ci := 4) (k := 3) (ref := "PatrolDeskModel") (vR (some u6)) ht5 rfl (by decide) in_X4 q1949 (Or.inl rfl) (by rw [he7]; rfl) dX4_restore_15 ?_
    refine pw_iconst X 0 dX4_restore_18 (by decide) ?_
    refine pw_aload_n X dX4_restore_19 rfl rfl ?_
    obtain ⟨u8, he9, hw⟩ := hw
    refine pw_get X (q := (RX4, TX4, tyX4, 15)) (ci := 4) (k := 0) (ref := "PatrolDeskModel") (vR (some u8)) ht5 rfl (by decide) in_X4 q1946 (Or.inl rfl) (by rw [he9]; rfl) dX4_restore_20 ?_
    refine pw_iconst X 0 dX4_restore_23 (by decide) ?_
    refine pw_runv X (m_cS X (met_X4_copies G C.2.1 M3 u6 0 u8 0 _ hw) (lw_S q2006 q2007 q107 q2008) nh_X4_copies ⟨Nat.le_of_ble_eq_true rfl, Nat.le_of_ble_eq_true rfl⟩ rfl (Nat.le_of_ble_eq_true rfl) dX4_restore_24) (fun M10 hle11 hx => ?_)
    replace hw := hx hle11
    clear hx
    have ht12 : m_tg M10 a0 = 5 := m_le_tg hle11 ht5
    refine pw_aload_n X dX4_restore_27 rfl rfl ?_
    refine pw_runv X (m_cV X (b := a0) (ci := 4) (q := (RX4, TX4, tyX4, 15)) (met_X4_laysWays G C.2.1 M10 a0 _ hw) ht12 rfl (lw_V q1941 q1943 qs37 q107 q1944) ⟨rfl, nh_X4_laysWays⟩ ⟨Nat.le_of_ble_eq_true rfl, Nat.le_of_ble_eq_true rfl⟩ rfl (Nat.le_of_ble_eq_true rfl) dX4_restore_28) (fun M13 hle14 hx => ?_)
    replace hw := hx hle14
    clear hx
    have ht15 : m_tg M13 a0 = 5 := m_le_tg hle14 ht12
    refine pw_aload_n X dX4_restore_31 rfl rfl ?_
    obtain ⟨u16, he17, hw⟩ := hw
    refine pw_get X (q := (RX4, TX4, tyX4, 15)) (ci := 4) (k := 0) (ref := "PatrolDeskModel") (vR (some u16)) ht15 rfl (by decide) in_X4 q1946 (Or.inl rfl) (by rw [he17]; rfl) dX4_restore_32 ?_
    refine pw_iconst X 0 dX4_restore_35 (by decide) ?_
    obtain ⟨ht18, hw⟩ := hw
    obtain ⟨hi19, hw⟩ := hw
    refine pw_iald X ht18 hi19 dX4_restore_36 ?_
    exact pw_iret X hw dX4_restore_37
  · replace hw := hw.2 c2
    refine pw_bipush X (-5) dX4_restore_7 (by decide) ?_
    exact pw_iret X hw dX4_restore_9
theorem met_X4_restore (G : Gp) (l : Launch) (M : Mem) (a0 : Nat) (Q : Int32 → Mem → Prop) (hw : wp_X4_restore G.2 M a0 Q) : m_K G l yX4_restore cX4_restore 1 (some .int) 2 45 [vR (some a0)] M (va_Qi (m_q1 M Q) (m_W G) (m_A G)) := by
  refine m_met (by decide) (Nat.le_of_ble_eq_true rfl) (fun C e X => ?_)
  exact bk_X4_restore_0 G C _ _ M Q X M a0 hw
theorem nh_X4_restore : m_nMH yX4_restore 0 := by decide +kernel

def wp_X4_distance (g : Nat → Nat) (M : Mem) (a0 : Nat) (x1 : Int32) (x2 : Int32) (Q : Int32 → Mem → Prop) : Prop := wp_X4_isArea g M x1 (fun (r3 : Int32) (M1 : Mem) => m_le M M1 → ((r3 = 0 → Q (-1) M1) ∧ (¬ r3 = 0 → wp_X4_isArea g M1 x2 (fun (r7 : Int32) (M5 : Mem) => m_le M1 M5 → ((¬ r7 = 0 → m_tg M5 a0 = 5 ∧ wp_X4_way g M5 a0 x1 x2 (fun (r12 : Int32) (M10 : Mem) => m_le M5 M10 → ((r12 < 100000 → wp_X4_way g M10 a0 x1 x2 (fun (r17 : Int32) (M15 : Mem) => m_le M10 M15 → Q r17 M15)) ∧ (¬ r12 < 100000 → Q (-5) M10)))) ∧ (r7 = 0 → Q (-1) M5))))))
theorem bk_X4_distance_0 (G : Gp) (C : m_Cx) (n0 s0 : Nat) (M0 : Mem) (Q : Int32 → Mem → Prop) (X : m_in G C RX4 cX4_distance 3 (some .int) "distance" 2 42 n0 s0) (M : Mem) (a0 : Nat) (x1 : Int32) (x2 : Int32) (hw : wp_X4_distance G.2 M a0 x1 x2 Q) : pW G C 3 n0 s0 M0 (m_Q G C n0 s0 (va_Qi (m_q1 M0 Q) (m_W G) (m_A G))) M 0 [(0, vR (some a0)), (1, vI x1), (2, vI x2)] [] := by
  refine pw_iload_n X dX4_distance_0 rfl rfl ?_
  refine pw_runi X (m_cS X (met_X4_isArea G C.2.1 M x1 _ hw) (lw_S q1996 q1997 q107 q1998) nh_X4_isArea ⟨Nat.le_of_ble_eq_true rfl, Nat.le_of_ble_eq_true rfl⟩ rfl (Nat.le_of_ble_eq_true rfl) dX4_distance_1) (fun r3 M1 hle2 hx => ?_)
  replace hw := hx hle2
  clear hx
  refine pw_if_eq X 14 dX4_distance_4 (by decide) (fun c4 => ?_) (fun c4 => ?_)
  · replace hw := hw.1 c4
    refine pw_iconst X (-1) dX4_distance_14 (by decide) ?_
    refine pw_goto X 40 dX4_distance_15 (by decide) ?_
    exact pw_iret X hw dX4_distance_40
  · replace hw := hw.2 c4
    refine pw_iload_n X dX4_distance_7 rfl rfl ?_
    refine pw_runi X (m_cS X (met_X4_isArea G C.2.1 M1 x2 _ hw) (lw_S q1996 q1997 q107 q1998) nh_X4_isArea ⟨Nat.le_of_ble_eq_true rfl, Nat.le_of_ble_eq_true rfl⟩ rfl (Nat.le_of_ble_eq_true rfl) dX4_distance_8) (fun r7 M5 hle6 hx => ?_)
    replace hw := hx hle6
    clear hx
    refine pw_if_ne X 18 dX4_distance_11 (by decide) (fun c8 => ?_) (fun c8 => ?_)
    · replace hw := hw.1 c8
      refine pw_aload_n X dX4_distance_18 rfl rfl ?_
      refine pw_iload_n X dX4_distance_19 rfl rfl ?_
      refine pw_iload_n X dX4_distance_20 rfl rfl ?_
      obtain ⟨ht9, hw⟩ := hw
      refine pw_runi X (m_cV X (b := a0) (ci := 4) (q := (RX4, TX4, tyX4, 15)) (met_X4_way G C.2.1 M5 a0 x1 x2 _ hw) ht9 rfl (lw_V q2105 q2107 qs54 q107 q2108) ⟨rfl, nh_X4_way⟩ ⟨Nat.le_of_ble_eq_true rfl, Nat.le_of_ble_eq_true rfl⟩ rfl (Nat.le_of_ble_eq_true rfl) dX4_distance_21) (fun r12 M10 hle11 hx => ?_)
      replace hw := hx hle11
      clear hx
      have ht13 : m_tg M10 a0 = 5 := m_le_tg hle11 ht9
      refine pw_ldc X 100000 q1945 dX4_distance_24 ?_
      refine pw_icmp_lt X 34 dX4_distance_26 (by decide) (fun c14 => ?_) (fun c14 => ?_)
      · replace hw := hw.1 c14
        refine pw_aload_n X dX4_distance_34 rfl rfl ?_
        refine pw_iload_n X dX4_distance_35 rfl rfl ?_
        refine pw_iload_n X dX4_distance_36 rfl rfl ?_
        refine pw_runi X (m_cV X (b := a0) (ci := 4) (q := (RX4, TX4, tyX4, 15)) (met_X4_way G C.2.1 M10 a0 x1 x2 _ hw) ht13 rfl (lw_V q2105 q2107 qs54 q107 q2108) ⟨rfl, nh_X4_way⟩ ⟨Nat.le_of_ble_eq_true rfl, Nat.le_of_ble_eq_true rfl⟩ rfl (Nat.le_of_ble_eq_true rfl) dX4_distance_37) (fun r17 M15 hle16 hx => ?_)
        replace hw := hx hle16
        clear hx
        have ht18 : m_tg M15 a0 = 5 := m_le_tg hle16 ht13
        exact pw_iret X hw dX4_distance_40
      · replace hw := hw.2 c14
        refine pw_bipush X (-5) dX4_distance_29 (by decide) ?_
        refine pw_goto X 40 dX4_distance_31 (by decide) ?_
        exact pw_iret X hw dX4_distance_40
    · replace hw := hw.2 c8
      refine pw_iconst X (-1) dX4_distance_14 (by decide) ?_
      refine pw_goto X 40 dX4_distance_15 (by decide) ?_
      exact pw_iret X hw dX4_distance_40
theorem met_X4_distance (G : Gp) (l : Launch) (M : Mem) (a0 : Nat) (x1 : Int32) (x2 : Int32) (Q : Int32 → Mem → Prop) (hw : wp_X4_distance G.2 M a0 x1 x2 Q) : m_K G l yX4_distance cX4_distance 3 (some .int) 2 42 [vR (some a0), vI x1, vI x2] M (va_Qi (m_q1 M Q) (m_W G) (m_A G)) := by
  refine m_met (by decide) (Nat.le_of_ble_eq_true rfl) (fun C e X => ?_)
  exact bk_X4_distance_0 G C _ _ M Q X M a0 x1 x2 hw
theorem nh_X4_distance : m_nMH yX4_distance 2 := by decide +kernel

def wp_X4_wayAt_b67 (g : Nat → Nat) (M : Mem) (la0 : Nat) (lx1 : Int32) (lx2 : Int32) (lx3 : Int32) (lx4 : Int32) (lx5 : Int32) (Q : Int32 → Mem → Prop) : Prop := m_tg M la0 = 5 ∧ wp_X4_way g M la0 lx1 lx2 (fun (r4 : Int32) (M2 : Mem) => m_le M M2 → ((100000 ≤ r4 → Q (-5) M2) ∧ (¬ 100000 ≤ r4 → ((¬ lx5 = lx3 → Q (-5) M2) ∧ (lx5 = lx3 → Q lx4 M2)))))
def wp_X4_wayAt_b29 (g : Nat → Nat) (Q : Int32 → Mem → Prop) : Nat → Mem → Nat → Int32 → Int32 → Int32 → Int32 → Int32 → Prop
  | 0 => fun _ _ _ _ _ _ _ => False
  | n + 1 => fun M la0 lx1 lx2 lx3 lx4 lx5 => ((lx3 ≤ lx5 → wp_X4_wayAt_b67 g M la0 lx1 lx2 lx3 lx4 lx5 Q) ∧ (¬ lx3 ≤ lx5 → ((lx4 = lx2 → wp_X4_wayAt_b67 g M la0 lx1 lx2 lx3 lx4 lx5 Q) ∧ (¬ lx4 = lx2 → m_tg M la0 = 5 ∧ wp_X4_way g M la0 lx1 lx2 (fun (r6 : Int32) (M4 : Mem) => m_le M M4 → ((100000 ≤ r6 → wp_X4_wayAt_b67 g M4 la0 lx1 lx2 lx3 lx4 lx5 Q) ∧ (¬ 100000 ≤ r6 → wp_X4_nextOn g M4 la0 lx4 lx2 (fun (r11 : Int32) (M9 : Mem) => m_le M4 M9 → wp_X4_wayAt_b29 g Q n M9 la0 lx1 lx2 lx3 r11 (lx5 + 1)))))))))
def wp_X4_wayAt (g : Nat → Nat) (M : Mem) (a0 : Nat) (x1 : Int32) (x2 : Int32) (x3 : Int32) (Q : Int32 → Mem → Prop) : Prop := wp_X4_isArea g M x1 (fun (r3 : Int32) (M1 : Mem) => m_le M M1 → ((r3 = 0 → Q (-1) M1) ∧ (¬ r3 = 0 → wp_X4_isArea g M1 x2 (fun (r7 : Int32) (M5 : Mem) => m_le M1 M5 → ((¬ r7 = 0 → ((0 ≤ x3 → ∃ j29 : Nat, wp_X4_wayAt_b29 g Q j29 M5 a0 x1 x2 x3 x1 0) ∧ (¬ 0 ≤ x3 → Q (-2) M5))) ∧ (r7 = 0 → Q (-1) M5))))))
theorem bk_X4_wayAt_67 (G : Gp) (C : m_Cx) (n0 s0 : Nat) (M0 : Mem) (Q : Int32 → Mem → Prop) (X : m_in G C RX4 cX4_wayAt 6 (some .int) "wayAt" 2 45 n0 s0) (M : Mem) (la0 : Nat) (lx1 : Int32) (lx2 : Int32) (lx3 : Int32) (lx4 : Int32) (lx5 : Int32) (hw : wp_X4_wayAt_b67 G.2 M la0 lx1 lx2 lx3 lx4 lx5 Q) : pW G C 6 n0 s0 M0 (m_Q G C n0 s0 (va_Qi (m_q1 M0 Q) (m_W G) (m_A G))) M 67 [(0, vR (some la0)), (1, vI lx1), (2, vI lx2), (3, vI lx3), (4, vI lx4), (5, vI lx5)] [] := by
  refine pw_aload_n X dX4_wayAt_67 rfl rfl ?_
  refine pw_iload_n X dX4_wayAt_68 rfl rfl ?_
  refine pw_iload_n X dX4_wayAt_69 rfl rfl ?_
  obtain ⟨ht1, hw⟩ := hw
  refine pw_runi X (m_cV X (b := la0) (ci := 4) (q := (RX4, TX4, tyX4, 15)) (met_X4_way G C.2.1 M la0 lx1 lx2 _ hw) ht1 rfl (lw_V q2105 q2107 qs54 q107 q2108) ⟨rfl, nh_X4_way⟩ ⟨Nat.le_of_ble_eq_true rfl, Nat.le_of_ble_eq_true rfl⟩ rfl (Nat.le_of_ble_eq_true rfl) dX4_wayAt_70) (fun r4 M2 hle3 hx => ?_)
  replace hw := hx hle3
  clear hx
  have ht5 : m_tg M2 la0 = 5 := m_le_tg hle3 ht1
  refine pw_ldc X 100000 q1945 dX4_wayAt_73 ?_
  refine pw_icmp_ge X 89 dX4_wayAt_75 (by decide) (fun c6 => ?_) (fun c6 => ?_)
  · replace hw := hw.1 c6
    refine pw_bipush X (-5) dX4_wayAt_89 (by decide) ?_
    exact pw_iret X hw dX4_wayAt_91
  · replace hw := hw.2 c6
    refine pw_iload X dX4_wayAt_78 rfl ?_
    refine pw_iload_n X dX4_wayAt_80 rfl rfl ?_
    refine pw_icmp_ne X 89 dX4_wayAt_81 (by decide) (fun c7 => ?_) (fun c7 => ?_)
    · replace hw := hw.1 c7
      refine pw_bipush X (-5) dX4_wayAt_89 (by decide) ?_
      exact pw_iret X hw dX4_wayAt_91
    · replace hw := hw.2 c7
      refine pw_iload X dX4_wayAt_84 rfl ?_
      refine pw_goto X 91 dX4_wayAt_86 (by decide) ?_
      exact pw_iret X hw dX4_wayAt_91
theorem bk_X4_wayAt_29 (G : Gp) (C : m_Cx) (n0 s0 : Nat) (M0 : Mem) (Q : Int32 → Mem → Prop) (X : m_in G C RX4 cX4_wayAt 6 (some .int) "wayAt" 2 45 n0 s0) : ∀ (n : Nat) (M : Mem) (la0 : Nat) (lx1 : Int32) (lx2 : Int32) (lx3 : Int32) (lx4 : Int32) (lx5 : Int32) (hw : wp_X4_wayAt_b29 G.2 Q n M la0 lx1 lx2 lx3 lx4 lx5), pW G C 6 n0 s0 M0 (m_Q G C n0 s0 (va_Qi (m_q1 M0 Q) (m_W G) (m_A G))) M 29 [(0, vR (some la0)), (1, vI lx1), (2, vI lx2), (3, vI lx3), (4, vI lx4), (5, vI lx5)] [] := by
  intro n
  induction n with
  | zero => intro M la0 lx1 lx2 lx3 lx4 lx5 hw; exact hw.elim
  | succ n ih =>
    intro M la0 lx1 lx2 lx3 lx4 lx5 hw
    refine pw_iload X dX4_wayAt_29 rfl ?_
    refine pw_iload_n X dX4_wayAt_31 rfl rfl ?_
    refine pw_icmp_ge X 67 dX4_wayAt_32 (by decide) (fun c1 => ?_) (fun c1 => ?_)
    · replace hw := hw.1 c1
      exact bk_X4_wayAt_67 G C n0 s0 M0 Q X _ la0 lx1 lx2 lx3 lx4 lx5 hw
    · replace hw := hw.2 c1
      refine pw_iload X dX4_wayAt_35 rfl ?_
      refine pw_iload_n X dX4_wayAt_37 rfl rfl ?_
      refine pw_icmp_eq X 67 dX4_wayAt_38 (by decide) (fun c2 => ?_) (fun c2 => ?_)
      · replace hw := hw.1 c2
        exact bk_X4_wayAt_67 G C n0 s0 M0 Q X _ la0 lx1 lx2 lx3 lx4 lx5 hw
      · replace hw := hw.2 c2
        refine pw_aload_n X dX4_wayAt_41 rfl rfl ?_
        refine pw_iload_n X dX4_wayAt_42 rfl rfl ?_
        refine pw_iload_n X dX4_wayAt_43 rfl rfl ?_
        obtain ⟨ht3, hw⟩ := hw
        refine pw_runi X (m_cV X (b := la0) (ci := 4) (q := (RX4, TX4, tyX4, 15)) (met_X4_way G C.2.1 M la0 lx1 lx2 _ hw) ht3 rfl (lw_V q2105 q2107 qs54 q107 q2108) ⟨rfl, nh_X4_way⟩ ⟨Nat.le_of_ble_eq_true rfl, Nat.le_of_ble_eq_true rfl⟩ rfl (Nat.le_of_ble_eq_true rfl) dX4_wayAt_44) (fun r6 M4 hle5 hx => ?_)
        replace hw := hx hle5
        clear hx
        have ht7 : m_tg M4 la0 = 5 := m_le_tg hle5 ht3
        refine pw_ldc X 100000 q1945 dX4_wayAt_47 ?_
        refine pw_icmp_ge X 67 dX4_wayAt_49 (by decide) (fun c8 => ?_) (fun c8 => ?_)
        · replace hw := hw.1 c8
          exact bk_X4_wayAt_67 G C n0 s0 M0 Q X _ la0 lx1 lx2 lx3 lx4 lx5 hw
        · replace hw := hw.2 c8
          refine pw_aload_n X dX4_wayAt_52 rfl rfl ?_
          refine pw_iload X dX4_wayAt_53 rfl ?_
          refine pw_iload_n X dX4_wayAt_55 rfl rfl ?_
          refine pw_runi X (m_cV X (b := la0) (ci := 4) (q := (RX4, TX4, tyX4, 15)) (met_X4_nextOn G C.2.1 M4 la0 lx4 lx2 _ hw) ht7 rfl (lw_V q2156 q2158 qs64 q107 q2159) ⟨rfl, nh_X4_nextOn⟩ ⟨Nat.le_of_ble_eq_true rfl, Nat.le_of_ble_eq_true rfl⟩ rfl (Nat.le_of_ble_eq_true rfl) dX4_wayAt_56) (fun r11 M9 hle10 hx => ?_)
          replace hw := hx hle10
          clear hx
          have ht12 : m_tg M9 la0 = 5 := m_le_tg hle10 ht7
          refine pw_istore X [(0, vR (some la0)), (1, vI lx1), (2, vI lx2), (3, vI lx3), (4, vI r11), (5, vI lx5)] [1, 2, 3, 4, 0, 5] dX4_wayAt_59 (by decide) rfl ?_
          refine pw_iinc X (lx5 + 1) [(0, vR (some la0)), (1, vI lx1), (2, vI lx2), (3, vI lx3), (4, vI r11), (5, vI (lx5 + 1))] [1, 2, 3, 4, 5, 0] dX4_wayAt_61 rfl (by first | rfl | decide) (by decide) rfl ?_
          refine pw_goto X 29 dX4_wayAt_64 (by decide) ?_
          exact ih _ la0 lx1 lx2 lx3 r11 (lx5 + 1) hw
theorem bk_X4_wayAt_0 (G : Gp) (C : m_Cx) (n0 s0 : Nat) (M0 : Mem) (Q : Int32 → Mem → Prop) (X : m_in G C RX4 cX4_wayAt 6 (some .int) "wayAt" 2 45 n0 s0) (M : Mem) (a0 : Nat) (x1 : Int32) (x2 : Int32) (x3 : Int32) (hw : wp_X4_wayAt G.2 M a0 x1 x2 x3 Q) : pW G C 6 n0 s0 M0 (m_Q G C n0 s0 (va_Qi (m_q1 M0 Q) (m_W G) (m_A G))) M 0 [(0, vR (some a0)), (1, vI x1), (2, vI x2), (3, vI x3)] [] := by
  refine pw_iload_n X dX4_wayAt_0 rfl rfl ?_
  refine pw_runi X (m_cS X (met_X4_isArea G C.2.1 M x1 _ hw) (lw_S q1996 q1997 q107 q1998) nh_X4_isArea ⟨Nat.le_of_ble_eq_true rfl, Nat.le_of_ble_eq_true rfl⟩ rfl (Nat.le_of_ble_eq_true rfl) dX4_wayAt_1) (fun r3 M1 hle2 hx => ?_)
  replace hw := hx hle2
  clear hx
  refine pw_if_eq X 14 dX4_wayAt_4 (by decide) (fun c4 => ?_) (fun c4 => ?_)
  · replace hw := hw.1 c4
    refine pw_iconst X (-1) dX4_wayAt_14 (by decide) ?_
    exact pw_iret X hw dX4_wayAt_15
  · replace hw := hw.2 c4
    refine pw_iload_n X dX4_wayAt_7 rfl rfl ?_
    refine pw_runi X (m_cS X (met_X4_isArea G C.2.1 M1 x2 _ hw) (lw_S q1996 q1997 q107 q1998) nh_X4_isArea ⟨Nat.le_of_ble_eq_true rfl, Nat.le_of_ble_eq_true rfl⟩ rfl (Nat.le_of_ble_eq_true rfl) dX4_wayAt_8) (fun r7 M5 hle6 hx => ?_)
    replace hw := hx hle6
    clear hx
    refine pw_if_ne X 16 dX4_wayAt_11 (by decide) (fun c8 => ?_) (fun c8 => ?_)
    · replace hw := hw.1 c8
      refine pw_iload_n X dX4_wayAt_16 rfl rfl ?_
      refine pw_if_ge X 23 dX4_wayAt_17 (by decide) (fun c9 => ?_) (fun c9 => ?_)
      · replace hw := hw.1 c9
        refine pw_iload_n X dX4_wayAt_23 rfl rfl ?_
        refine pw_istore X [(0, vR (some a0)), (1, vI x1), (2, vI x2), (3, vI x3), (4, vI x1)] [1, 2, 3, 4, 0] dX4_wayAt_24 (by decide) rfl ?_
        refine pw_iconst X 0 dX4_wayAt_26 (by decide) ?_
        refine pw_istore X [(0, vR (some a0)), (1, vI x1), (2, vI x2), (3, vI x3), (4, vI x1), (5, vI 0)] [1, 2, 3, 4, 5, 0] dX4_wayAt_27 (by decide) rfl ?_
        obtain ⟨n29, hw⟩ := hw
        exact bk_X4_wayAt_29 G C n0 s0 M0 Q X n29 _ a0 x1 x2 x3 x1 0 hw
      · replace hw := hw.2 c9
        refine pw_bipush X (-2) dX4_wayAt_20 (by decide) ?_
        exact pw_iret X hw dX4_wayAt_22
    · replace hw := hw.2 c8
      refine pw_iconst X (-1) dX4_wayAt_14 (by decide) ?_
      exact pw_iret X hw dX4_wayAt_15
theorem met_X4_wayAt (G : Gp) (l : Launch) (M : Mem) (a0 : Nat) (x1 : Int32) (x2 : Int32) (x3 : Int32) (Q : Int32 → Mem → Prop) (hw : wp_X4_wayAt G.2 M a0 x1 x2 x3 Q) : m_K G l yX4_wayAt cX4_wayAt 6 (some .int) 2 45 [vR (some a0), vI x1, vI x2, vI x3] M (va_Qi (m_q1 M Q) (m_W G) (m_A G)) := by
  refine m_met (by decide) (Nat.le_of_ble_eq_true rfl) (fun C e X => ?_)
  exact bk_X4_wayAt_0 G C _ _ M Q X M a0 x1 x2 x3 hw
theorem nh_X4_wayAt : m_nMH yX4_wayAt 3 := by decide +kernel

def wp_X4_member_b18 (g : Nat → Nat) (Q : Int32 → Mem → Prop) : Nat → Mem → Nat → Int32 → Int32 → Int32 → Int32 → Int32 → Prop
  | 0 => fun _ _ _ _ _ _ _ => False
  | n + 1 => fun M la0 lx1 lx2 lx3 lx4 lx5 => m_tg M la0 = 5 ∧ ∃ u2 : Nat, (m_gr M la0 0) = some u2 ∧ m_tg M u2 = 101 ∧ vp_in 9 (m_ln M u2) ∧ (((m_gi M u2 (Int32.toNatClampNeg 9)) ≤ lx5 → ((lx2 = 0 → wp_X4_ofMember g M la0 lx1 0 (fun (r10 : Int32) (M8 : Mem) => m_le M M8 → Q r10 M8)) ∧ (¬ lx2 = 0 → ((lx2 = 1 → Q lx3 M) ∧ (¬ lx2 = 1 → ((lx2 = 2 → wp_X4_openOf g M la0 lx1 (fun (r17 : Int32) (M15 : Mem) => m_le M M15 → Q r17 M15)) ∧ (¬ lx2 = 2 → ((lx2 = 3 → Q lx4 M) ∧ (¬ lx2 = 3 → ((lx2 = 4 → wp_X4_ofMember g M la0 lx1 1 (fun (r24 : Int32) (M22 : Mem) => m_le M M22 → Q (r24 + 1000) M22)) ∧ (¬ lx2 = 4 → ((lx2 = 5 → wp_X4_ofMember g M la0 lx1 2 (fun (r30 : Int32) (M28 : Mem) => m_le M M28 → Q r30 M28)) ∧ (¬ lx2 = 5 → ((lx2 = 6 → wp_X4_ofMember g M la0 lx1 3 (fun (r36 : Int32) (M34 : Mem) => m_le M M34 → Q r36 M34)) ∧ (¬ lx2 = 6 → Q (-2) M))))))))))))))) ∧ (¬ (m_gi M u2 (Int32.toNatClampNeg 9)) ≤ lx5 → wp_X4_ofCall g M la0 lx5 0 (fun (r41 : Int32) (M39 : Mem) => m_le M M39 → ((¬ r41 = lx1 → wp_X4_member_b18 g Q n M39 la0 lx1 lx2 lx3 lx4 (lx5 + 1)) ∧ (r41 = lx1 → wp_X4_waitedOf g M39 la0 lx5 (fun (r47 : Int32) (M45 : Mem) => m_le M39 M45 → wp_X4_member_b18 g Q n M45 la0 lx1 lx2 (lx3 + 1) (lx4 + r47) (lx5 + 1)))))))
def wp_X4_member (g : Nat → Nat) (M : Mem) (a0 : Nat) (x1 : Int32) (x2 : Int32) (Q : Int32 → Mem → Prop) : Prop := m_tg M a0 = 5 ∧ wp_X4_isMember g M a0 x1 (fun (r4 : Int32) (M2 : Mem) => m_le M M2 → ((¬ r4 = 0 → ∃ j18 : Nat, wp_X4_member_b18 g Q j18 M2 a0 x1 x2 0 0 0) ∧ (r4 = 0 → Q (-1) M2)))
theorem bk_X4_member_18 (G : Gp) (C : m_Cx) (n0 s0 : Nat) (M0 : Mem) (Q : Int32 → Mem → Prop) (X : m_in G C RX4 cX4_member 6 (some .int) "member" 2 44 n0 s0) : ∀ (n : Nat) (M : Mem) (la0 : Nat) (lx1 : Int32) (lx2 : Int32) (lx3 : Int32) (lx4 : Int32) (lx5 : Int32) (hw : wp_X4_member_b18 G.2 Q n M la0 lx1 lx2 lx3 lx4 lx5), pW G C 6 n0 s0 M0 (m_Q G C n0 s0 (va_Qi (m_q1 M0 Q) (m_W G) (m_A G))) M 18 [(0, vR (some la0)), (1, vI lx1), (2, vI lx2), (3, vI lx3), (4, vI lx4), (5, vI lx5)] [] := by
  intro n
  induction n with
  | zero => intro M la0 lx1 lx2 lx3 lx4 lx5 hw; exact hw.elim
  | succ n ih =>
    intro M la0 lx1 lx2 lx3 lx4 lx5 hw
    refine pw_iload X dX4_member_18 rfl ?_
    refine pw_aload_n X dX4_member_20 rfl rfl ?_
    obtain ⟨ht1, hw⟩ := hw
    obtain ⟨u2, he3, hw⟩ := hw
    refine pw_get X (q := (RX4, TX4, tyX4, 15)) (ci := 4) (k := 0) (ref := "PatrolDeskModel") (vR (some u2)) ht1 rfl (by decide) in_X4 q1946 (Or.inl rfl) (by rw [he3]; rfl) dX4_member_21 ?_
    refine pw_bipush X 9 dX4_member_24 (by decide) ?_
    obtain ⟨ht4, hw⟩ := hw
    obtain ⟨hi5, hw⟩ := hw
    refine pw_iald X ht4 hi5 dX4_member_26 ?_
    refine pw_icmp_ge X 61 dX4_member_27 (by decide) (fun c6 => ?_) (fun c6 => ?_)
    · replace hw := hw.1 c6
      refine pw_iload_n X dX4_member_61 rfl rfl ?_
      by_cases c7 : lx2 = 0
      · replace hw := hw.1 c7
        refine pw_tableIn X 0 104 dX4_member_62 c7 (by decide) (by decide) rfl (by decide) ?_
        refine pw_aload_n X dX4_member_104 rfl rfl ?_
        refine pw_iload_n X dX4_member_105 rfl rfl ?_
        refine pw_iconst X 0 dX4_member_106 (by decide) ?_
        refine pw_runi X (m_cV X (b := la0) (ci := 4) (q := (RX4, TX4, tyX4, 15)) (met_X4_ofMember G C.2.1 M la0 lx1 0 _ hw) ht1 rfl (lw_V q2065 q2067 qs47 q107 q2068) ⟨rfl, nh_X4_ofMember⟩ ⟨Nat.le_of_ble_eq_true rfl, Nat.le_of_ble_eq_true rfl⟩ rfl (Nat.le_of_ble_eq_true rfl) dX4_member_107) (fun r10 M8 hle9 hx => ?_)
        replace hw := hx hle9
        clear hx
        have ht11 : m_tg M8 la0 = 5 := m_le_tg hle9 ht1
        have ht12 : m_tg M8 u2 = 101 := m_le_tg hle9 ht4
        exact pw_iret X hw dX4_member_110
      replace hw := hw.2 c7
      by_cases c13 : lx2 = 1
      · replace hw := hw.1 c13
        refine pw_tableIn X 1 111 dX4_member_62 c13 (by decide) (by decide) rfl (by decide) ?_
        refine pw_iload_n X dX4_member_111 rfl rfl ?_
        exact pw_iret X hw dX4_member_112
      replace hw := hw.2 c13
      by_cases c14 : lx2 = 2
      · replace hw := hw.1 c14
        refine pw_tableIn X 2 113 dX4_member_62 c14 (by decide) (by decide) rfl (by decide) ?_
        refine pw_aload_n X dX4_member_113 rfl rfl ?_
        refine pw_iload_n X dX4_member_114 rfl rfl ?_
        refine pw_runi X (m_cV X (b := la0) (ci := 4) (q := (RX4, TX4, tyX4, 15)) (met_X4_openOf G C.2.1 M la0 lx1 _ hw) ht1 rfl (lw_V q2049 q2051 qs43 q107 q2052) ⟨rfl, nh_X4_openOf⟩ ⟨Nat.le_of_ble_eq_true rfl, Nat.le_of_ble_eq_true rfl⟩ rfl (Nat.le_of_ble_eq_true rfl) dX4_member_115) (fun r17 M15 hle16 hx => ?_)
        replace hw := hx hle16
        clear hx
        have ht18 : m_tg M15 la0 = 5 := m_le_tg hle16 ht1
        have ht19 : m_tg M15 u2 = 101 := m_le_tg hle16 ht4
        exact pw_iret X hw dX4_member_118
      replace hw := hw.2 c14
      by_cases c20 : lx2 = 3
      · replace hw := hw.1 c20
        refine pw_tableIn X 3 119 dX4_member_62 c20 (by decide) (by decide) rfl (by decide) ?_
        refine pw_iload X dX4_member_119 rfl ?_
        exact pw_iret X hw dX4_member_121
      replace hw := hw.2 c20
      by_cases c21 : lx2 = 4
      · replace hw := hw.1 c21
        refine pw_tableIn X 4 122 dX4_member_62 c21 (by decide) (by decide) rfl (by decide) ?_
        refine pw_aload_n X dX4_member_122 rfl rfl ?_
        refine pw_iload_n X dX4_member_123 rfl rfl ?_
        refine pw_iconst X 1 dX4_member_124 (by decide) ?_
        refine pw_runi X (m_cV X (b := la0) (ci := 4) (q := (RX4, TX4, tyX4, 15)) (met_X4_ofMember G C.2.1 M la0 lx1 1 _ hw) ht1 rfl (lw_V q2065 q2067 qs47 q107 q2068) ⟨rfl, nh_X4_ofMember⟩ ⟨Nat.le_of_ble_eq_true rfl, Nat.le_of_ble_eq_true rfl⟩ rfl (Nat.le_of_ble_eq_true rfl) dX4_member_125) (fun r24 M22 hle23 hx => ?_)
        replace hw := hx hle23
        clear hx
        have ht25 : m_tg M22 la0 = 5 := m_le_tg hle23 ht1
        have ht26 : m_tg M22 u2 = 101 := m_le_tg hle23 ht4
        refine pw_sipush X 1000 dX4_member_128 (by decide) ?_
        refine pw_iadd X dX4_member_131 ?_
        exact pw_iret X hw dX4_member_132
      replace hw := hw.2 c21
      by_cases c27 : lx2 = 5
      · replace hw := hw.1 c27
        refine pw_tableIn X 5 133 dX4_member_62 c27 (by decide) (by decide) rfl (by decide) ?_
        refine pw_aload_n X dX4_member_133 rfl rfl ?_
        refine pw_iload_n X dX4_member_134 rfl rfl ?_
        refine pw_iconst X 2 dX4_member_135 (by decide) ?_
        refine pw_runi X (m_cV X (b := la0) (ci := 4) (q := (RX4, TX4, tyX4, 15)) (met_X4_ofMember G C.2.1 M la0 lx1 2 _ hw) ht1 rfl (lw_V q2065 q2067 qs47 q107 q2068) ⟨rfl, nh_X4_ofMember⟩ ⟨Nat.le_of_ble_eq_true rfl, Nat.le_of_ble_eq_true rfl⟩ rfl (Nat.le_of_ble_eq_true rfl) dX4_member_136) (fun r30 M28 hle29 hx => ?_)
        replace hw := hx hle29
        clear hx
        have ht31 : m_tg M28 la0 = 5 := m_le_tg hle29 ht1
        have ht32 : m_tg M28 u2 = 101 := m_le_tg hle29 ht4
        exact pw_iret X hw dX4_member_139
      replace hw := hw.2 c27
      by_cases c33 : lx2 = 6
      · replace hw := hw.1 c33
        refine pw_tableIn X 6 140 dX4_member_62 c33 (by decide) (by decide) rfl (by decide) ?_
        refine pw_aload_n X dX4_member_140 rfl rfl ?_
        refine pw_iload_n X dX4_member_141 rfl rfl ?_
        refine pw_iconst X 3 dX4_member_142 (by decide) ?_
        refine pw_runi X (m_cV X (b := la0) (ci := 4) (q := (RX4, TX4, tyX4, 15)) (met_X4_ofMember G C.2.1 M la0 lx1 3 _ hw) ht1 rfl (lw_V q2065 q2067 qs47 q107 q2068) ⟨rfl, nh_X4_ofMember⟩ ⟨Nat.le_of_ble_eq_true rfl, Nat.le_of_ble_eq_true rfl⟩ rfl (Nat.le_of_ble_eq_true rfl) dX4_member_143) (fun r36 M34 hle35 hx => ?_)
        replace hw := hx hle35
        clear hx
        have ht37 : m_tg M34 la0 = 5 := m_le_tg hle35 ht1
        have ht38 : m_tg M34 u2 = 101 := m_le_tg hle35 ht4
        exact pw_iret X hw dX4_member_146
      replace hw := hw.2 c33
      refine pw_tableOut X 147 dX4_member_62 (by have := lv_neT c7 (a := 0) (by decide); have := lv_neT c13 (a := 1) (by decide); have := lv_neT c14 (a := 2) (by decide); have := lv_neT c20 (a := 3) (by decide); have := lv_neT c21 (a := 4) (by decide); have := lv_neT c27 (a := 5) (by decide); have := lv_neT c33 (a := 6) (by decide); omega) (by decide) ?_
      refine pw_bipush X (-2) dX4_member_147 (by decide) ?_
      exact pw_iret X hw dX4_member_149
    · replace hw := hw.2 c6
      refine pw_aload_n X dX4_member_30 rfl rfl ?_
      refine pw_iload X dX4_member_31 rfl ?_
      refine pw_iconst X 0 dX4_member_33 (by decide) ?_
      refine pw_runi X (m_cV X (b := la0) (ci := 4) (q := (RX4, TX4, tyX4, 15)) (met_X4_ofCall G C.2.1 M la0 lx5 0 _ hw) ht1 rfl (lw_V q2053 q2055 qs44 q107 q2056) ⟨rfl, nh_X4_ofCall⟩ ⟨Nat.le_of_ble_eq_true rfl, Nat.le_of_ble_eq_true rfl⟩ rfl (Nat.le_of_ble_eq_true rfl) dX4_member_34) (fun r41 M39 hle40 hx => ?_)
      replace hw := hx hle40
      clear hx
      have ht42 : m_tg M39 la0 = 5 := m_le_tg hle40 ht1
      have ht43 : m_tg M39 u2 = 101 := m_le_tg hle40 ht4
      refine pw_iload_n X dX4_member_37 rfl rfl ?_
      refine pw_icmp_ne X 55 dX4_member_38 (by decide) (fun c44 => ?_) (fun c44 => ?_)
      · replace hw := hw.1 c44
        refine pw_iinc X (lx5 + 1) [(0, vR (some la0)), (1, vI lx1), (2, vI lx2), (3, vI lx3), (4, vI lx4), (5, vI (lx5 + 1))] [1, 2, 3, 4, 5, 0] dX4_member_55 rfl (by first | rfl | decide) (by decide) rfl ?_
        refine pw_goto X 18 dX4_member_58 (by decide) ?_
        exact ih _ la0 lx1 lx2 lx3 lx4 (lx5 + 1) hw
      · replace hw := hw.2 c44
        refine pw_iinc X (lx3 + 1) [(0, vR (some la0)), (1, vI lx1), (2, vI lx2), (3, vI (lx3 + 1)), (4, vI lx4), (5, vI lx5)] [1, 2, 3, 0, 4, 5] dX4_member_41 rfl (by first | rfl | decide) (by decide) rfl ?_
        refine pw_iload X dX4_member_44 rfl ?_
        refine pw_aload_n X dX4_member_46 rfl rfl ?_
        refine pw_iload X dX4_member_47 rfl ?_
        refine pw_runi X (m_cV X (b := la0) (ci := 4) (q := (RX4, TX4, tyX4, 15)) (met_X4_waitedOf G C.2.1 M39 la0 lx5 _ hw) ht42 rfl (lw_V q2085 q2087 qs51 q107 q2088) ⟨rfl, nh_X4_waitedOf⟩ ⟨Nat.le_of_ble_eq_true rfl, Nat.le_of_ble_eq_true rfl⟩ rfl (Nat.le_of_ble_eq_true rfl) dX4_member_49) (fun r47 M45 hle46 hx => ?_)
        replace hw := hx hle46
        clear hx
        have ht48 : m_tg M45 la0 = 5 := m_le_tg hle46 ht42
        have ht49 : m_tg M45 u2 = 101 := m_le_tg hle46 ht43
        refine pw_iadd X dX4_member_52 ?_
        refine pw_istore X [(0, vR (some la0)), (1, vI lx1), (2, vI lx2), (3, vI (lx3 + 1)), (4, vI (lx4 + r47)), (5, vI lx5)] [1, 2, 3, 4, 0, 5] dX4_member_53 (by decide) rfl ?_
        refine pw_iinc X (lx5 + 1) [(0, vR (some la0)), (1, vI lx1), (2, vI lx2), (3, vI (lx3 + 1)), (4, vI (lx4 + r47)), (5, vI (lx5 + 1))] [1, 2, 3, 4, 5, 0] dX4_member_55 rfl (by first | rfl | decide) (by decide) rfl ?_
        refine pw_goto X 18 dX4_member_58 (by decide) ?_
        exact ih _ la0 lx1 lx2 (lx3 + 1) (lx4 + r47) (lx5 + 1) hw
theorem bk_X4_member_0 (G : Gp) (C : m_Cx) (n0 s0 : Nat) (M0 : Mem) (Q : Int32 → Mem → Prop) (X : m_in G C RX4 cX4_member 6 (some .int) "member" 2 44 n0 s0) (M : Mem) (a0 : Nat) (x1 : Int32) (x2 : Int32) (hw : wp_X4_member G.2 M a0 x1 x2 Q) : pW G C 6 n0 s0 M0 (m_Q G C n0 s0 (va_Qi (m_q1 M0 Q) (m_W G) (m_A G))) M 0 [(0, vR (some a0)), (1, vI x1), (2, vI x2)] [] := by
  refine pw_aload_n X dX4_member_0 rfl rfl ?_
  refine pw_iload_n X dX4_member_1 rfl rfl ?_
  obtain ⟨ht1, hw⟩ := hw
  refine pw_runi X (m_cV X (b := a0) (ci := 4) (q := (RX4, TX4, tyX4, 15)) (met_X4_isMember G C.2.1 M a0 x1 _ hw) ht1 rfl (lw_V q2045 q2047 qs42 q107 q2048) ⟨rfl, nh_X4_isMember⟩ ⟨Nat.le_of_ble_eq_true rfl, Nat.le_of_ble_eq_true rfl⟩ rfl (Nat.le_of_ble_eq_true rfl) dX4_member_2) (fun r4 M2 hle3 hx => ?_)
  replace hw := hx hle3
  clear hx
  have ht5 : m_tg M2 a0 = 5 := m_le_tg hle3 ht1
  refine pw_if_ne X 10 dX4_member_5 (by decide) (fun c6 => ?_) (fun c6 => ?_)
  · replace hw := hw.1 c6
    refine pw_iconst X 0 dX4_member_10 (by decide) ?_
    refine pw_istore_n X [(0, vR (some a0)), (1, vI x1), (2, vI x2), (3, vI 0)] [1, 2, 3, 0] dX4_member_11 rfl (by decide) rfl ?_
    refine pw_iconst X 0 dX4_member_12 (by decide) ?_
    refine pw_istore X [(0, vR (some a0)), (1, vI x1), (2, vI x2), (3, vI 0), (4, vI 0)] [1, 2, 3, 4, 0] dX4_member_13 (by decide) rfl ?_
    refine pw_iconst X 0 dX4_member_15 (by decide) ?_
    refine pw_istore X [(0, vR (some a0)), (1, vI x1), (2, vI x2), (3, vI 0), (4, vI 0), (5, vI 0)] [1, 2, 3, 4, 5, 0] dX4_member_16 (by decide) rfl ?_
    obtain ⟨n18, hw⟩ := hw
    exact bk_X4_member_18 G C n0 s0 M0 Q X n18 _ a0 x1 x2 0 0 0 hw
  · replace hw := hw.2 c6
    refine pw_iconst X (-1) dX4_member_8 (by decide) ?_
    exact pw_iret X hw dX4_member_9
theorem met_X4_member (G : Gp) (l : Launch) (M : Mem) (a0 : Nat) (x1 : Int32) (x2 : Int32) (Q : Int32 → Mem → Prop) (hw : wp_X4_member G.2 M a0 x1 x2 Q) : m_K G l yX4_member cX4_member 6 (some .int) 2 44 [vR (some a0), vI x1, vI x2] M (va_Qi (m_q1 M Q) (m_W G) (m_A G)) := by
  refine m_met (by decide) (Nat.le_of_ble_eq_true rfl) (fun C e X => ?_)
  exact bk_X4_member_0 G C _ _ M Q X M a0 x1 x2 hw
theorem nh_X4_member : m_nMH yX4_member 2 := by decide +kernel

def wp_X4_patrol (g : Nat → Nat) (M : Mem) (a0 : Nat) (x1 : Int32) (x2 : Int32) (Q : Int32 → Mem → Prop) : Prop := m_tg M a0 = 5 ∧ wp_X4_isPatrol g M a0 x1 (fun (r4 : Int32) (M2 : Mem) => m_le M M2 → ((¬ r4 = 0 → wp_X4_in g M2 x2 0 11 (fun (r9 : Int32) (M7 : Mem) => m_le M2 M7 → ((¬ r9 = 0 → wp_X4_ofPatrol g M7 a0 x1 x2 (fun (r14 : Int32) (M12 : Mem) => m_le M7 M12 → Q r14 M12)) ∧ (r9 = 0 → Q (-2) M7)))) ∧ (r4 = 0 → Q (-1) M2)))
theorem bk_X4_patrol_0 (G : Gp) (C : m_Cx) (n0 s0 : Nat) (M0 : Mem) (Q : Int32 → Mem → Prop) (X : m_in G C RX4 cX4_patrol 3 (some .int) "patrol" 2 43 n0 s0) (M : Mem) (a0 : Nat) (x1 : Int32) (x2 : Int32) (hw : wp_X4_patrol G.2 M a0 x1 x2 Q) : pW G C 3 n0 s0 M0 (m_Q G C n0 s0 (va_Qi (m_q1 M0 Q) (m_W G) (m_A G))) M 0 [(0, vR (some a0)), (1, vI x1), (2, vI x2)] [] := by
  refine pw_aload_n X dX4_patrol_0 rfl rfl ?_
  refine pw_iload_n X dX4_patrol_1 rfl rfl ?_
  obtain ⟨ht1, hw⟩ := hw
  refine pw_runi X (m_cV X (b := a0) (ci := 4) (q := (RX4, TX4, tyX4, 15)) (met_X4_isPatrol G C.2.1 M a0 x1 _ hw) ht1 rfl (lw_V q2093 q2095 qs52 q107 q2096) ⟨rfl, nh_X4_isPatrol⟩ ⟨Nat.le_of_ble_eq_true rfl, Nat.le_of_ble_eq_true rfl⟩ rfl (Nat.le_of_ble_eq_true rfl) dX4_patrol_2) (fun r4 M2 hle3 hx => ?_)
  replace hw := hx hle3
  clear hx
  have ht5 : m_tg M2 a0 = 5 := m_le_tg hle3 ht1
  refine pw_if_ne X 12 dX4_patrol_5 (by decide) (fun c6 => ?_) (fun c6 => ?_)
  · replace hw := hw.1 c6
    refine pw_iload_n X dX4_patrol_12 rfl rfl ?_
    refine pw_iconst X 0 dX4_patrol_13 (by decide) ?_
    refine pw_bipush X 11 dX4_patrol_14 (by decide) ?_
    refine pw_runi X (m_cS X (met_X4_in G C.2.1 M2 x2 0 11 _ hw) (lw_S q1999 q2000 q107 q2001) nh_X4_in ⟨Nat.le_of_ble_eq_true rfl, Nat.le_of_ble_eq_true rfl⟩ rfl (Nat.le_of_ble_eq_true rfl) dX4_patrol_16) (fun r9 M7 hle8 hx => ?_)
    replace hw := hx hle8
    clear hx
    have ht10 : m_tg M7 a0 = 5 := m_le_tg hle8 ht5
    refine pw_if_ne X 27 dX4_patrol_19 (by decide) (fun c11 => ?_) (fun c11 => ?_)
    · replace hw := hw.1 c11
      refine pw_aload_n X dX4_patrol_27 rfl rfl ?_
      refine pw_iload_n X dX4_patrol_28 rfl rfl ?_
      refine pw_iload_n X dX4_patrol_29 rfl rfl ?_
      refine pw_runi X (m_cV X (b := a0) (ci := 4) (q := (RX4, TX4, tyX4, 15)) (met_X4_ofPatrol G C.2.1 M7 a0 x1 x2 _ hw) ht10 rfl (lw_V q2069 q2071 qs48 q107 q2072) ⟨rfl, nh_X4_ofPatrol⟩ ⟨Nat.le_of_ble_eq_true rfl, Nat.le_of_ble_eq_true rfl⟩ rfl (Nat.le_of_ble_eq_true rfl) dX4_patrol_30) (fun r14 M12 hle13 hx => ?_)
      replace hw := hx hle13
      clear hx
      have ht15 : m_tg M12 a0 = 5 := m_le_tg hle13 ht10
      exact pw_iret X hw dX4_patrol_33
    · replace hw := hw.2 c11
      refine pw_bipush X (-2) dX4_patrol_22 (by decide) ?_
      refine pw_goto X 33 dX4_patrol_24 (by decide) ?_
      exact pw_iret X hw dX4_patrol_33
  · replace hw := hw.2 c6
    refine pw_iconst X (-1) dX4_patrol_8 (by decide) ?_
    refine pw_goto X 33 dX4_patrol_9 (by decide) ?_
    exact pw_iret X hw dX4_patrol_33
theorem met_X4_patrol (G : Gp) (l : Launch) (M : Mem) (a0 : Nat) (x1 : Int32) (x2 : Int32) (Q : Int32 → Mem → Prop) (hw : wp_X4_patrol G.2 M a0 x1 x2 Q) : m_K G l yX4_patrol cX4_patrol 3 (some .int) 2 43 [vR (some a0), vI x1, vI x2] M (va_Qi (m_q1 M Q) (m_W G) (m_A G)) := by
  refine m_met (by decide) (Nat.le_of_ble_eq_true rfl) (fun C e X => ?_)
  exact bk_X4_patrol_0 G C _ _ M Q X M a0 x1 x2 hw
theorem nh_X4_patrol : m_nMH yX4_patrol 2 := by decide +kernel

def wp_X4_garage_b47 (g : Nat → Nat) (M : Mem) (sa0 : Nat) (sx1 : Int32) (sx2 : Int32) (Q : Int32 → Mem → Prop) : Prop := m_tg M sa0 = 5 ∧ wp_X4_ofGarage g M sa0 sx1 sx2 (fun (r4 : Int32) (M2 : Mem) => m_le M M2 → Q r4 M2)
def wp_X4_garage (g : Nat → Nat) (M : Mem) (a0 : Nat) (x1 : Int32) (x2 : Int32) (Q : Int32 → Mem → Prop) : Prop := m_tg M a0 = 5 ∧ wp_X4_isGarage g M a0 x1 (fun (r4 : Int32) (M2 : Mem) => m_le M M2 → ((¬ r4 = 0 → wp_X4_in g M2 x2 0 4 (fun (r9 : Int32) (M7 : Mem) => m_le M2 M7 → ((¬ r9 = 0 → ((¬ x2 = 3 → ((¬ x2 = 4 → wp_X4_garage_b47 g M7 a0 x1 x2 Q) ∧ (x2 = 4 → wp_X4_garage_b47 g M7 a0 x1 3 Q))) ∧ (x2 = 3 → wp_X4_underWay g M7 a0 x1 (fun (r16 : Int32) (M14 : Mem) => m_le M7 M14 → Q r16 M14)))) ∧ (r9 = 0 → Q (-2) M7)))) ∧ (r4 = 0 → Q (-1) M2)))
theorem bk_X4_garage_47 (G : Gp) (C : m_Cx) (n0 s0 : Nat) (M0 : Mem) (Q : Int32 → Mem → Prop) (X : m_in G C RX4 cX4_garage 3 (some .int) "garage" 2 45 n0 s0) (M : Mem) (sa0 : Nat) (sx1 : Int32) (sx2 : Int32) (hw : wp_X4_garage_b47 G.2 M sa0 sx1 sx2 Q) : pW G C 3 n0 s0 M0 (m_Q G C n0 s0 (va_Qi (m_q1 M0 Q) (m_W G) (m_A G))) M 47 [] [vI sx2, vI sx1, vR (some sa0)] := by
  obtain ⟨ht1, hw⟩ := hw
  refine pw_runi X (m_cV X (b := sa0) (ci := 4) (q := (RX4, TX4, tyX4, 15)) (met_X4_ofGarage G C.2.1 M sa0 sx1 sx2 _ hw) ht1 rfl (lw_V q2117 q2119 qs56 q107 q2120) ⟨rfl, nh_X4_ofGarage⟩ ⟨Nat.le_of_ble_eq_true rfl, Nat.le_of_ble_eq_true rfl⟩ rfl (Nat.le_of_ble_eq_true rfl) dX4_garage_47) (fun r4 M2 hle3 hx => ?_)
  replace hw := hx hle3
  clear hx
  have ht5 : m_tg M2 sa0 = 5 := m_le_tg hle3 ht1
  exact pw_iret X hw dX4_garage_50
theorem bk_X4_garage_0 (G : Gp) (C : m_Cx) (n0 s0 : Nat) (M0 : Mem) (Q : Int32 → Mem → Prop) (X : m_in G C RX4 cX4_garage 3 (some .int) "garage" 2 45 n0 s0) (M : Mem) (a0 : Nat) (x1 : Int32) (x2 : Int32) (hw : wp_X4_garage G.2 M a0 x1 x2 Q) : pW G C 3 n0 s0 M0 (m_Q G C n0 s0 (va_Qi (m_q1 M0 Q) (m_W G) (m_A G))) M 0 [(0, vR (some a0)), (1, vI x1), (2, vI x2)] [] := by
  refine pw_aload_n X dX4_garage_0 rfl rfl ?_
  refine pw_iload_n X dX4_garage_1 rfl rfl ?_
  obtain ⟨ht1, hw⟩ := hw
  refine pw_runi X (m_cV X (b := a0) (ci := 4) (q := (RX4, TX4, tyX4, 15)) (met_X4_isGarage G C.2.1 M a0 x1 _ hw) ht1 rfl (lw_V q2113 q2115 qs55 q107 q2116) ⟨rfl, nh_X4_isGarage⟩ ⟨Nat.le_of_ble_eq_true rfl, Nat.le_of_ble_eq_true rfl⟩ rfl (Nat.le_of_ble_eq_true rfl) dX4_garage_2) (fun r4 M2 hle3 hx => ?_)
  replace hw := hx hle3
  clear hx
  have ht5 : m_tg M2 a0 = 5 := m_le_tg hle3 ht1
  refine pw_if_ne X 10 dX4_garage_5 (by decide) (fun c6 => ?_) (fun c6 => ?_)
  · replace hw := hw.1 c6
    refine pw_iload_n X dX4_garage_10 rfl rfl ?_
    refine pw_iconst X 0 dX4_garage_11 (by decide) ?_
    refine pw_iconst X 4 dX4_garage_12 (by decide) ?_
    refine pw_runi X (m_cS X (met_X4_in G C.2.1 M2 x2 0 4 _ hw) (lw_S q1999 q2000 q107 q2001) nh_X4_in ⟨Nat.le_of_ble_eq_true rfl, Nat.le_of_ble_eq_true rfl⟩ rfl (Nat.le_of_ble_eq_true rfl) dX4_garage_13) (fun r9 M7 hle8 hx => ?_)
    replace hw := hx hle8
    clear hx
    have ht10 : m_tg M7 a0 = 5 := m_le_tg hle8 ht5
    refine pw_if_ne X 22 dX4_garage_16 (by decide) (fun c11 => ?_) (fun c11 => ?_)
    · replace hw := hw.1 c11
      refine pw_iload_n X dX4_garage_22 rfl rfl ?_
      refine pw_iconst X 3 dX4_garage_23 (by decide) ?_
      refine pw_icmp_ne X 35 dX4_garage_24 (by decide) (fun c12 => ?_) (fun c12 => ?_)
      · replace hw := hw.1 c12
        refine pw_aload_n X dX4_garage_35 rfl rfl ?_
        refine pw_iload_n X dX4_garage_36 rfl rfl ?_
        refine pw_iload_n X dX4_garage_37 rfl rfl ?_
        refine pw_iconst X 4 dX4_garage_38 (by decide) ?_
        refine pw_icmp_ne X 46 dX4_garage_39 (by decide) (fun c13 => ?_) (fun c13 => ?_)
        · replace hw := hw.1 c13
          refine pw_iload_n X dX4_garage_46 rfl rfl ?_
          refine pw_lo [] rfl ?_
          exact bk_X4_garage_47 G C n0 s0 M0 Q X _ a0 x1 x2 hw
        · replace hw := hw.2 c13
          refine pw_iconst X 3 dX4_garage_42 (by decide) ?_
          refine pw_goto X 47 dX4_garage_43 (by decide) ?_
          refine pw_lo [] rfl ?_
          exact bk_X4_garage_47 G C n0 s0 M0 Q X _ a0 x1 3 hw
      · replace hw := hw.2 c12
        refine pw_aload_n X dX4_garage_27 rfl rfl ?_
        refine pw_iload_n X dX4_garage_28 rfl rfl ?_
        refine pw_runi X (m_cV X (b := a0) (ci := 4) (q := (RX4, TX4, tyX4, 15)) (met_X4_underWay G C.2.1 M7 a0 x1 _ hw) ht10 rfl (lw_V q2145 q2147 qs62 q107 q2148) ⟨rfl, nh_X4_underWay⟩ ⟨Nat.le_of_ble_eq_true rfl, Nat.le_of_ble_eq_true rfl⟩ rfl (Nat.le_of_ble_eq_true rfl) dX4_garage_29) (fun r16 M14 hle15 hx => ?_)
        replace hw := hx hle15
        clear hx
        have ht17 : m_tg M14 a0 = 5 := m_le_tg hle15 ht10
        refine pw_goto X 50 dX4_garage_32 (by decide) ?_
        exact pw_iret X hw dX4_garage_50
    · replace hw := hw.2 c11
      refine pw_bipush X (-2) dX4_garage_19 (by decide) ?_
      exact pw_iret X hw dX4_garage_21
  · replace hw := hw.2 c6
    refine pw_iconst X (-1) dX4_garage_8 (by decide) ?_
    exact pw_iret X hw dX4_garage_9
theorem met_X4_garage (G : Gp) (l : Launch) (M : Mem) (a0 : Nat) (x1 : Int32) (x2 : Int32) (Q : Int32 → Mem → Prop) (hw : wp_X4_garage G.2 M a0 x1 x2 Q) : m_K G l yX4_garage cX4_garage 3 (some .int) 2 45 [vR (some a0), vI x1, vI x2] M (va_Qi (m_q1 M Q) (m_W G) (m_A G)) := by
  refine m_met (by decide) (Nat.le_of_ble_eq_true rfl) (fun C e X => ?_)
  exact bk_X4_garage_0 G C _ _ M Q X M a0 x1 x2 hw
theorem nh_X4_garage : m_nMH yX4_garage 2 := by decide +kernel

def wp_X4_callOf (g : Nat → Nat) (M : Mem) (a0 : Nat) (x1 : Int32) (x2 : Int32) (Q : Int32 → Mem → Prop) : Prop := m_tg M a0 = 5 ∧ wp_X4_isCall g M a0 x1 (fun (r4 : Int32) (M2 : Mem) => m_le M M2 → ((¬ r4 = 0 → wp_X4_in g M2 x2 0 12 (fun (r9 : Int32) (M7 : Mem) => m_le M2 M7 → ((¬ r9 = 0 → ((x2 = 7 → wp_X4_waitedOf g M7 a0 x1 (fun (r15 : Int32) (M13 : Mem) => m_le M7 M13 → Q r15 M13)) ∧ (¬ x2 = 7 → ((x2 = 11 → wp_X4_ofCall g M7 a0 x1 5 (fun (r20 : Int32) (M18 : Mem) => m_le M7 M18 → ((r20 ≤ 1 → wp_X4_rest g M18 a0 x1 (fun (r25 : Int32) (M23 : Mem) => m_le M18 M23 → Q (r25 + 10000) M23)) ∧ (¬ r20 ≤ 1 → Q (-5) M18)))) ∧ (¬ x2 = 11 → ((x2 = 12 → wp_X4_ofCall g M7 a0 x1 11 (fun (r30 : Int32) (M28 : Mem) => m_le M7 M28 → Q r30 M28)) ∧ (¬ x2 = 12 → wp_X4_ofCall g M7 a0 x1 x2 (fun (r34 : Int32) (M32 : Mem) => m_le M7 M32 → Q r34 M32)))))))) ∧ (r9 = 0 → Q (-2) M7)))) ∧ (r4 = 0 → Q (-1) M2)))
theorem bk_X4_callOf_0 (G : Gp) (C : m_Cx) (n0 s0 : Nat) (M0 : Mem) (Q : Int32 → Mem → Prop) (X : m_in G C RX4 cX4_callOf 3 (some .int) "callOf" 2 44 n0 s0) (M : Mem) (a0 : Nat) (x1 : Int32) (x2 : Int32) (hw : wp_X4_callOf G.2 M a0 x1 x2 Q) : pW G C 3 n0 s0 M0 (m_Q G C n0 s0 (va_Qi (m_q1 M0 Q) (m_W G) (m_A G))) M 0 [(0, vR (some a0)), (1, vI x1), (2, vI x2)] [] := by
  refine pw_aload_n X dX4_callOf_0 rfl rfl ?_
  refine pw_iload_n X dX4_callOf_1 rfl rfl ?_
  obtain ⟨ht1, hw⟩ := hw
  refine pw_runi X (m_cV X (b := a0) (ci := 4) (q := (RX4, TX4, tyX4, 15)) (met_X4_isCall G C.2.1 M a0 x1 _ hw) ht1 rfl (lw_V q2081 q2083 qs50 q107 q2084) ⟨rfl, nh_X4_isCall⟩ ⟨Nat.le_of_ble_eq_true rfl, Nat.le_of_ble_eq_true rfl⟩ rfl (Nat.le_of_ble_eq_true rfl) dX4_callOf_2) (fun r4 M2 hle3 hx => ?_)
  replace hw := hx hle3
  clear hx
  have ht5 : m_tg M2 a0 = 5 := m_le_tg hle3 ht1
  refine pw_if_ne X 10 dX4_callOf_5 (by decide) (fun c6 => ?_) (fun c6 => ?_)
  · replace hw := hw.1 c6
    refine pw_iload_n X dX4_callOf_10 rfl rfl ?_
    refine pw_iconst X 0 dX4_callOf_11 (by decide) ?_
    refine pw_bipush X 12 dX4_callOf_12 (by decide) ?_
    refine pw_runi X (m_cS X (met_X4_in G C.2.1 M2 x2 0 12 _ hw) (lw_S q1999 q2000 q107 q2001) nh_X4_in ⟨Nat.le_of_ble_eq_true rfl, Nat.le_of_ble_eq_true rfl⟩ rfl (Nat.le_of_ble_eq_true rfl) dX4_callOf_14) (fun r9 M7 hle8 hx => ?_)
    replace hw := hx hle8
    clear hx
    have ht10 : m_tg M7 a0 = 5 := m_le_tg hle8 ht5
    refine pw_if_ne X 23 dX4_callOf_17 (by decide) (fun c11 => ?_) (fun c11 => ?_)
    · replace hw := hw.1 c11
      refine pw_iload_n X dX4_callOf_23 rfl rfl ?_
      by_cases c12 : x2 = 7
      · replace hw := hw.1 c12
        refine pw_lookup X (36) 60 dX4_callOf_24 (by decide) (by rw [c12]; decide) (by decide) ?_
        refine pw_aload_n X dX4_callOf_60 rfl rfl ?_
        refine pw_iload_n X dX4_callOf_61 rfl rfl ?_
        refine pw_runi X (m_cV X (b := a0) (ci := 4) (q := (RX4, TX4, tyX4, 15)) (met_X4_waitedOf G C.2.1 M7 a0 x1 _ hw) ht10 rfl (lw_V q2085 q2087 qs51 q107 q2088) ⟨rfl, nh_X4_waitedOf⟩ ⟨Nat.le_of_ble_eq_true rfl, Nat.le_of_ble_eq_true rfl⟩ rfl (Nat.le_of_ble_eq_true rfl) dX4_callOf_62) (fun r15 M13 hle14 hx => ?_)
        replace hw := hx hle14
        clear hx
        have ht16 : m_tg M13 a0 = 5 := m_le_tg hle14 ht10
        exact pw_iret X hw dX4_callOf_65
      replace hw := hw.2 c12
      by_cases c17 : x2 = 11
      · replace hw := hw.1 c17
        refine pw_lookup X (42) 66 dX4_callOf_24 (by decide) (by rw [c17]; decide) (by decide) ?_
        refine pw_aload_n X dX4_callOf_66 rfl rfl ?_
        refine pw_iload_n X dX4_callOf_67 rfl rfl ?_
        refine pw_iconst X 5 dX4_callOf_68 (by decide) ?_
        refine pw_runi X (m_cV X (b := a0) (ci := 4) (q := (RX4, TX4, tyX4, 15)) (met_X4_ofCall G C.2.1 M7 a0 x1 5 _ hw) ht10 rfl (lw_V q2053 q2055 qs44 q107 q2056) ⟨rfl, nh_X4_ofCall⟩ ⟨Nat.le_of_ble_eq_true rfl, Nat.le_of_ble_eq_true rfl⟩ rfl (Nat.le_of_ble_eq_true rfl) dX4_callOf_69) (fun r20 M18 hle19 hx => ?_)
        replace hw := hx hle19
        clear hx
        have ht21 : m_tg M18 a0 = 5 := m_le_tg hle19 ht10
        refine pw_iconst X 1 dX4_callOf_72 (by decide) ?_
        refine pw_icmp_le X 81 dX4_callOf_73 (by decide) (fun c22 => ?_) (fun c22 => ?_)
        · replace hw := hw.1 c22
          refine pw_aload_n X dX4_callOf_81 rfl rfl ?_
          refine pw_iload_n X dX4_callOf_82 rfl rfl ?_
          refine pw_runi X (m_cV X (b := a0) (ci := 4) (q := (RX4, TX4, tyX4, 15)) (met_X4_rest G C.2.1 M18 a0 x1 _ hw) ht21 rfl (lw_V q2184 q2186 qs71 q107 q2187) ⟨rfl, nh_X4_rest⟩ ⟨Nat.le_of_ble_eq_true rfl, Nat.le_of_ble_eq_true rfl⟩ rfl (Nat.le_of_ble_eq_true rfl) dX4_callOf_83) (fun r25 M23 hle24 hx => ?_)
          replace hw := hx hle24
          clear hx
          have ht26 : m_tg M23 a0 = 5 := m_le_tg hle24 ht21
          refine pw_sipush X 10000 dX4_callOf_86 (by decide) ?_
          refine pw_iadd X dX4_callOf_89 ?_
          exact pw_iret X hw dX4_callOf_90
        · replace hw := hw.2 c22
          refine pw_bipush X (-5) dX4_callOf_76 (by decide) ?_
          refine pw_goto X 90 dX4_callOf_78 (by decide) ?_
          exact pw_iret X hw dX4_callOf_90
      replace hw := hw.2 c17
      by_cases c27 : x2 = 12
      · replace hw := hw.1 c27
        refine pw_lookup X (67) 91 dX4_callOf_24 (by decide) (by rw [c27]; decide) (by decide) ?_
        refine pw_aload_n X dX4_callOf_91 rfl rfl ?_
        refine pw_iload_n X dX4_callOf_92 rfl rfl ?_
        refine pw_bipush X 11 dX4_callOf_93 (by decide) ?_
        refine pw_runi X (m_cV X (b := a0) (ci := 4) (q := (RX4, TX4, tyX4, 15)) (met_X4_ofCall G C.2.1 M7 a0 x1 11 _ hw) ht10 rfl (lw_V q2053 q2055 qs44 q107 q2056) ⟨rfl, nh_X4_ofCall⟩ ⟨Nat.le_of_ble_eq_true rfl, Nat.le_of_ble_eq_true rfl⟩ rfl (Nat.le_of_ble_eq_true rfl) dX4_callOf_95) (fun r30 M28 hle29 hx => ?_)
        replace hw := hx hle29
        clear hx
        have ht31 : m_tg M28 a0 = 5 := m_le_tg hle29 ht10
        exact pw_iret X hw dX4_callOf_98
      replace hw := hw.2 c27
      refine pw_lookup X (75) 99 dX4_callOf_24 (by decide) ((lv_osw c12 (a := 7) (by decide)).trans ((lv_osw c17 (a := 11) (by decide)).trans ((lv_osw c27 (a := 12) (by decide)).trans rfl))) (by decide) ?_
      refine pw_aload_n X dX4_callOf_99 rfl rfl ?_
      refine pw_iload_n X dX4_callOf_100 rfl rfl ?_
      refine pw_iload_n X dX4_callOf_101 rfl rfl ?_
      refine pw_runi X (m_cV X (b := a0) (ci := 4) (q := (RX4, TX4, tyX4, 15)) (met_X4_ofCall G C.2.1 M7 a0 x1 x2 _ hw) ht10 rfl (lw_V q2053 q2055 qs44 q107 q2056) ⟨rfl, nh_X4_ofCall⟩ ⟨Nat.le_of_ble_eq_true rfl, Nat.le_of_ble_eq_true rfl⟩ rfl (Nat.le_of_ble_eq_true rfl) dX4_callOf_102) (fun r34 M32 hle33 hx => ?_)
      replace hw := hx hle33
      clear hx
      have ht35 : m_tg M32 a0 = 5 := m_le_tg hle33 ht10
      exact pw_iret X hw dX4_callOf_105
    · replace hw := hw.2 c11
      refine pw_bipush X (-2) dX4_callOf_20 (by decide) ?_
      exact pw_iret X hw dX4_callOf_22
  · replace hw := hw.2 c6
    refine pw_iconst X (-1) dX4_callOf_8 (by decide) ?_
    exact pw_iret X hw dX4_callOf_9
theorem met_X4_callOf (G : Gp) (l : Launch) (M : Mem) (a0 : Nat) (x1 : Int32) (x2 : Int32) (Q : Int32 → Mem → Prop) (hw : wp_X4_callOf G.2 M a0 x1 x2 Q) : m_K G l yX4_callOf cX4_callOf 3 (some .int) 2 44 [vR (some a0), vI x1, vI x2] M (va_Qi (m_q1 M Q) (m_W G) (m_A G)) := by
  refine m_met (by decide) (Nat.le_of_ble_eq_true rfl) (fun C e X => ?_)
  exact bk_X4_callOf_0 G C _ _ M Q X M a0 x1 x2 hw
theorem nh_X4_callOf : m_nMH yX4_callOf 2 := by decide +kernel

def wp_X4_waiting (g : Nat → Nat) (M : Mem) (a0 : Nat) (x1 : Int32) (Q : Int32 → Mem → Prop) : Prop := ((0 ≤ x1 → m_tg M a0 = 5 ∧ wp_X4_laysRow g M a0 (fun (M3 : Mem) => m_le M M3 → (((m_gi M3 a0 11) ≤ x1 → Q (-5) M3) ∧ (¬ (m_gi M3 a0 11) ≤ x1 → ∃ u7 : Nat, (m_gr M3 a0 10) = some u7 ∧ m_tg M3 u7 = 101 ∧ vp_in x1 (m_ln M3 u7) ∧ Q (m_gi M3 u7 (Int32.toNatClampNeg x1)) M3)))) ∧ (¬ 0 ≤ x1 → Q (-2) M))
theorem bk_X4_waiting_0 (G : Gp) (C : m_Cx) (n0 s0 : Nat) (M0 : Mem) (Q : Int32 → Mem → Prop) (X : m_in G C RX4 cX4_waiting 2 (some .int) "waiting" 4 89 n0 s0) (M : Mem) (a0 : Nat) (x1 : Int32) (hw : wp_X4_waiting G.2 M a0 x1 Q) : pW G C 2 n0 s0 M0 (m_Q G C n0 s0 (va_Qi (m_q1 M0 Q) (m_W G) (m_A G))) M 0 [(0, vR (some a0)), (1, vI x1)] [] := by
  refine pw_iload_n X dX4_waiting_0 rfl rfl ?_
  refine pw_if_ge X 7 dX4_waiting_1 (by decide) (fun c1 => ?_) (fun c1 => ?_)
  · replace hw := hw.1 c1
    refine pw_aload_n X dX4_waiting_7 rfl rfl ?_
    obtain ⟨ht2, hw⟩ := hw
    refine pw_runv X (m_cV X (b := a0) (ci := 4) (q := (RX4, TX4, tyX4, 15)) (met_X4_laysRow G C.2.1 M a0 _ hw) ht2 rfl (lw_V q2172 q2174 qs68 q107 q2175) ⟨rfl, nh_X4_laysRow⟩ ⟨Nat.le_of_ble_eq_true rfl, Nat.le_of_ble_eq_true rfl⟩ rfl (Nat.le_of_ble_eq_true rfl) dX4_waiting_8) (fun M3 hle4 hx => ?_)
    replace hw := hx hle4
    clear hx
    have ht5 : m_tg M3 a0 = 5 := m_le_tg hle4 ht2
    refine pw_iload_n X dX4_waiting_11 rfl rfl ?_
    refine pw_aload_n X dX4_waiting_12 rfl rfl ?_
    refine pw_get X (q := (RX4, TX4, tyX4, 15)) (ci := 4) (k := 11) (ref := "PatrolDeskModel") (vI (m_gi M3 a0 11)) ht5 rfl (by decide) in_X4 q1957 (Or.inl rfl) rfl dX4_waiting_13 ?_
    refine pw_icmp_ge X 28 dX4_waiting_16 (by decide) (fun c6 => ?_) (fun c6 => ?_)
    · replace hw := hw.1 c6
      refine pw_bipush X (-5) dX4_waiting_28 (by decide) ?_
      exact pw_iret X hw dX4_waiting_30
    · replace hw := hw.2 c6
      refine pw_aload_n X dX4_waiting_19 rfl rfl ?_
      obtain ⟨u7, he8, hw⟩ := hw
      refine pw_get X (q := (RX4, TX4, tyX4, 15)) (ci := 4) (k := 10) (ref := "PatrolDeskModel") (vR (some u7)) ht5 rfl (by decide) in_X4 q1956 (Or.inl rfl) (by rw [he8]; rfl) dX4_waiting_20 ?_
      refine pw_iload_n X dX4_waiting_23 rfl rfl ?_
      obtain ⟨ht9, hw⟩ := hw
      obtain ⟨hi10, hw⟩ := hw
      refine pw_iald X ht9 hi10 dX4_waiting_24 ?_
      refine pw_goto X 30 dX4_waiting_25 (by decide) ?_
      exact pw_iret X hw dX4_waiting_30
  · replace hw := hw.2 c1
    refine pw_bipush X (-2) dX4_waiting_4 (by decide) ?_
    exact pw_iret X hw dX4_waiting_6
theorem met_X4_waiting (G : Gp) (l : Launch) (M : Mem) (a0 : Nat) (x1 : Int32) (Q : Int32 → Mem → Prop) (hw : wp_X4_waiting G.2 M a0 x1 Q) : m_K G l yX4_waiting cX4_waiting 2 (some .int) 4 89 [vR (some a0), vI x1] M (va_Qi (m_q1 M Q) (m_W G) (m_A G)) := by
  refine m_met (by decide) (Nat.le_of_ble_eq_true rfl) (fun C e X => ?_)
  exact bk_X4_waiting_0 G C _ _ M Q X M a0 x1 hw
theorem nh_X4_waiting : m_nMH yX4_waiting 1 := by decide +kernel

def wp_X4_nearest (g : Nat → Nat) (M : Mem) (a0 : Nat) (x1 : Int32) (Q : Int32 → Mem → Prop) : Prop := m_tg M a0 = 5 ∧ wp_X4_isCall g M a0 x1 (fun (r4 : Int32) (M2 : Mem) => m_le M M2 → ((¬ r4 = 0 → wp_X4_waits g M2 a0 x1 (fun (r9 : Int32) (M7 : Mem) => m_le M2 M7 → ((¬ r9 = 0 → wp_X4_nearestOf g M7 a0 x1 (fun (r14 : Int32) (M12 : Mem) => m_le M7 M12 → Q r14 M12)) ∧ (r9 = 0 → Q (-4) M7)))) ∧ (r4 = 0 → Q (-1) M2)))
theorem bk_X4_nearest_0 (G : Gp) (C : m_Cx) (n0 s0 : Nat) (M0 : Mem) (Q : Int32 → Mem → Prop) (X : m_in G C RX4 cX4_nearest 2 (some .int) "nearest" 3 72 n0 s0) (M : Mem) (a0 : Nat) (x1 : Int32) (hw : wp_X4_nearest G.2 M a0 x1 Q) : pW G C 2 n0 s0 M0 (m_Q G C n0 s0 (va_Qi (m_q1 M0 Q) (m_W G) (m_A G))) M 0 [(0, vR (some a0)), (1, vI x1)] [] := by
  refine pw_aload_n X dX4_nearest_0 rfl rfl ?_
  refine pw_iload_n X dX4_nearest_1 rfl rfl ?_
  obtain ⟨ht1, hw⟩ := hw
  refine pw_runi X (m_cV X (b := a0) (ci := 4) (q := (RX4, TX4, tyX4, 15)) (met_X4_isCall G C.2.1 M a0 x1 _ hw) ht1 rfl (lw_V q2081 q2083 qs50 q107 q2084) ⟨rfl, nh_X4_isCall⟩ ⟨Nat.le_of_ble_eq_true rfl, Nat.le_of_ble_eq_true rfl⟩ rfl (Nat.le_of_ble_eq_true rfl) dX4_nearest_2) (fun r4 M2 hle3 hx => ?_)
  replace hw := hx hle3
  clear hx
  have ht5 : m_tg M2 a0 = 5 := m_le_tg hle3 ht1
  refine pw_if_ne X 12 dX4_nearest_5 (by decide) (fun c6 => ?_) (fun c6 => ?_)
  · replace hw := hw.1 c6
    refine pw_aload_n X dX4_nearest_12 rfl rfl ?_
    refine pw_iload_n X dX4_nearest_13 rfl rfl ?_
    refine pw_runi X (m_cV X (b := a0) (ci := 4) (q := (RX4, TX4, tyX4, 15)) (met_X4_waits G C.2.1 M2 a0 x1 _ hw) ht5 rfl (lw_V q2176 q2178 qs69 q107 q2179) ⟨rfl, nh_X4_waits⟩ ⟨Nat.le_of_ble_eq_true rfl, Nat.le_of_ble_eq_true rfl⟩ rfl (Nat.le_of_ble_eq_true rfl) dX4_nearest_14) (fun r9 M7 hle8 hx => ?_)
    replace hw := hx hle8
    clear hx
    have ht10 : m_tg M7 a0 = 5 := m_le_tg hle8 ht5
    refine pw_if_ne X 25 dX4_nearest_17 (by decide) (fun c11 => ?_) (fun c11 => ?_)
    · replace hw := hw.1 c11
      refine pw_aload_n X dX4_nearest_25 rfl rfl ?_
      refine pw_iload_n X dX4_nearest_26 rfl rfl ?_
      refine pw_runi X (m_cV X (b := a0) (ci := 4) (q := (RX4, TX4, tyX4, 15)) (met_X4_nearestOf G C.2.1 M7 a0 x1 _ hw) ht10 rfl (lw_V q2188 q2190 qs72 q107 q2191) ⟨rfl, nh_X4_nearestOf⟩ ⟨Nat.le_of_ble_eq_true rfl, Nat.le_of_ble_eq_true rfl⟩ rfl (Nat.le_of_ble_eq_true rfl) dX4_nearest_27) (fun r14 M12 hle13 hx => ?_)
      replace hw := hx hle13
      clear hx
      have ht15 : m_tg M12 a0 = 5 := m_le_tg hle13 ht10
      exact pw_iret X hw dX4_nearest_30
    · replace hw := hw.2 c11
      refine pw_bipush X (-4) dX4_nearest_20 (by decide) ?_
      refine pw_goto X 30 dX4_nearest_22 (by decide) ?_
      exact pw_iret X hw dX4_nearest_30
  · replace hw := hw.2 c6
    refine pw_iconst X (-1) dX4_nearest_8 (by decide) ?_
    refine pw_goto X 30 dX4_nearest_9 (by decide) ?_
    exact pw_iret X hw dX4_nearest_30
theorem met_X4_nearest (G : Gp) (l : Launch) (M : Mem) (a0 : Nat) (x1 : Int32) (Q : Int32 → Mem → Prop) (hw : wp_X4_nearest G.2 M a0 x1 Q) : m_K G l yX4_nearest cX4_nearest 2 (some .int) 3 72 [vR (some a0), vI x1] M (va_Qi (m_q1 M Q) (m_W G) (m_A G)) := by
  refine m_met (by decide) (Nat.le_of_ble_eq_true rfl) (fun C e X => ?_)
  exact bk_X4_nearest_0 G C _ _ M Q X M a0 x1 hw
theorem nh_X4_nearest : m_nMH yX4_nearest 1 := by decide +kernel

def wp_X4_waitFor_b103 (g : Nat → Nat) (M : Mem) (la0 : Nat) (sx0 : Int32) (Q : Int32 → Mem → Prop) : Prop := m_tg M la0 = 5 ∧ ∃ u2 : Nat, (m_gr M la0 5) = some u2 ∧ ∃ u4 : Nat, (m_gr M la0 0) = some u4 ∧ wp_X4_copies g M u2 0 u4 0 (fun (M6 : Mem) => m_le M M6 → Q sx0 M6)
def wp_X4_waitFor_b79 (g : Nat → Nat) (M : Mem) (la0 : Nat) (lx1 : Int32) (Q : Int32 → Mem → Prop) : Prop := m_tg M la0 = 5 ∧ wp_X4_ofCall g M la0 lx1 8 (fun (r4 : Int32) (M2 : Mem) => m_le M M2 → ((¬ r4 = (-5) → wp_X4_ofCall g M2 la0 lx1 7 (fun (r9 : Int32) (M7 : Mem) => m_le M2 M7 → wp_X4_waitFor_b103 g M7 la0 r9 Q)) ∧ (r4 = (-5) → wp_X4_waitFor_b103 g M2 la0 (-5) Q)))
def wp_X4_waitFor_b38 (g : Nat → Nat) (Q : Int32 → Mem → Prop) : Nat → Mem → Nat → Int32 → Int32 → Prop
  | 0 => fun _ _ _ _ => False
  | n + 1 => fun M la0 lx1 lx2 => ((240 ≤ lx2 → wp_X4_waitFor_b79 g M la0 lx1 Q) ∧ (¬ 240 ≤ lx2 → m_tg M la0 = 5 ∧ ∃ u3 : Nat, (m_gr M la0 0) = some u3 ∧ m_tg M u3 = 101 ∧ vp_in 0 (m_ln M u3) ∧ ((2880 ≤ (m_gi M u3 (Int32.toNatClampNeg 0)) → wp_X4_waitFor_b79 g M la0 lx1 Q) ∧ (¬ 2880 ≤ (m_gi M u3 (Int32.toNatClampNeg 0)) → wp_X4_ofCall g M la0 lx1 8 (fun (r10 : Int32) (M8 : Mem) => m_le M M8 → ((¬ r10 = (-5) → wp_X4_waitFor_b79 g M8 la0 lx1 Q) ∧ (r10 = (-5) → wp_X4_passes g M8 la0 (fun (M14 : Mem) => m_le M8 M14 → wp_X4_waitFor_b38 g Q n M14 la0 lx1 (lx2 + 1)))))))))
def wp_X4_waitFor (g : Nat → Nat) (M : Mem) (a0 : Nat) (x1 : Int32) (Q : Int32 → Mem → Prop) : Prop := m_tg M a0 = 5 ∧ wp_X4_isCall g M a0 x1 (fun (r4 : Int32) (M2 : Mem) => m_le M M2 → ((¬ r4 = 0 → wp_X4_ofCall g M2 a0 x1 5 (fun (r9 : Int32) (M7 : Mem) => m_le M2 M7 → ((r9 ≤ 1 → ∃ u12 : Nat, (m_gr M7 a0 0) = some u12 ∧ ∃ u14 : Nat, (m_gr M7 a0 5) = some u14 ∧ wp_X4_copies g M7 u12 0 u14 0 (fun (M16 : Mem) => m_le M7 M16 → ∃ j38 : Nat, wp_X4_waitFor_b38 g Q j38 M16 a0 x1 0)) ∧ (¬ r9 ≤ 1 → Q (-4) M7)))) ∧ (r4 = 0 → Q (-1) M2)))
theorem bk_X4_waitFor_103 (G : Gp) (C : m_Cx) (n0 s0 : Nat) (M0 : Mem) (Q : Int32 → Mem → Prop) (X : m_in G C RX4 cX4_waitFor 3 (some .int) "waitFor" 7 172 n0 s0) (M : Mem) (la0 : Nat) (sx0 : Int32) (hw : wp_X4_waitFor_b103 G.2 M la0 sx0 Q) : pW G C 3 n0 s0 M0 (m_Q G C n0 s0 (va_Qi (m_q1 M0 Q) (m_W G) (m_A G))) M 103 [(0, vR (some la0))] [vI sx0] := by
  refine pw_istore_n X [(0, vR (some la0)), (2, vI sx0)] [1, 0] dX4_waitFor_103 rfl (by decide) rfl ?_
  refine pw_aload_n X dX4_waitFor_104 rfl rfl ?_
  obtain ⟨ht1, hw⟩ := hw
  obtain ⟨u2, he3, hw⟩ := hw
  refine pw_get X (q := (RX4, TX4, tyX4, 15)) (ci := 4) (k := 5) (ref := "PatrolDeskModel") (vR (some u2)) ht1 rfl (by decide) in_X4 q1951 (Or.inl rfl) (by rw [he3]; rfl) dX4_waitFor_105 ?_
  refine pw_iconst X 0 dX4_waitFor_108 (by decide) ?_
  refine pw_aload_n X dX4_waitFor_109 rfl rfl ?_
  obtain ⟨u4, he5, hw⟩ := hw
  refine pw_get X (q := (RX4, TX4, tyX4, 15)) (ci := 4) (k := 0) (ref := "PatrolDeskModel") (vR (some u4)) ht1 rfl (by decide) in_X4 q1946 (Or.inl rfl) (by rw [he5]; rfl) dX4_waitFor_110 ?_
  refine pw_iconst X 0 dX4_waitFor_113 (by decide) ?_
  refine pw_runv X (m_cS X (met_X4_copies G C.2.1 M u2 0 u4 0 _ hw) (lw_S q2006 q2007 q107 q2008) nh_X4_copies ⟨Nat.le_of_ble_eq_true rfl, Nat.le_of_ble_eq_true rfl⟩ rfl (Nat.le_of_ble_eq_true rfl) dX4_waitFor_114) (fun M6 hle7 hx => ?_)
  replace hw := hx hle7
  clear hx
  have ht8 : m_tg M6 la0 = 5 := m_le_tg hle7 ht1
  refine pw_iload_n X dX4_waitFor_117 rfl rfl ?_
  exact pw_iret X hw dX4_waitFor_118
theorem bk_X4_waitFor_79 (G : Gp) (C : m_Cx) (n0 s0 : Nat) (M0 : Mem) (Q : Int32 → Mem → Prop) (X : m_in G C RX4 cX4_waitFor 3 (some .int) "waitFor" 7 172 n0 s0) (M : Mem) (la0 : Nat) (lx1 : Int32) (hw : wp_X4_waitFor_b79 G.2 M la0 lx1 Q) : pW G C 3 n0 s0 M0 (m_Q G C n0 s0 (va_Qi (m_q1 M0 Q) (m_W G) (m_A G))) M 79 [(0, vR (some la0)), (1, vI lx1)] [] := by
  refine pw_aload_n X dX4_waitFor_79 rfl rfl ?_
  refine pw_iload_n X dX4_waitFor_80 rfl rfl ?_
  refine pw_bipush X 8 dX4_waitFor_81 (by decide) ?_
  obtain ⟨ht1, hw⟩ := hw
  refine pw_runi X (m_cV X (b := la0) (ci := 4) (q := (RX4, TX4, tyX4, 15)) (met_X4_ofCall G C.2.1 M la0 lx1 8 _ hw) ht1 rfl (lw_V q2053 q2055 qs44 q107 q2056) ⟨rfl, nh_X4_ofCall⟩ ⟨Nat.le_of_ble_eq_true rfl, Nat.le_of_ble_eq_true rfl⟩ rfl (Nat.le_of_ble_eq_true rfl) dX4_waitFor_83) (fun r4 M2 hle3 hx => ?_)
  replace hw := hx hle3
  clear hx
  have ht5 : m_tg M2 la0 = 5 := m_le_tg hle3 ht1
  refine pw_bipush X (-5) dX4_waitFor_86 (by decide) ?_
  refine pw_icmp_ne X 96 dX4_waitFor_88 (by decide) (fun c6 => ?_) (fun c6 => ?_)
  · replace hw := hw.1 c6
    refine pw_aload_n X dX4_waitFor_96 rfl rfl ?_
    refine pw_iload_n X dX4_waitFor_97 rfl rfl ?_
    refine pw_bipush X 7 dX4_waitFor_98 (by decide) ?_
    refine pw_runi X (m_cV X (b := la0) (ci := 4) (q := (RX4, TX4, tyX4, 15)) (met_X4_ofCall G C.2.1 M2 la0 lx1 7 _ hw) ht5 rfl (lw_V q2053 q2055 qs44 q107 q2056) ⟨rfl, nh_X4_ofCall⟩ ⟨Nat.le_of_ble_eq_true rfl, Nat.le_of_ble_eq_true rfl⟩ rfl (Nat.le_of_ble_eq_true rfl) dX4_waitFor_100) (fun r9 M7 hle8 hx => ?_)
    replace hw := hx hle8
    clear hx
    have ht10 : m_tg M7 la0 = 5 := m_le_tg hle8 ht5
    refine pw_lo [0] rfl ?_
    exact bk_X4_waitFor_103 G C n0 s0 M0 Q X _ la0 r9 hw
  · replace hw := hw.2 c6
    refine pw_bipush X (-5) dX4_waitFor_91 (by decide) ?_
    refine pw_goto X 103 dX4_waitFor_93 (by decide) ?_
    refine pw_lo [0] rfl ?_
    exact bk_X4_waitFor_103 G C n0 s0 M0 Q X _ la0 (-5) hw
theorem bk_X4_waitFor_38 (G : Gp) (C : m_Cx) (n0 s0 : Nat) (M0 : Mem) (Q : Int32 → Mem → Prop) (X : m_in G C RX4 cX4_waitFor 3 (some .int) "waitFor" 7 172 n0 s0) : ∀ (n : Nat) (M : Mem) (la0 : Nat) (lx1 : Int32) (lx2 : Int32) (hw : wp_X4_waitFor_b38 G.2 Q n M la0 lx1 lx2), pW G C 3 n0 s0 M0 (m_Q G C n0 s0 (va_Qi (m_q1 M0 Q) (m_W G) (m_A G))) M 38 [(0, vR (some la0)), (1, vI lx1), (2, vI lx2)] [] := by
  intro n
  induction n with
  | zero => intro M la0 lx1 lx2 hw; exact hw.elim
  | succ n ih =>
    intro M la0 lx1 lx2 hw
    refine pw_iload_n X dX4_waitFor_38 rfl rfl ?_
    refine pw_sipush X 240 dX4_waitFor_39 (by decide) ?_
    refine pw_icmp_ge X 79 dX4_waitFor_42 (by decide) (fun c1 => ?_) (fun c1 => ?_)
    · replace hw := hw.1 c1
      refine pw_lo [0, 1] rfl ?_
      exact bk_X4_waitFor_79 G C n0 s0 M0 Q X _ la0 lx1 hw
    · replace hw := hw.2 c1
      refine pw_aload_n X dX4_waitFor_45 rfl rfl ?_
      obtain ⟨ht2, hw⟩ := hw
      obtain ⟨u3, he4, hw⟩ := hw
      refine pw_get X (q := (RX4, TX4, tyX4, 15)) (ci := 4) (k := 0) (ref := "PatrolDeskModel") (vR (some u3)) ht2 rfl (by decide) in_X4 q1946 (Or.inl rfl) (by rw [he4]; rfl) dX4_waitFor_46 ?_
      refine pw_iconst X 0 dX4_waitFor_49 (by decide) ?_
      obtain ⟨ht5, hw⟩ := hw
      obtain ⟨hi6, hw⟩ := hw
      refine pw_iald X ht5 hi6 dX4_waitFor_50 ?_
      refine pw_sipush X 2880 dX4_waitFor_51 (by decide) ?_
      refine pw_icmp_ge X 79 dX4_waitFor_54 (by decide) (fun c7 => ?_) (fun c7 => ?_)
      · replace hw := hw.1 c7
        refine pw_lo [0, 1] rfl ?_
        exact bk_X4_waitFor_79 G C n0 s0 M0 Q X _ la0 lx1 hw
      · replace hw := hw.2 c7
        refine pw_aload_n X dX4_waitFor_57 rfl rfl ?_
        refine pw_iload_n X dX4_waitFor_58 rfl rfl ?_
        refine pw_bipush X 8 dX4_waitFor_59 (by decide) ?_
        refine pw_runi X (m_cV X (b := la0) (ci := 4) (q := (RX4, TX4, tyX4, 15)) (met_X4_ofCall G C.2.1 M la0 lx1 8 _ hw) ht2 rfl (lw_V q2053 q2055 qs44 q107 q2056) ⟨rfl, nh_X4_ofCall⟩ ⟨Nat.le_of_ble_eq_true rfl, Nat.le_of_ble_eq_true rfl⟩ rfl (Nat.le_of_ble_eq_true rfl) dX4_waitFor_61) (fun r10 M8 hle9 hx => ?_)
        replace hw := hx hle9
        clear hx
        have ht11 : m_tg M8 la0 = 5 := m_le_tg hle9 ht2
        have ht12 : m_tg M8 u3 = 101 := m_le_tg hle9 ht5
        refine pw_bipush X (-5) dX4_waitFor_64 (by decide) ?_
        refine pw_icmp_ne X 79 dX4_waitFor_66 (by decide) (fun c13 => ?_) (fun c13 => ?_)
        · replace hw := hw.1 c13
          refine pw_lo [0, 1] rfl ?_
          exact bk_X4_waitFor_79 G C n0 s0 M0 Q X _ la0 lx1 hw
        · replace hw := hw.2 c13
          refine pw_aload_n X dX4_waitFor_69 rfl rfl ?_
          refine pw_runv X (m_cV X (b := la0) (ci := 4) (q := (RX4, TX4, tyX4, 15)) (met_X4_passes G C.2.1 M8 la0 _ hw) ht11 rfl (lw_V q2129 q2131 qs58 q107 q2132) ⟨rfl, nh_X4_passes⟩ ⟨Nat.le_of_ble_eq_true rfl, Nat.le_of_ble_eq_true rfl⟩ rfl (Nat.le_of_ble_eq_true rfl) dX4_waitFor_70) (fun M14 hle15 hx => ?_)
          replace hw := hx hle15
          clear hx
          have ht16 : m_tg M14 la0 = 5 := m_le_tg hle15 ht11
          have ht17 : m_tg M14 u3 = 101 := m_le_tg hle15 ht12
          refine pw_iinc X (lx2 + 1) [(0, vR (some la0)), (1, vI lx1), (2, vI (lx2 + 1))] [1, 2, 0] dX4_waitFor_73 rfl (by first | rfl | decide) (by decide) rfl ?_
          refine pw_goto X 38 dX4_waitFor_76 (by decide) ?_
          exact ih _ la0 lx1 (lx2 + 1) hw
theorem bk_X4_waitFor_0 (G : Gp) (C : m_Cx) (n0 s0 : Nat) (M0 : Mem) (Q : Int32 → Mem → Prop) (X : m_in G C RX4 cX4_waitFor 3 (some .int) "waitFor" 7 172 n0 s0) (M : Mem) (a0 : Nat) (x1 : Int32) (hw : wp_X4_waitFor G.2 M a0 x1 Q) : pW G C 3 n0 s0 M0 (m_Q G C n0 s0 (va_Qi (m_q1 M0 Q) (m_W G) (m_A G))) M 0 [(0, vR (some a0)), (1, vI x1)] [] := by
  refine pw_aload_n X dX4_waitFor_0 rfl rfl ?_
  refine pw_iload_n X dX4_waitFor_1 rfl rfl ?_
  obtain ⟨ht1, hw⟩ := hw
  refine pw_runi X (m_cV X (b := a0) (ci := 4) (q := (RX4, TX4, tyX4, 15)) (met_X4_isCall G C.2.1 M a0 x1 _ hw) ht1 rfl (lw_V q2081 q2083 qs50 q107 q2084) ⟨rfl, nh_X4_isCall⟩ ⟨Nat.le_of_ble_eq_true rfl, Nat.le_of_ble_eq_true rfl⟩ rfl (Nat.le_of_ble_eq_true rfl) dX4_waitFor_2) (fun r4 M2 hle3 hx => ?_)
  replace hw := hx hle3
  clear hx
  have ht5 : m_tg M2 a0 = 5 := m_le_tg hle3 ht1
  refine pw_if_ne X 10 dX4_waitFor_5 (by decide) (fun c6 => ?_) (fun c6 => ?_)
  · replace hw := hw.1 c6
    refine pw_aload_n X dX4_waitFor_10 rfl rfl ?_
    refine pw_iload_n X dX4_waitFor_11 rfl rfl ?_
    refine pw_iconst X 5 dX4_waitFor_12 (by decide) ?_
    refine pw_runi X (m_cV X (b := a0) (ci := 4) (q := (RX4, TX4, tyX4, 15)) (met_X4_ofCall G C.2.1 M2 a0 x1 5 _ hw) ht5 rfl (lw_V q2053 q2055 qs44 q107 q2056) ⟨rfl, nh_X4_ofCall⟩ ⟨Nat.le_of_ble_eq_true rfl, Nat.le_of_ble_eq_true rfl⟩ rfl (Nat.le_of_ble_eq_true rfl) dX4_waitFor_13) (fun r9 M7 hle8 hx => ?_)
    replace hw := hx hle8
    clear hx
    have ht10 : m_tg M7 a0 = 5 := m_le_tg hle8 ht5
    refine pw_iconst X 1 dX4_waitFor_16 (by decide) ?_
    refine pw_icmp_le X 23 dX4_waitFor_17 (by decide) (fun c11 => ?_) (fun c11 => ?_)
    · replace hw := hw.1 c11
      refine pw_aload_n X dX4_waitFor_23 rfl rfl ?_
      obtain ⟨u12, he13, hw⟩ := hw
      refine pw_get X (q := (RX4, TX4, tyX4, 15)) (ci := 4) (k := 0) (ref := "PatrolDeskModel") (vR (some u12)) ht10 rfl (by decide) in_X4 q1946 (Or.inl rfl) (by rw [he13]; rfl) dX4_waitFor_24 ?_
      refine pw_iconst X 0 dX4_waitFor_27 (by decide) ?_
      refine pw_aload_n X dX4_waitFor_28 rfl rfl ?_
      obtain ⟨u14, he15, hw⟩ := hw
      refine pw_get X (q := (RX4, TX4, tyX4, 15)) (ci := 4) (k := 5) (ref := "PatrolDeskModel") (vR (some u14)) ht10 rfl (by decide) in_X4 q1951 (Or.inl rfl) (by rw [he15]; rfl) dX4_waitFor_29 ?_
      refine pw_iconst X 0 dX4_waitFor_32 (by decide) ?_
      refine pw_runv X (m_cS X (met_X4_copies G C.2.1 M7 u12 0 u14 0 _ hw) (lw_S q2006 q2007 q107 q2008) nh_X4_copies ⟨Nat.le_of_ble_eq_true rfl, Nat.le_of_ble_eq_true rfl⟩ rfl (Nat.le_of_ble_eq_true rfl) dX4_waitFor_33) (fun M16 hle17 hx => ?_)
      replace hw := hx hle17
      clear hx
      have ht18 : m_tg M16 a0 = 5 := m_le_tg hle17 ht10
      refine pw_iconst X 0 dX4_waitFor_36 (by decide) ?_
      refine pw_istore_n X [(0, vR (some a0)), (1, vI x1), (2, vI 0)] [1, 2, 0] dX4_waitFor_37 rfl (by decide) rfl ?_
      obtain ⟨n38, hw⟩ := hw
      exact bk_X4_waitFor_38 G C n0 s0 M0 Q X n38 _ a0 x1 0 hw
    · replace hw := hw.2 c11
      refine pw_bipush X (-4) dX4_waitFor_20 (by decide) ?_
      exact pw_iret X hw dX4_waitFor_22
  · replace hw := hw.2 c6
    refine pw_iconst X (-1) dX4_waitFor_8 (by decide) ?_
    exact pw_iret X hw dX4_waitFor_9
theorem met_X4_waitFor (G : Gp) (l : Launch) (M : Mem) (a0 : Nat) (x1 : Int32) (Q : Int32 → Mem → Prop) (hw : wp_X4_waitFor G.2 M a0 x1 Q) : m_K G l yX4_waitFor cX4_waitFor 3 (some .int) 7 172 [vR (some a0), vI x1] M (va_Qi (m_q1 M Q) (m_W G) (m_A G)) := by
  refine m_met (by decide) (Nat.le_of_ble_eq_true rfl) (fun C e X => ?_)
  exact bk_X4_waitFor_0 G C _ _ M Q X M a0 x1 hw
theorem nh_X4_waitFor : m_nMH yX4_waitFor 1 := by decide +kernel

def wp_X4_count_b45 (g : Nat → Nat) (Q : Int32 → Mem → Prop) : Nat → Mem → Nat → Int32 → Int32 → Int32 → Prop
  | 0 => fun _ _ _ _ _ => False
  | n + 1 => fun M la0 lx1 lx2 lx3 => m_tg M la0 = 5 ∧ ∃ u2 : Nat, (m_gr M la0 0) = some u2 ∧ m_tg M u2 = 101 ∧ vp_in 9 (m_ln M u2) ∧ (((m_gi M u2 (Int32.toNatClampNeg 9)) ≤ lx3 → ((lx1 = 0 → ∃ u8 : Nat, (m_gr M la0 0) = some u8 ∧ m_tg M u8 = 101 ∧ vp_in lx1 (m_ln M u8) ∧ Q (m_gi M u8 (Int32.toNatClampNeg lx1)) M) ∧ (¬ lx1 = 0 → ((lx1 = 1 → ∃ u13 : Nat, (m_gr M la0 0) = some u13 ∧ m_tg M u13 = 101 ∧ vp_in lx1 (m_ln M u13) ∧ Q (m_gi M u13 (Int32.toNatClampNeg lx1)) M) ∧ (¬ lx1 = 1 → ((lx1 = 2 → Q (-2) M) ∧ (¬ lx1 = 2 → ((lx1 = 3 → Q (-2) M) ∧ (¬ lx1 = 3 → ((lx1 = 4 → Q (-2) M) ∧ (¬ lx1 = 4 → ((lx1 = 5 → Q (-2) M) ∧ (¬ lx1 = 5 → ((lx1 = 6 → Q (-2) M) ∧ (¬ lx1 = 6 → ((lx1 = 7 → Q (-2) M) ∧ (¬ lx1 = 7 → ((lx1 = 8 → Q (-2) M) ∧ (¬ lx1 = 8 → ((lx1 = 9 → Q (-2) M) ∧ (¬ lx1 = 9 → ((lx1 = 10 → Q (-2) M) ∧ (¬ lx1 = 10 → ((lx1 = 11 → Q (-2) M) ∧ (¬ lx1 = 11 → ((lx1 = 12 → Q (-2) M) ∧ (¬ lx1 = 12 → ((lx1 = 13 → Q (-2) M) ∧ (¬ lx1 = 13 → ((lx1 = 14 → Q (-2) M) ∧ (¬ lx1 = 14 → ((lx1 = 15 → Q lx2 M) ∧ (¬ lx1 = 15 → ((lx1 = 16 → ∃ u32 : Nat, (m_gr M la0 0) = some u32 ∧ m_tg M u32 = 101 ∧ vp_in ((10 + lx1) - 16) (m_ln M u32) ∧ Q (m_gi M u32 (Int32.toNatClampNeg ((10 + lx1) - 16))) M) ∧ (¬ lx1 = 16 → ((lx1 = 17 → ∃ u37 : Nat, (m_gr M la0 0) = some u37 ∧ m_tg M u37 = 101 ∧ vp_in ((10 + lx1) - 16) (m_ln M u37) ∧ Q (m_gi M u37 (Int32.toNatClampNeg ((10 + lx1) - 16))) M) ∧ (¬ lx1 = 17 → ((lx1 = 18 → ∃ u42 : Nat, (m_gr M la0 0) = some u42 ∧ m_tg M u42 = 101 ∧ vp_in ((10 + lx1) - 16) (m_ln M u42) ∧ Q (m_gi M u42 (Int32.toNatClampNeg ((10 + lx1) - 16))) M) ∧ (¬ lx1 = 18 → ((lx1 = 19 → ∃ u47 : Nat, (m_gr M la0 0) = some u47 ∧ m_tg M u47 = 101 ∧ vp_in ((2 + lx1) - 19) (m_ln M u47) ∧ Q (m_gi M u47 (Int32.toNatClampNeg ((2 + lx1) - 19))) M) ∧ (¬ lx1 = 19 → ((lx1 = 20 → ∃ u52 : Nat, (m_gr M la0 0) = some u52 ∧ m_tg M u52 = 101 ∧ vp_in ((2 + lx1) - 19) (m_ln M u52) ∧ Q (m_gi M u52 (Int32.toNatClampNeg ((2 + lx1) - 19))) M) ∧ (¬ lx1 = 20 → ((lx1 = 21 → ∃ u57 : Nat, (m_gr M la0 0) = some u57 ∧ m_tg M u57 = 101 ∧ vp_in ((2 + lx1) - 19) (m_ln M u57) ∧ Q (m_gi M u57 (Int32.toNatClampNeg ((2 + lx1) - 19))) M) ∧ (¬ lx1 = 21 → ((lx1 = 22 → wp_X4_onDuty g M la0 (fun (r64 : Int32) (M62 : Mem) => m_le M M62 → Q r64 M62)) ∧ (¬ lx1 = 22 → ((lx1 = 23 → Q (m_gi M la0 2) M) ∧ (¬ lx1 = 23 → ((lx1 = 24 → Q (m_gi M la0 7) M) ∧ (¬ lx1 = 24 → Q (-2) M))))))))))))))))))))))))))))))))))))))))))))))))))) ∧ (¬ (m_gi M u2 (Int32.toNatClampNeg 9)) ≤ lx3 → wp_X4_waitedOf g M la0 lx3 (fun (r71 : Int32) (M69 : Mem) => m_le M M69 → wp_X4_count_b45 g Q n M69 la0 lx1 (lx2 + r71) (lx3 + 1))))
def wp_X4_count (g : Nat → Nat) (M : Mem) (a0 : Nat) (x1 : Int32) (Q : Int32 → Mem → Prop) : Prop := wp_X4_in g M x1 2 6 (fun (r3 : Int32) (M1 : Mem) => m_le M M1 → ((r3 = 0 → wp_X4_in g M1 x1 7 14 (fun (r7 : Int32) (M5 : Mem) => m_le M1 M5 → ((r7 = 0 → ∃ j45 : Nat, wp_X4_count_b45 g Q j45 M5 a0 x1 0 0) ∧ (¬ r7 = 0 → m_tg M5 a0 = 5 ∧ wp_X4_manyIn g M5 a0 (x1 - 7) (fun (r12 : Int32) (M10 : Mem) => m_le M5 M10 → Q r12 M10))))) ∧ (¬ r3 = 0 → m_tg M1 a0 = 5 ∧ ∃ u15 : Nat, (m_gr M1 a0 0) = some u15 ∧ m_tg M1 u15 = 101 ∧ vp_in ((5 + x1) - 2) (m_ln M1 u15) ∧ Q (m_gi M1 u15 (Int32.toNatClampNeg ((5 + x1) - 2))) M1)))
theorem bk_X4_count_45 (G : Gp) (C : m_Cx) (n0 s0 : Nat) (M0 : Mem) (Q : Int32 → Mem → Prop) (X : m_in G C RX4 cX4_count 4 (some .int) "count" 2 45 n0 s0) : ∀ (n : Nat) (M : Mem) (la0 : Nat) (lx1 : Int32) (lx2 : Int32) (lx3 : Int32) (hw : wp_X4_count_b45 G.2 Q n M la0 lx1 lx2 lx3), pW G C 4 n0 s0 M0 (m_Q G C n0 s0 (va_Qi (m_q1 M0 Q) (m_W G) (m_A G))) M 45 [(0, vR (some la0)), (1, vI lx1), (2, vI lx2), (3, vI lx3)] [] := by
  intro n
  induction n with
  | zero => intro M la0 lx1 lx2 lx3 hw; exact hw.elim
  | succ n ih =>
    intro M la0 lx1 lx2 lx3 hw
    refine pw_iload_n X dX4_count_45 rfl rfl ?_
    refine pw_aload_n X dX4_count_46 rfl rfl ?_
    obtain ⟨ht1, hw⟩ := hw
    obtain ⟨u2, he3, hw⟩ := hw
    refine pw_get X (q := (RX4, TX4, tyX4, 15)) (ci := 4) (k := 0) (ref := "PatrolDeskModel") (vR (some u2)) ht1 rfl (by decide) in_X4 q1946 (Or.inl rfl) (by rw [he3]; rfl) dX4_count_47 ?_
    refine pw_bipush X 9 dX4_count_50 (by decide) ?_
    obtain ⟨ht4, hw⟩ := hw
    obtain ⟨hi5, hw⟩ := hw
    refine pw_iald X ht4 hi5 dX4_count_52 ?_
    refine pw_icmp_ge X 70 dX4_count_53 (by decide) (fun c6 => ?_) (fun c6 => ?_)
    · replace hw := hw.1 c6
      refine pw_iload_n X dX4_count_70 rfl rfl ?_
      by_cases c7 : lx1 = 0
      · replace hw := hw.1 c7
        refine pw_tableIn X 0 184 dX4_count_71 c7 (by decide) (by decide) rfl (by decide) ?_
        refine pw_aload_n X dX4_count_184 rfl rfl ?_
        obtain ⟨u8, he9, hw⟩ := hw
        refine pw_get X (q := (RX4, TX4, tyX4, 15)) (ci := 4) (k := 0) (ref := "PatrolDeskModel") (vR (some u8)) ht1 rfl (by decide) in_X4 q1946 (Or.inl rfl) (by rw [he9]; rfl) dX4_count_185 ?_
        refine pw_iload_n X dX4_count_188 rfl rfl ?_
        obtain ⟨ht10, hw⟩ := hw
        obtain ⟨hi11, hw⟩ := hw
        refine pw_iald X ht10 hi11 dX4_count_189 ?_
        exact pw_iret X hw dX4_count_190
      replace hw := hw.2 c7
      by_cases c12 : lx1 = 1
      · replace hw := hw.1 c12
        refine pw_tableIn X 1 184 dX4_count_71 c12 (by decide) (by decide) rfl (by decide) ?_
        refine pw_aload_n X dX4_count_184 rfl rfl ?_
        obtain ⟨u13, he14, hw⟩ := hw
        refine pw_get X (q := (RX4, TX4, tyX4, 15)) (ci := 4) (k := 0) (ref := "PatrolDeskModel") (vR (some u13)) ht1 rfl (by decide) in_X4 q1946 (Or.inl rfl) (by rw [he14]; rfl) dX4_count_185 ?_
        refine pw_iload_n X dX4_count_188 rfl rfl ?_
        obtain ⟨ht15, hw⟩ := hw
        obtain ⟨hi16, hw⟩ := hw
        refine pw_iald X ht15 hi16 dX4_count_189 ?_
        exact pw_iret X hw dX4_count_190
      replace hw := hw.2 c12
      by_cases c17 : lx1 = 2
      · replace hw := hw.1 c17
        refine pw_tableIn X 2 233 dX4_count_71 c17 (by decide) (by decide) rfl (by decide) ?_
        refine pw_bipush X (-2) dX4_count_233 (by decide) ?_
        exact pw_iret X hw dX4_count_235
      replace hw := hw.2 c17
      by_cases c18 : lx1 = 3
      · replace hw := hw.1 c18
        refine pw_tableIn X 3 233 dX4_count_71 c18 (by decide) (by decide) rfl (by decide) ?_
        refine pw_bipush X (-2) dX4_count_233 (by decide) ?_
        exact pw_iret X hw dX4_count_235
      replace hw := hw.2 c18
      by_cases c19 : lx1 = 4
      · replace hw := hw.1 c19
        refine pw_tableIn X 4 233 dX4_count_71 c19 (by decide) (by decide) rfl (by decide) ?_
        refine pw_bipush X (-2) dX4_count_233 (by decide) ?_
        exact pw_iret X hw dX4_count_235
      replace hw := hw.2 c19
      by_cases c20 : lx1 = 5
      · replace hw := hw.1 c20
        refine pw_tableIn X 5 233 dX4_count_71 c20 (by decide) (by decide) rfl (by decide) ?_
        refine pw_bipush X (-2) dX4_count_233 (by decide) ?_
        exact pw_iret X hw dX4_count_235
      replace hw := hw.2 c20
      by_cases c21 : lx1 = 6
      · replace hw := hw.1 c21
        refine pw_tableIn X 6 233 dX4_count_71 c21 (by decide) (by decide) rfl (by decide) ?_
        refine pw_bipush X (-2) dX4_count_233 (by decide) ?_
        exact pw_iret X hw dX4_count_235
      replace hw := hw.2 c21
      by_cases c22 : lx1 = 7
      · replace hw := hw.1 c22
        refine pw_tableIn X 7 233 dX4_count_71 c22 (by decide) (by decide) rfl (by decide) ?_
        refine pw_bipush X (-2) dX4_count_233 (by decide) ?_
        exact pw_iret X hw dX4_count_235
      replace hw := hw.2 c22
      by_cases c23 : lx1 = 8
      · replace hw := hw.1 c23
        refine pw_tableIn X 8 233 dX4_count_71 c23 (by decide) (by decide) rfl (by decide) ?_
        refine pw_bipush X (-2) dX4_count_233 (by decide) ?_
        exact pw_iret X hw dX4_count_235
      replace hw := hw.2 c23
      by_cases c24 : lx1 = 9
      · replace hw := hw.1 c24
        refine pw_tableIn X 9 233 dX4_count_71 c24 (by decide) (by decide) rfl (by decide) ?_
        refine pw_bipush X (-2) dX4_count_233 (by decide) ?_
        exact pw_iret X hw dX4_count_235
      replace hw := hw.2 c24
      by_cases c25 : lx1 = 10
      · replace hw := hw.1 c25
        refine pw_tableIn X 10 233 dX4_count_71 c25 (by decide) (by decide) rfl (by decide) ?_
        refine pw_bipush X (-2) dX4_count_233 (by decide) ?_
        exact pw_iret X hw dX4_count_235
      replace hw := hw.2 c25
      by_cases c26 : lx1 = 11
      · replace hw := hw.1 c26
        refine pw_tableIn X 11 233 dX4_count_71 c26 (by decide) (by decide) rfl (by decide) ?_
        refine pw_bipush X (-2) dX4_count_233 (by decide) ?_
        exact pw_iret X hw dX4_count_235
      replace hw := hw.2 c26
      by_cases c27 : lx1 = 12
      · replace hw := hw.1 c27
        refine pw_tableIn X 12 233 dX4_count_71 c27 (by decide) (by decide) rfl (by decide) ?_
        refine pw_bipush X (-2) dX4_count_233 (by decide) ?_
        exact pw_iret X hw dX4_count_235
      replace hw := hw.2 c27
      by_cases c28 : lx1 = 13
      · replace hw := hw.1 c28
        refine pw_tableIn X 13 233 dX4_count_71 c28 (by decide) (by decide) rfl (by decide) ?_
        refine pw_bipush X (-2) dX4_count_233 (by decide) ?_
        exact pw_iret X hw dX4_count_235
      replace hw := hw.2 c28
      by_cases c29 : lx1 = 14
      · replace hw := hw.1 c29
        refine pw_tableIn X 14 233 dX4_count_71 c29 (by decide) (by decide) rfl (by decide) ?_
        refine pw_bipush X (-2) dX4_count_233 (by decide) ?_
        exact pw_iret X hw dX4_count_235
      replace hw := hw.2 c29
      by_cases c30 : lx1 = 15
      · replace hw := hw.1 c30
        refine pw_tableIn X 15 191 dX4_count_71 c30 (by decide) (by decide) rfl (by decide) ?_
        refine pw_iload_n X dX4_count_191 rfl rfl ?_
        exact pw_iret X hw dX4_count_192
      replace hw := hw.2 c30
      by_cases c31 : lx1 = 16
      · replace hw := hw.1 c31
        refine pw_tableIn X 16 193 dX4_count_71 c31 (by decide) (by decide) rfl (by decide) ?_
        refine pw_aload_n X dX4_count_193 rfl rfl ?_
        obtain ⟨u32, he33, hw⟩ := hw
        refine pw_get X (q := (RX4, TX4, tyX4, 15)) (ci := 4) (k := 0) (ref := "PatrolDeskModel") (vR (some u32)) ht1 rfl (by decide) in_X4 q1946 (Or.inl rfl) (by rw [he33]; rfl) dX4_count_194 ?_
        refine pw_bipush X 10 dX4_count_197 (by decide) ?_
        refine pw_iload_n X dX4_count_199 rfl rfl ?_
        refine pw_iadd X dX4_count_200 ?_
        refine pw_bipush X 16 dX4_count_201 (by decide) ?_
        refine pw_isub X dX4_count_203 ?_
        obtain ⟨ht34, hw⟩ := hw
        obtain ⟨hi35, hw⟩ := hw
        refine pw_iald X ht34 hi35 dX4_count_204 ?_
        exact pw_iret X hw dX4_count_205
      replace hw := hw.2 c31
      by_cases c36 : lx1 = 17
      · replace hw := hw.1 c36
        refine pw_tableIn X 17 193 dX4_count_71 c36 (by decide) (by decide) rfl (by decide) ?_
        refine pw_aload_n X dX4_count_193 rfl rfl ?_
        obtain ⟨u37, he38, hw⟩ := hw
        refine pw_get X (q := (RX4, TX4, tyX4, 15)) (ci := 4) (k := 0) (ref := "PatrolDeskModel") (vR (some u37)) ht1 rfl (by decide) in_X4 q1946 (Or.inl rfl) (by rw [he38]; rfl) dX4_count_194 ?_
        refine pw_bipush X 10 dX4_count_197 (by decide) ?_
        refine pw_iload_n X dX4_count_199 rfl rfl ?_
        refine pw_iadd X dX4_count_200 ?_
        refine pw_bipush X 16 dX4_count_201 (by decide) ?_
        refine pw_isub X dX4_count_203 ?_
        obtain ⟨ht39, hw⟩ := hw
        obtain ⟨hi40, hw⟩ := hw
        refine pw_iald X ht39 hi40 dX4_count_204 ?_
        exact pw_iret X hw dX4_count_205
      replace hw := hw.2 c36
      by_cases c41 : lx1 = 18
      · replace hw := hw.1 c41
        refine pw_tableIn X 18 193 dX4_count_71 c41 (by decide) (by decide) rfl (by decide) ?_
        refine pw_aload_n X dX4_count_193 rfl rfl ?_
        obtain ⟨u42, he43, hw⟩ := hw
        refine pw_get X (q := (RX4, TX4, tyX4, 15)) (ci := 4) (k := 0) (ref := "PatrolDeskModel") (vR (some u42)) ht1 rfl (by decide) in_X4 q1946 (Or.inl rfl) (by rw [he43]; rfl) dX4_count_194 ?_
        refine pw_bipush X 10 dX4_count_197 (by decide) ?_
        refine pw_iload_n X dX4_count_199 rfl rfl ?_
        refine pw_iadd X dX4_count_200 ?_
        refine pw_bipush X 16 dX4_count_201 (by decide) ?_
        refine pw_isub X dX4_count_203 ?_
        obtain ⟨ht44, hw⟩ := hw
        obtain ⟨hi45, hw⟩ := hw
        refine pw_iald X ht44 hi45 dX4_count_204 ?_
        exact pw_iret X hw dX4_count_205
      replace hw := hw.2 c41
      by_cases c46 : lx1 = 19
      · replace hw := hw.1 c46
        refine pw_tableIn X 19 206 dX4_count_71 c46 (by decide) (by decide) rfl (by decide) ?_
        refine pw_aload_n X dX4_count_206 rfl rfl ?_
        obtain ⟨u47, he48, hw⟩ := hw
        refine pw_get X (q := (RX4, TX4, tyX4, 15)) (ci := 4) (k := 0) (ref := "PatrolDeskModel") (vR (some u47)) ht1 rfl (by decide) in_X4 q1946 (Or.inl rfl) (by rw [he48]; rfl) dX4_count_207 ?_
        refine pw_iconst X 2 dX4_count_210 (by decide) ?_
        refine pw_iload_n X dX4_count_211 rfl rfl ?_
        refine pw_iadd X dX4_count_212 ?_
        refine pw_bipush X 19 dX4_count_213 (by decide) ?_
        refine pw_isub X dX4_count_215 ?_
        obtain ⟨ht49, hw⟩ := hw
        obtain ⟨hi50, hw⟩ := hw
        refine pw_iald X ht49 hi50 dX4_count_216 ?_
        exact pw_iret X hw dX4_count_217
      replace hw := hw.2 c46
      by_cases c51 : lx1 = 20
      · replace hw := hw.1 c51
        refine pw_tableIn X 20 206 dX4_count_71 c51 (by decide) (by decide) rfl (by decide) ?_
        refine pw_aload_n X dX4_count_206 rfl rfl ?_
        obtain ⟨u52, he53, hw⟩ := hw
        refine pw_get X (q := (RX4, TX4, tyX4, 15)) (ci := 4) (k := 0) (ref := "PatrolDeskModel") (vR (some u52)) ht1 rfl (by decide) in_X4 q1946 (Or.inl rfl) (by rw [he53]; rfl) dX4_count_207 ?_
        refine pw_iconst X 2 dX4_count_210 (by decide) ?_
        refine pw_iload_n X dX4_count_211 rfl rfl ?_
        refine pw_iadd X dX4_count_212 ?_
        refine pw_bipush X 19 dX4_count_213 (by decide) ?_
        refine pw_isub X dX4_count_215 ?_
        obtain ⟨ht54, hw⟩ := hw
        obtain ⟨hi55, hw⟩ := hw
        refine pw_iald X ht54 hi55 dX4_count_216 ?_
        exact pw_iret X hw dX4_count_217
      replace hw := hw.2 c51
      by_cases c56 : lx1 = 21
      · replace hw := hw.1 c56
        refine pw_tableIn X 21 206 dX4_count_71 c56 (by decide) (by decide) rfl (by decide) ?_
        refine pw_aload_n X dX4_count_206 rfl rfl ?_
        obtain ⟨u57, he58, hw⟩ := hw
        refine pw_get X (q := (RX4, TX4, tyX4, 15)) (ci := 4) (k := 0) (ref := "PatrolDeskModel") (vR (some u57)) ht1 rfl (by decide) in_X4 q1946 (Or.inl rfl) (by rw [he58]; rfl) dX4_count_207 ?_
        refine pw_iconst X 2 dX4_count_210 (by decide) ?_
        refine pw_iload_n X dX4_count_211 rfl rfl ?_
        refine pw_iadd X dX4_count_212 ?_
        refine pw_bipush X 19 dX4_count_213 (by decide) ?_
        refine pw_isub X dX4_count_215 ?_
        obtain ⟨ht59, hw⟩ := hw
        obtain ⟨hi60, hw⟩ := hw
        refine pw_iald X ht59 hi60 dX4_count_216 ?_
        exact pw_iret X hw dX4_count_217
      replace hw := hw.2 c56
      by_cases c61 : lx1 = 22
      · replace hw := hw.1 c61
        refine pw_tableIn X 22 218 dX4_count_71 c61 (by decide) (by decide) rfl (by decide) ?_
        refine pw_aload_n X dX4_count_218 rfl rfl ?_
        refine pw_runi X (m_cV X (b := la0) (ci := 4) (q := (RX4, TX4, tyX4, 15)) (met_X4_onDuty G C.2.1 M la0 _ hw) ht1 rfl (lw_V q2097 q2099 qs53 q107 q2100) ⟨rfl, nh_X4_onDuty⟩ ⟨Nat.le_of_ble_eq_true rfl, Nat.le_of_ble_eq_true rfl⟩ rfl (Nat.le_of_ble_eq_true rfl) dX4_count_219) (fun r64 M62 hle63 hx => ?_)
        replace hw := hx hle63
        clear hx
        have ht65 : m_tg M62 la0 = 5 := m_le_tg hle63 ht1
        have ht66 : m_tg M62 u2 = 101 := m_le_tg hle63 ht4
        exact pw_iret X hw dX4_count_222
      replace hw := hw.2 c61
      by_cases c67 : lx1 = 23
      · replace hw := hw.1 c67
        refine pw_tableIn X 23 223 dX4_count_71 c67 (by decide) (by decide) rfl (by decide) ?_
        refine pw_aload_n X dX4_count_223 rfl rfl ?_
        refine pw_get X (q := (RX4, TX4, tyX4, 15)) (ci := 4) (k := 2) (ref := "PatrolDeskModel") (vI (m_gi M la0 2)) ht1 rfl (by decide) in_X4 q1948 (Or.inl rfl) rfl dX4_count_224 ?_
        exact pw_iret X hw dX4_count_227
      replace hw := hw.2 c67
      by_cases c68 : lx1 = 24
      · replace hw := hw.1 c68
        refine pw_tableIn X 24 228 dX4_count_71 c68 (by decide) (by decide) rfl (by decide) ?_
        refine pw_aload_n X dX4_count_228 rfl rfl ?_
        refine pw_get X (q := (RX4, TX4, tyX4, 15)) (ci := 4) (k := 7) (ref := "PatrolDeskModel") (vI (m_gi M la0 7)) ht1 rfl (by decide) in_X4 q1953 (Or.inl rfl) rfl dX4_count_229 ?_
        exact pw_iret X hw dX4_count_232
      replace hw := hw.2 c68
      refine pw_tableOut X 233 dX4_count_71 (by have := lv_neT c7 (a := 0) (by decide); have := lv_neT c12 (a := 1) (by decide); have := lv_neT c17 (a := 2) (by decide); have := lv_neT c18 (a := 3) (by decide); have := lv_neT c19 (a := 4) (by decide); have := lv_neT c20 (a := 5) (by decide); have := lv_neT c21 (a := 6) (by decide); have := lv_neT c22 (a := 7) (by decide); have := lv_neT c23 (a := 8) (by decide); have := lv_neT c24 (a := 9) (by decide); have := lv_neT c25 (a := 10) (by decide); have := lv_neT c26 (a := 11) (by decide); have := lv_neT c27 (a := 12) (by decide); have := lv_neT c28 (a := 13) (by decide); have := lv_neT c29 (a := 14) (by decide); have := lv_neT c30 (a := 15) (by decide); have := lv_neT c31 (a := 16) (by decide); have := lv_neT c36 (a := 17) (by decide); have := lv_neT c41 (a := 18) (by decide); have := lv_neT c46 (a := 19) (by decide); have := lv_neT c51 (a := 20) (by decide); have := lv_neT c56 (a := 21) (by decide); have := lv_neT c61 (a := 22) (by decide); have := lv_neT c67 (a := 23) (by decide); have := lv_neT c68 (a := 24) (by decide); omega) (by decide) ?_
      refine pw_bipush X (-2) dX4_count_233 (by decide) ?_
      exact pw_iret X hw dX4_count_235
    · replace hw := hw.2 c6
      refine pw_iload_n X dX4_count_56 rfl rfl ?_
      refine pw_aload_n X dX4_count_57 rfl rfl ?_
      refine pw_iload_n X dX4_count_58 rfl rfl ?_
      refine pw_runi X (m_cV X (b := la0) (ci := 4) (q := (RX4, TX4, tyX4, 15)) (met_X4_waitedOf G C.2.1 M la0 lx3 _ hw) ht1 rfl (lw_V q2085 q2087 qs51 q107 q2088) ⟨rfl, nh_X4_waitedOf⟩ ⟨Nat.le_of_ble_eq_true rfl, Nat.le_of_ble_eq_true rfl⟩ rfl (Nat.le_of_ble_eq_true rfl) dX4_count_59) (fun r71 M69 hle70 hx => ?_)
      replace hw := hx hle70
      clear hx
      have ht72 : m_tg M69 la0 = 5 := m_le_tg hle70 ht1
      have ht73 : m_tg M69 u2 = 101 := m_le_tg hle70 ht4
      refine pw_iadd X dX4_count_62 ?_
      refine pw_istore_n X [(0, vR (some la0)), (1, vI lx1), (2, vI (lx2 + r71)), (3, vI lx3)] [1, 2, 0, 3] dX4_count_63 rfl (by decide) rfl ?_
      refine pw_iinc X (lx3 + 1) [(0, vR (some la0)), (1, vI lx1), (2, vI (lx2 + r71)), (3, vI (lx3 + 1))] [1, 2, 3, 0] dX4_count_64 rfl (by first | rfl | decide) (by decide) rfl ?_
      refine pw_goto X 45 dX4_count_67 (by decide) ?_
      exact ih _ la0 lx1 (lx2 + r71) (lx3 + 1) hw
theorem bk_X4_count_0 (G : Gp) (C : m_Cx) (n0 s0 : Nat) (M0 : Mem) (Q : Int32 → Mem → Prop) (X : m_in G C RX4 cX4_count 4 (some .int) "count" 2 45 n0 s0) (M : Mem) (a0 : Nat) (x1 : Int32) (hw : wp_X4_count G.2 M a0 x1 Q) : pW G C 4 n0 s0 M0 (m_Q G C n0 s0 (va_Qi (m_q1 M0 Q) (m_W G) (m_A G))) M 0 [(0, vR (some a0)), (1, vI x1)] [] := by
  refine pw_iload_n X dX4_count_0 rfl rfl ?_
  refine pw_iconst X 2 dX4_count_1 (by decide) ?_
  refine pw_bipush X 6 dX4_count_2 (by decide) ?_
  refine pw_runi X (m_cS X (met_X4_in G C.2.1 M x1 2 6 _ hw) (lw_S q1999 q2000 q107 q2001) nh_X4_in ⟨Nat.le_of_ble_eq_true rfl, Nat.le_of_ble_eq_true rfl⟩ rfl (Nat.le_of_ble_eq_true rfl) dX4_count_4) (fun r3 M1 hle2 hx => ?_)
  replace hw := hx hle2
  clear hx
  refine pw_if_eq X 21 dX4_count_7 (by decide) (fun c4 => ?_) (fun c4 => ?_)
  · replace hw := hw.1 c4
    refine pw_iload_n X dX4_count_21 rfl rfl ?_
    refine pw_bipush X 7 dX4_count_22 (by decide) ?_
    refine pw_bipush X 14 dX4_count_24 (by decide) ?_
    refine pw_runi X (m_cS X (met_X4_in G C.2.1 M1 x1 7 14 _ hw) (lw_S q1999 q2000 q107 q2001) nh_X4_in ⟨Nat.le_of_ble_eq_true rfl, Nat.le_of_ble_eq_true rfl⟩ rfl (Nat.le_of_ble_eq_true rfl) dX4_count_26) (fun r7 M5 hle6 hx => ?_)
    replace hw := hx hle6
    clear hx
    refine pw_if_eq X 41 dX4_count_29 (by decide) (fun c8 => ?_) (fun c8 => ?_)
    · replace hw := hw.1 c8
      refine pw_iconst X 0 dX4_count_41 (by decide) ?_
      refine pw_istore_n X [(0, vR (some a0)), (1, vI x1), (2, vI 0)] [1, 2, 0] dX4_count_42 rfl (by decide) rfl ?_
      refine pw_iconst X 0 dX4_count_43 (by decide) ?_
      refine pw_istore_n X [(0, vR (some a0)), (1, vI x1), (2, vI 0), (3, vI 0)] [1, 2, 3, 0] dX4_count_44 rfl (by decide) rfl ?_
      obtain ⟨n45, hw⟩ := hw
      exact bk_X4_count_45 G C n0 s0 M0 Q X n45 _ a0 x1 0 0 hw
    · replace hw := hw.2 c8
      refine pw_aload_n X dX4_count_32 rfl rfl ?_
      refine pw_iload_n X dX4_count_33 rfl rfl ?_
      refine pw_bipush X 7 dX4_count_34 (by decide) ?_
      refine pw_isub X dX4_count_36 ?_
      obtain ⟨ht9, hw⟩ := hw
      refine pw_runi X (m_cV X (b := a0) (ci := 4) (q := (RX4, TX4, tyX4, 15)) (met_X4_manyIn G C.2.1 M5 a0 (x1 - 7) _ hw) ht9 rfl (lw_V q2125 q2127 qs57 q107 q2128) ⟨rfl, nh_X4_manyIn⟩ ⟨Nat.le_of_ble_eq_true rfl, Nat.le_of_ble_eq_true rfl⟩ rfl (Nat.le_of_ble_eq_true rfl) dX4_count_37) (fun r12 M10 hle11 hx => ?_)
      replace hw := hx hle11
      clear hx
      have ht13 : m_tg M10 a0 = 5 := m_le_tg hle11 ht9
      exact pw_iret X hw dX4_count_40
  · replace hw := hw.2 c4
    refine pw_aload_n X dX4_count_10 rfl rfl ?_
    obtain ⟨ht14, hw⟩ := hw
    obtain ⟨u15, he16, hw⟩ := hw
    refine pw_get X (q := (RX4, TX4, tyX4, 15)) (ci := 4) (k := 0) (ref := "PatrolDeskModel") (vR (some u15)) ht14 rfl (by decide) in_X4 q1946 (Or.inl rfl) (by rw [he16]; rfl) dX4_count_11 ?_
    refine pw_iconst X 5 dX4_count_14 (by decide) ?_
    refine pw_iload_n X dX4_count_15 rfl rfl ?_
    refine pw_iadd X dX4_count_16 ?_
    refine pw_iconst X 2 dX4_count_17 (by decide) ?_
    refine pw_isub X dX4_count_18 ?_
    obtain ⟨ht17, hw⟩ := hw
    obtain ⟨hi18, hw⟩ := hw
    refine pw_iald X ht17 hi18 dX4_count_19 ?_
    exact pw_iret X hw dX4_count_20
theorem met_X4_count (G : Gp) (l : Launch) (M : Mem) (a0 : Nat) (x1 : Int32) (Q : Int32 → Mem → Prop) (hw : wp_X4_count G.2 M a0 x1 Q) : m_K G l yX4_count cX4_count 4 (some .int) 2 45 [vR (some a0), vI x1] M (va_Qi (m_q1 M Q) (m_W G) (m_A G)) := by
  refine m_met (by decide) (Nat.le_of_ble_eq_true rfl) (fun C e X => ?_)
  exact bk_X4_count_0 G C _ _ M Q X M a0 x1 hw
theorem nh_X4_count : m_nMH yX4_count 1 := by decide +kernel

