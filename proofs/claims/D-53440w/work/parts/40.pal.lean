/-! PURE: lists. ArrayList's methods over the memory -/
set_option maxRecDepth 100000
theorem q_checkIndex {g : Nat → Nat} {M : Mem} {x n : Int32} {Q : Int32 → Mem → Prop} (h0 : 0 ≤ x) (h1 : x < n) (hQ : Q x M) : wp_J22_checkIndex g M x n Q :=
  ⟨fun h => absurd h (Int32.not_lt.mpr h0), fun _ => ⟨fun _ => fun _ => hQ, fun h => h h1⟩⟩
theorem q_size {g : Nat → Nat} {M : Mem} {a : Nat} {Q : Int32 → Mem → Prop} (ht : m_tg M a = 14) (hQ : Q (m_gi M a 2) M) : wp_J2_size g M a Q := ⟨ht, hQ⟩
theorem q_get {g : Nat → Nat} {M : Mem} {a d : Nat} {x : Int32} {Q : Option Nat → Mem → Prop} (ht : m_tg M a = 14) (hd : m_gr M a 1 = some d) (htd : m_tg M d = 103) (h0 : 0 ≤ x) (h1 : x < m_gi M a 2) (hin : vp_in x (m_ln M d)) (hQ : Q (m_gr M d x.toNatClampNeg) M) : wp_J2_get g M a x Q :=
  ⟨ht, q_checkIndex h0 h1 (fun _ => ⟨ht, d, hd, htd, hin, fun r hr => by subst hr; exact fun _ => hQ⟩)⟩
theorem q_set {g : Nat → Nat} {M : Mem} {a d : Nat} {x : Int32} {v : Option Nat} {Q : Option Nat → Mem → Prop} (ht : m_tg M a = 14) (hd : m_gr M a 1 = some d) (htd : m_tg M d = 103) (h0 : 0 ≤ x) (h1 : x < m_gi M a 2) (hin : vp_in x (m_ln M d)) (hv : ∀ y : Nat, v = some y → m_asg M y "java/lang/Object") (hQ : Q (m_gr M d x.toNatClampNeg) (m_pr M d x.toNatClampNeg v)) : wp_J2_set g M a x v Q :=
  ⟨ht, q_checkIndex h0 h1 (fun _ => ⟨ht, d, hd, htd, hin, fun r hr => by subst hr; exact fun _ => ⟨d, hd, htd, hin, hv, fun M9 h9 => by subst h9; exact hQ⟩⟩)⟩
theorem q_valueOf {g : Nat → Nat} {M : Mem} {x : Int32} {Q : Option Nat → Mem → Prop} (h0 : ¬ x < (-128)) (h1 : ¬ 127 < x) (hQ : ∀ u : Nat, m_tg M u = 150 → m_ub g u = x → Q (some u) M) : wp_J12_valueOf g M x Q :=
  ⟨fun h => absurd h h0, fun _ => ⟨fun h => absurd h h1, fun _ => hQ⟩⟩
