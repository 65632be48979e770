/-! small helps of the walks -/
set_option maxRecDepth 100000
theorem m_nz {x : Int32} (h : x = 0 ∨ x = 1) : narrow .boolean (.int x) = .int x := by rcases h with rfl | rfl <;> decide
theorem m_fz {x : Int32} (h : x = 0 ∨ x = 1) : fits .boolean (m_v (vI x)) = true := by rcases h with rfl | rfl <;> decide
theorem m_nb {x : Int32} (h : Int8.toInt32 (Int32.toInt8 x) = x) : narrow .byte (.int x) = .int x := by
  show Value.int _ = _
  exact congrArg Value.int h
theorem m_fb {x : Int32} (h : Int8.toInt32 (Int32.toInt8 x) = x) : fits .byte (m_v (vI x)) = true := by
  rw [← h]
  exact pk_fb x
theorem m_nc16 {x : Int32} (h : (Int32.toUInt32 x % 65536).toInt32 = x) : narrow .char (.int x) = .int x := by
  rw [← h]
  exact pk_nc x
theorem m_no {n : String} {r : Option Nat} : narrow (.object n) (m_v (vR r)) = m_v (vR r) := by cases r <;> rfl
theorem m_na {t : FieldType} {r : Option Nat} : narrow (.array t) (m_v (vR r)) = m_v (vR r) := by cases r <;> rfl
theorem m_fo {n : String} {r : Option Nat} : fits (.object n) (m_v (vR r)) = true := by cases r <;> rfl
theorem m_fa {t : FieldType} {r : Option Nat} : fits (.array t) (m_v (vR r)) = true := by cases r <;> rfl
theorem lw_U {own : String} {idx : Nat} {C owner : String} {x y : MethodName} (h1 : Cond.methodLink own idx x ∈ lw_all) (h2 : Cond.sameMethod x.cls owner x.name x.desc ∈ lw_all) (h3 : Cond.selects C x y ∈ lw_all) (h4 : Cond.instanceMethod y ∈ lw_all) (h5 : Cond.initialized y.cls ∈ lw_all) : ∀ w ∈ ([.methodLink own idx x, .sameMethod x.cls owner x.name x.desc, .selects C x y, .instanceMethod y, .initialized y.cls] : List Cond), w ∈ lw_all := by
  intro w hw
  simp only [List.mem_cons, List.not_mem_nil, or_false] at hw
  rcases hw with e | e | e | e | e <;> rw [e] <;> assumption
theorem lw_O {own : String} {idx : Nat} {C owner : String} {x y : MethodName} (h1 : Cond.methodLink own idx x ∈ lw_all) (h2 : Cond.sameMethod x.cls owner x.name x.desc ∈ lw_all) (h6 : Cond.instanceMethod ⟨owner, x.name, x.desc⟩ ∈ lw_all) (h3 : Cond.selects C x y ∈ lw_all) (h4 : Cond.instanceMethod y ∈ lw_all) (h5 : Cond.initialized y.cls ∈ lw_all) : ∀ w ∈ ([.methodLink own idx x, .sameMethod x.cls owner x.name x.desc, .instanceMethod ⟨owner, x.name, x.desc⟩, .selects C x y, .instanceMethod y, .initialized y.cls] : List Cond), w ∈ lw_all := by
  intro w hw
  simp only [List.mem_cons, List.not_mem_nil, or_false] at hw
  rcases hw with e | e | e | e | e | e <;> rw [e] <;> assumption
theorem lw_F {own : String} {idx : Nat} {C : String} {x y : MethodName} (h1 : Cond.methodLink own idx x ∈ lw_all) (h3 : Cond.selects C x y ∈ lw_all) (h4 : Cond.instanceMethod y ∈ lw_all) (h5 : Cond.initialized y.cls ∈ lw_all) : ∀ w ∈ ([.methodLink own idx x, .selects C x y, .instanceMethod y, .initialized y.cls] : List Cond), w ∈ lw_all := by
  intro w hw
  simp only [List.mem_cons, List.not_mem_nil, or_false] at hw
  rcases hw with e | e | e | e <;> rw [e] <;> assumption
section
variable {G : Gp} {C : m_Cx} {own : String} {cc : ByteArray} {nL : Nat} {ret : Option FieldType} {nm : String} {F L n0 s0 : Nat} {Q : State → Prop} {M0 M : Mem} {pc : Nat} {lo lo2 : m_L} {st : List m_V}
theorem pw_lookup (X : m_in G C own cc nL ret nm F L n0 s0) {dflt : Int} {ps : Array (Int × Int)} {len : Nat} {x : Int32} (off : Int) (tgt : Nat) (hdg : decode cc pc = .ok (.lookupswitch dflt ps, len)) (hp : (ps.toList.zip (ps.toList.drop 1)).all (fun (a, next) => a.1 < next.1) = true) (ho : Op.lookupswitch.offset ps.toList dflt x.toInt = off) (ht : (pc : Int) + off = (tgt : Int)) (k : pW G C nL n0 s0 M0 Q M tgt lo st) : pW G C nL n0 s0 M0 Q M pc lo (vI x :: st) :=
  pw_go (fun H locs ls cells slots hl kk => lv_lookup X.1 X.2.1 hdg hp ho ht (kk ls hl)) k
end
