/-! THE START: the constants, the first memory -/
set_option maxRecDepth 100000
set_option maxHeartbeats 4000000
section
def st_g (n0 e0 pr un su ca si mi : Nat) (ar lc la ad : Nat → Nat) : Nat → Nat := fun i => if 100 ≤ i then ad (i - 100) else if 40 ≤ i then lc (i - 40) else if 20 ≤ i then la (i - 20) else if 10 ≤ i then ar (i - 10) else match i with
  | 0 => n0
  | 1 => e0
  | 2 => pr
  | 3 => un
  | 4 => su
  | 6 => ca
  | 7 => si
  | 8 => mi
  | _ => 0
theorem st_g100 {n0 e0 pr un su ca si mi : Nat} {ar lc la ad : Nat → Nat} {k : Nat} : st_g n0 e0 pr un su ca si mi ar lc la ad (100 + k) = ad k := by
  unfold st_g
  rw [if_pos (by omega)]
  congr 1
  omega
theorem st_g40 {n0 e0 pr un su ca si mi : Nat} {ar lc la ad : Nat → Nat} {k : Nat} (hk : k < 9) : st_g n0 e0 pr un su ca si mi ar lc la ad (40 + k) = lc k := by
  unfold st_g
  rw [if_neg (by omega), if_pos (by omega)]
  congr 1
  omega
theorem st_g20 {n0 e0 pr un su ca si mi : Nat} {ar lc la ad : Nat → Nat} {k : Nat} (hk : k < 9) : st_g n0 e0 pr un su ca si mi ar lc la ad (20 + k) = la k := by
  unfold st_g
  rw [if_neg (by omega), if_neg (by omega), if_pos (by omega)]
  congr 1
  omega
/-- the memory at the law's entry: only what nobody writes -/
noncomputable def m_M0 (g : Nat → Nat) : Mem := (fun a => (@ite Nat (∃ k : Nat, k < 256 ∧ a = g (100 + k)) (Classical.propDecidable _) 150 (if a = g 1 then 160 else if a = g 20 then 201 else if a = g 21 then 202 else if a = g 28 then 209 else 0), 0, fun _ => 0, fun _ => none), 0, 0)
theorem m_tg_M0 {g : Nat → Nat} {a : Nat} : m_tg (m_M0 g) a = @ite Nat (∃ k : Nat, k < 256 ∧ a = g (100 + k)) (Classical.propDecidable _) 150 (if a = g 1 then 160 else if a = g 20 then 201 else if a = g 21 then 202 else if a = g 28 then 209 else 0) := rfl
def st_ro (r : Option Nat) : Nat := match r with
  | none => 0
  | some a => a + 1
theorem st_ro_ok (r : Option Nat) : m_ro (st_ro r) = r := by cases r <;> rfl
theorem st_refv {v : Value} (h : v.isRef = true) : ∃ r : Option Nat, v = va_rf r := by
  cases v with
  | null => exact ⟨none, rfl⟩
  | ref a => exact ⟨some a, rfl⟩
  | _ => cases h
variable {s : State} {b : Nat}
/-- statics -/
theorem st_vals (hts : ∀ w ∈ lw_tbl, w.before #[Value.ref b] s = true) (hgv : (Jvm.Cond.and given_1 narrow_1).before #[Value.ref b] s = true) :
    ∃ (e0 pr ca : Nat) (un su si : Option Nat) (ad : Nat → Nat), (∀ z ∈ [("java/util/ArrayList", "DEFAULTCAPACITY_EMPTY_ELEMENTDATA", "[Ljava/lang/Object;", Value.ref e0), ("java/util/HashSet", "PRESENT", "Ljava/lang/Object;", .ref pr), ("java/lang/Throwable", "UNASSIGNED_STACK", "[Ljava/lang/StackTraceElement;", va_rf un), ("java/lang/Throwable", "SUPPRESSED_SENTINEL", "Ljava/util/List;", va_rf su), ("jdk/internal/util/Preconditions", "SIOOBE_FORMATTER", "Ljava/util/function/BiFunction;", va_rf si), ("java/lang/Integer$IntegerCache", "cache", "[Ljava/lang/Integer;", .ref ca), ("java/lang/Integer$IntegerCache", "high", "I", .int 127), ("java/lang/String", "COMPACT_STRINGS", "Z", .int 1), ("java/lang/StringUTF16", "HI_BYTE_SHIFT", "I", .int 0), ("java/lang/StringUTF16", "LO_BYTE_SHIFT", "I", .int 8), ("java/lang/StringUTF16", "$assertionsDisabled", "Z", .int 1)],
        va_Z z.1 z.2.1 z.2.2.1 z.2.2.2 (fun q => s.heap.size ≤ q) s s.heap) ∧ vb_C ad (fun q => s.heap.size ≤ q) s s.heap ∧ va_T (.object "java/lang/Integer") ca 256 (fun k => .ref (ad k)) (fun q => s.heap.size ≤ q) s s.heap ∧ va_T (.object "java/lang/Object") e0 0 (fun _ => .null) (fun q => s.heap.size ≤ q) s s.heap ∧
      vx_L "java/lang/Throwable" "UNASSIGNED_STACK" "[Ljava/lang/StackTraceElement;" (fun q => s.heap.size ≤ q) s s.heap ∧ vx_L "java/lang/Throwable" "SUPPRESSED_SENTINEL" "Ljava/util/List;" (fun q => s.heap.size ≤ q) s s.heap := by
  have hs := flat_of_before _ hgv
  have hA : ∀ a : Nat, a < s.heap.size → ¬ s.heap.size ≤ a := fun a h => by omega
  have al : ∀ {w : Cond}, w ∈ lw_all → w.before #[Value.ref b] s = true := fun h => hts _ (lw_all_tbl h)
  obtain ⟨e0, he0, hT0⟩ := va_Tof (tm := .static "java/util/ArrayList" "DEFAULTCAPACITY_EMPTY_ELEMENTDATA" "[Ljava/lang/Object;") (ty := .object "java/lang/Object") (N := 0) (f := fun _ => .null) (A := fun q => s.heap.size ≤ q) (by decide) (hs _ (by decide +kernel)) (va_eqt (hs _ (by decide +kernel))) (fun j hj => by omega) hA
  have hl256 := va_eqt (z := 256) (t := .length (.static "java/lang/Integer$IntegerCache" "cache" "[Ljava/lang/Integer;")) (args := #[Value.ref b]) (s := s) (hs _ (by decide +kernel))
  obtain ⟨ad, hC, hel⟩ := vb_Cof (st := .static "java/lang/Integer$IntegerCache" "cache" "[Ljava/lang/Integer;") (A := fun q => s.heap.size ≤ q) rfl hl256 (hs _ (by decide +kernel)) hA
  obtain ⟨ca, hca, hTc⟩ := va_Tof (tm := .static "java/lang/Integer$IntegerCache" "cache" "[Ljava/lang/Integer;") (ty := .object "java/lang/Integer") (N := 256) (f := fun k => .ref (ad k)) (A := fun q => s.heap.size ≤ q) (by decide) (hs _ (by decide +kernel)) hl256 hel hA
  obtain ⟨pr, -, -, -, hpr, -⟩ := Cond.exactly_spec (hs (.exactly (.static "java/util/HashSet" "PRESENT" "Ljava/lang/Object;") "java/lang/Object") (by decide +kernel))
  have hwU := hs (.isRef (.static "java/lang/Throwable" "UNASSIGNED_STACK" "[Ljava/lang/StackTraceElement;")) (by decide +kernel)
  have hwS := hs (.isRef (.static "java/lang/Throwable" "SUPPRESSED_SENTINEL" "Ljava/util/List;")) (by decide +kernel)
  have hwF := hs (.isRef (.static "jdk/internal/util/Preconditions" "SIOOBE_FORMATTER" "Ljava/util/function/BiFunction;")) (by decide +kernel)
  obtain ⟨vU, hvU, hrU⟩ := Cond.isRef_spec hwU
  obtain ⟨vS, hvS, hrS⟩ := Cond.isRef_spec hwS
  obtain ⟨vF, hvF, hrF⟩ := Cond.isRef_spec hwF
  obtain ⟨un, rfl⟩ := st_refv hrU
  obtain ⟨su, rfl⟩ := st_refv hrS
  obtain ⟨si, rfl⟩ := st_refv hrF
  refine ⟨e0, pr, ca, un, su, si, ad, fun z hz => ?_, hC, hTc, hT0, (vx_Zqof (hts _ q1338) (al q113) hwU hA).2, (vx_Zqof (hts _ q1340) (al q113) hwS hA).2⟩
  simp only [List.mem_cons, List.not_mem_nil, or_false] at hz
  rcases hz with rfl | rfl | rfl | rfl | rfl | rfl | rfl | rfl | rfl | rfl | rfl
  · exact va_Zof (hts _ q148) (al q82) he0 hA
  · exact va_Zof (hts _ q1538) (al q117) hpr hA
  · exact va_Zof (hts _ q1338) (al q113) hvU hA
  · exact va_Zof (hts _ q1340) (al q113) hvS hA
  · exact va_Zof (hts _ q603) (al q100) hvF hA
  · exact va_Zof (hts _ q865) (al q104) hca hA
  · exact va_Zof (hts _ q863) (al q104) (va_eqi (hs _ (by decide +kernel))) hA
  · exact va_Zof (hts _ q207) (al q85) (va_eqi (hs _ (by decide +kernel))) hA
  · exact va_Zof (hts _ q617) (al q86) (va_eqi (hs _ (by decide +kernel))) hA
  · exact va_Zof (hts _ q619) (al q86) (va_eqi (hs _ (by decide +kernel))) hA
  · exact va_Zof (hts _ q615) (al q86) (va_eqi (hs _ (by decide +kernel))) hA
end
