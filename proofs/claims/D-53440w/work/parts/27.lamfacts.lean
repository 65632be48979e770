/-! the nine lambda sites: what the kernel tells (printed by gen/lam.py) -/
set_option maxRecDepth 100000
set_option maxHeartbeats 4000000
def lcA : ByteArray := ⟨#[43, 28, 184, 0, 17, 172]⟩
theorem lcA_0 : decode lcA 0 = .ok (.aload_n 1, 1) := by decide +kernel
theorem lcA_1 : decode lcA 1 = .ok (.iload_n 2, 1) := by decide +kernel
theorem lcA_2 : decode lcA 2 = .ok (.invokestatic 17, 3) := by decide +kernel
theorem lcA_5 : decode lcA 5 = .ok (.ireturn, 1) := by decide +kernel
def lcB : ByteArray := ⟨#[43, 184, 0, 17, 172]⟩
theorem lcB_0 : decode lcB 0 = .ok (.aload_n 1, 1) := by decide +kernel
theorem lcB_1 : decode lcB 1 = .ok (.invokestatic 17, 3) := by decide +kernel
theorem lcB_4 : decode lcB 4 = .ok (.ireturn, 1) := by decide +kernel
def lcC : ByteArray := ⟨#[42, 180, 0, 15, 43, 184, 0, 23, 172]⟩
theorem lcC_0 : decode lcC 0 = .ok (.aload_n 0, 1) := by decide +kernel
theorem lcC_1 : decode lcC 1 = .ok (.getfield 15, 3) := by decide +kernel
theorem lcC_4 : decode lcC 4 = .ok (.aload_n 1, 1) := by decide +kernel
theorem lcC_5 : decode lcC 5 = .ok (.invokestatic 23, 3) := by decide +kernel
theorem lcC_8 : decode lcC 8 = .ok (.ireturn, 1) := by decide +kernel
def lcD : ByteArray := ⟨#[42, 180, 0, 15, 43, 182, 0, 22, 172]⟩
theorem lcD_0 : decode lcD 0 = .ok (.aload_n 0, 1) := by decide +kernel
theorem lcD_1 : decode lcD 1 = .ok (.getfield 15, 3) := by decide +kernel
theorem lcD_4 : decode lcD 4 = .ok (.aload_n 1, 1) := by decide +kernel
theorem lcD_5 : decode lcD 5 = .ok (.invokevirtual 22, 3) := by decide +kernel
theorem lcD_8 : decode lcD 8 = .ok (.ireturn, 1) := by decide +kernel
def lcE : ByteArray := ⟨#[42, 180, 0, 17, 42, 180, 0, 19, 43, 182, 0, 27, 172]⟩
theorem lcE_0 : decode lcE 0 = .ok (.aload_n 0, 1) := by decide +kernel
theorem lcE_1 : decode lcE 1 = .ok (.getfield 17, 3) := by decide +kernel
theorem lcE_4 : decode lcE 4 = .ok (.aload_n 0, 1) := by decide +kernel
theorem lcE_5 : decode lcE 5 = .ok (.getfield 19, 3) := by decide +kernel
theorem lcE_8 : decode lcE 8 = .ok (.aload_n 1, 1) := by decide +kernel
theorem lcE_9 : decode lcE 9 = .ok (.invokevirtual 27, 3) := by decide +kernel
theorem lcE_12 : decode lcE 12 = .ok (.ireturn, 1) := by decide +kernel
def yTest : MethodName := ⟨"PatrolDesk$Fits", "test", "(LPatrolDesk$Patrol;I)Z"⟩
def yOf : MethodName := ⟨"PatrolDesk$Amount", "of", "(LPatrolDesk$Call;)I"⟩
def ls0 : Lambda.Shape := match siteWord_1_1 with
  | .lambdaSite _ _ _ σ => σ
  | _ => default
theorem lsh0 : m_lbs[0]? = some (yX1_nearest, 14, 145, ls0) := rfl
theorem lsK0 : lm_K ls0 yX1_nearest.cls lcA 3 17 14 16 13 := ⟨by decide +kernel, by decide +kernel, by decide +kernel, by decide +kernel, by decide +kernel, by decide +kernel, by decide +kernel, by decide +kernel, by decide +kernel, by decide +kernel, by decide +kernel⟩
def ls1 : Lambda.Shape := match siteWord_1_2 with
  | .lambdaSite _ _ _ σ => σ
  | _ => default
theorem lsh1 : m_lbs[1]? = some (yX1_nearest, 27, 152, ls1) := rfl
theorem lsK1 : lm_K ls1 yX1_nearest.cls lcA 3 17 14 16 13 := ⟨by decide +kernel, by decide +kernel, by decide +kernel, by decide +kernel, by decide +kernel, by decide +kernel, by decide +kernel, by decide +kernel, by decide +kernel, by decide +kernel, by decide +kernel⟩
def ls2 : Lambda.Shape := match siteWord_1_3 with
  | .lambdaSite _ _ _ σ => σ
  | _ => default
theorem lsh2 : m_lbs[2]? = some (yX0_member, 90, 238, ls2) := rfl
theorem lsK2 : lm_K ls2 yX0_member.cls lcC 2 23 19 22 18 := ⟨by decide +kernel, by decide +kernel, by decide +kernel, by decide +kernel, by decide +kernel, by decide +kernel, by decide +kernel, by decide +kernel, by decide +kernel, by decide +kernel, by decide +kernel⟩
theorem lsF2_0 : lm_F ls2 yX0_member.cls 15 14 0 "arg$1" "I" := ⟨by decide +kernel, by decide +kernel, by decide +kernel, by decide +kernel⟩
theorem lsT2 : (lm_l ls2 yX0_member.cls).2.1.toList = [.int] := by decide +kernel
def ls3 : Lambda.Shape := match siteWord_1_4 with
  | .lambdaSite _ _ _ σ => σ
  | _ => default
theorem lsh3 : m_lbs[3]? = some (yX0_member, 121, 249, ls3) := rfl
theorem lsK3 : lm_K ls3 yX0_member.cls lcE 2 27 23 26 22 := ⟨by decide +kernel, by decide +kernel, by decide +kernel, by decide +kernel, by decide +kernel, by decide +kernel, by decide +kernel, by decide +kernel, by decide +kernel, by decide +kernel, by decide +kernel⟩
theorem lsF3_0 : lm_F ls3 yX0_member.cls 17 16 0 "arg$1" "LPatrolDesk;" := ⟨by decide +kernel, by decide +kernel, by decide +kernel, by decide +kernel⟩
theorem lsF3_1 : lm_F ls3 yX0_member.cls 19 18 1 "arg$2" "I" := ⟨by decide +kernel, by decide +kernel, by decide +kernel, by decide +kernel⟩
theorem lsT3 : (lm_l ls3 yX0_member.cls).2.1.toList = [.object "PatrolDesk", .int] := by decide +kernel
def ls4 : Lambda.Shape := match siteWord_1_5 with
  | .lambdaSite _ _ _ σ => σ
  | _ => default
theorem lsh4 : m_lbs[4]? = some (yX0_member, 149, 258, ls4) := rfl
theorem lsK4 : lm_K ls4 yX0_member.cls lcC 2 23 19 22 18 := ⟨by decide +kernel, by decide +kernel, by decide +kernel, by decide +kernel, by decide +kernel, by decide +kernel, by decide +kernel, by decide +kernel, by decide +kernel, by decide +kernel, by decide +kernel⟩
theorem lsF4_0 : lm_F ls4 yX0_member.cls 15 14 0 "arg$1" "I" := ⟨by decide +kernel, by decide +kernel, by decide +kernel, by decide +kernel⟩
theorem lsT4 : (lm_l ls4 yX0_member.cls).2.1.toList = [.int] := by decide +kernel
def ls5 : Lambda.Shape := match siteWord_1_6 with
  | .lambdaSite _ _ _ σ => σ
  | _ => default
theorem lsh5 : m_lbs[5]? = some (yX0_member, 163, 259, ls5) := rfl
theorem lsK5 : lm_K ls5 yX0_member.cls lcC 2 23 19 22 18 := ⟨by decide +kernel, by decide +kernel, by decide +kernel, by decide +kernel, by decide +kernel, by decide +kernel, by decide +kernel, by decide +kernel, by decide +kernel, by decide +kernel, by decide +kernel⟩
theorem lsF5_0 : lm_F ls5 yX0_member.cls 15 14 0 "arg$1" "I" := ⟨by decide +kernel, by decide +kernel, by decide +kernel, by decide +kernel⟩
theorem lsT5 : (lm_l ls5 yX0_member.cls).2.1.toList = [.int] := by decide +kernel
def ls6 : Lambda.Shape := match siteWord_1_7 with
  | .lambdaSite _ _ _ σ => σ
  | _ => default
theorem lsh6 : m_lbs[6]? = some (yX0_count, 205, 342, ls6) := rfl
theorem lsK6 : lm_K ls6 yX0_count.cls lcC 2 23 19 22 18 := ⟨by decide +kernel, by decide +kernel, by decide +kernel, by decide +kernel, by decide +kernel, by decide +kernel, by decide +kernel, by decide +kernel, by decide +kernel, by decide +kernel, by decide +kernel⟩
theorem lsF6_0 : lm_F ls6 yX0_count.cls 15 14 0 "arg$1" "I" := ⟨by decide +kernel, by decide +kernel, by decide +kernel, by decide +kernel⟩
theorem lsT6 : (lm_l ls6 yX0_count.cls).2.1.toList = [.int] := by decide +kernel
def ls7 : Lambda.Shape := match siteWord_1_8 with
  | .lambdaSite _ _ _ σ => σ
  | _ => default
theorem lsh7 : m_lbs[7]? = some (yX0_count, 219, 343, ls7) := rfl
theorem lsK7 : lm_K ls7 yX0_count.cls lcD 2 22 19 21 18 := ⟨by decide +kernel, by decide +kernel, by decide +kernel, by decide +kernel, by decide +kernel, by decide +kernel, by decide +kernel, by decide +kernel, by decide +kernel, by decide +kernel, by decide +kernel⟩
theorem lsF7_0 : lm_F ls7 yX0_count.cls 15 14 0 "arg$1" "LPatrolDesk;" := ⟨by decide +kernel, by decide +kernel, by decide +kernel, by decide +kernel⟩
theorem lsT7 : (lm_l ls7 yX0_count.cls).2.1.toList = [.object "PatrolDesk"] := by decide +kernel
def ls8 : Lambda.Shape := match siteWord_1_9 with
  | .lambdaSite _ _ _ σ => σ
  | _ => default
theorem lsh8 : m_lbs[8]? = some (yX0_count, 244, 350, ls8) := rfl
theorem lsK8 : lm_K ls8 yX0_count.cls lcB 2 17 14 16 13 := ⟨by decide +kernel, by decide +kernel, by decide +kernel, by decide +kernel, by decide +kernel, by decide +kernel, by decide +kernel, by decide +kernel, by decide +kernel, by decide +kernel, by decide +kernel⟩
