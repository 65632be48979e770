/-! MEMORY: what the run has made, as a function of addresses (tag, length, whole numbers, references); cells and slots used -/
set_option maxRecDepth 100000
abbrev Mem : Type := (Nat → Nat × Nat × (Nat → Int32) × (Nat → Option Nat)) × Nat × Nat
def m_tg (M : Mem) (a : Nat) : Nat := (M.1 a).1
def m_ln (M : Mem) (a : Nat) : Nat := (M.1 a).2.1
def m_gi (M : Mem) (a k : Nat) : Int32 := (M.1 a).2.2.1 k
def m_gr (M : Mem) (a k : Nat) : Option Nat := (M.1 a).2.2.2 k
def m_nc (M : Mem) : Nat := M.2.1
def m_ns (M : Mem) : Nat := M.2.2
/-- a whole number is put -/
def m_pi (M : Mem) (a k : Nat) (x : Int32) : Mem := (fun b => if b = a then ((M.1 b).1, (M.1 b).2.1, upd (M.1 b).2.2.1 k x, (M.1 b).2.2.2) else M.1 b, M.2)
/-- a reference is put -/
def m_pr (M : Mem) (a k : Nat) (v : Option Nat) : Mem := (fun b => if b = a then ((M.1 b).1, (M.1 b).2.1, (M.1 b).2.2.1, va_up (M.1 b).2.2.2 k v) else M.1 b, M.2)
/-- a cell is made: tag t, length n, s slots -/
def m_al (M : Mem) (a t n s : Nat) : Mem := (fun b => if b = a then (t, n, fun _ => 0, fun _ => none) else M.1 b, M.2.1 + 1, M.2.2 + s)
/-- a run of whole numbers, of references, is copied from b to a -/
def m_ci (M : Mem) (b sp a dp n : Nat) : Mem := (fun c => if c = a then ((M.1 c).1, (M.1 c).2.1, va_cpy (M.1 b).2.2.1 (M.1 c).2.2.1 sp dp n, (M.1 c).2.2.2) else M.1 c, M.2)
def m_cr (M : Mem) (b sp a dp n : Nat) : Mem := (fun c => if c = a then ((M.1 c).1, (M.1 c).2.1, (M.1 c).2.2.1, va_cpy (M.1 b).2.2.2 (M.1 c).2.2.2 sp dp n) else M.1 c, M.2)
section
variable {M : Mem} {a b j k t n s sp dp : Nat} {x : Int32} {v : Option Nat}
theorem m_tg_pi : m_tg (m_pi M a k x) b = m_tg M b := by unfold m_tg m_pi; dsimp only; split <;> rfl
theorem m_tg_pr : m_tg (m_pr M a k v) b = m_tg M b := by unfold m_tg m_pr; dsimp only; split <;> rfl
theorem m_tg_al : m_tg (m_al M a t n s) b = if b = a then t else m_tg M b := by unfold m_tg m_al; dsimp only; split <;> rfl
theorem m_tg_ci : m_tg (m_ci M b sp a dp n) j = m_tg M j := by unfold m_tg m_ci; dsimp only; split <;> rfl
theorem m_tg_cr : m_tg (m_cr M b sp a dp n) j = m_tg M j := by unfold m_tg m_cr; dsimp only; split <;> rfl
theorem m_ln_pi : m_ln (m_pi M a k x) b = m_ln M b := by unfold m_ln m_pi; dsimp only; split <;> rfl
theorem m_ln_pr : m_ln (m_pr M a k v) b = m_ln M b := by unfold m_ln m_pr; dsimp only; split <;> rfl
theorem m_ln_al : m_ln (m_al M a t n s) b = if b = a then n else m_ln M b := by unfold m_ln m_al; dsimp only; split <;> rfl
theorem m_ln_ci : m_ln (m_ci M b sp a dp n) j = m_ln M j := by unfold m_ln m_ci; dsimp only; split <;> rfl
theorem m_ln_cr : m_ln (m_cr M b sp a dp n) j = m_ln M j := by unfold m_ln m_cr; dsimp only; split <;> rfl
theorem m_gi_pi : m_gi (m_pi M a k x) b j = if b = a ∧ j = k then x else m_gi M b j := by
  unfold m_gi m_pi upd
  dsimp only
  by_cases h : b = a
  · by_cases h2 : j = k <;> simp [h, h2]
  · simp [h]
theorem m_gi_pr : m_gi (m_pr M a k v) b j = m_gi M b j := by unfold m_gi m_pr; dsimp only; split <;> rfl
theorem m_gi_al : m_gi (m_al M a t n s) b j = if b = a then 0 else m_gi M b j := by unfold m_gi m_al; dsimp only; split <;> rfl
theorem m_gi_ci : m_gi (m_ci M b sp a dp n) j k = if j = a ∧ dp ≤ k ∧ k < dp + n then m_gi M b (sp + (k - dp)) else m_gi M j k := by
  unfold m_gi m_ci va_cpy
  dsimp only
  by_cases h : j = a
  · by_cases h2 : dp ≤ k ∧ k < dp + n <;> simp [h, h2]
  · simp [h]
theorem m_gi_cr : m_gi (m_cr M b sp a dp n) j k = m_gi M j k := by unfold m_gi m_cr; dsimp only; split <;> rfl
theorem m_gr_pi : m_gr (m_pi M a k x) b j = m_gr M b j := by unfold m_gr m_pi; dsimp only; split <;> rfl
theorem m_gr_pr : m_gr (m_pr M a k v) b j = if b = a ∧ j = k then v else m_gr M b j := by
  unfold m_gr m_pr va_up
  dsimp only
  by_cases h : b = a
  · by_cases h2 : j = k <;> simp [h, h2]
  · simp [h]
theorem m_gr_al : m_gr (m_al M a t n s) b j = if b = a then none else m_gr M b j := by unfold m_gr m_al; dsimp only; split <;> rfl
theorem m_gr_ci : m_gr (m_ci M b sp a dp n) j k = m_gr M j k := by unfold m_gr m_ci; dsimp only; split <;> rfl
theorem m_gr_cr : m_gr (m_cr M b sp a dp n) j k = if j = a ∧ dp ≤ k ∧ k < dp + n then m_gr M b (sp + (k - dp)) else m_gr M j k := by
  unfold m_gr m_cr va_cpy
  dsimp only
  by_cases h : j = a
  · by_cases h2 : dp ≤ k ∧ k < dp + n <;> simp [h, h2]
  · simp [h]
theorem m_nc_pi : m_nc (m_pi M a k x) = m_nc M := rfl
theorem m_nc_pr : m_nc (m_pr M a k v) = m_nc M := rfl
theorem m_nc_al : m_nc (m_al M a t n s) = m_nc M + 1 := rfl
theorem m_nc_ci : m_nc (m_ci M b sp a dp n) = m_nc M := rfl
theorem m_nc_cr : m_nc (m_cr M b sp a dp n) = m_nc M := rfl
theorem m_ns_pi : m_ns (m_pi M a k x) = m_ns M := rfl
theorem m_ns_pr : m_ns (m_pr M a k v) = m_ns M := rfl
theorem m_ns_al : m_ns (m_al M a t n s) = m_ns M + s := rfl
theorem m_ns_ci : m_ns (m_ci M b sp a dp n) = m_ns M := rfl
theorem m_ns_cr : m_ns (m_cr M b sp a dp n) = m_ns M := rfl
end
/-- the room of the whole run -/
abbrev m_CM : Nat := 1200048
abbrev m_SM : Nat := 5501818
/-- room for a cell of n slots -/
def m_fits (M : Mem) (n : Nat) : Prop := m_nc M + 1 ≤ m_CM ∧ m_ns M + n ≤ m_SM
/-- cells stay what they are: tags and lengths -/
def m_le (M M' : Mem) : Prop := ∀ a : Nat, m_tg M a ≠ 0 → m_tg M' a = m_tg M a ∧ m_ln M' a = m_ln M a
theorem m_le_rf {M : Mem} : m_le M M := fun _ _ => ⟨rfl, rfl⟩
theorem m_le_tr {M M1 M2 : Mem} (h1 : m_le M M1) (h2 : m_le M1 M2) : m_le M M2 := fun a h => by
  obtain ⟨a1, a2⟩ := h1 a h
  obtain ⟨b1, b2⟩ := h2 a (by rw [a1]; exact h)
  exact ⟨b1.trans a1, b2.trans a2⟩
theorem m_le_pi {M : Mem} {a k : Nat} {x : Int32} : m_le M (m_pi M a k x) := fun _ _ => ⟨m_tg_pi, m_ln_pi⟩
theorem m_le_pr {M : Mem} {a k : Nat} {v : Option Nat} : m_le M (m_pr M a k v) := fun _ _ => ⟨m_tg_pr, m_ln_pr⟩
theorem m_le_ci {M : Mem} {b sp a dp n : Nat} : m_le M (m_ci M b sp a dp n) := fun _ _ => ⟨m_tg_ci, m_ln_ci⟩
theorem m_le_cr {M : Mem} {b sp a dp n : Nat} : m_le M (m_cr M b sp a dp n) := fun _ _ => ⟨m_tg_cr, m_ln_cr⟩
theorem m_le_al {M : Mem} {a t n s : Nat} (h0 : m_tg M a = 0) : m_le M (m_al M a t n s) := fun b h => by
  have hne : b ≠ a := fun e => h (by rw [e]; exact h0)
  exact ⟨by rw [m_tg_al, if_neg hne], by rw [m_ln_al, if_neg hne]⟩
/-- a known tag, later -/
theorem m_le_tg {M M' : Mem} {a t : Nat} (h : m_le M M') (ht : m_tg M a = t + 1) : m_tg M' a = t + 1 := ((h a (by omega)).1).trans ht
theorem m_le_ln {M M' : Mem} {a t : Nat} (h : m_le M M') (ht : m_tg M a = t + 1) : m_ln M' a = m_ln M a := (h a (by omega)).2
