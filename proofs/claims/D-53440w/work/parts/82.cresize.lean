/-! PURE: a LinkedHashMap's table is doubled -/
set_option maxRecDepth 100000
/-- linked one to the next -/
def l_sg (M : Mem) (nd : Nat → Nat) : List Nat → Prop
  | [] => True
  | [_] => True
  | a :: b :: t => m_gr M (nd a) 3 = some (nd b) ∧ l_sg M nd (b :: t)
def l_hd (nd : Nat → Nat) (l : List Nat) : Option Nat := l.head?.map nd
def l_tl (nd : Nat → Nat) (l : List Nat) : Option Nat := l.getLast?.map nd
theorem l_sg_ch {M : Mem} {nd : Nat → Nat} : ∀ {l : List Nat} {a : Nat}, l_sg M nd (a :: l) → (∀ z : Nat, (a :: l).getLast? = some z → m_gr M (nd z) 3 = none) → l_ch M nd (some (nd a)) (a :: l) := by
  intro l
  induction l with
  | nil => intro a _ h; exact ⟨rfl, h a rfl⟩
  | cons b l ih =>
    intro a h hz
    refine ⟨rfl, ?_⟩
    rw [h.1]
    exact ih h.2 (fun z hz2 => hz z (by rw [List.getLast?_cons_cons]; exact hz2))
theorem l_sg_same {M M' : Mem} {nd : Nat → Nat} : ∀ {l : List Nat}, l_sg M nd l → (∀ h : Nat, h ∈ l → m_gr M' (nd h) 3 = m_gr M (nd h) 3) → l_sg M' nd l := by
  intro l
  induction l with
  | nil => intro _ _; trivial
  | cons a l ih =>
    intro h he
    cases l with
    | nil => trivial
    | cons b l => exact ⟨by rw [he a List.mem_cons_self]; exact h.1, ih h.2 (fun x hx => he x (List.mem_cons_of_mem _ hx))⟩
/-- one more at the end -/
theorem l_sg_snoc {M M' : Mem} {nd : Nat → Nat} {x z : Nat} : ∀ {l : List Nat}, l_sg M nd l → l.getLast? = some z → m_gr M' (nd z) 3 = some (nd x) → (∀ h : Nat, h ∈ l → h ≠ z → m_gr M' (nd h) 3 = m_gr M (nd h) 3) → l.Nodup → l_sg M' nd (l ++ [x]) := by
  intro l
  induction l with
  | nil => intro _ h; cases h
  | cons a l ih =>
    intro h hz hn he hd
    cases l with
    | nil =>
      have : a = z := by
        rw [List.getLast?_singleton] at hz
        cases hz
        rfl
      subst this
      exact ⟨hn, trivial⟩
    | cons b l =>
      rw [List.getLast?_cons_cons] at hz
      have hz' := List.mem_of_getLast? hz
      have haz : a ≠ z := fun e => (List.nodup_cons.mp hd).1 (by rw [e]; exact hz')
      refine ⟨by rw [he a List.mem_cons_self haz]; exact h.1, ?_⟩
      exact ih h.2 hz hn (fun y hy hyz => he y (List.mem_cons_of_mem _ hy) hyz) (List.nodup_cons.mp hd).2
theorem l_bit {c v : Nat} (hc : c = 16 ∨ c = 32) (h : v < 144) : (nI v &&& nI c = 0) = (v % (2 * c) = v % c) := by
  have H1 : ∀ k : Fin 144, (nI k.val &&& nI 16 = 0) ↔ (k.val % 32 = k.val % 16) := by decide +kernel
  have H2 : ∀ k : Fin 144, (nI k.val &&& nI 32 = 0) ↔ (k.val % 64 = k.val % 32) := by decide +kernel
  rcases hc with rfl | rfl
  · exact propext (H1 ⟨v, h⟩)
  · exact propext (H2 ⟨v, h⟩)
/-- only links of l's nodes and two places of the new table change -/
def l_fr (X X' : Mem) (nd : Nat → Nat) (l : List Nat) (T' j cap : Nat) : Prop := (∀ b : Nat, m_tg X' b = m_tg X b ∧ m_ln X' b = m_ln X b) ∧ (∀ b f : Nat, m_gi X' b f = m_gi X b f) ∧ (∀ b f : Nat, ¬ (b = T' ∧ (f = j ∨ f = j + cap)) → ¬ (f = 3 ∧ ∃ h : Nat, h ∈ l ∧ b = nd h) → m_gr X' b f = m_gr X b f) ∧ (∀ b : Nat, b ≠ T' → (∀ h : Nat, h ∈ l → b ≠ nd h) → X'.1 b = X.1 b) ∧ m_nc X' = m_nc X ∧ m_ns X' = m_ns X
theorem l_fr_rf {X : Mem} {nd : Nat → Nat} {l : List Nat} {T' j cap : Nat} : l_fr X X nd l T' j cap := ⟨fun _ => ⟨rfl, rfl⟩, fun _ _ => rfl, fun _ _ _ _ => rfl, fun _ _ _ => rfl, rfl, rfl⟩
theorem l_fr_tr {X X1 X2 : Mem} {nd : Nat → Nat} {l : List Nat} {T' j cap : Nat} (h1 : l_fr X X1 nd l T' j cap) (h2 : l_fr X1 X2 nd l T' j cap) : l_fr X X2 nd l T' j cap :=
  ⟨fun b => ⟨(h2.1 b).1.trans (h1.1 b).1, (h2.1 b).2.trans (h1.1 b).2⟩, fun b f => (h2.2.1 b f).trans (h1.2.1 b f), fun b f c1 c2 => (h2.2.2.1 b f c1 c2).trans (h1.2.2.1 b f c1 c2), fun b c1 c2 => (h2.2.2.2.1 b c1 c2).trans (h1.2.2.2.1 b c1 c2), h2.2.2.2.2.1.trans h1.2.2.2.2.1, h2.2.2.2.2.2.trans h1.2.2.2.2.2⟩
theorem l_fr_nd {X : Mem} {nd : Nat → Nat} {l : List Nat} {T' j cap z : Nat} {v : Option Nat} (hz : z ∈ l) : l_fr X (m_pr X (nd z) 3 v) nd l T' j cap :=
  ⟨fun b => ⟨m_tg_pr, m_ln_pr⟩, fun b f => m_gi_pr, fun b f _ c2 => by rw [m_gr_pr, if_neg (fun y => c2 ⟨y.2, z, hz, y.1⟩)], fun b _ c2 => by unfold m_pr; dsimp only; rw [if_neg (c2 z hz)], rfl, rfl⟩
theorem l_fr_T {X : Mem} {nd : Nat → Nat} {l : List Nat} {T' j cap k : Nat} {v : Option Nat} (hk : k = j ∨ k = j + cap) : l_fr X (m_pr X T' k v) nd l T' j cap :=
  ⟨fun b => ⟨m_tg_pr, m_ln_pr⟩, fun b f => m_gi_pr, fun b f c1 _ => by rw [m_gr_pr, if_neg (fun y => c1 ⟨y.1, by rw [y.2]; exact hk⟩)], fun b c1 _ => by unfold m_pr; dsimp only; rw [if_neg c1], rfl, rfl⟩
section
variable {g : Nat → Nat} {nd : Nat → Nat}
theorem l_hd_mem {l : List Nat} {y : Nat} (h : l_hd nd l = some y) : ∃ x : Nat, x ∈ l ∧ y = nd x := by
  unfold l_hd at h
  cases l with
  | nil => cases h
  | cons a t =>
    cases h
    exact ⟨a, List.mem_cons_self, rfl⟩
/-- the end of a split: both chains are closed and laid -/
theorem l_split_end {Q : Option Nat → Mem → Prop} {k235 : Mem → Nat → Nat → Int32 → Int32 → Nat → Int32 → Nat → Option Nat → Option Nat → Option Nat → Option Nat → Prop} {k151 : Mem → Nat → Nat → Int32 → Int32 → Nat → Int32 → Prop} {X : Mem} {H T T' j cap ncap : Nat} {lo hi l : List Nat} (hnode : ∀ (M : Mem) (y : Nat), m_tg M y = 19 → m_asg M y "java/util/HashMap$Node") (hT' : m_tg X T' = 104) (hl' : m_ln X T' = 2 * cap) (hj : j < cap) (hcap : cap ≤ 64) (htg : ∀ x : Nat, x ∈ lo ++ hi → m_tg X (nd x) = 19) (hsub : ∀ x : Nat, x ∈ lo ++ hi → x ∈ l) (hlo : l_sg X nd lo) (hhi : l_sg X nd hi) (hinj : ∀ x y : Nat, x ∈ lo ++ hi → y ∈ lo ++ hi → nd x = nd y → x = y) (hnd : (lo ++ hi).Nodup) (hz0 : m_gr X T' j = none) (hz1 : m_gr X T' (j + cap) = none)
    (hQ : ∀ X', l_fr X X' nd l T' j cap → l_ch X' nd (m_gr X' T' j) lo → l_ch X' nd (m_gr X' T' (j + cap)) hi → k151 X' H T (nI cap) (nI ncap) T' (nI (j + 1))) : wp_J8_resizeL_b301 g k151 k235 X H T (nI cap) (nI ncap) T' (nI j) (l_hd nd lo) (l_tl nd lo) (l_hd nd hi) (l_tl nd hi) none Q := by
  have hd0 : ∀ x : Nat, x ∈ lo ++ hi → nd x ≠ T' := fun x hx z => by
    have := htg x hx
    rw [z, hT'] at this
    cases this
  have vj : vp_in (nI j) (2 * cap) := (pn_in (by omega)).mpr (by omega)
  have vjc : nI j + nI cap = nI (j + cap) := pn_add j cap
  have vj2 : vp_in (nI (j + cap)) (2 * cap) := (pn_in (by omega)).mpr (by omega)
  have hnlo := (List.nodup_append.mp hnd).1
  have hnhi := (List.nodup_append.mp hnd).2.1
  have hdis : ∀ x : Nat, x ∈ lo → x ∉ hi := fun x hx hy => (List.nodup_append.mp hnd).2.2 x hx x hy rfl
  -- hi's part
  have part2 : ∀ X1 : Mem, l_fr X X1 nd l T' j cap → l_ch X1 nd (m_gr X1 T' j) lo → l_sg X1 nd hi → m_gr X1 T' (j + cap) = none → wp_J8_resizeL_b327 g k151 X1 H T (nI cap) (nI ncap) T' (nI j) (l_hd nd hi) (l_tl nd hi) Q := by
    intro X1 hf1 hclo hshi hn1
    refine ⟨fun z => ?_, fun u1 hu => ?_⟩
    · have : hi = [] := by
        unfold l_tl at z
        cases hi with
        | nil => rfl
        | cons a t => rw [List.getLast?_cons] at z; cases z
      subst this
      rw [pn_succ]
      exact hQ X1 hf1 hclo (show m_gr X1 T' (j + cap) = none from hn1)
    · unfold l_tl at hu
      cases hz : hi.getLast? with
      | none => rw [hz] at hu; cases hu
      | some z =>
        rw [hz] at hu
        cases hu
        have hzm := List.mem_of_getLast? hz
        have hzl : z ∈ lo ++ hi := List.mem_append_right _ hzm
        refine ⟨(hf1.1 _).1.trans (htg z hzl), fun M4 h4 => ⟨?_, ?_, fun y hy => ?_, fun M10 h10 => ?_⟩⟩
        · rw [h4, m_tg_pr, (hf1.1 _).1, hT']
        · rw [h4, m_ln_pr, (hf1.1 _).2, hl', vjc]
          exact vj2
        · obtain ⟨x, hx, rfl⟩ := l_hd_mem hy
          refine hnode _ _ ?_
          rw [h4, m_tg_pr, (hf1.1 _).1]
          exact htg x (List.mem_append_right _ hx)
        · rw [vjc, pn_cl (by omega)] at h10
          have g4 : ∀ b f : Nat, m_gr M10 b f = if b = T' ∧ f = j + cap then l_hd nd hi else if b = nd z ∧ f = 3 then none else m_gr X1 b f := fun b f => by rw [h10, m_gr_pr, h4, m_gr_pr]
          rw [pn_succ]
          have hf10 : l_fr X1 M10 nd l T' j cap := by
            rw [h10, h4]
            exact l_fr_tr (l_fr_nd (hsub z hzl)) (l_fr_T (Or.inr rfl))
          refine hQ M10 (l_fr_tr hf1 hf10) ?_ ?_
          · rw [g4, if_neg (fun y => by omega), if_neg (fun y => hd0 z hzl y.1.symm)]
            refine l_ch_same hclo (fun x hx => ?_)
            have hxl : x ∈ lo ++ hi := List.mem_append_left _ hx
            rw [g4, if_neg (fun y => hd0 x hxl y.1), if_neg (fun y => hdis x hx (by rw [hinj x z hxl hzl y.1]; exact hzm))]
          · rw [g4, if_pos ⟨rfl, rfl⟩]
            cases hi with
            | nil => cases hzm
            | cons a t =>
              refine l_sg_ch ?_ (fun w hw => ?_)
              · have hsg : l_sg X1 nd (a :: t) := hshi
                -- only the last link is changed
                have gen : ∀ (s : List Nat), l_sg X1 nd s → s.getLast? = some z → s.Nodup → (∀ x : Nat, x ∈ s → x ∈ a :: t) → l_sg M10 nd s := by
                  intro s
                  induction s with
                  | nil => intro _ _ _ _; trivial
                  | cons x s ih =>
                    intro h1 h2 h3 h4'
                    cases s with
                    | nil => trivial
                    | cons y s =>
                      rw [List.getLast?_cons_cons] at h2
                      have hz2 := List.mem_of_getLast? h2
                      have hxz : x ≠ z := fun e => (List.nodup_cons.mp h3).1 (by rw [e]; exact hz2)
                      have hxl : x ∈ lo ++ a :: t := List.mem_append_right _ (h4' x List.mem_cons_self)
                      refine ⟨?_, ih h1.2 h2 (List.nodup_cons.mp h3).2 (fun w hw => h4' w (List.mem_cons_of_mem _ hw))⟩
                      rw [g4, if_neg (fun y => hd0 x hxl y.1), if_neg (fun y => hxz (hinj x z hxl hzl y.1))]
                      exact h1.1
                exact gen (a :: t) hsg hz hnhi (fun _ h => h)
              · rw [hz] at hw
                cases hw
                rw [g4, if_neg (fun y => hd0 z hzl y.1), if_pos ⟨rfl, rfl⟩]
  refine ⟨fun _ => ⟨fun z => ?_, fun u3 hu => ?_⟩, fun u1 h1 => by cases h1⟩
  · have : lo = [] := by
      unfold l_tl at z
      cases lo with
      | nil => rfl
      | cons a t => rw [List.getLast?_cons] at z; cases z
    subst this
    exact part2 X l_fr_rf (show m_gr X T' j = none from hz0) hhi hz1
  · unfold l_tl at hu
    cases hz : lo.getLast? with
    | none => rw [hz] at hu; cases hu
    | some z =>
      rw [hz] at hu
      cases hu
      have hzm := List.mem_of_getLast? hz
      have hzl : z ∈ lo ++ hi := List.mem_append_left _ hzm
      refine ⟨htg z hzl, fun M6 h6 => ⟨?_, ?_, fun y hy => ?_, fun M12 h12 => ?_⟩⟩
      · rw [h6, m_tg_pr, hT']
      · rw [h6, m_ln_pr, hl']
        exact vj
      · obtain ⟨x, hx, rfl⟩ := l_hd_mem hy
        refine hnode _ _ ?_
        rw [h6, m_tg_pr]
        exact htg x (List.mem_append_left _ hx)
      · rw [pn_cl (by omega)] at h12
        have g4 : ∀ b f : Nat, m_gr M12 b f = if b = T' ∧ f = j then l_hd nd lo else if b = nd z ∧ f = 3 then none else m_gr X b f := fun b f => by rw [h12, m_gr_pr, h6, m_gr_pr]
        have hf12 : l_fr X M12 nd l T' j cap := by
          rw [h12, h6]
          exact l_fr_tr (l_fr_nd (hsub z hzl)) (l_fr_T (Or.inl rfl))
        refine part2 M12 hf12 ?_ ?_ ?_
        · rw [g4, if_pos ⟨rfl, rfl⟩]
          cases lo with
          | nil => cases hzm
          | cons a t =>
            refine l_sg_ch ?_ (fun w hw => ?_)
            · have gen : ∀ (s : List Nat), l_sg X nd s → s.getLast? = some z → s.Nodup → (∀ x : Nat, x ∈ s → x ∈ a :: t) → l_sg M12 nd s := by
                intro s
                induction s with
                | nil => intro _ _ _ _; trivial
                | cons x s ih =>
                  intro h1 h2 h3 h4'
                  cases s with
                  | nil => trivial
                  | cons y s =>
                    rw [List.getLast?_cons_cons] at h2
                    have hz2 := List.mem_of_getLast? h2
                    have hxz : x ≠ z := fun e => (List.nodup_cons.mp h3).1 (by rw [e]; exact hz2)
                    have hxl : x ∈ (a :: t) ++ hi := List.mem_append_left _ (h4' x List.mem_cons_self)
                    refine ⟨?_, ih h1.2 h2 (List.nodup_cons.mp h3).2 (fun w hw => h4' w (List.mem_cons_of_mem _ hw))⟩
                    rw [g4, if_neg (fun y => hd0 x hxl y.1), if_neg (fun y => hxz (hinj x z hxl hzl y.1))]
                    exact h1.1
              exact gen (a :: t) hlo hz hnlo (fun _ h => h)
            · rw [hz] at hw
              cases hw
              rw [g4, if_neg (fun y => hd0 z hzl y.1), if_pos ⟨rfl, rfl⟩]
        · refine l_sg_same hhi (fun x hx => ?_)
          have hxl : x ∈ lo ++ hi := List.mem_append_right _ hx
          rw [g4, if_neg (fun y => hd0 x hxl y.1), if_neg (fun y => hdis z hzm (by rw [← hinj x z hxl hzl y.1]; exact hx))]
        · rw [g4, if_neg (fun y => by omega), if_neg (fun y => hd0 z hzl y.1.symm)]
          exact hz1
end
section
variable {g : Nat → Nat} {nd : Nat → Nat}
theorem l_hd_snoc {l : List Nat} {x : Nat} : l_hd nd (l ++ [x]) = if l = [] then some (nd x) else l_hd nd l := by
  cases l with
  | nil => rfl
  | cons a t => rfl
theorem l_tl_snoc {l : List Nat} {x : Nat} : l_tl nd (l ++ [x]) = some (nd x) := by
  unfold l_tl
  rw [List.getLast?_append]
  rfl
/-- the split, node by node -/
theorem l_split {Q : Option Nat → Mem → Prop} {k151 : Mem → Nat → Nat → Int32 → Int32 → Nat → Int32 → Prop} {X0 : Mem} {H T T' j cap : Nat} {l : List Nat} (hnode : ∀ (M : Mem) (y : Nat), m_tg M y = 19 → m_asg M y "java/util/HashMap$Node") (hT' : m_tg X0 T' = 104) (hl' : m_ln X0 T' = 2 * cap) (hj : j < cap) (hcap : cap = 16 ∨ cap = 32) (htg : ∀ x : Nat, x ∈ l → m_tg X0 (nd x) = 19 ∧ m_gi X0 (nd x) 0 = nI x ∧ x < 144 ∧ x % cap = j) (hinj : ∀ x y : Nat, x ∈ l → y ∈ l → nd x = nd y → x = y) (hnd : l.Nodup) (hz0 : m_gr X0 T' j = none) (hz1 : m_gr X0 T' (j + cap) = none)
    (hQ : ∀ X', l_fr X0 X' nd l T' j cap → l_ch X' nd (m_gr X' T' j) (l.filter (fun h => h % (2 * cap) = j)) → l_ch X' nd (m_gr X' T' (j + cap)) (l.filter (fun h => h % (2 * cap) = j + cap)) → k151 X' H T (nI cap) (nI (2 * cap)) T' (nI (j + 1))) :
    ∀ (rest pre : List Nat) (e : Nat) (X : Mem), l = pre ++ e :: rest → l_fr X0 X nd l T' j cap → m_gr X T' j = none → m_gr X T' (j + cap) = none → l_ch X nd (some (nd e)) (e :: rest) → l_sg X nd (pre.filter (fun h => h % (2 * cap) = j)) → l_sg X nd (pre.filter (fun h => h % (2 * cap) = j + cap)) →
      wp_J8_resizeL_b235 g k151 Q (rest.length + 1) X H T (nI cap) (nI (2 * cap)) T' (nI j) (nd e) (l_hd nd (pre.filter (fun h => h % (2 * cap) = j))) (l_tl nd (pre.filter (fun h => h % (2 * cap) = j))) (l_hd nd (pre.filter (fun h => h % (2 * cap) = j + cap))) (l_tl nd (pre.filter (fun h => h % (2 * cap) = j + cap))) := by
  have hc64 : cap ≤ 64 := by rcases hcap with rfl | rfl <;> decide
  have hc0 : 0 < cap := by rcases hcap with rfl | rfl <;> decide
  -- one node is taken into a list; then the next or the end
  have step : ∀ (rest pre : List Nat) (e : Nat) (X : Mem), l = pre ++ e :: rest → l_fr X0 X nd l T' j cap → m_gr X T' j = none → m_gr X T' (j + cap) = none → l_ch X nd (l_hd nd rest) rest → l_sg X nd ((pre ++ [e]).filter (fun h => h % (2 * cap) = j)) → l_sg X nd ((pre ++ [e]).filter (fun h => h % (2 * cap) = j + cap)) →
      (∀ (b : Nat) (rest' : List Nat), rest = b :: rest' → wp_J8_resizeL_b235 g k151 Q rest.length X H T (nI cap) (nI (2 * cap)) T' (nI j) (nd b) (l_hd nd ((pre ++ [e]).filter (fun h => h % (2 * cap) = j))) (l_tl nd ((pre ++ [e]).filter (fun h => h % (2 * cap) = j))) (l_hd nd ((pre ++ [e]).filter (fun h => h % (2 * cap) = j + cap))) (l_tl nd ((pre ++ [e]).filter (fun h => h % (2 * cap) = j + cap)))) →
      wp_J8_resizeL_b301 g k151 (wp_J8_resizeL_b235 g k151 Q rest.length) X H T (nI cap) (nI (2 * cap)) T' (nI j) (l_hd nd ((pre ++ [e]).filter (fun h => h % (2 * cap) = j))) (l_tl nd ((pre ++ [e]).filter (fun h => h % (2 * cap) = j))) (l_hd nd ((pre ++ [e]).filter (fun h => h % (2 * cap) = j + cap))) (l_tl nd ((pre ++ [e]).filter (fun h => h % (2 * cap) = j + cap))) (l_hd nd rest) Q := by
    intro rest pre e X hl hf h0 h1 hch hlo hhi hnext
    cases rest with
    | cons b rest' =>
      refine ⟨fun z => (by cases z), fun u1 hu => ?_⟩
      cases hu
      exact hnext b rest' rfl
    | nil =>
      have el : pre ++ [e] = l := hl.symm
      rw [el] at hlo hhi ⊢
      have hall : ∀ x : Nat, x ∈ l.filter (fun h => h % (2 * cap) = j) ++ l.filter (fun h => h % (2 * cap) = j + cap) → x ∈ l := fun x hx => by
        rcases List.mem_append.mp hx with hx | hx <;> exact (List.mem_filter.mp hx).1
      refine l_split_end (l := l) hnode ((hf.1 T').1.trans hT') ((hf.1 T').2.trans hl') hj hc64 (fun x hx => (hf.1 _).1.trans (htg x (hall x hx)).1) hall hlo hhi (fun x y hx hy => hinj x y (hall x hx) (hall y hy)) ?_ h0 h1 (fun X' hf' c1 c2 => hQ X' (l_fr_tr hf hf') c1 c2)
      refine List.nodup_append.mpr ⟨hnd.filter _, hnd.filter _, fun x hx y hy e => ?_⟩
      have hx2 := of_decide_eq_true (List.mem_filter.mp hx).2
      have hy2 := of_decide_eq_true (List.mem_filter.mp hy).2
      rw [e] at hx2
      omega
  have body : ∀ (rest pre : List Nat) (e : Nat) (X : Mem), l = pre ++ e :: rest → l_fr X0 X nd l T' j cap → m_gr X T' j = none → m_gr X T' (j + cap) = none → l_ch X nd (some (nd e)) (e :: rest) → l_sg X nd (pre.filter (fun h => h % (2 * cap) = j)) → l_sg X nd (pre.filter (fun h => h % (2 * cap) = j + cap)) →
      (∀ (b : Nat) (rest' : List Nat), rest = b :: rest' → ∀ X2 : Mem, l_fr X0 X2 nd l T' j cap → m_gr X2 T' j = none → m_gr X2 T' (j + cap) = none → l_ch X2 nd (some (nd b)) (b :: rest') → l_sg X2 nd ((pre ++ [e]).filter (fun h => h % (2 * cap) = j)) → l_sg X2 nd ((pre ++ [e]).filter (fun h => h % (2 * cap) = j + cap)) → wp_J8_resizeL_b235 g k151 Q rest.length X2 H T (nI cap) (nI (2 * cap)) T' (nI j) (nd b) (l_hd nd ((pre ++ [e]).filter (fun h => h % (2 * cap) = j))) (l_tl nd ((pre ++ [e]).filter (fun h => h % (2 * cap) = j))) (l_hd nd ((pre ++ [e]).filter (fun h => h % (2 * cap) = j + cap))) (l_tl nd ((pre ++ [e]).filter (fun h => h % (2 * cap) = j + cap)))) →
      wp_J8_resizeL_b235 g k151 Q (rest.length + 1) X H T (nI cap) (nI (2 * cap)) T' (nI j) (nd e) (l_hd nd (pre.filter (fun h => h % (2 * cap) = j))) (l_tl nd (pre.filter (fun h => h % (2 * cap) = j))) (l_hd nd (pre.filter (fun h => h % (2 * cap) = j + cap))) (l_tl nd (pre.filter (fun h => h % (2 * cap) = j + cap))) := by
    intro rest pre e X hl hf h0 h1 hch hlo hhi hnext
    have hel : e ∈ l := by rw [hl]; exact List.mem_append_right _ List.mem_cons_self
    have hprel : ∀ x : Nat, x ∈ pre → x ∈ l := fun x hx => by rw [hl]; exact List.mem_append_left _ hx
    have hrestl : ∀ x : Nat, x ∈ rest → x ∈ l := fun x hx => by rw [hl]; exact List.mem_append_right _ (List.mem_cons_of_mem _ hx)
    have hndl : (pre ++ e :: rest).Nodup := by rw [← hl]; exact hnd
    have hpn := (List.nodup_append.mp hndl).1
    have hep : ∀ x : Nat, x ∈ pre → x ≠ e ∧ x ∉ rest := fun x hx => ⟨fun z => (List.nodup_append.mp hndl).2.2 x hx e List.mem_cons_self z, fun z => (List.nodup_append.mp hndl).2.2 x hx x (List.mem_cons_of_mem _ z) rfl⟩
    obtain ⟨t1, t2, t3, t4⟩ := htg e hel
    have lch_hd : ∀ {M : Mem} {r : Option Nat} {s : List Nat}, l_ch M nd r s → r = l_hd nd s := fun {M r s} h => by
      cases s with
      | nil => exact h
      | cons a s => exact h.1
    have hr2 := lch_hd hch.2
    have hst := step rest pre e
    -- a link that is set
    have link : ∀ (z : Nat), z ∈ pre → ∀ X2 : Mem, X2 = m_pr X (nd z) 3 (some (nd e)) → l_fr X0 X2 nd l T' j cap ∧ m_gr X2 T' j = none ∧ m_gr X2 T' (j + cap) = none ∧ l_ch X2 nd (l_hd nd rest) rest ∧ ∀ x : Nat, x ∈ l → x ≠ z → m_gr X2 (nd x) 3 = m_gr X (nd x) 3 := by
      intro z hz X2 h2
      have hzl := hprel z hz
      have nT : nd z ≠ T' := fun y => by
        have := (htg z hzl).1
        rw [y, hT'] at this
        cases this
      have keep : ∀ x : Nat, x ∈ l → x ≠ z → m_gr X2 (nd x) 3 = m_gr X (nd x) 3 := fun x hx hxz => by rw [h2, m_gr_pr, if_neg (fun y => hxz (hinj x z hx hzl y.1))]
      refine ⟨by rw [h2]; exact l_fr_tr hf (l_fr_nd hzl), by rw [h2, m_gr_pr, if_neg (fun y => nT y.1.symm)]; exact h0, by rw [h2, m_gr_pr, if_neg (fun y => nT y.1.symm)]; exact h1, ?_, keep⟩
      have hc2 := hch.2
      rw [hr2] at hc2
      exact l_ch_same hc2 (fun x hx => keep x (hrestl x hx) (fun y => (hep z hz).2 (by rw [← y]; exact hx)))
    have hnx : ∀ X2 : Mem, l_fr X0 X2 nd l T' j cap → m_gr X2 T' j = none → m_gr X2 T' (j + cap) = none → l_ch X2 nd (l_hd nd rest) rest → l_sg X2 nd ((pre ++ [e]).filter (fun h => h % (2 * cap) = j)) → l_sg X2 nd ((pre ++ [e]).filter (fun h => h % (2 * cap) = j + cap)) → wp_J8_resizeL_b301 g k151 (wp_J8_resizeL_b235 g k151 Q rest.length) X2 H T (nI cap) (nI (2 * cap)) T' (nI j) (l_hd nd ((pre ++ [e]).filter (fun h => h % (2 * cap) = j))) (l_tl nd ((pre ++ [e]).filter (fun h => h % (2 * cap) = j))) (l_hd nd ((pre ++ [e]).filter (fun h => h % (2 * cap) = j + cap))) (l_tl nd ((pre ++ [e]).filter (fun h => h % (2 * cap) = j + cap))) (l_hd nd rest) Q := by
      intro X2 k1 k2 k3 k4 k5 k6
      exact step rest pre e X2 hl k1 k2 k3 k4 k5 k6 (fun b rest' er => hnext b rest' er X2 k1 k2 k3 (by subst er; exact k4) k5 k6)
    have cd : ∀ k : Nat, (l_hd nd rest) = (l_hd nd rest) := fun _ => rfl
    refine ⟨(hf.1 _).1.trans t1, fun r2 h2 => ?_⟩
    have hr : r2 = l_hd nd rest := h2.trans hr2
    subst hr
    rw [(hf.2.1 _ _), t2, l_bit hcap t3]
    have F : ∀ (P : Nat → Bool), (pre ++ [e]).filter P = if P e = true then pre.filter P ++ [e] else pre.filter P := fun P => by
      rw [List.filter_append]
      by_cases hP : P e = true
      · rw [if_pos hP, List.filter_cons_of_pos hP]
        rfl
      · rw [if_neg hP, List.filter_cons_of_neg hP, List.filter_nil, List.append_nil]
    have tlnone : ∀ s : List Nat, l_tl nd s = none → s = [] := fun s hs => by
      unfold l_tl at hs
      cases s with
      | nil => rfl
      | cons a s => rw [List.getLast?_cons] at hs; cases hs
    have tlsome : ∀ (s : List Nat) (u : Nat), l_tl nd s = some u → ∃ z : Nat, s.getLast? = some z ∧ u = nd z := fun s u hs => by
      unfold l_tl at hs
      cases hz : s.getLast? with
      | none => rw [hz] at hs; cases hs
      | some z => rw [hz] at hs; cases hs; exact ⟨z, rfl, rfl⟩
    refine ⟨fun hbit => ?_, fun hbit => ?_⟩
    · -- hi
      have eh : e % (2 * cap) = j + cap := by
        have : e % (2 * cap) = e % cap ∨ e % (2 * cap) = e % cap + cap := by
          rcases hcap with rfl | rfl <;> omega
        omega
      have f1 : (pre ++ [e]).filter (fun h => h % (2 * cap) = j) = pre.filter (fun h => h % (2 * cap) = j) := by rw [F, if_neg (fun z => by have := of_decide_eq_true z; omega)]
      have f2 : (pre ++ [e]).filter (fun h => h % (2 * cap) = j + cap) = pre.filter (fun h => h % (2 * cap) = j + cap) ++ [e] := by rw [F, if_pos (decide_eq_true eh)]
      rw [f1, f2] at hnx
      rw [l_hd_snoc, l_tl_snoc] at hnx
      refine ⟨fun hn => ?_, fun u5 hu => ?_⟩
      · have hnil := tlnone _ hn
        rw [hnil, if_pos rfl] at hnx
        have := hnx X hf h0 h1 (by rw [← hr2]; exact hch.2) hlo trivial
        unfold wp_J8_resizeL_b297
        exact this
      · obtain ⟨z, hz, rfl⟩ := tlsome _ _ hu
        have hzp : z ∈ pre := (List.mem_filter.mp (List.mem_of_getLast? hz)).1
        have hne : pre.filter (fun h => h % (2 * cap) = j + cap) ≠ [] := fun y => by rw [y] at hz; cases hz
        rw [if_neg hne] at hnx
        refine ⟨(hf.1 _).1.trans (htg z (hprel z hzp)).1, fun M8 h8 => ?_⟩
        obtain ⟨k1, k2, k3, k4, k5⟩ := link z hzp M8 h8
        have zh := of_decide_eq_true (List.mem_filter.mp (List.mem_of_getLast? hz)).2
        have := hnx M8 k1 k2 k3 k4 (l_sg_same hlo (fun x hx => k5 x (hprel x (List.mem_filter.mp hx).1) (fun y => by
          have := of_decide_eq_true (List.mem_filter.mp hx).2
          rw [y] at this
          omega))) (l_sg_snoc hhi hz (by rw [h8, m_gr_pr, if_pos ⟨rfl, rfl⟩]) (fun x hx hxz => k5 x (hprel x (List.mem_filter.mp hx).1) hxz) (hpn.filter _))
        unfold wp_J8_resizeL_b297
        exact this
    · -- lo
      have eh : e % (2 * cap) = j := by omega
      have f1 : (pre ++ [e]).filter (fun h => h % (2 * cap) = j) = pre.filter (fun h => h % (2 * cap) = j) ++ [e] := by rw [F, if_pos (decide_eq_true eh)]
      have f2 : (pre ++ [e]).filter (fun h => h % (2 * cap) = j + cap) = pre.filter (fun h => h % (2 * cap) = j + cap) := by rw [F, if_neg (fun z => by have := of_decide_eq_true z; omega)]
      rw [f1, f2] at hnx
      rw [l_hd_snoc, l_tl_snoc] at hnx
      refine ⟨fun hn => ?_, fun u13 hu => ?_⟩
      · have hnil := tlnone _ hn
        rw [hnil, if_pos rfl] at hnx
        have := hnx X hf h0 h1 (by rw [← hr2]; exact hch.2) trivial hhi
        unfold wp_J8_resizeL_b271
        exact this
      · obtain ⟨z, hz, rfl⟩ := tlsome _ _ hu
        have hzp : z ∈ pre := (List.mem_filter.mp (List.mem_of_getLast? hz)).1
        have hne : pre.filter (fun h => h % (2 * cap) = j) ≠ [] := fun y => by rw [y] at hz; cases hz
        rw [if_neg hne] at hnx
        refine ⟨(hf.1 _).1.trans (htg z (hprel z hzp)).1, fun M16 h16 => ?_⟩
        obtain ⟨k1, k2, k3, k4, k5⟩ := link z hzp M16 h16
        have zh := of_decide_eq_true (List.mem_filter.mp (List.mem_of_getLast? hz)).2
        have := hnx M16 k1 k2 k3 k4 (l_sg_snoc hlo hz (by rw [h16, m_gr_pr, if_pos ⟨rfl, rfl⟩]) (fun x hx hxz => k5 x (hprel x (List.mem_filter.mp hx).1) hxz) (hpn.filter _)) (l_sg_same hhi (fun x hx => k5 x (hprel x (List.mem_filter.mp hx).1) (fun y => by
          have := of_decide_eq_true (List.mem_filter.mp hx).2
          rw [y] at this
          omega)))
        unfold wp_J8_resizeL_b271
        exact this
  intro rest
  induction rest with
  | nil =>
    intro pre e X hl hf h0 h1 hch hlo hhi
    exact body [] pre e X hl hf h0 h1 hch hlo hhi (fun b rest' er => by cases er)
  | cons b rest ih =>
    intro pre e X hl hf h0 h1 hch hlo hhi
    refine body (b :: rest) pre e X hl hf h0 h1 hch hlo hhi (fun b' rest' er X2 k1 k2 k3 k4 k5 k6 => ?_)
    cases er
    exact ih (pre ++ [e]) b X2 (by rw [hl, List.append_assoc]; rfl) k1 k2 k3 k4 k5 k6
end
