/-! PURE: what a desk does, on contents (both programs' fields at once) -/
set_option maxRecDepth 100000
def u_w (σ : Cn) (s k f : Nat) : Nat := (σ s k f).toNatClampNeg
theorem u_w_of {σ : Cn} {s k f a : Nat} (h : σ s k f = nI a) (ha : a < 2147483648) : u_w σ s k f = a := by unfold u_w; rw [h, pn_cl ha]
def u_first (P : Nat → Bool) (t : Nat) : Nat → Nat → Nat
  | _, 0 => t
  | a, d + 1 => if P a = true then a else u_first P t (a + 1) d
/-- the next area on the way -/
def u_nx (D W : Nat → Nat → Nat) (f t : Nat) : Nat := u_first (fun a => decide (D f a < 100000 ∧ D f a + W a t = W f t)) t 0 12
def u_it (D W : Nat → Nat → Nat) (t a : Nat) : Nat → Nat
  | 0 => a
  | i + 1 => u_nx D W (u_it D W t a i) t
def u_len (D W : Nat → Nat → Nat) (a t : Nat) : Nat := u_first (fun i => decide (u_it D W t a i = t)) 12 0 12
def u_ok (D W : Nat → Nat → Nat) (own a t e : Nat) : Bool := decide (e < u_len D W a t ∧ (e = 0 ∨ (u_it D W t a e / 4 = own ∧ u_it D W t a (e + 1) / 4 = own)))
def u_end (D W : Nat → Nat → Nat) (own a t : Nat) : Nat := u_first (fun e => !(u_ok D W own a t e)) 12 0 12
def u_mins (D W : Nat → Nat → Nat) (a t : Nat) : Nat → Nat
  | 0 => 0
  | e + 1 => u_mins D W a t e + D (u_it D W t a e) (u_it D W t a (e + 1))
def u_free (σ : Cn) (p : Nat) : Cn := c_up (c_up (c_up (c_up (c_up σ 2 p 3 0) 2 p 5 (-5)) 2 p 6 (-5)) 2 p 20 (-5)) 2 p 21 (-5)
def u_wait (σ : Cn) (c : Nat) (a : Int32) : Cn := c_up (c_up (c_up σ 4 c 1 a) 4 c 5 3) 4 c 6 (-5)
def u_fee (σ : Cn) (c m : Nat) : Int32 := if 0 ≤ 20 - 10 * σ 1 m 0 - 5 * σ 4 c 10 then 20 - 10 * σ 1 m 0 - 5 * σ 4 c 10 else 0
def u_repair (σ : Cn) (p c m : Nat) : Cn :=
  u_free (c_up (c_up (c_up (c_up (c_up (c_up (c_up (c_up (c_up σ 1 m 20 (σ 1 m 20 + u_fee σ c m)) 1 m 22 (nI p)) 1 m 23 (σ 0 0 0)) 2 p 7 (σ 2 p 7 + 1)) 4 c 5 5) 4 c 6 (-5)) 4 c 9 (σ 0 0 0)) 1 m 1 (σ 1 m 1 + u_fee σ c m)) 0 0 10 (σ 0 0 10 + u_fee σ c m)) p
def u_endTow (σ : Cn) (p c q : Nat) : Cn :=
  if σ 3 q 0 = σ 2 p 20 then
    u_free (c_up (c_up (c_up (c_up (c_up (c_up (c_up (c_up (c_up (c_up σ 2 p 4 (σ 2 p 20)) 3 q 20 (σ 3 q 20 - 1)) 2 p 8 (σ 2 p 8 + 1)) 3 q 2 (σ 3 q 2 + 1)) 3 q 3 (σ 3 q 3 + 1)) 4 c 1 (σ 2 p 20)) 4 c 11 (nI q)) 4 c 5 6) 4 c 6 (-5)) 4 c 9 (σ 0 0 0)) p
  else u_free (u_wait (c_up (c_up (c_up σ 2 p 4 (σ 2 p 20)) 3 q 20 (σ 3 q 20 - 1)) 2 p 8 (σ 2 p 8 + 1)) c (σ 2 p 20)) p
/-- the nearest garage with a place, of the first k -/
def u_less (W : Nat → Nat → Nat) (σ : Cn) (a k : Nat) : Option Nat → Bool
  | none => true
  | some b => decide (W a (u_w σ 3 k 0) < W a (u_w σ 3 b 0))
def u_gar (W : Nat → Nat → Nat) (σ : Cn) (a : Nat) : Nat → Option Nat
  | 0 => none
  | k + 1 => if σ 3 k 2 + σ 3 k 20 < σ 3 k 1 ∧ W a (u_w σ 3 k 0) < 100000 ∧ u_less W σ a k (u_gar W σ a k) = true then some k else u_gar W σ a k
def u_towTo (D W : Nat → Nat → Nat) (σ : Cn) (p c q own a t : Nat) : Cn :=
  c_up (c_up (c_up (c_up (c_up (c_up (c_up (c_up (c_up σ 4 c 5 4) 4 c 6 (nI p)) 2 p 3 3) 2 p 6 (nI (if u_mins D W a t (u_end D W own a t) = 0 then 1 else 2 * u_mins D W a t (u_end D W own a t)))) 2 p 20 (nI (u_it D W t a (u_end D W own a t)))) 2 p 21 (nI q)) 3 q 20 (σ 3 q 20 + 1)) 2 p 12 (nI (u_it D W t a (u_end D W own a t)))) 2 p 13 (nI q)
def u_tow (D W : Nat → Nat → Nat) (n : Nat → Nat) (σ : Cn) (p c : Nat) : Cn :=
  match u_gar W σ (u_w σ 4 c 1) (n 3) with
  | none => u_free (u_wait σ c (σ 4 c 1)) p
  | some q => u_towTo D W σ p c q (u_w σ 2 p 0 / 4) (u_w σ 4 c 1) (u_w σ 3 q 0)
/-- a patrol is at a car that waits for it -/
def u_come1 (σ : Cn) (p c : Nat) : Cn := c_up (c_up (c_up (c_up (c_up σ 2 p 4 (σ 4 c 1)) 4 c 8 (nI p)) 4 c 20 (σ 0 0 0)) 2 p 10 (σ 2 p 10 + (σ 0 0 0 - σ 4 c 4))) 4 c 7 (σ 0 0 0 - σ 4 c 4)
def u_come2 (σ : Cn) (m : Nat) : Cn := c_up (c_up (c_up (c_up σ 1 m 21 (σ 1 m 21 + 15)) 1 m 1 (σ 1 m 1 + (-15))) 1 m 3 (σ 1 m 3 + 1)) 0 0 11 (σ 0 0 11 + 15)
def u_come3 (D W : Nat → Nat → Nat) (n : Nat → Nat) (σ : Cn) (p c : Nat) : Cn :=
  if σ 4 c 2 - 3 ≤ σ 2 p 1 then c_up (c_up (c_up σ 4 c 5 2) 2 p 3 2) 2 p 6 (5 * σ 4 c 2)
  else if σ 2 p 2 = 1 ∧ u_w σ 2 p 0 / 4 = u_w σ 4 c 1 / 4 then u_tow D W n σ p c
  else u_free (u_wait σ c (σ 4 c 1)) p
def u_there (D W : Nat → Nat → Nat) (n : Nat → Nat) (σ : Cn) (p c : Nat) : Cn :=
  if σ 4 c 5 = 3 then u_tow D W n (c_up σ 2 p 4 (σ 4 c 1)) p c
  else u_come3 D W n (if σ 4 c 3 < σ 0 0 0 - σ 4 c 4 then u_come2 (u_come1 σ p c) (u_w σ 4 c 0) else u_come1 σ p c) p c
def u_goOn (D W : Nat → Nat → Nat) (n : Nat → Nat) (σ : Cn) (p : Nat) : Cn × Int32 :=
  if σ 2 p 3 = 1 ∨ σ 2 p 3 = 2 ∨ σ 2 p 3 = 3 then
    let τ := c_up (c_up σ 2 p 6 (σ 2 p 6 - 1)) 2 p 11 (σ 2 p 11 + 1)
    if σ 2 p 6 - 1 = 0 then
      if σ 2 p 3 = 1 then (u_there D W n τ p (u_w σ 2 p 5), 0)
      else if σ 2 p 3 = 2 then (u_repair τ p (u_w σ 2 p 5) (u_w σ 4 (u_w σ 2 p 5) 0), 1)
      else (u_endTow τ p (u_w σ 2 p 5) (u_w σ 2 p 21), if σ 3 (u_w σ 2 p 21) 0 = σ 2 p 20 then 1 else 0)
    else (τ, 0)
  else (σ, 0)
def u_goAll (D W : Nat → Nat → Nat) (n : Nat → Nat) (σ : Cn) : Nat → Cn × Int32
  | 0 => (σ, 0)
  | p + 1 => ((u_goOn D W n (u_goAll D W n σ p).1 p).1, (u_goAll D W n σ p).2 + (u_goOn D W n (u_goAll D W n σ p).1 p).2)
def u_rest (σ : Cn) (c : Nat) : Int32 := σ 4 c 3 - (σ 0 0 0 - σ 4 c 4)
def u_ahead (σ : Cn) (c d : Nat) : Bool :=
  if u_rest σ c = u_rest σ d then (if σ 1 (u_w σ 4 c 0) 0 = σ 1 (u_w σ 4 d 0) 0 then decide (c < d) else decide (σ 1 (u_w σ 4 d 0) 0 < σ 1 (u_w σ 4 c 0) 0)) else decide (u_rest σ c < u_rest σ d)
def u_pl (σ : Cn) (c : Nat) (f : Nat → Nat) : Nat → Nat
  | 0 => 0
  | i + 1 => if u_ahead σ c (f i) = true then u_pl σ c f i else i + 1
def u_ins (f : Nat → Nat) (q c : Nat) : Nat → Nat := fun k => if k < q then f k else if k = q then c else f (k - 1)
def u_waits (σ : Cn) (c : Nat) : Bool := decide (σ 4 c 5 = 0 ∨ (σ 4 c 5 = 3 ∧ σ 4 c 6 = -5))
/-- the calls that wait, of the first so many, in their order -/
def u_row (σ : Cn) : Nat → Nat × (Nat → Nat)
  | 0 => (0, fun _ => 0)
  | c + 1 => if u_waits σ c = true then ((u_row σ c).1 + 1, u_ins (u_row σ c).2 (u_pl σ c (u_row σ c).2 (u_row σ c).1) c) else u_row σ c
def u_fit (σ : Cn) (p c : Nat) : Bool :=
  if σ 4 c 5 = 0 then decide (u_w σ 2 p 0 / 4 ≤ u_w σ 4 c 1 / 4 + 1 ∧ u_w σ 4 c 1 / 4 ≤ u_w σ 2 p 0 / 4 + 1) else decide (σ 2 p 2 = 1 ∧ u_w σ 2 p 0 / 4 = u_w σ 4 c 1 / 4)
def u_may (W : Nat → Nat → Nat) (σ : Cn) (p c : Nat) : Bool := decide (σ 2 p 3 = 0 ∧ W (u_w σ 2 p 4) (u_w σ 4 c 1) < 100000 ∧ u_fit σ p c = true)
/-- the patrol that is sent, of the first so many -/
def u_near (W : Nat → Nat → Nat) (σ : Cn) (c : Nat) : Nat → Option Nat
  | 0 => none
  | p + 1 => if u_may W σ p c = true then (match u_near W σ c p with
      | none => some p
      | some b => if W (u_w σ 2 p 4) (u_w σ 4 c 1) < W (u_w σ 2 b 4) (u_w σ 4 c 1) ∨ (W (u_w σ 2 p 4) (u_w σ 4 c 1) = W (u_w σ 2 b 4) (u_w σ 4 c 1) ∧ σ 2 b 1 < σ 2 p 1) then some p else some b) else u_near W σ c p
def u_begin (σ : Cn) (p c : Nat) (far : Int32) : Cn := c_up (c_up (c_up (c_up (c_up σ 2 p 3 1) 2 p 5 (nI c)) 2 p 6 far) 4 c 6 (nI p)) 4 c 5 (if σ 4 c 5 = 3 then 3 else 1)
def u_send (D W : Nat → Nat → Nat) (n : Nat → Nat) (σ : Cn) (c : Nat) : Cn :=
  match u_near W σ c (n 2) with
  | none => σ
  | some p => if W (u_w σ 2 p 4) (u_w σ 4 c 1) = 0 then u_there D W n (u_begin σ p c (nI (W (u_w σ 2 p 4) (u_w σ 4 c 1)))) p c else u_begin σ p c (nI (W (u_w σ 2 p 4) (u_w σ 4 c 1)))
def u_sendAll (D W : Nat → Nat → Nat) (n : Nat → Nat) (σ : Cn) (f : Nat → Nat) : Nat → Cn
  | 0 => σ
  | k + 1 => u_send D W n (u_sendAll D W n σ f k) (f k)
def u_sent (D W : Nat → Nat → Nat) (n : Nat → Nat) (σ : Cn) : Cn := u_sendAll D W n σ (u_row σ (n 4)).2 (u_row σ (n 4)).1
/-- a minute -/
def u_pass (D W : Nat → Nat → Nat) (n : Nat → Nat) (σ : Cn) : Cn := c_up (u_sent D W n (u_goAll D W n σ (n 2)).1) 0 0 0 (u_sent D W n (u_goAll D W n σ (n 2)).1 0 0 0 + 1)
