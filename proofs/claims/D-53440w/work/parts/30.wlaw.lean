/-! walks (printed by gen/desk.py): 30.wlaw.lean -/
set_option maxRecDepth 100000
set_option maxHeartbeats 4000000
def wp_L_law_b481 (g : Nat → Nat) (k18 : Mem → Nat → Nat → Int32 → Prop) (M : Mem) (la1 : Nat) (la2 : Nat) (lx3 : Int32) (sx0 : Int32) (sa1 : Nat) (sx2 : Int32) (sx3 : Int32) (bS L9 : Nat) (xs : Nat → Int32) : Prop := m_tg M sa1 = 5 ∧ wp_X4_duty g M sa1 sx2 sx3 (fun (r4 : Int32) (M2 : Mem) => m_le M M2 → ((sx0 = r4 → k18 M2 la1 la2 (lx3 + 4)) ∧ (¬ sx0 = r4 → False)))
def wp_L_law_b459 (g : Nat → Nat) (k18 : Mem → Nat → Nat → Int32 → Prop) (M : Mem) (la1 : Nat) (la2 : Nat) (lx3 : Int32) (sa0 : Nat) (sx1 : Int32) (sx2 : Int32) (bS L9 : Nat) (xs : Nat → Int32) : Prop := m_tg M sa0 = 1 ∧ wp_X0_duty g M sa0 sx1 sx2 (fun (r4 : Int32) (M2 : Mem) => m_le M M2 → vp_in (lx3 + 1) L9 ∧ vp_in (lx3 + 2) L9 ∧ (((xs (Int32.toNatClampNeg (lx3 + 2))) = 0 → wp_L_law_b481 g k18 M2 la1 la2 lx3 r4 la2 (xs (Int32.toNatClampNeg (lx3 + 1))) 0 bS L9 xs) ∧ (¬ (xs (Int32.toNatClampNeg (lx3 + 2))) = 0 → wp_L_law_b481 g k18 M2 la1 la2 lx3 r4 la2 (xs (Int32.toNatClampNeg (lx3 + 1))) 1 bS L9 xs)))
def wp_L_law_b277 (g : Nat → Nat) (k18 : Mem → Nat → Nat → Int32 → Prop) (M : Mem) (la1 : Nat) (la2 : Nat) (lx3 : Int32) (sx0 : Int32) (sa1 : Nat) (sx2 : Int32) (sx3 : Int32) (sx4 : Int32) (bS L9 : Nat) (xs : Nat → Int32) : Prop := m_tg M sa1 = 5 ∧ wp_X4_addPatrol g M sa1 sx2 sx3 sx4 (fun (r4 : Int32) (M2 : Mem) => m_le M M2 → ((sx0 = r4 → k18 M2 la1 la2 (lx3 + 4)) ∧ (¬ sx0 = r4 → False)))
def wp_L_law_b250 (g : Nat → Nat) (k18 : Mem → Nat → Nat → Int32 → Prop) (M : Mem) (la1 : Nat) (la2 : Nat) (lx3 : Int32) (sa0 : Nat) (sx1 : Int32) (sx2 : Int32) (sx3 : Int32) (bS L9 : Nat) (xs : Nat → Int32) : Prop := m_tg M sa0 = 1 ∧ wp_X0_addPatrol g M sa0 sx1 sx2 sx3 (fun (r4 : Int32) (M2 : Mem) => m_le M M2 → vp_in (lx3 + 1) L9 ∧ vp_in (lx3 + 2) L9 ∧ vp_in (lx3 + 3) L9 ∧ (((xs (Int32.toNatClampNeg (lx3 + 3))) = 0 → wp_L_law_b277 g k18 M2 la1 la2 lx3 r4 la2 (xs (Int32.toNatClampNeg (lx3 + 1))) (xs (Int32.toNatClampNeg (lx3 + 2))) 0 bS L9 xs) ∧ (¬ (xs (Int32.toNatClampNeg (lx3 + 3))) = 0 → wp_L_law_b277 g k18 M2 la1 la2 lx3 r4 la2 (xs (Int32.toNatClampNeg (lx3 + 1))) (xs (Int32.toNatClampNeg (lx3 + 2))) 1 bS L9 xs)))
def wp_L_law_b18 (g : Nat → Nat) (bS L9 : Nat) (xs : Nat → Int32) : Nat → Mem → Nat → Nat → Int32 → Prop
  | 0 => fun _ _ _ _ => False
  | n + 1 => fun M la1 la2 lx3 => ((((Int32.ofNat L9) - 4) < lx3 → True) ∧ (¬ ((Int32.ofNat L9) - 4) < lx3 → vp_in lx3 L9 ∧ ((((xs (Int32.toNatClampNeg lx3)) &&& 31) = 0 → vp_in (lx3 + 1) L9 ∧ vp_in (lx3 + 2) L9 ∧ vp_in (lx3 + 3) L9 ∧ m_tg M la1 = 1 ∧ wp_X0_addRoad g M la1 (xs (Int32.toNatClampNeg (lx3 + 1))) (xs (Int32.toNatClampNeg (lx3 + 2))) (xs (Int32.toNatClampNeg (lx3 + 3))) (fun (r10 : Int32) (M8 : Mem) => m_le M M8 → vp_in (lx3 + 1) L9 ∧ vp_in (lx3 + 2) L9 ∧ vp_in (lx3 + 3) L9 ∧ m_tg M8 la2 = 5 ∧ wp_X4_addRoad g M8 la2 (xs (Int32.toNatClampNeg (lx3 + 1))) (xs (Int32.toNatClampNeg (lx3 + 2))) (xs (Int32.toNatClampNeg (lx3 + 3))) (fun (r18 : Int32) (M16 : Mem) => m_le M8 M16 → ((r10 = r18 → wp_L_law_b18 g bS L9 xs n M16 la1 la2 (lx3 + 4)) ∧ (¬ r10 = r18 → False))))) ∧ (¬ ((xs (Int32.toNatClampNeg lx3)) &&& 31) = 0 → ((((xs (Int32.toNatClampNeg lx3)) &&& 31) = 1 → vp_in (lx3 + 1) L9 ∧ m_tg M la1 = 1 ∧ wp_X0_addMember g M la1 (xs (Int32.toNatClampNeg (lx3 + 1))) (fun (r27 : Int32) (M25 : Mem) => m_le M M25 → vp_in (lx3 + 1) L9 ∧ m_tg M25 la2 = 5 ∧ wp_X4_addMember g M25 la2 (xs (Int32.toNatClampNeg (lx3 + 1))) (fun (r33 : Int32) (M31 : Mem) => m_le M25 M31 → ((r27 = r33 → wp_L_law_b18 g bS L9 xs n M31 la1 la2 (lx3 + 4)) ∧ (¬ r27 = r33 → False))))) ∧ (¬ ((xs (Int32.toNatClampNeg lx3)) &&& 31) = 1 → ((((xs (Int32.toNatClampNeg lx3)) &&& 31) = 2 → vp_in (lx3 + 1) L9 ∧ vp_in (lx3 + 2) L9 ∧ vp_in (lx3 + 3) L9 ∧ (((xs (Int32.toNatClampNeg (lx3 + 3))) = 0 → wp_L_law_b250 g (wp_L_law_b18 g bS L9 xs n) M la1 la2 lx3 la1 (xs (Int32.toNatClampNeg (lx3 + 1))) (xs (Int32.toNatClampNeg (lx3 + 2))) 0 bS L9 xs) ∧ (¬ (xs (Int32.toNatClampNeg (lx3 + 3))) = 0 → wp_L_law_b250 g (wp_L_law_b18 g bS L9 xs n) M la1 la2 lx3 la1 (xs (Int32.toNatClampNeg (lx3 + 1))) (xs (Int32.toNatClampNeg (lx3 + 2))) 1 bS L9 xs))) ∧ (¬ ((xs (Int32.toNatClampNeg lx3)) &&& 31) = 2 → ((((xs (Int32.toNatClampNeg lx3)) &&& 31) = 3 → vp_in (lx3 + 1) L9 ∧ vp_in (lx3 + 2) L9 ∧ m_tg M la1 = 1 ∧ wp_X0_addGarage g M la1 (xs (Int32.toNatClampNeg (lx3 + 1))) (xs (Int32.toNatClampNeg (lx3 + 2))) (fun (r48 : Int32) (M46 : Mem) => m_le M M46 → vp_in (lx3 + 1) L9 ∧ vp_in (lx3 + 2) L9 ∧ m_tg M46 la2 = 5 ∧ wp_X4_addGarage g M46 la2 (xs (Int32.toNatClampNeg (lx3 + 1))) (xs (Int32.toNatClampNeg (lx3 + 2))) (fun (r55 : Int32) (M53 : Mem) => m_le M46 M53 → ((r48 = r55 → wp_L_law_b18 g bS L9 xs n M53 la1 la2 (lx3 + 4)) ∧ (¬ r48 = r55 → False))))) ∧ (¬ ((xs (Int32.toNatClampNeg lx3)) &&& 31) = 3 → ((((xs (Int32.toNatClampNeg lx3)) &&& 31) = 4 → vp_in (lx3 + 1) L9 ∧ vp_in (lx3 + 2) L9 ∧ m_tg M la1 = 1 ∧ wp_X0_setPromise g M la1 (xs (Int32.toNatClampNeg (lx3 + 1))) (xs (Int32.toNatClampNeg (lx3 + 2))) (fun (r65 : Int32) (M63 : Mem) => m_le M M63 → vp_in (lx3 + 1) L9 ∧ vp_in (lx3 + 2) L9 ∧ m_tg M63 la2 = 5 ∧ wp_X4_setPromise g M63 la2 (xs (Int32.toNatClampNeg (lx3 + 1))) (xs (Int32.toNatClampNeg (lx3 + 2))) (fun (r72 : Int32) (M70 : Mem) => m_le M63 M70 → ((r65 = r72 → wp_L_law_b18 g bS L9 xs n M70 la1 la2 (lx3 + 4)) ∧ (¬ r65 = r72 → False))))) ∧ (¬ ((xs (Int32.toNatClampNeg lx3)) &&& 31) = 4 → ((((xs (Int32.toNatClampNeg lx3)) &&& 31) = 5 → vp_in (lx3 + 1) L9 ∧ m_tg M la1 = 1 ∧ wp_X0_setWeather g M la1 (xs (Int32.toNatClampNeg (lx3 + 1))) (fun (r81 : Int32) (M79 : Mem) => m_le M M79 → vp_in (lx3 + 1) L9 ∧ m_tg M79 la2 = 5 ∧ wp_X4_setWeather g M79 la2 (xs (Int32.toNatClampNeg (lx3 + 1))) (fun (r87 : Int32) (M85 : Mem) => m_le M79 M85 → ((r81 = r87 → wp_L_law_b18 g bS L9 xs n M85 la1 la2 (lx3 + 4)) ∧ (¬ r81 = r87 → False))))) ∧ (¬ ((xs (Int32.toNatClampNeg lx3)) &&& 31) = 5 → ((((xs (Int32.toNatClampNeg lx3)) &&& 31) = 6 → vp_in (lx3 + 1) L9 ∧ vp_in (lx3 + 2) L9 ∧ vp_in (lx3 + 3) L9 ∧ m_tg M la1 = 1 ∧ wp_X0_call g M la1 (xs (Int32.toNatClampNeg (lx3 + 1))) (xs (Int32.toNatClampNeg (lx3 + 2))) (xs (Int32.toNatClampNeg (lx3 + 3))) (fun (r98 : Int32) (M96 : Mem) => m_le M M96 → vp_in (lx3 + 1) L9 ∧ vp_in (lx3 + 2) L9 ∧ vp_in (lx3 + 3) L9 ∧ m_tg M96 la2 = 5 ∧ wp_X4_call g M96 la2 (xs (Int32.toNatClampNeg (lx3 + 1))) (xs (Int32.toNatClampNeg (lx3 + 2))) (xs (Int32.toNatClampNeg (lx3 + 3))) (fun (r106 : Int32) (M104 : Mem) => m_le M96 M104 → ((r98 = r106 → wp_L_law_b18 g bS L9 xs n M104 la1 la2 (lx3 + 4)) ∧ (¬ r98 = r106 → False))))) ∧ (¬ ((xs (Int32.toNatClampNeg lx3)) &&& 31) = 6 → ((((xs (Int32.toNatClampNeg lx3)) &&& 31) = 7 → vp_in (lx3 + 1) L9 ∧ m_tg M la1 = 1 ∧ wp_X0_cancel g M la1 (xs (Int32.toNatClampNeg (lx3 + 1))) (fun (r115 : Int32) (M113 : Mem) => m_le M M113 → vp_in (lx3 + 1) L9 ∧ m_tg M113 la2 = 5 ∧ wp_X4_cancel g M113 la2 (xs (Int32.toNatClampNeg (lx3 + 1))) (fun (r121 : Int32) (M119 : Mem) => m_le M113 M119 → ((r115 = r121 → wp_L_law_b18 g bS L9 xs n M119 la1 la2 (lx3 + 4)) ∧ (¬ r115 = r121 → False))))) ∧ (¬ ((xs (Int32.toNatClampNeg lx3)) &&& 31) = 7 → ((((xs (Int32.toNatClampNeg lx3)) &&& 31) = 8 → vp_in (lx3 + 1) L9 ∧ vp_in (lx3 + 2) L9 ∧ (((xs (Int32.toNatClampNeg (lx3 + 2))) = 0 → wp_L_law_b459 g (wp_L_law_b18 g bS L9 xs n) M la1 la2 lx3 la1 (xs (Int32.toNatClampNeg (lx3 + 1))) 0 bS L9 xs) ∧ (¬ (xs (Int32.toNatClampNeg (lx3 + 2))) = 0 → wp_L_law_b459 g (wp_L_law_b18 g bS L9 xs n) M la1 la2 lx3 la1 (xs (Int32.toNatClampNeg (lx3 + 1))) 1 bS L9 xs))) ∧ (¬ ((xs (Int32.toNatClampNeg lx3)) &&& 31) = 8 → ((((xs (Int32.toNatClampNeg lx3)) &&& 31) = 9 → vp_in (lx3 + 1) L9 ∧ m_tg M la1 = 1 ∧ wp_X0_goHome g M la1 (xs (Int32.toNatClampNeg (lx3 + 1))) (fun (r134 : Int32) (M132 : Mem) => m_le M M132 → vp_in (lx3 + 1) L9 ∧ m_tg M132 la2 = 5 ∧ wp_X4_goHome g M132 la2 (xs (Int32.toNatClampNeg (lx3 + 1))) (fun (r140 : Int32) (M138 : Mem) => m_le M132 M138 → ((r134 = r140 → wp_L_law_b18 g bS L9 xs n M138 la1 la2 (lx3 + 4)) ∧ (¬ r134 = r140 → False))))) ∧ (¬ ((xs (Int32.toNatClampNeg lx3)) &&& 31) = 9 → ((((xs (Int32.toNatClampNeg lx3)) &&& 31) = 10 → vp_in (lx3 + 1) L9 ∧ vp_in (lx3 + 2) L9 ∧ m_tg M la1 = 1 ∧ wp_X0_fetch g M la1 (xs (Int32.toNatClampNeg (lx3 + 1))) (xs (Int32.toNatClampNeg (lx3 + 2))) (fun (r150 : Int32) (M148 : Mem) => m_le M M148 → vp_in (lx3 + 1) L9 ∧ vp_in (lx3 + 2) L9 ∧ m_tg M148 la2 = 5 ∧ wp_X4_fetch g M148 la2 (xs (Int32.toNatClampNeg (lx3 + 1))) (xs (Int32.toNatClampNeg (lx3 + 2))) (fun (r157 : Int32) (M155 : Mem) => m_le M148 M155 → ((r150 = r157 → wp_L_law_b18 g bS L9 xs n M155 la1 la2 (lx3 + 4)) ∧ (¬ r150 = r157 → False))))) ∧ (¬ ((xs (Int32.toNatClampNeg lx3)) &&& 31) = 10 → ((((xs (Int32.toNatClampNeg lx3)) &&& 31) = 11 → vp_in (lx3 + 1) L9 ∧ m_tg M la1 = 1 ∧ wp_X0_pass g M la1 (xs (Int32.toNatClampNeg (lx3 + 1))) (fun (r166 : Int32) (M164 : Mem) => m_le M M164 → vp_in (lx3 + 1) L9 ∧ m_tg M164 la2 = 5 ∧ wp_X4_pass g M164 la2 (xs (Int32.toNatClampNeg (lx3 + 1))) (fun (r172 : Int32) (M170 : Mem) => m_le M164 M170 → ((r166 = r172 → wp_L_law_b18 g bS L9 xs n M170 la1 la2 (lx3 + 4)) ∧ (¬ r166 = r172 → False))))) ∧ (¬ ((xs (Int32.toNatClampNeg lx3)) &&& 31) = 11 → ((((xs (Int32.toNatClampNeg lx3)) &&& 31) = 12 → vp_in (lx3 + 1) L9 ∧ m_tg M la1 = 1 ∧ wp_X0_type g M la1 ((Int32.toUInt32 (xs (Int32.toNatClampNeg (lx3 + 1))) % 65536).toInt32) (fun (r181 : Int32) (M179 : Mem) => m_le M M179 → vp_in (lx3 + 1) L9 ∧ m_tg M179 la2 = 5 ∧ wp_X4_type g M179 la2 ((Int32.toUInt32 (xs (Int32.toNatClampNeg (lx3 + 1))) % 65536).toInt32) (fun (r187 : Int32) (M185 : Mem) => m_le M179 M185 → ((r181 = r187 → wp_L_law_b18 g bS L9 xs n M185 la1 la2 (lx3 + 4)) ∧ (¬ r181 = r187 → False))))) ∧ (¬ ((xs (Int32.toNatClampNeg lx3)) &&& 31) = 12 → ((((xs (Int32.toNatClampNeg lx3)) &&& 31) = 13 → m_tg M la1 = 1 ∧ wp_X0_clearText g M la1 (fun (r195 : Int32) (M193 : Mem) => m_le M M193 → m_tg M193 la2 = 5 ∧ wp_X4_clearText g M193 la2 (fun (r200 : Int32) (M198 : Mem) => m_le M193 M198 → ((r195 = r200 → wp_L_law_b18 g bS L9 xs n M198 la1 la2 (lx3 + 4)) ∧ (¬ r195 = r200 → False))))) ∧ (¬ ((xs (Int32.toNatClampNeg lx3)) &&& 31) = 13 → ((((xs (Int32.toNatClampNeg lx3)) &&& 31) = 14 → m_tg M la1 = 1 ∧ wp_X0_readCalls g M la1 (fun (r208 : Int32) (M206 : Mem) => m_le M M206 → m_tg M206 la2 = 5 ∧ wp_X4_readCalls g M206 la2 (fun (r213 : Int32) (M211 : Mem) => m_le M206 M211 → ((r208 = r213 → wp_L_law_b18 g bS L9 xs n M211 la1 la2 (lx3 + 4)) ∧ (¬ r208 = r213 → False))))) ∧ (¬ ((xs (Int32.toNatClampNeg lx3)) &&& 31) = 14 → ((((xs (Int32.toNatClampNeg lx3)) &&& 31) = 15 → m_tg M la1 = 1 ∧ wp_X0_undo g M la1 (fun (r221 : Int32) (M219 : Mem) => m_le M M219 → m_tg M219 la2 = 5 ∧ wp_X4_undo g M219 la2 (fun (r226 : Int32) (M224 : Mem) => m_le M219 M224 → ((r221 = r226 → wp_L_law_b18 g bS L9 xs n M224 la1 la2 (lx3 + 4)) ∧ (¬ r221 = r226 → False))))) ∧ (¬ ((xs (Int32.toNatClampNeg lx3)) &&& 31) = 15 → ((((xs (Int32.toNatClampNeg lx3)) &&& 31) = 16 → m_tg M la1 = 1 ∧ wp_X0_keep g M la1 (fun (r234 : Int32) (M232 : Mem) => m_le M M232 → m_tg M232 la2 = 5 ∧ wp_X4_keep g M232 la2 (fun (r239 : Int32) (M237 : Mem) => m_le M232 M237 → ((r234 = r239 → wp_L_law_b18 g bS L9 xs n M237 la1 la2 (lx3 + 4)) ∧ (¬ r234 = r239 → False))))) ∧ (¬ ((xs (Int32.toNatClampNeg lx3)) &&& 31) = 16 → ((((xs (Int32.toNatClampNeg lx3)) &&& 31) = 17 → m_tg M la1 = 1 ∧ wp_X0_restore g M la1 (fun (r247 : Int32) (M245 : Mem) => m_le M M245 → m_tg M245 la2 = 5 ∧ wp_X4_restore g M245 la2 (fun (r252 : Int32) (M250 : Mem) => m_le M245 M250 → ((r247 = r252 → wp_L_law_b18 g bS L9 xs n M250 la1 la2 (lx3 + 4)) ∧ (¬ r247 = r252 → False))))) ∧ (¬ ((xs (Int32.toNatClampNeg lx3)) &&& 31) = 17 → ((((xs (Int32.toNatClampNeg lx3)) &&& 31) = 18 → vp_in (lx3 + 1) L9 ∧ vp_in (lx3 + 2) L9 ∧ m_tg M la1 = 1 ∧ wp_X0_distance g M la1 (xs (Int32.toNatClampNeg (lx3 + 1))) (xs (Int32.toNatClampNeg (lx3 + 2))) (fun (r262 : Int32) (M260 : Mem) => m_le M M260 → vp_in (lx3 + 1) L9 ∧ vp_in (lx3 + 2) L9 ∧ m_tg M260 la2 = 5 ∧ wp_X4_distance g M260 la2 (xs (Int32.toNatClampNeg (lx3 + 1))) (xs (Int32.toNatClampNeg (lx3 + 2))) (fun (r269 : Int32) (M267 : Mem) => m_le M260 M267 → ((r262 = r269 → wp_L_law_b18 g bS L9 xs n M267 la1 la2 (lx3 + 4)) ∧ (¬ r262 = r269 → False))))) ∧ (¬ ((xs (Int32.toNatClampNeg lx3)) &&& 31) = 18 → ((((xs (Int32.toNatClampNeg lx3)) &&& 31) = 19 → vp_in (lx3 + 1) L9 ∧ vp_in (lx3 + 2) L9 ∧ vp_in (lx3 + 3) L9 ∧ m_tg M la1 = 1 ∧ wp_X0_wayAt g M la1 (xs (Int32.toNatClampNeg (lx3 + 1))) (xs (Int32.toNatClampNeg (lx3 + 2))) (xs (Int32.toNatClampNeg (lx3 + 3))) (fun (r280 : Int32) (M278 : Mem) => m_le M M278 → vp_in (lx3 + 1) L9 ∧ vp_in (lx3 + 2) L9 ∧ vp_in (lx3 + 3) L9 ∧ m_tg M278 la2 = 5 ∧ wp_X4_wayAt g M278 la2 (xs (Int32.toNatClampNeg (lx3 + 1))) (xs (Int32.toNatClampNeg (lx3 + 2))) (xs (Int32.toNatClampNeg (lx3 + 3))) (fun (r288 : Int32) (M286 : Mem) => m_le M278 M286 → ((r280 = r288 → wp_L_law_b18 g bS L9 xs n M286 la1 la2 (lx3 + 4)) ∧ (¬ r280 = r288 → False))))) ∧ (¬ ((xs (Int32.toNatClampNeg lx3)) &&& 31) = 19 → ((((xs (Int32.toNatClampNeg lx3)) &&& 31) = 20 → vp_in (lx3 + 1) L9 ∧ vp_in (lx3 + 2) L9 ∧ m_tg M la1 = 1 ∧ wp_X0_member g M la1 (xs (Int32.toNatClampNeg (lx3 + 1))) (xs (Int32.toNatClampNeg (lx3 + 2))) (fun (r298 : Int32) (M296 : Mem) => m_le M M296 → vp_in (lx3 + 1) L9 ∧ vp_in (lx3 + 2) L9 ∧ m_tg M296 la2 = 5 ∧ wp_X4_member g M296 la2 (xs (Int32.toNatClampNeg (lx3 + 1))) (xs (Int32.toNatClampNeg (lx3 + 2))) (fun (r305 : Int32) (M303 : Mem) => m_le M296 M303 → ((r298 = r305 → wp_L_law_b18 g bS L9 xs n M303 la1 la2 (lx3 + 4)) ∧ (¬ r298 = r305 → False))))) ∧ (¬ ((xs (Int32.toNatClampNeg lx3)) &&& 31) = 20 → ((((xs (Int32.toNatClampNeg lx3)) &&& 31) = 21 → vp_in (lx3 + 1) L9 ∧ vp_in (lx3 + 2) L9 ∧ m_tg M la1 = 1 ∧ wp_X0_patrol g M la1 (xs (Int32.toNatClampNeg (lx3 + 1))) (xs (Int32.toNatClampNeg (lx3 + 2))) (fun (r315 : Int32) (M313 : Mem) => m_le M M313 → vp_in (lx3 + 1) L9 ∧ vp_in (lx3 + 2) L9 ∧ m_tg M313 la2 = 5 ∧ wp_X4_patrol g M313 la2 (xs (Int32.toNatClampNeg (lx3 + 1))) (xs (Int32.toNatClampNeg (lx3 + 2))) (fun (r322 : Int32) (M320 : Mem) => m_le M313 M320 → ((r315 = r322 → wp_L_law_b18 g bS L9 xs n M320 la1 la2 (lx3 + 4)) ∧ (¬ r315 = r322 → False))))) ∧ (¬ ((xs (Int32.toNatClampNeg lx3)) &&& 31) = 21 → ((((xs (Int32.toNatClampNeg lx3)) &&& 31) = 22 → vp_in (lx3 + 1) L9 ∧ vp_in (lx3 + 2) L9 ∧ m_tg M la1 = 1 ∧ wp_X0_garage g M la1 (xs (Int32.toNatClampNeg (lx3 + 1))) (xs (Int32.toNatClampNeg (lx3 + 2))) (fun (r332 : Int32) (M330 : Mem) => m_le M M330 → vp_in (lx3 + 1) L9 ∧ vp_in (lx3 + 2) L9 ∧ m_tg M330 la2 = 5 ∧ wp_X4_garage g M330 la2 (xs (Int32.toNatClampNeg (lx3 + 1))) (xs (Int32.toNatClampNeg (lx3 + 2))) (fun (r339 : Int32) (M337 : Mem) => m_le M330 M337 → ((r332 = r339 → wp_L_law_b18 g bS L9 xs n M337 la1 la2 (lx3 + 4)) ∧ (¬ r332 = r339 → False))))) ∧ (¬ ((xs (Int32.toNatClampNeg lx3)) &&& 31) = 22 → ((((xs (Int32.toNatClampNeg lx3)) &&& 31) = 23 → vp_in (lx3 + 1) L9 ∧ vp_in (lx3 + 2) L9 ∧ m_tg M la1 = 1 ∧ wp_X0_callOf g M la1 (xs (Int32.toNatClampNeg (lx3 + 1))) (xs (Int32.toNatClampNeg (lx3 + 2))) (fun (r349 : Int32) (M347 : Mem) => m_le M M347 → vp_in (lx3 + 1) L9 ∧ vp_in (lx3 + 2) L9 ∧ m_tg M347 la2 = 5 ∧ wp_X4_callOf g M347 la2 (xs (Int32.toNatClampNeg (lx3 + 1))) (xs (Int32.toNatClampNeg (lx3 + 2))) (fun (r356 : Int32) (M354 : Mem) => m_le M347 M354 → ((r349 = r356 → wp_L_law_b18 g bS L9 xs n M354 la1 la2 (lx3 + 4)) ∧ (¬ r349 = r356 → False))))) ∧ (¬ ((xs (Int32.toNatClampNeg lx3)) &&& 31) = 23 → ((((xs (Int32.toNatClampNeg lx3)) &&& 31) = 24 → vp_in (lx3 + 1) L9 ∧ m_tg M la1 = 1 ∧ wp_X0_waiting g M la1 (xs (Int32.toNatClampNeg (lx3 + 1))) (fun (r365 : Int32) (M363 : Mem) => m_le M M363 → vp_in (lx3 + 1) L9 ∧ m_tg M363 la2 = 5 ∧ wp_X4_waiting g M363 la2 (xs (Int32.toNatClampNeg (lx3 + 1))) (fun (r371 : Int32) (M369 : Mem) => m_le M363 M369 → ((r365 = r371 → wp_L_law_b18 g bS L9 xs n M369 la1 la2 (lx3 + 4)) ∧ (¬ r365 = r371 → False))))) ∧ (¬ ((xs (Int32.toNatClampNeg lx3)) &&& 31) = 24 → ((((xs (Int32.toNatClampNeg lx3)) &&& 31) = 25 → vp_in (lx3 + 1) L9 ∧ m_tg M la1 = 1 ∧ wp_X0_nearest g M la1 (xs (Int32.toNatClampNeg (lx3 + 1))) (fun (r380 : Int32) (M378 : Mem) => m_le M M378 → vp_in (lx3 + 1) L9 ∧ m_tg M378 la2 = 5 ∧ wp_X4_nearest g M378 la2 (xs (Int32.toNatClampNeg (lx3 + 1))) (fun (r386 : Int32) (M384 : Mem) => m_le M378 M384 → ((r380 = r386 → wp_L_law_b18 g bS L9 xs n M384 la1 la2 (lx3 + 4)) ∧ (¬ r380 = r386 → False))))) ∧ (¬ ((xs (Int32.toNatClampNeg lx3)) &&& 31) = 25 → ((((xs (Int32.toNatClampNeg lx3)) &&& 31) = 26 → vp_in (lx3 + 1) L9 ∧ m_tg M la1 = 1 ∧ wp_X0_waitFor g M la1 (xs (Int32.toNatClampNeg (lx3 + 1))) (fun (r395 : Int32) (M393 : Mem) => m_le M M393 → vp_in (lx3 + 1) L9 ∧ m_tg M393 la2 = 5 ∧ wp_X4_waitFor g M393 la2 (xs (Int32.toNatClampNeg (lx3 + 1))) (fun (r401 : Int32) (M399 : Mem) => m_le M393 M399 → ((r395 = r401 → wp_L_law_b18 g bS L9 xs n M399 la1 la2 (lx3 + 4)) ∧ (¬ r395 = r401 → False))))) ∧ (¬ ((xs (Int32.toNatClampNeg lx3)) &&& 31) = 26 → ((((xs (Int32.toNatClampNeg lx3)) &&& 31) = 27 → vp_in (lx3 + 1) L9 ∧ m_tg M la1 = 1 ∧ wp_X0_count g M la1 (xs (Int32.toNatClampNeg (lx3 + 1))) (fun (r410 : Int32) (M408 : Mem) => m_le M M408 → vp_in (lx3 + 1) L9 ∧ m_tg M408 la2 = 5 ∧ wp_X4_count g M408 la2 (xs (Int32.toNatClampNeg (lx3 + 1))) (fun (r416 : Int32) (M414 : Mem) => m_le M408 M414 → ((r410 = r416 → wp_L_law_b18 g bS L9 xs n M414 la1 la2 (lx3 + 4)) ∧ (¬ r410 = r416 → False))))) ∧ (¬ ((xs (Int32.toNatClampNeg lx3)) &&& 31) = 27 → wp_L_law_b18 g bS L9 xs n M la1 la2 (lx3 + 4)))))))))))))))))))))))))))))))))))))))))))))))))))))))))))
def wp_L_law (g : Nat → Nat) (M : Mem)  (bS L9 : Nat) (xs : Nat → Int32) : Prop := m_fits M 4 ∧ ∀ u2 : Nat, m_tg M u2 = 0 → ∀ M4 : Mem, M4 = (m_al M u2 1 0 4) → wp_X0_init g M4 u2 (fun (M8 : Mem) => m_le M4 M8 → m_fits M8 15 ∧ ∀ u12 : Nat, m_tg M8 u12 = 0 → ∀ M14 : Mem, M14 = (m_al M8 u12 5 0 15) → wp_X4_init g M14 u12 (fun (M19 : Mem) => m_le M14 M19 → ∃ j18 : Nat, wp_L_law_b18 g bS L9 xs j18 M19 u2 u12 0))
theorem bk_L_law_481 (G : Gp) (C : m_Cx) (n0 s0 : Nat) (M0 : Mem) (bS L9 : Nat) (xs : Nat → Int32) {nm9 : String} (X : m_in G C R_law cL_law 4 (some .boolean) nm9 8192 104096 n0 s0) (hB : m_law G C bS L9 xs) (hl : C.2.1.stackTraces = false) (k18 : Mem → Nat → Nat → Int32 → Prop) (hk18 : ∀ (M : Mem) (la1 : Nat) (la2 : Nat) (lx3 : Int32), k18 M la1 la2 lx3 → pW G C 4 n0 s0 M0 (lw_Z (m_be C) #[.ref bS] (m_s C)) M 18 [(0, vR (some bS)), (1, vR (some la1)), (2, vR (some la2)), (3, vI lx3)] []) (M : Mem) (la1 : Nat) (la2 : Nat) (lx3 : Int32) (sx0 : Int32) (sa1 : Nat) (sx2 : Int32) (sx3 : Int32) (hw : wp_L_law_b481 G.2 k18 M la1 la2 lx3 sx0 sa1 sx2 sx3 bS L9 xs) : pW G C 4 n0 s0 M0 (lw_Z (m_be C) #[.ref bS] (m_s C)) M 481 [(0, vR (some bS)), (1, vR (some la1)), (2, vR (some la2)), (3, vI lx3)] [vI sx3, vI sx2, vR (some sa1), vI sx0] := by
  obtain ⟨ht1, hw⟩ := hw
  refine pw_runi X (m_cV X (b := sa1) (ci := 4) (q := (RX4, TX4, tyX4, 15)) (met_X4_duty G C.2.1 M sa1 sx2 sx3 _ hw) ht1 rfl (lw_V q2089 q2090 q2091 q107 q2092) ⟨rfl, nh_X4_duty⟩ ⟨Nat.le_of_ble_eq_true rfl, Nat.le_of_ble_eq_true rfl⟩ rfl (Nat.le_of_ble_eq_true rfl) dL_law_481) (fun r4 M2 hle3 hx => ?_)
  replace hw := hx hle3
  clear hx
  have ht5 : m_tg M2 sa1 = 5 := m_le_tg hle3 ht1
  refine pw_icmp_eq X 958 dL_law_484 (by decide) (fun c6 => ?_) (fun c6 => ?_)
  · replace hw := hw.1 c6
    refine pw_iinc X (lx3 + 4) [(0, vR (some bS)), (1, vR (some la1)), (2, vR (some la2)), (3, vI (lx3 + 4))] [1, 2, 3, 0] dL_law_958 rfl (by first | rfl | decide) (by decide) rfl ?_
    refine pw_goto X 18 dL_law_961 (by decide) ?_
    exact hk18 _ la1 la2 (lx3 + 4) hw
  · replace hw := hw.2 c6
    refine pw_iconst X 0 dL_law_487 (by decide) ?_
    exact hw.elim
theorem bk_L_law_459 (G : Gp) (C : m_Cx) (n0 s0 : Nat) (M0 : Mem) (bS L9 : Nat) (xs : Nat → Int32) {nm9 : String} (X : m_in G C R_law cL_law 4 (some .boolean) nm9 8192 104096 n0 s0) (hB : m_law G C bS L9 xs) (hl : C.2.1.stackTraces = false) (k18 : Mem → Nat → Nat → Int32 → Prop) (hk18 : ∀ (M : Mem) (la1 : Nat) (la2 : Nat) (lx3 : Int32), k18 M la1 la2 lx3 → pW G C 4 n0 s0 M0 (lw_Z (m_be C) #[.ref bS] (m_s C)) M 18 [(0, vR (some bS)), (1, vR (some la1)), (2, vR (some la2)), (3, vI lx3)] []) (M : Mem) (la1 : Nat) (la2 : Nat) (lx3 : Int32) (sa0 : Nat) (sx1 : Int32) (sx2 : Int32) (hw : wp_L_law_b459 G.2 k18 M la1 la2 lx3 sa0 sx1 sx2 bS L9 xs) : pW G C 4 n0 s0 M0 (lw_Z (m_be C) #[.ref bS] (m_s C)) M 459 [(0, vR (some bS)), (1, vR (some la1)), (2, vR (some la2)), (3, vI lx3)] [vI sx2, vI sx1, vR (some sa0)] := by
  obtain ⟨ht1, hw⟩ := hw
  refine pw_runi X (m_cV X (b := sa0) (ci := 0) (q := (RX0, TX0, tyX0, 4)) (met_X0_duty G C.2.1 M sa0 sx1 sx2 _ hw) ht1 rfl (lw_V q1414 q1415 q1416 q78 q1417) ⟨rfl, nh_X0_duty⟩ ⟨Nat.le_of_ble_eq_true rfl, Nat.le_of_ble_eq_true rfl⟩ rfl (Nat.le_of_ble_eq_true rfl) dL_law_459) (fun r4 M2 hle3 hx => ?_)
  replace hw := hx hle3
  clear hx
  have ht5 : m_tg M2 sa0 = 1 := m_le_tg hle3 ht1
  refine pw_aload_n X dL_law_462 rfl rfl ?_
  refine pw_aload_n X dL_law_463 rfl rfl ?_
  refine pw_iload_n X dL_law_464 rfl rfl ?_
  refine pw_iconst X 1 dL_law_465 (by decide) ?_
  refine pw_iadd X dL_law_466 ?_
  obtain ⟨hi6, hw⟩ := hw
  refine pw_sld X hB hi6 dL_law_467 ?_
  refine pw_aload_n X dL_law_468 rfl rfl ?_
  refine pw_iload_n X dL_law_469 rfl rfl ?_
  refine pw_iconst X 2 dL_law_470 (by decide) ?_
  refine pw_iadd X dL_law_471 ?_
  obtain ⟨hi7, hw⟩ := hw
  refine pw_sld X hB hi7 dL_law_472 ?_
  refine pw_if_eq X 480 dL_law_473 (by decide) (fun c8 => ?_) (fun c8 => ?_)
  · replace hw := hw.1 c8
    refine pw_iconst X 0 dL_law_480 (by decide) ?_
    exact bk_L_law_481 G C n0 s0 M0 bS L9 xs X hB hl k18 hk18 _ la1 la2 lx3 r4 la2 (xs (Int32.toNatClampNeg (lx3 + 1))) 0 hw
  · replace hw := hw.2 c8
    refine pw_iconst X 1 dL_law_476 (by decide) ?_
    refine pw_goto X 481 dL_law_477 (by decide) ?_
    exact bk_L_law_481 G C n0 s0 M0 bS L9 xs X hB hl k18 hk18 _ la1 la2 lx3 r4 la2 (xs (Int32.toNatClampNeg (lx3 + 1))) 1 hw
theorem bk_L_law_277 (G : Gp) (C : m_Cx) (n0 s0 : Nat) (M0 : Mem) (bS L9 : Nat) (xs : Nat → Int32) {nm9 : String} (X : m_in G C R_law cL_law 4 (some .boolean) nm9 8192 104096 n0 s0) (hB : m_law G C bS L9 xs) (hl : C.2.1.stackTraces = false) (k18 : Mem → Nat → Nat → Int32 → Prop) (hk18 : ∀ (M : Mem) (la1 : Nat) (la2 : Nat) (lx3 : Int32), k18 M la1 la2 lx3 → pW G C 4 n0 s0 M0 (lw_Z (m_be C) #[.ref bS] (m_s C)) M 18 [(0, vR (some bS)), (1, vR (some la1)), (2, vR (some la2)), (3, vI lx3)] []) (M : Mem) (la1 : Nat) (la2 : Nat) (lx3 : Int32) (sx0 : Int32) (sa1 : Nat) (sx2 : Int32) (sx3 : Int32) (sx4 : Int32) (hw : wp_L_law_b277 G.2 k18 M la1 la2 lx3 sx0 sa1 sx2 sx3 sx4 bS L9 xs) : pW G C 4 n0 s0 M0 (lw_Z (m_be C) #[.ref bS] (m_s C)) M 277 [(0, vR (some bS)), (1, vR (some la1)), (2, vR (some la2)), (3, vI lx3)] [vI sx4, vI sx3, vI sx2, vR (some sa1), vI sx0] := by
  obtain ⟨ht1, hw⟩ := hw
  refine pw_runi X (m_cV X (b := sa1) (ci := 4) (q := (RX4, TX4, tyX4, 15)) (met_X4_addPatrol G C.2.1 M sa1 sx2 sx3 sx4 _ hw) ht1 rfl (lw_V q2013 q2014 q2015 q107 q2016) ⟨rfl, nh_X4_addPatrol⟩ ⟨Nat.le_of_ble_eq_true rfl, Nat.le_of_ble_eq_true rfl⟩ rfl (Nat.le_of_ble_eq_true rfl) dL_law_277) (fun r4 M2 hle3 hx => ?_)
  replace hw := hx hle3
  clear hx
  have ht5 : m_tg M2 sa1 = 5 := m_le_tg hle3 ht1
  refine pw_icmp_eq X 958 dL_law_280 (by decide) (fun c6 => ?_) (fun c6 => ?_)
  · replace hw := hw.1 c6
    refine pw_iinc X (lx3 + 4) [(0, vR (some bS)), (1, vR (some la1)), (2, vR (some la2)), (3, vI (lx3 + 4))] [1, 2, 3, 0] dL_law_958 rfl (by first | rfl | decide) (by decide) rfl ?_
    refine pw_goto X 18 dL_law_961 (by decide) ?_
    exact hk18 _ la1 la2 (lx3 + 4) hw
  · replace hw := hw.2 c6
    refine pw_iconst X 0 dL_law_283 (by decide) ?_
    exact hw.elim
theorem bk_L_law_250 (G : Gp) (C : m_Cx) (n0 s0 : Nat) (M0 : Mem) (bS L9 : Nat) (xs : Nat → Int32) {nm9 : String} (X : m_in G C R_law cL_law 4 (some .boolean) nm9 8192 104096 n0 s0) (hB : m_law G C bS L9 xs) (hl : C.2.1.stackTraces = false) (k18 : Mem → Nat → Nat → Int32 → Prop) (hk18 : ∀ (M : Mem) (la1 : Nat) (la2 : Nat) (lx3 : Int32), k18 M la1 la2 lx3 → pW G C 4 n0 s0 M0 (lw_Z (m_be C) #[.ref bS] (m_s C)) M 18 [(0, vR (some bS)), (1, vR (some la1)), (2, vR (some la2)), (3, vI lx3)] []) (M : Mem) (la1 : Nat) (la2 : Nat) (lx3 : Int32) (sa0 : Nat) (sx1 : Int32) (sx2 : Int32) (sx3 : Int32) (hw : wp_L_law_b250 G.2 k18 M la1 la2 lx3 sa0 sx1 sx2 sx3 bS L9 xs) : pW G C 4 n0 s0 M0 (lw_Z (m_be C) #[.ref bS] (m_s C)) M 250 [(0, vR (some bS)), (1, vR (some la1)), (2, vR (some la2)), (3, vI lx3)] [vI sx3, vI sx2, vI sx1, vR (some sa0)] := by
  obtain ⟨ht1, hw⟩ := hw
  refine pw_runi X (m_cV X (b := sa0) (ci := 0) (q := (RX0, TX0, tyX0, 4)) (met_X0_addPatrol G C.2.1 M sa0 sx1 sx2 sx3 _ hw) ht1 rfl (lw_V q1282 q1283 q1284 q78 q1285) ⟨rfl, nh_X0_addPatrol⟩ ⟨Nat.le_of_ble_eq_true rfl, Nat.le_of_ble_eq_true rfl⟩ rfl (Nat.le_of_ble_eq_true rfl) dL_law_250) (fun r4 M2 hle3 hx => ?_)
  replace hw := hx hle3
  clear hx
  have ht5 : m_tg M2 sa0 = 1 := m_le_tg hle3 ht1
  refine pw_aload_n X dL_law_253 rfl rfl ?_
  refine pw_aload_n X dL_law_254 rfl rfl ?_
  refine pw_iload_n X dL_law_255 rfl rfl ?_
  refine pw_iconst X 1 dL_law_256 (by decide) ?_
  refine pw_iadd X dL_law_257 ?_
  obtain ⟨hi6, hw⟩ := hw
  refine pw_sld X hB hi6 dL_law_258 ?_
  refine pw_aload_n X dL_law_259 rfl rfl ?_
  refine pw_iload_n X dL_law_260 rfl rfl ?_
  refine pw_iconst X 2 dL_law_261 (by decide) ?_
  refine pw_iadd X dL_law_262 ?_
  obtain ⟨hi7, hw⟩ := hw
  refine pw_sld X hB hi7 dL_law_263 ?_
  refine pw_aload_n X dL_law_264 rfl rfl ?_
  refine pw_iload_n X dL_law_265 rfl rfl ?_
  refine pw_iconst X 3 dL_law_266 (by decide) ?_
  refine pw_iadd X dL_law_267 ?_
  obtain ⟨hi8, hw⟩ := hw
  refine pw_sld X hB hi8 dL_law_268 ?_
  refine pw_if_eq X 276 dL_law_269 (by decide) (fun c9 => ?_) (fun c9 => ?_)
  · replace hw := hw.1 c9
    refine pw_iconst X 0 dL_law_276 (by decide) ?_
    exact bk_L_law_277 G C n0 s0 M0 bS L9 xs X hB hl k18 hk18 _ la1 la2 lx3 r4 la2 (xs (Int32.toNatClampNeg (lx3 + 1))) (xs (Int32.toNatClampNeg (lx3 + 2))) 0 hw
  · replace hw := hw.2 c9
    refine pw_iconst X 1 dL_law_272 (by decide) ?_
    refine pw_goto X 277 dL_law_273 (by decide) ?_
    exact bk_L_law_277 G C n0 s0 M0 bS L9 xs X hB hl k18 hk18 _ la1 la2 lx3 r4 la2 (xs (Int32.toNatClampNeg (lx3 + 1))) (xs (Int32.toNatClampNeg (lx3 + 2))) 1 hw
theorem bk_L_law_18 (G : Gp) (C : m_Cx) (n0 s0 : Nat) (M0 : Mem) (bS L9 : Nat) (xs : Nat → Int32) {nm9 : String} (X : m_in G C R_law cL_law 4 (some .boolean) nm9 8192 104096 n0 s0) (hB : m_law G C bS L9 xs) (hl : C.2.1.stackTraces = false) : ∀ (n : Nat) (M : Mem) (la1 : Nat) (la2 : Nat) (lx3 : Int32) (hw : wp_L_law_b18 G.2 bS L9 xs n M la1 la2 lx3), pW G C 4 n0 s0 M0 (lw_Z (m_be C) #[.ref bS] (m_s C)) M 18 [(0, vR (some bS)), (1, vR (some la1)), (2, vR (some la2)), (3, vI lx3)] [] := by
  intro n
  induction n with
  | zero => intro M la1 la2 lx3 hw; exact hw.elim
  | succ n ih =>
    intro M la1 la2 lx3 hw
    refine pw_iload_n X dL_law_18 rfl rfl ?_
    refine pw_aload_n X dL_law_19 rfl rfl ?_
    refine pw_slen X hB dL_law_20 ?_
    refine pw_iconst X 4 dL_law_21 (by decide) ?_
    refine pw_isub X dL_law_22 ?_
    refine pw_icmp_gt X 964 dL_law_23 (by decide) (fun c1 => ?_) (fun c1 => ?_)
    · replace hw := hw.1 c1
      refine pw_iconst X 1 dL_law_964 (by decide) ?_
      exact pw_lawret X hB dL_law_965
    · replace hw := hw.2 c1
      refine pw_aload_n X dL_law_26 rfl rfl ?_
      refine pw_iload_n X dL_law_27 rfl rfl ?_
      obtain ⟨hi2, hw⟩ := hw
      refine pw_sld X hB hi2 dL_law_28 ?_
      refine pw_bipush X 31 dL_law_29 (by decide) ?_
      refine pw_iand X dL_law_31 ?_
      by_cases c3 : ((xs (Int32.toNatClampNeg lx3)) &&& 31) = 0
      · replace hw := hw.1 c3
        refine pw_tableIn X 0 160 dL_law_32 c3 (by decide) (by decide) rfl (by decide) ?_
        refine pw_aload_n X dL_law_160 rfl rfl ?_
        refine pw_aload_n X dL_law_161 rfl rfl ?_
        refine pw_iload_n X dL_law_162 rfl rfl ?_
        refine pw_iconst X 1 dL_law_163 (by decide) ?_
        refine pw_iadd X dL_law_164 ?_
        obtain ⟨hi4, hw⟩ := hw
        refine pw_sld X hB hi4 dL_law_165 ?_
        refine pw_aload_n X dL_law_166 rfl rfl ?_
        refine pw_iload_n X dL_law_167 rfl rfl ?_
        refine pw_iconst X 2 dL_law_168 (by decide) ?_
        refine pw_iadd X dL_law_169 ?_
        obtain ⟨hi5, hw⟩ := hw
        refine pw_sld X hB hi5 dL_law_170 ?_
        refine pw_aload_n X dL_law_171 rfl rfl ?_
        refine pw_iload_n X dL_law_172 rfl rfl ?_
        refine pw_iconst X 3 dL_law_173 (by decide) ?_
        refine pw_iadd X dL_law_174 ?_
        obtain ⟨hi6, hw⟩ := hw
        refine pw_sld X hB hi6 dL_law_175 ?_
        obtain ⟨ht7, hw⟩ := hw
        refine pw_runi X (m_cV X (b := la1) (ci := 0) (q := (RX0, TX0, tyX0, 4)) (met_X0_addRoad G C.2.1 M la1 (xs (Int32.toNatClampNeg (lx3 + 1))) (xs (Int32.toNatClampNeg (lx3 + 2))) (xs (Int32.toNatClampNeg (lx3 + 3))) _ hw) ht7 rfl (lw_V q961 q962 q963 q78 q964) ⟨rfl, nh_X0_addRoad⟩ ⟨Nat.le_of_ble_eq_true rfl, Nat.le_of_ble_eq_true rfl⟩ rfl (Nat.le_of_ble_eq_true rfl) dL_law_176) (fun r10 M8 hle9 hx => ?_)
        replace hw := hx hle9
        clear hx
        have ht11 : m_tg M8 la1 = 1 := m_le_tg hle9 ht7
        refine pw_aload_n X dL_law_179 rfl rfl ?_
        refine pw_aload_n X dL_law_180 rfl rfl ?_
        refine pw_iload_n X dL_law_181 rfl rfl ?_
        refine pw_iconst X 1 dL_law_182 (by decide) ?_
        refine pw_iadd X dL_law_183 ?_
        obtain ⟨hi12, hw⟩ := hw
        refine pw_sld X hB hi12 dL_law_184 ?_
        refine pw_aload_n X dL_law_185 rfl rfl ?_
        refine pw_iload_n X dL_law_186 rfl rfl ?_
        refine pw_iconst X 2 dL_law_187 (by decide) ?_
        refine pw_iadd X dL_law_188 ?_
        obtain ⟨hi13, hw⟩ := hw
        refine pw_sld X hB hi13 dL_law_189 ?_
        refine pw_aload_n X dL_law_190 rfl rfl ?_
        refine pw_iload_n X dL_law_191 rfl rfl ?_
        refine pw_iconst X 3 dL_law_192 (by decide) ?_
        refine pw_iadd X dL_law_193 ?_
        obtain ⟨hi14, hw⟩ := hw
        refine pw_sld X hB hi14 dL_law_194 ?_
        obtain ⟨ht15, hw⟩ := hw
        refine pw_runi X (m_cV X (b := la2) (ci := 4) (q := (RX4, TX4, tyX4, 15)) (met_X4_addRoad G C.2.1 M8 la2 (xs (Int32.toNatClampNeg (lx3 + 1))) (xs (Int32.toNatClampNeg (lx3 + 2))) (xs (Int32.toNatClampNeg (lx3 + 3))) _ hw) ht15 rfl (lw_V q1992 q1993 q1994 q107 q1995) ⟨rfl, nh_X4_addRoad⟩ ⟨Nat.le_of_ble_eq_true rfl, Nat.le_of_ble_eq_true rfl⟩ rfl (Nat.le_of_ble_eq_true rfl) dL_law_195) (fun r18 M16 hle17 hx => ?_)
        replace hw := hx hle17
        clear hx
        have ht19 : m_tg M16 la1 = 1 := m_le_tg hle17 ht11
        have ht20 : m_tg M16 la2 = 5 := m_le_tg hle17 ht15
        refine pw_icmp_eq X 958 dL_law_198 (by decide) (fun c21 => ?_) (fun c21 => ?_)
        · replace hw := hw.1 c21
          refine pw_iinc X (lx3 + 4) [(0, vR (some bS)), (1, vR (some la1)), (2, vR (some la2)), (3, vI (lx3 + 4))] [1, 2, 3, 0] dL_law_958 rfl (by first | rfl | decide) (by decide) rfl ?_
          refine pw_goto X 18 dL_law_961 (by decide) ?_
          exact ih _ la1 la2 (lx3 + 4) hw
        · replace hw := hw.2 c21
          refine pw_iconst X 0 dL_law_201 (by decide) ?_
          exact hw.elim
      replace hw := hw.2 c3
      by_cases c22 : ((xs (Int32.toNatClampNeg lx3)) &&& 31) = 1
      · replace hw := hw.1 c22
        refine pw_tableIn X 1 203 dL_law_32 c22 (by decide) (by decide) rfl (by decide) ?_
        refine pw_aload_n X dL_law_203 rfl rfl ?_
        refine pw_aload_n X dL_law_204 rfl rfl ?_
        refine pw_iload_n X dL_law_205 rfl rfl ?_
        refine pw_iconst X 1 dL_law_206 (by decide) ?_
        refine pw_iadd X dL_law_207 ?_
        obtain ⟨hi23, hw⟩ := hw
        refine pw_sld X hB hi23 dL_law_208 ?_
        obtain ⟨ht24, hw⟩ := hw
        refine pw_runi X (m_cV X (b := la1) (ci := 0) (q := (RX0, TX0, tyX0, 4)) (met_X0_addMember G C.2.1 M la1 (xs (Int32.toNatClampNeg (lx3 + 1))) _ hw) ht24 rfl (lw_V q1276 q1277 q1278 q78 q1279) ⟨rfl, nh_X0_addMember⟩ ⟨Nat.le_of_ble_eq_true rfl, Nat.le_of_ble_eq_true rfl⟩ rfl (Nat.le_of_ble_eq_true rfl) dL_law_209) (fun r27 M25 hle26 hx => ?_)
        replace hw := hx hle26
        clear hx
        have ht28 : m_tg M25 la1 = 1 := m_le_tg hle26 ht24
        refine pw_aload_n X dL_law_212 rfl rfl ?_
        refine pw_aload_n X dL_law_213 rfl rfl ?_
        refine pw_iload_n X dL_law_214 rfl rfl ?_
        refine pw_iconst X 1 dL_law_215 (by decide) ?_
        refine pw_iadd X dL_law_216 ?_
        obtain ⟨hi29, hw⟩ := hw
        refine pw_sld X hB hi29 dL_law_217 ?_
        obtain ⟨ht30, hw⟩ := hw
        refine pw_runi X (m_cV X (b := la2) (ci := 4) (q := (RX4, TX4, tyX4, 15)) (met_X4_addMember G C.2.1 M25 la2 (xs (Int32.toNatClampNeg (lx3 + 1))) _ hw) ht30 rfl (lw_V q2009 q2010 q2011 q107 q2012) ⟨rfl, nh_X4_addMember⟩ ⟨Nat.le_of_ble_eq_true rfl, Nat.le_of_ble_eq_true rfl⟩ rfl (Nat.le_of_ble_eq_true rfl) dL_law_218) (fun r33 M31 hle32 hx => ?_)
        replace hw := hx hle32
        clear hx
        have ht34 : m_tg M31 la1 = 1 := m_le_tg hle32 ht28
        have ht35 : m_tg M31 la2 = 5 := m_le_tg hle32 ht30
        refine pw_icmp_eq X 958 dL_law_221 (by decide) (fun c36 => ?_) (fun c36 => ?_)
        · replace hw := hw.1 c36
          refine pw_iinc X (lx3 + 4) [(0, vR (some bS)), (1, vR (some la1)), (2, vR (some la2)), (3, vI (lx3 + 4))] [1, 2, 3, 0] dL_law_958 rfl (by first | rfl | decide) (by decide) rfl ?_
          refine pw_goto X 18 dL_law_961 (by decide) ?_
          exact ih _ la1 la2 (lx3 + 4) hw
        · replace hw := hw.2 c36
          refine pw_iconst X 0 dL_law_224 (by decide) ?_
          exact hw.elim
      replace hw := hw.2 c22
      by_cases c37 : ((xs (Int32.toNatClampNeg lx3)) &&& 31) = 2
      · replace hw := hw.1 c37
        refine pw_tableIn X 2 226 dL_law_32 c37 (by decide) (by decide) rfl (by decide) ?_
        refine pw_aload_n X dL_law_226 rfl rfl ?_
        refine pw_aload_n X dL_law_227 rfl rfl ?_
        refine pw_iload_n X dL_law_228 rfl rfl ?_
        refine pw_iconst X 1 dL_law_229 (by decide) ?_
        refine pw_iadd X dL_law_230 ?_
        obtain ⟨hi38, hw⟩ := hw
        refine pw_sld X hB hi38 dL_law_231 ?_
        refine pw_aload_n X dL_law_232 rfl rfl ?_
        refine pw_iload_n X dL_law_233 rfl rfl ?_
        refine pw_iconst X 2 dL_law_234 (by decide) ?_
        refine pw_iadd X dL_law_235 ?_
        obtain ⟨hi39, hw⟩ := hw
        refine pw_sld X hB hi39 dL_law_236 ?_
        refine pw_aload_n X dL_law_237 rfl rfl ?_
        refine pw_iload_n X dL_law_238 rfl rfl ?_
        refine pw_iconst X 3 dL_law_239 (by decide) ?_
        refine pw_iadd X dL_law_240 ?_
        obtain ⟨hi40, hw⟩ := hw
        refine pw_sld X hB hi40 dL_law_241 ?_
        refine pw_if_eq X 249 dL_law_242 (by decide) (fun c41 => ?_) (fun c41 => ?_)
        · replace hw := hw.1 c41
          refine pw_iconst X 0 dL_law_249 (by decide) ?_
          exact bk_L_law_250 G C n0 s0 M0 bS L9 xs X hB hl (wp_L_law_b18 G.2 bS L9 xs n) ih _ la1 la2 lx3 la1 (xs (Int32.toNatClampNeg (lx3 + 1))) (xs (Int32.toNatClampNeg (lx3 + 2))) 0 hw
        · replace hw := hw.2 c41
          refine pw_iconst X 1 dL_law_245 (by decide) ?_
          refine pw_goto X 250 dL_law_246 (by decide) ?_
          exact bk_L_law_250 G C n0 s0 M0 bS L9 xs X hB hl (wp_L_law_b18 G.2 bS L9 xs n) ih _ la1 la2 lx3 la1 (xs (Int32.toNatClampNeg (lx3 + 1))) (xs (Int32.toNatClampNeg (lx3 + 2))) 1 hw
      replace hw := hw.2 c37
      by_cases c42 : ((xs (Int32.toNatClampNeg lx3)) &&& 31) = 3
      · replace hw := hw.1 c42
        refine pw_tableIn X 3 285 dL_law_32 c42 (by decide) (by decide) rfl (by decide) ?_
        refine pw_aload_n X dL_law_285 rfl rfl ?_
        refine pw_aload_n X dL_law_286 rfl rfl ?_
        refine pw_iload_n X dL_law_287 rfl rfl ?_
        refine pw_iconst X 1 dL_law_288 (by decide) ?_
        refine pw_iadd X dL_law_289 ?_
        obtain ⟨hi43, hw⟩ := hw
        refine pw_sld X hB hi43 dL_law_290 ?_
        refine pw_aload_n X dL_law_291 rfl rfl ?_
        refine pw_iload_n X dL_law_292 rfl rfl ?_
        refine pw_iconst X 2 dL_law_293 (by decide) ?_
        refine pw_iadd X dL_law_294 ?_
        obtain ⟨hi44, hw⟩ := hw
        refine pw_sld X hB hi44 dL_law_295 ?_
        obtain ⟨ht45, hw⟩ := hw
        refine pw_runi X (m_cV X (b := la1) (ci := 0) (q := (RX0, TX0, tyX0, 4)) (met_X0_addGarage G C.2.1 M la1 (xs (Int32.toNatClampNeg (lx3 + 1))) (xs (Int32.toNatClampNeg (lx3 + 2))) _ hw) ht45 rfl (lw_V q1288 q1289 q1290 q78 q1291) ⟨rfl, nh_X0_addGarage⟩ ⟨Nat.le_of_ble_eq_true rfl, Nat.le_of_ble_eq_true rfl⟩ rfl (Nat.le_of_ble_eq_true rfl) dL_law_296) (fun r48 M46 hle47 hx => ?_)
        replace hw := hx hle47
        clear hx
        have ht49 : m_tg M46 la1 = 1 := m_le_tg hle47 ht45
        refine pw_aload_n X dL_law_299 rfl rfl ?_
        refine pw_aload_n X dL_law_300 rfl rfl ?_
        refine pw_iload_n X dL_law_301 rfl rfl ?_
        refine pw_iconst X 1 dL_law_302 (by decide) ?_
        refine pw_iadd X dL_law_303 ?_
        obtain ⟨hi50, hw⟩ := hw
        refine pw_sld X hB hi50 dL_law_304 ?_
        refine pw_aload_n X dL_law_305 rfl rfl ?_
        refine pw_iload_n X dL_law_306 rfl rfl ?_
        refine pw_iconst X 2 dL_law_307 (by decide) ?_
        refine pw_iadd X dL_law_308 ?_
        obtain ⟨hi51, hw⟩ := hw
        refine pw_sld X hB hi51 dL_law_309 ?_
        obtain ⟨ht52, hw⟩ := hw
        refine pw_runi X (m_cV X (b := la2) (ci := 4) (q := (RX4, TX4, tyX4, 15)) (met_X4_addGarage G C.2.1 M46 la2 (xs (Int32.toNatClampNeg (lx3 + 1))) (xs (Int32.toNatClampNeg (lx3 + 2))) _ hw) ht52 rfl (lw_V q2025 q2026 q2027 q107 q2028) ⟨rfl, nh_X4_addGarage⟩ ⟨Nat.le_of_ble_eq_true rfl, Nat.le_of_ble_eq_true rfl⟩ rfl (Nat.le_of_ble_eq_true rfl) dL_law_310) (fun r55 M53 hle54 hx => ?_)
        replace hw := hx hle54
        clear hx
        have ht56 : m_tg M53 la1 = 1 := m_le_tg hle54 ht49
        have ht57 : m_tg M53 la2 = 5 := m_le_tg hle54 ht52
        refine pw_icmp_eq X 958 dL_law_313 (by decide) (fun c58 => ?_) (fun c58 => ?_)
        · replace hw := hw.1 c58
          refine pw_iinc X (lx3 + 4) [(0, vR (some bS)), (1, vR (some la1)), (2, vR (some la2)), (3, vI (lx3 + 4))] [1, 2, 3, 0] dL_law_958 rfl (by first | rfl | decide) (by decide) rfl ?_
          refine pw_goto X 18 dL_law_961 (by decide) ?_
          exact ih _ la1 la2 (lx3 + 4) hw
        · replace hw := hw.2 c58
          refine pw_iconst X 0 dL_law_316 (by decide) ?_
          exact hw.elim
      replace hw := hw.2 c42
      by_cases c59 : ((xs (Int32.toNatClampNeg lx3)) &&& 31) = 4
      · replace hw := hw.1 c59
        refine pw_tableIn X 4 318 dL_law_32 c59 (by decide) (by decide) rfl (by decide) ?_
        refine pw_aload_n X dL_law_318 rfl rfl ?_
        refine pw_aload_n X dL_law_319 rfl rfl ?_
        refine pw_iload_n X dL_law_320 rfl rfl ?_
        refine pw_iconst X 1 dL_law_321 (by decide) ?_
        refine pw_iadd X dL_law_322 ?_
        obtain ⟨hi60, hw⟩ := hw
        refine pw_sld X hB hi60 dL_law_323 ?_
        refine pw_aload_n X dL_law_324 rfl rfl ?_
        refine pw_iload_n X dL_law_325 rfl rfl ?_
        refine pw_iconst X 2 dL_law_326 (by decide) ?_
        refine pw_iadd X dL_law_327 ?_
        obtain ⟨hi61, hw⟩ := hw
        refine pw_sld X hB hi61 dL_law_328 ?_
        obtain ⟨ht62, hw⟩ := hw
        refine pw_runi X (m_cV X (b := la1) (ci := 0) (q := (RX0, TX0, tyX0, 4)) (met_X0_setPromise G C.2.1 M la1 (xs (Int32.toNatClampNeg (lx3 + 1))) (xs (Int32.toNatClampNeg (lx3 + 2))) _ hw) ht62 rfl (lw_V q1294 q1295 q1296 q78 q1297) ⟨rfl, nh_X0_setPromise⟩ ⟨Nat.le_of_ble_eq_true rfl, Nat.le_of_ble_eq_true rfl⟩ rfl (Nat.le_of_ble_eq_true rfl) dL_law_329) (fun r65 M63 hle64 hx => ?_)
        replace hw := hx hle64
        clear hx
        have ht66 : m_tg M63 la1 = 1 := m_le_tg hle64 ht62
        refine pw_aload_n X dL_law_332 rfl rfl ?_
        refine pw_aload_n X dL_law_333 rfl rfl ?_
        refine pw_iload_n X dL_law_334 rfl rfl ?_
        refine pw_iconst X 1 dL_law_335 (by decide) ?_
        refine pw_iadd X dL_law_336 ?_
        obtain ⟨hi67, hw⟩ := hw
        refine pw_sld X hB hi67 dL_law_337 ?_
        refine pw_aload_n X dL_law_338 rfl rfl ?_
        refine pw_iload_n X dL_law_339 rfl rfl ?_
        refine pw_iconst X 2 dL_law_340 (by decide) ?_
        refine pw_iadd X dL_law_341 ?_
        obtain ⟨hi68, hw⟩ := hw
        refine pw_sld X hB hi68 dL_law_342 ?_
        obtain ⟨ht69, hw⟩ := hw
        refine pw_runi X (m_cV X (b := la2) (ci := 4) (q := (RX4, TX4, tyX4, 15)) (met_X4_setPromise G C.2.1 M63 la2 (xs (Int32.toNatClampNeg (lx3 + 1))) (xs (Int32.toNatClampNeg (lx3 + 2))) _ hw) ht69 rfl (lw_V q2029 q2030 q2031 q107 q2032) ⟨rfl, nh_X4_setPromise⟩ ⟨Nat.le_of_ble_eq_true rfl, Nat.le_of_ble_eq_true rfl⟩ rfl (Nat.le_of_ble_eq_true rfl) dL_law_343) (fun r72 M70 hle71 hx => ?_)
        replace hw := hx hle71
        clear hx
        have ht73 : m_tg M70 la1 = 1 := m_le_tg hle71 ht66
        have ht74 : m_tg M70 la2 = 5 := m_le_tg hle71 ht69
        refine pw_icmp_eq X 958 dL_law_346 (by decide) (fun c75 => ?_) (fun c75 => ?_)
        · replace hw := hw.1 c75
          refine pw_iinc X (lx3 + 4) [(0, vR (some bS)), (1, vR (some la1)), (2, vR (some la2)), (3, vI (lx3 + 4))] [1, 2, 3, 0] dL_law_958 rfl (by first | rfl | decide) (by decide) rfl ?_
          refine pw_goto X 18 dL_law_961 (by decide) ?_
          exact ih _ la1 la2 (lx3 + 4) hw
        · replace hw := hw.2 c75
          refine pw_iconst X 0 dL_law_349 (by decide) ?_
          exact hw.elim
      replace hw := hw.2 c59
      by_cases c76 : ((xs (Int32.toNatClampNeg lx3)) &&& 31) = 5
      · replace hw := hw.1 c76
        refine pw_tableIn X 5 351 dL_law_32 c76 (by decide) (by decide) rfl (by decide) ?_
        refine pw_aload_n X dL_law_351 rfl rfl ?_
        refine pw_aload_n X dL_law_352 rfl rfl ?_
        refine pw_iload_n X dL_law_353 rfl rfl ?_
        refine pw_iconst X 1 dL_law_354 (by decide) ?_
        refine pw_iadd X dL_law_355 ?_
        obtain ⟨hi77, hw⟩ := hw
        refine pw_sld X hB hi77 dL_law_356 ?_
        obtain ⟨ht78, hw⟩ := hw
        refine pw_runi X (m_cV X (b := la1) (ci := 0) (q := (RX0, TX0, tyX0, 4)) (met_X0_setWeather G C.2.1 M la1 (xs (Int32.toNatClampNeg (lx3 + 1))) _ hw) ht78 rfl (lw_V q1298 q1299 q1300 q78 q1301) ⟨rfl, nh_X0_setWeather⟩ ⟨Nat.le_of_ble_eq_true rfl, Nat.le_of_ble_eq_true rfl⟩ rfl (Nat.le_of_ble_eq_true rfl) dL_law_357) (fun r81 M79 hle80 hx => ?_)
        replace hw := hx hle80
        clear hx
        have ht82 : m_tg M79 la1 = 1 := m_le_tg hle80 ht78
        refine pw_aload_n X dL_law_360 rfl rfl ?_
        refine pw_aload_n X dL_law_361 rfl rfl ?_
        refine pw_iload_n X dL_law_362 rfl rfl ?_
        refine pw_iconst X 1 dL_law_363 (by decide) ?_
        refine pw_iadd X dL_law_364 ?_
        obtain ⟨hi83, hw⟩ := hw
        refine pw_sld X hB hi83 dL_law_365 ?_
        obtain ⟨ht84, hw⟩ := hw
        refine pw_runi X (m_cV X (b := la2) (ci := 4) (q := (RX4, TX4, tyX4, 15)) (met_X4_setWeather G C.2.1 M79 la2 (xs (Int32.toNatClampNeg (lx3 + 1))) _ hw) ht84 rfl (lw_V q2033 q2034 q2035 q107 q2036) ⟨rfl, nh_X4_setWeather⟩ ⟨Nat.le_of_ble_eq_true rfl, Nat.le_of_ble_eq_true rfl⟩ rfl (Nat.le_of_ble_eq_true rfl) dL_law_366) (fun r87 M85 hle86 hx => ?_)
        replace hw := hx hle86
        clear hx
        have ht88 : m_tg M85 la1 = 1 := m_le_tg hle86 ht82
        have ht89 : m_tg M85 la2 = 5 := m_le_tg hle86 ht84
        refine pw_icmp_eq X 958 dL_law_369 (by decide) (fun c90 => ?_) (fun c90 => ?_)
        · replace hw := hw.1 c90
          refine pw_iinc X (lx3 + 4) [(0, vR (some bS)), (1, vR (some la1)), (2, vR (some la2)), (3, vI (lx3 + 4))] [1, 2, 3, 0] dL_law_958 rfl (by first | rfl | decide) (by decide) rfl ?_
          refine pw_goto X 18 dL_law_961 (by decide) ?_
          exact ih _ la1 la2 (lx3 + 4) hw
        · replace hw := hw.2 c90
          refine pw_iconst X 0 dL_law_372 (by decide) ?_
          exact hw.elim
      replace hw := hw.2 c76
      by_cases c91 : ((xs (Int32.toNatClampNeg lx3)) &&& 31) = 6
      · replace hw := hw.1 c91
        refine pw_tableIn X 6 374 dL_law_32 c91 (by decide) (by decide) rfl (by decide) ?_
        refine pw_aload_n X dL_law_374 rfl rfl ?_
        refine pw_aload_n X dL_law_375 rfl rfl ?_
        refine pw_iload_n X dL_law_376 rfl rfl ?_
        refine pw_iconst X 1 dL_law_377 (by decide) ?_
        refine pw_iadd X dL_law_378 ?_
        obtain ⟨hi92, hw⟩ := hw
        refine pw_sld X hB hi92 dL_law_379 ?_
        refine pw_aload_n X dL_law_380 rfl rfl ?_
        refine pw_iload_n X dL_law_381 rfl rfl ?_
        refine pw_iconst X 2 dL_law_382 (by decide) ?_
        refine pw_iadd X dL_law_383 ?_
        obtain ⟨hi93, hw⟩ := hw
        refine pw_sld X hB hi93 dL_law_384 ?_
        refine pw_aload_n X dL_law_385 rfl rfl ?_
        refine pw_iload_n X dL_law_386 rfl rfl ?_
        refine pw_iconst X 3 dL_law_387 (by decide) ?_
        refine pw_iadd X dL_law_388 ?_
        obtain ⟨hi94, hw⟩ := hw
        refine pw_sld X hB hi94 dL_law_389 ?_
        obtain ⟨ht95, hw⟩ := hw
        refine pw_runi X (m_cVW X (b := la1) (ci := 0) (q := (RX0, TX0, tyX0, 4)) (met_X0_call G C.2.1 hl M la1 (xs (Int32.toNatClampNeg (lx3 + 1))) (xs (Int32.toNatClampNeg (lx3 + 2))) (xs (Int32.toNatClampNeg (lx3 + 3))) _ hw) ht95 rfl (lw_VW q1302 q1303 q1304 q78 q1305) ⟨rfl, nh_X0_call⟩ ⟨Nat.le_of_ble_eq_true rfl, Nat.le_of_ble_eq_true rfl⟩ rfl (Nat.le_of_ble_eq_true rfl) dL_law_390) (fun r98 M96 hle97 hx => ?_)
        replace hw := hx hle97
        clear hx
        have ht99 : m_tg M96 la1 = 1 := m_le_tg hle97 ht95
        refine pw_aload_n X dL_law_393 rfl rfl ?_
        refine pw_aload_n X dL_law_394 rfl rfl ?_
        refine pw_iload_n X dL_law_395 rfl rfl ?_
        refine pw_iconst X 1 dL_law_396 (by decide) ?_
        refine pw_iadd X dL_law_397 ?_
        obtain ⟨hi100, hw⟩ := hw
        refine pw_sld X hB hi100 dL_law_398 ?_
        refine pw_aload_n X dL_law_399 rfl rfl ?_
        refine pw_iload_n X dL_law_400 rfl rfl ?_
        refine pw_iconst X 2 dL_law_401 (by decide) ?_
        refine pw_iadd X dL_law_402 ?_
        obtain ⟨hi101, hw⟩ := hw
        refine pw_sld X hB hi101 dL_law_403 ?_
        refine pw_aload_n X dL_law_404 rfl rfl ?_
        refine pw_iload_n X dL_law_405 rfl rfl ?_
        refine pw_iconst X 3 dL_law_406 (by decide) ?_
        refine pw_iadd X dL_law_407 ?_
        obtain ⟨hi102, hw⟩ := hw
        refine pw_sld X hB hi102 dL_law_408 ?_
        obtain ⟨ht103, hw⟩ := hw
        refine pw_runi X (m_cV X (b := la2) (ci := 4) (q := (RX4, TX4, tyX4, 15)) (met_X4_call G C.2.1 M96 la2 (xs (Int32.toNatClampNeg (lx3 + 1))) (xs (Int32.toNatClampNeg (lx3 + 2))) (xs (Int32.toNatClampNeg (lx3 + 3))) _ hw) ht103 rfl (lw_V q2037 q2038 q2039 q107 q2040) ⟨rfl, nh_X4_call⟩ ⟨Nat.le_of_ble_eq_true rfl, Nat.le_of_ble_eq_true rfl⟩ rfl (Nat.le_of_ble_eq_true rfl) dL_law_409) (fun r106 M104 hle105 hx => ?_)
        replace hw := hx hle105
        clear hx
        have ht107 : m_tg M104 la1 = 1 := m_le_tg hle105 ht99
        have ht108 : m_tg M104 la2 = 5 := m_le_tg hle105 ht103
        refine pw_icmp_eq X 958 dL_law_412 (by decide) (fun c109 => ?_) (fun c109 => ?_)
        · replace hw := hw.1 c109
          refine pw_iinc X (lx3 + 4) [(0, vR (some bS)), (1, vR (some la1)), (2, vR (some la2)), (3, vI (lx3 + 4))] [1, 2, 3, 0] dL_law_958 rfl (by first | rfl | decide) (by decide) rfl ?_
          refine pw_goto X 18 dL_law_961 (by decide) ?_
          exact ih _ la1 la2 (lx3 + 4) hw
        · replace hw := hw.2 c109
          refine pw_iconst X 0 dL_law_415 (by decide) ?_
          exact hw.elim
      replace hw := hw.2 c91
      by_cases c110 : ((xs (Int32.toNatClampNeg lx3)) &&& 31) = 7
      · replace hw := hw.1 c110
        refine pw_tableIn X 7 417 dL_law_32 c110 (by decide) (by decide) rfl (by decide) ?_
        refine pw_aload_n X dL_law_417 rfl rfl ?_
        refine pw_aload_n X dL_law_418 rfl rfl ?_
        refine pw_iload_n X dL_law_419 rfl rfl ?_
        refine pw_iconst X 1 dL_law_420 (by decide) ?_
        refine pw_iadd X dL_law_421 ?_
        obtain ⟨hi111, hw⟩ := hw
        refine pw_sld X hB hi111 dL_law_422 ?_
        obtain ⟨ht112, hw⟩ := hw
        refine pw_runi X (m_cV X (b := la1) (ci := 0) (q := (RX0, TX0, tyX0, 4)) (met_X0_cancel G C.2.1 M la1 (xs (Int32.toNatClampNeg (lx3 + 1))) _ hw) ht112 rfl (lw_V q1391 q1392 q1393 q78 q1394) ⟨rfl, nh_X0_cancel⟩ ⟨Nat.le_of_ble_eq_true rfl, Nat.le_of_ble_eq_true rfl⟩ rfl (Nat.le_of_ble_eq_true rfl) dL_law_423) (fun r115 M113 hle114 hx => ?_)
        replace hw := hx hle114
        clear hx
        have ht116 : m_tg M113 la1 = 1 := m_le_tg hle114 ht112
        refine pw_aload_n X dL_law_426 rfl rfl ?_
        refine pw_aload_n X dL_law_427 rfl rfl ?_
        refine pw_iload_n X dL_law_428 rfl rfl ?_
        refine pw_iconst X 1 dL_law_429 (by decide) ?_
        refine pw_iadd X dL_law_430 ?_
        obtain ⟨hi117, hw⟩ := hw
        refine pw_sld X hB hi117 dL_law_431 ?_
        obtain ⟨ht118, hw⟩ := hw
        refine pw_runi X (m_cV X (b := la2) (ci := 4) (q := (RX4, TX4, tyX4, 15)) (met_X4_cancel G C.2.1 M113 la2 (xs (Int32.toNatClampNeg (lx3 + 1))) _ hw) ht118 rfl (lw_V q2077 q2078 q2079 q107 q2080) ⟨rfl, nh_X4_cancel⟩ ⟨Nat.le_of_ble_eq_true rfl, Nat.le_of_ble_eq_true rfl⟩ rfl (Nat.le_of_ble_eq_true rfl) dL_law_432) (fun r121 M119 hle120 hx => ?_)
        replace hw := hx hle120
        clear hx
        have ht122 : m_tg M119 la1 = 1 := m_le_tg hle120 ht116
        have ht123 : m_tg M119 la2 = 5 := m_le_tg hle120 ht118
        refine pw_icmp_eq X 958 dL_law_435 (by decide) (fun c124 => ?_) (fun c124 => ?_)
        · replace hw := hw.1 c124
          refine pw_iinc X (lx3 + 4) [(0, vR (some bS)), (1, vR (some la1)), (2, vR (some la2)), (3, vI (lx3 + 4))] [1, 2, 3, 0] dL_law_958 rfl (by first | rfl | decide) (by decide) rfl ?_
          refine pw_goto X 18 dL_law_961 (by decide) ?_
          exact ih _ la1 la2 (lx3 + 4) hw
        · replace hw := hw.2 c124
          refine pw_iconst X 0 dL_law_438 (by decide) ?_
          exact hw.elim
      replace hw := hw.2 c110
      by_cases c125 : ((xs (Int32.toNatClampNeg lx3)) &&& 31) = 8
      · replace hw := hw.1 c125
        refine pw_tableIn X 8 440 dL_law_32 c125 (by decide) (by decide) rfl (by decide) ?_
        refine pw_aload_n X dL_law_440 rfl rfl ?_
        refine pw_aload_n X dL_law_441 rfl rfl ?_
        refine pw_iload_n X dL_law_442 rfl rfl ?_
        refine pw_iconst X 1 dL_law_443 (by decide) ?_
        refine pw_iadd X dL_law_444 ?_
        obtain ⟨hi126, hw⟩ := hw
        refine pw_sld X hB hi126 dL_law_445 ?_
        refine pw_aload_n X dL_law_446 rfl rfl ?_
        refine pw_iload_n X dL_law_447 rfl rfl ?_
        refine pw_iconst X 2 dL_law_448 (by decide) ?_
        refine pw_iadd X dL_law_449 ?_
        obtain ⟨hi127, hw⟩ := hw
        refine pw_sld X hB hi127 dL_law_450 ?_
        refine pw_if_eq X 458 dL_law_451 (by decide) (fun c128 => ?_) (fun c128 => ?_)
        · replace hw := hw.1 c128
          refine pw_iconst X 0 dL_law_458 (by decide) ?_
          exact bk_L_law_459 G C n0 s0 M0 bS L9 xs X hB hl (wp_L_law_b18 G.2 bS L9 xs n) ih _ la1 la2 lx3 la1 (xs (Int32.toNatClampNeg (lx3 + 1))) 0 hw
        · replace hw := hw.2 c128
          refine pw_iconst X 1 dL_law_454 (by decide) ?_
          refine pw_goto X 459 dL_law_455 (by decide) ?_
          exact bk_L_law_459 G C n0 s0 M0 bS L9 xs X hB hl (wp_L_law_b18 G.2 bS L9 xs n) ih _ la1 la2 lx3 la1 (xs (Int32.toNatClampNeg (lx3 + 1))) 1 hw
      replace hw := hw.2 c125
      by_cases c129 : ((xs (Int32.toNatClampNeg lx3)) &&& 31) = 9
      · replace hw := hw.1 c129
        refine pw_tableIn X 9 489 dL_law_32 c129 (by decide) (by decide) rfl (by decide) ?_
        refine pw_aload_n X dL_law_489 rfl rfl ?_
        refine pw_aload_n X dL_law_490 rfl rfl ?_
        refine pw_iload_n X dL_law_491 rfl rfl ?_
        refine pw_iconst X 1 dL_law_492 (by decide) ?_
        refine pw_iadd X dL_law_493 ?_
        obtain ⟨hi130, hw⟩ := hw
        refine pw_sld X hB hi130 dL_law_494 ?_
        obtain ⟨ht131, hw⟩ := hw
        refine pw_runi X (m_cV X (b := la1) (ci := 0) (q := (RX0, TX0, tyX0, 4)) (met_X0_goHome G C.2.1 M la1 (xs (Int32.toNatClampNeg (lx3 + 1))) _ hw) ht131 rfl (lw_V q1431 q1432 q1433 q78 q1434) ⟨rfl, nh_X0_goHome⟩ ⟨Nat.le_of_ble_eq_true rfl, Nat.le_of_ble_eq_true rfl⟩ rfl (Nat.le_of_ble_eq_true rfl) dL_law_495) (fun r134 M132 hle133 hx => ?_)
        replace hw := hx hle133
        clear hx
        have ht135 : m_tg M132 la1 = 1 := m_le_tg hle133 ht131
        refine pw_aload_n X dL_law_498 rfl rfl ?_
        refine pw_aload_n X dL_law_499 rfl rfl ?_
        refine pw_iload_n X dL_law_500 rfl rfl ?_
        refine pw_iconst X 1 dL_law_501 (by decide) ?_
        refine pw_iadd X dL_law_502 ?_
        obtain ⟨hi136, hw⟩ := hw
        refine pw_sld X hB hi136 dL_law_503 ?_
        obtain ⟨ht137, hw⟩ := hw
        refine pw_runi X (m_cV X (b := la2) (ci := 4) (q := (RX4, TX4, tyX4, 15)) (met_X4_goHome G C.2.1 M132 la2 (xs (Int32.toNatClampNeg (lx3 + 1))) _ hw) ht137 rfl (lw_V q2101 q2102 q2103 q107 q2104) ⟨rfl, nh_X4_goHome⟩ ⟨Nat.le_of_ble_eq_true rfl, Nat.le_of_ble_eq_true rfl⟩ rfl (Nat.le_of_ble_eq_true rfl) dL_law_504) (fun r140 M138 hle139 hx => ?_)
        replace hw := hx hle139
        clear hx
        have ht141 : m_tg M138 la1 = 1 := m_le_tg hle139 ht135
        have ht142 : m_tg M138 la2 = 5 := m_le_tg hle139 ht137
        refine pw_icmp_eq X 958 dL_law_507 (by decide) (fun c143 => ?_) (fun c143 => ?_)
        · replace hw := hw.1 c143
          refine pw_iinc X (lx3 + 4) [(0, vR (some bS)), (1, vR (some la1)), (2, vR (some la2)), (3, vI (lx3 + 4))] [1, 2, 3, 0] dL_law_958 rfl (by first | rfl | decide) (by decide) rfl ?_
          refine pw_goto X 18 dL_law_961 (by decide) ?_
          exact ih _ la1 la2 (lx3 + 4) hw
        · replace hw := hw.2 c143
          refine pw_iconst X 0 dL_law_510 (by decide) ?_
          exact hw.elim
      replace hw := hw.2 c129
      by_cases c144 : ((xs (Int32.toNatClampNeg lx3)) &&& 31) = 10
      · replace hw := hw.1 c144
        refine pw_tableIn X 10 512 dL_law_32 c144 (by decide) (by decide) rfl (by decide) ?_
        refine pw_aload_n X dL_law_512 rfl rfl ?_
        refine pw_aload_n X dL_law_513 rfl rfl ?_
        refine pw_iload_n X dL_law_514 rfl rfl ?_
        refine pw_iconst X 1 dL_law_515 (by decide) ?_
        refine pw_iadd X dL_law_516 ?_
        obtain ⟨hi145, hw⟩ := hw
        refine pw_sld X hB hi145 dL_law_517 ?_
        refine pw_aload_n X dL_law_518 rfl rfl ?_
        refine pw_iload_n X dL_law_519 rfl rfl ?_
        refine pw_iconst X 2 dL_law_520 (by decide) ?_
        refine pw_iadd X dL_law_521 ?_
        obtain ⟨hi146, hw⟩ := hw
        refine pw_sld X hB hi146 dL_law_522 ?_
        obtain ⟨ht147, hw⟩ := hw
        refine pw_runi X (m_cV X (b := la1) (ci := 0) (q := (RX0, TX0, tyX0, 4)) (met_X0_fetch G C.2.1 M la1 (xs (Int32.toNatClampNeg (lx3 + 1))) (xs (Int32.toNatClampNeg (lx3 + 2))) _ hw) ht147 rfl (lw_V q1439 q1440 q1441 q78 q1442) ⟨rfl, nh_X0_fetch⟩ ⟨Nat.le_of_ble_eq_true rfl, Nat.le_of_ble_eq_true rfl⟩ rfl (Nat.le_of_ble_eq_true rfl) dL_law_523) (fun r150 M148 hle149 hx => ?_)
        replace hw := hx hle149
        clear hx
        have ht151 : m_tg M148 la1 = 1 := m_le_tg hle149 ht147
        refine pw_aload_n X dL_law_526 rfl rfl ?_
        refine pw_aload_n X dL_law_527 rfl rfl ?_
        refine pw_iload_n X dL_law_528 rfl rfl ?_
        refine pw_iconst X 1 dL_law_529 (by decide) ?_
        refine pw_iadd X dL_law_530 ?_
        obtain ⟨hi152, hw⟩ := hw
        refine pw_sld X hB hi152 dL_law_531 ?_
        refine pw_aload_n X dL_law_532 rfl rfl ?_
        refine pw_iload_n X dL_law_533 rfl rfl ?_
        refine pw_iconst X 2 dL_law_534 (by decide) ?_
        refine pw_iadd X dL_law_535 ?_
        obtain ⟨hi153, hw⟩ := hw
        refine pw_sld X hB hi153 dL_law_536 ?_
        obtain ⟨ht154, hw⟩ := hw
        refine pw_runi X (m_cV X (b := la2) (ci := 4) (q := (RX4, TX4, tyX4, 15)) (met_X4_fetch G C.2.1 M148 la2 (xs (Int32.toNatClampNeg (lx3 + 1))) (xs (Int32.toNatClampNeg (lx3 + 2))) _ hw) ht154 rfl (lw_V q2109 q2110 q2111 q107 q2112) ⟨rfl, nh_X4_fetch⟩ ⟨Nat.le_of_ble_eq_true rfl, Nat.le_of_ble_eq_true rfl⟩ rfl (Nat.le_of_ble_eq_true rfl) dL_law_537) (fun r157 M155 hle156 hx => ?_)
        replace hw := hx hle156
        clear hx
        have ht158 : m_tg M155 la1 = 1 := m_le_tg hle156 ht151
        have ht159 : m_tg M155 la2 = 5 := m_le_tg hle156 ht154
        refine pw_icmp_eq X 958 dL_law_540 (by decide) (fun c160 => ?_) (fun c160 => ?_)
        · replace hw := hw.1 c160
          refine pw_iinc X (lx3 + 4) [(0, vR (some bS)), (1, vR (some la1)), (2, vR (some la2)), (3, vI (lx3 + 4))] [1, 2, 3, 0] dL_law_958 rfl (by first | rfl | decide) (by decide) rfl ?_
          refine pw_goto X 18 dL_law_961 (by decide) ?_
          exact ih _ la1 la2 (lx3 + 4) hw
        · replace hw := hw.2 c160
          refine pw_iconst X 0 dL_law_543 (by decide) ?_
          exact hw.elim
      replace hw := hw.2 c144
      by_cases c161 : ((xs (Int32.toNatClampNeg lx3)) &&& 31) = 11
      · replace hw := hw.1 c161
        refine pw_tableIn X 11 545 dL_law_32 c161 (by decide) (by decide) rfl (by decide) ?_
        refine pw_aload_n X dL_law_545 rfl rfl ?_
        refine pw_aload_n X dL_law_546 rfl rfl ?_
        refine pw_iload_n X dL_law_547 rfl rfl ?_
        refine pw_iconst X 1 dL_law_548 (by decide) ?_
        refine pw_iadd X dL_law_549 ?_
        obtain ⟨hi162, hw⟩ := hw
        refine pw_sld X hB hi162 dL_law_550 ?_
        obtain ⟨ht163, hw⟩ := hw
        refine pw_runi X (m_cV X (b := la1) (ci := 0) (q := (RX0, TX0, tyX0, 4)) (met_X0_pass G C.2.1 M la1 (xs (Int32.toNatClampNeg (lx3 + 1))) _ hw) ht163 rfl (lw_V q1447 q1448 q1449 q78 q1450) ⟨rfl, nh_X0_pass⟩ ⟨Nat.le_of_ble_eq_true rfl, Nat.le_of_ble_eq_true rfl⟩ rfl (Nat.le_of_ble_eq_true rfl) dL_law_551) (fun r166 M164 hle165 hx => ?_)
        replace hw := hx hle165
        clear hx
        have ht167 : m_tg M164 la1 = 1 := m_le_tg hle165 ht163
        refine pw_aload_n X dL_law_554 rfl rfl ?_
        refine pw_aload_n X dL_law_555 rfl rfl ?_
        refine pw_iload_n X dL_law_556 rfl rfl ?_
        refine pw_iconst X 1 dL_law_557 (by decide) ?_
        refine pw_iadd X dL_law_558 ?_
        obtain ⟨hi168, hw⟩ := hw
        refine pw_sld X hB hi168 dL_law_559 ?_
        obtain ⟨ht169, hw⟩ := hw
        refine pw_runi X (m_cV X (b := la2) (ci := 4) (q := (RX4, TX4, tyX4, 15)) (met_X4_pass G C.2.1 M164 la2 (xs (Int32.toNatClampNeg (lx3 + 1))) _ hw) ht169 rfl (lw_V q2121 q2122 q2123 q107 q2124) ⟨rfl, nh_X4_pass⟩ ⟨Nat.le_of_ble_eq_true rfl, Nat.le_of_ble_eq_true rfl⟩ rfl (Nat.le_of_ble_eq_true rfl) dL_law_560) (fun r172 M170 hle171 hx => ?_)
        replace hw := hx hle171
        clear hx
        have ht173 : m_tg M170 la1 = 1 := m_le_tg hle171 ht167
        have ht174 : m_tg M170 la2 = 5 := m_le_tg hle171 ht169
        refine pw_icmp_eq X 958 dL_law_563 (by decide) (fun c175 => ?_) (fun c175 => ?_)
        · replace hw := hw.1 c175
          refine pw_iinc X (lx3 + 4) [(0, vR (some bS)), (1, vR (some la1)), (2, vR (some la2)), (3, vI (lx3 + 4))] [1, 2, 3, 0] dL_law_958 rfl (by first | rfl | decide) (by decide) rfl ?_
          refine pw_goto X 18 dL_law_961 (by decide) ?_
          exact ih _ la1 la2 (lx3 + 4) hw
        · replace hw := hw.2 c175
          refine pw_iconst X 0 dL_law_566 (by decide) ?_
          exact hw.elim
      replace hw := hw.2 c161
      by_cases c176 : ((xs (Int32.toNatClampNeg lx3)) &&& 31) = 12
      · replace hw := hw.1 c176
        refine pw_tableIn X 12 568 dL_law_32 c176 (by decide) (by decide) rfl (by decide) ?_
        refine pw_aload_n X dL_law_568 rfl rfl ?_
        refine pw_aload_n X dL_law_569 rfl rfl ?_
        refine pw_iload_n X dL_law_570 rfl rfl ?_
        refine pw_iconst X 1 dL_law_571 (by decide) ?_
        refine pw_iadd X dL_law_572 ?_
        obtain ⟨hi177, hw⟩ := hw
        refine pw_sld X hB hi177 dL_law_573 ?_
        refine pw_i2c X dL_law_574 ?_
        obtain ⟨ht178, hw⟩ := hw
        refine pw_runi X (m_cV X (b := la1) (ci := 0) (q := (RX0, TX0, tyX0, 4)) (met_X0_type G C.2.1 M la1 ((Int32.toUInt32 (xs (Int32.toNatClampNeg (lx3 + 1))) % 65536).toInt32) _ hw) ht178 rfl (lw_V q1647 q1648 q1649 q78 q1650) ⟨rfl, nh_X0_type⟩ ⟨Nat.le_of_ble_eq_true rfl, Nat.le_of_ble_eq_true rfl⟩ rfl (Nat.le_of_ble_eq_true rfl) dL_law_575) (fun r181 M179 hle180 hx => ?_)
        replace hw := hx hle180
        clear hx
        have ht182 : m_tg M179 la1 = 1 := m_le_tg hle180 ht178
        refine pw_aload_n X dL_law_578 rfl rfl ?_
        refine pw_aload_n X dL_law_579 rfl rfl ?_
        refine pw_iload_n X dL_law_580 rfl rfl ?_
        refine pw_iconst X 1 dL_law_581 (by decide) ?_
        refine pw_iadd X dL_law_582 ?_
        obtain ⟨hi183, hw⟩ := hw
        refine pw_sld X hB hi183 dL_law_583 ?_
        refine pw_i2c X dL_law_584 ?_
        obtain ⟨ht184, hw⟩ := hw
        refine pw_runi X (m_cV X (b := la2) (ci := 4) (q := (RX4, TX4, tyX4, 15)) (met_X4_type G C.2.1 M179 la2 ((Int32.toUInt32 (xs (Int32.toNatClampNeg (lx3 + 1))) % 65536).toInt32) _ hw) ht184 rfl (lw_V q2196 q2197 q2198 q107 q2199) ⟨rfl, nh_X4_type⟩ ⟨Nat.le_of_ble_eq_true rfl, Nat.le_of_ble_eq_true rfl⟩ rfl (Nat.le_of_ble_eq_true rfl) dL_law_585) (fun r187 M185 hle186 hx => ?_)
        replace hw := hx hle186
        clear hx
        have ht188 : m_tg M185 la1 = 1 := m_le_tg hle186 ht182
        have ht189 : m_tg M185 la2 = 5 := m_le_tg hle186 ht184
        refine pw_icmp_eq X 958 dL_law_588 (by decide) (fun c190 => ?_) (fun c190 => ?_)
        · replace hw := hw.1 c190
          refine pw_iinc X (lx3 + 4) [(0, vR (some bS)), (1, vR (some la1)), (2, vR (some la2)), (3, vI (lx3 + 4))] [1, 2, 3, 0] dL_law_958 rfl (by first | rfl | decide) (by decide) rfl ?_
          refine pw_goto X 18 dL_law_961 (by decide) ?_
          exact ih _ la1 la2 (lx3 + 4) hw
        · replace hw := hw.2 c190
          refine pw_iconst X 0 dL_law_591 (by decide) ?_
          exact hw.elim
      replace hw := hw.2 c176
      by_cases c191 : ((xs (Int32.toNatClampNeg lx3)) &&& 31) = 13
      · replace hw := hw.1 c191
        refine pw_tableIn X 13 593 dL_law_32 c191 (by decide) (by decide) rfl (by decide) ?_
        refine pw_aload_n X dL_law_593 rfl rfl ?_
        obtain ⟨ht192, hw⟩ := hw
        refine pw_runi X (m_cV X (b := la1) (ci := 0) (q := (RX0, TX0, tyX0, 4)) (met_X0_clearText G C.2.1 M la1 _ hw) ht192 rfl (lw_V q1720 q1721 q1722 q78 q1723) ⟨rfl, nh_X0_clearText⟩ ⟨Nat.le_of_ble_eq_true rfl, Nat.le_of_ble_eq_true rfl⟩ rfl (Nat.le_of_ble_eq_true rfl) dL_law_594) (fun r195 M193 hle194 hx => ?_)
        replace hw := hx hle194
        clear hx
        have ht196 : m_tg M193 la1 = 1 := m_le_tg hle194 ht192
        refine pw_aload_n X dL_law_597 rfl rfl ?_
        obtain ⟨ht197, hw⟩ := hw
        refine pw_runi X (m_cV X (b := la2) (ci := 4) (q := (RX4, TX4, tyX4, 15)) (met_X4_clearText G C.2.1 M193 la2 _ hw) ht197 rfl (lw_V q2200 q2201 q2202 q107 q2203) ⟨rfl, nh_X4_clearText⟩ ⟨Nat.le_of_ble_eq_true rfl, Nat.le_of_ble_eq_true rfl⟩ rfl (Nat.le_of_ble_eq_true rfl) dL_law_598) (fun r200 M198 hle199 hx => ?_)
        replace hw := hx hle199
        clear hx
        have ht201 : m_tg M198 la1 = 1 := m_le_tg hle199 ht196
        have ht202 : m_tg M198 la2 = 5 := m_le_tg hle199 ht197
        refine pw_icmp_eq X 958 dL_law_601 (by decide) (fun c203 => ?_) (fun c203 => ?_)
        · replace hw := hw.1 c203
          refine pw_iinc X (lx3 + 4) [(0, vR (some bS)), (1, vR (some la1)), (2, vR (some la2)), (3, vI (lx3 + 4))] [1, 2, 3, 0] dL_law_958 rfl (by first | rfl | decide) (by decide) rfl ?_
          refine pw_goto X 18 dL_law_961 (by decide) ?_
          exact ih _ la1 la2 (lx3 + 4) hw
        · replace hw := hw.2 c203
          refine pw_iconst X 0 dL_law_604 (by decide) ?_
          exact hw.elim
      replace hw := hw.2 c191
      by_cases c204 : ((xs (Int32.toNatClampNeg lx3)) &&& 31) = 14
      · replace hw := hw.1 c204
        refine pw_tableIn X 14 606 dL_law_32 c204 (by decide) (by decide) rfl (by decide) ?_
        refine pw_aload_n X dL_law_606 rfl rfl ?_
        obtain ⟨ht205, hw⟩ := hw
        refine pw_runi X (m_cVW X (b := la1) (ci := 0) (q := (RX0, TX0, tyX0, 4)) (met_X0_readCalls G C.2.1 hl M la1 _ hw) ht205 rfl (lw_VW q1744 q1745 q1746 q78 q1747) ⟨rfl, nh_X0_readCalls⟩ ⟨Nat.le_of_ble_eq_true rfl, Nat.le_of_ble_eq_true rfl⟩ rfl (Nat.le_of_ble_eq_true rfl) dL_law_607) (fun r208 M206 hle207 hx => ?_)
        replace hw := hx hle207
        clear hx
        have ht209 : m_tg M206 la1 = 1 := m_le_tg hle207 ht205
        refine pw_aload_n X dL_law_610 rfl rfl ?_
        obtain ⟨ht210, hw⟩ := hw
        refine pw_runi X (m_cV X (b := la2) (ci := 4) (q := (RX4, TX4, tyX4, 15)) (met_X4_readCalls G C.2.1 M206 la2 _ hw) ht210 rfl (lw_V q2204 q2205 q2206 q107 q2207) ⟨rfl, nh_X4_readCalls⟩ ⟨Nat.le_of_ble_eq_true rfl, Nat.le_of_ble_eq_true rfl⟩ rfl (Nat.le_of_ble_eq_true rfl) dL_law_611) (fun r213 M211 hle212 hx => ?_)
        replace hw := hx hle212
        clear hx
        have ht214 : m_tg M211 la1 = 1 := m_le_tg hle212 ht209
        have ht215 : m_tg M211 la2 = 5 := m_le_tg hle212 ht210
        refine pw_icmp_eq X 958 dL_law_614 (by decide) (fun c216 => ?_) (fun c216 => ?_)
        · replace hw := hw.1 c216
          refine pw_iinc X (lx3 + 4) [(0, vR (some bS)), (1, vR (some la1)), (2, vR (some la2)), (3, vI (lx3 + 4))] [1, 2, 3, 0] dL_law_958 rfl (by first | rfl | decide) (by decide) rfl ?_
          refine pw_goto X 18 dL_law_961 (by decide) ?_
          exact ih _ la1 la2 (lx3 + 4) hw
        · replace hw := hw.2 c216
          refine pw_iconst X 0 dL_law_617 (by decide) ?_
          exact hw.elim
      replace hw := hw.2 c204
      by_cases c217 : ((xs (Int32.toNatClampNeg lx3)) &&& 31) = 15
      · replace hw := hw.1 c217
        refine pw_tableIn X 15 619 dL_law_32 c217 (by decide) (by decide) rfl (by decide) ?_
        refine pw_aload_n X dL_law_619 rfl rfl ?_
        obtain ⟨ht218, hw⟩ := hw
        refine pw_runi X (m_cV X (b := la1) (ci := 0) (q := (RX0, TX0, tyX0, 4)) (met_X0_undo G C.2.1 M la1 _ hw) ht218 rfl (lw_V q1835 q1836 q1837 q78 q1838) ⟨rfl, nh_X0_undo⟩ ⟨Nat.le_of_ble_eq_true rfl, Nat.le_of_ble_eq_true rfl⟩ rfl (Nat.le_of_ble_eq_true rfl) dL_law_620) (fun r221 M219 hle220 hx => ?_)
        replace hw := hx hle220
        clear hx
        have ht222 : m_tg M219 la1 = 1 := m_le_tg hle220 ht218
        refine pw_aload_n X dL_law_623 rfl rfl ?_
        obtain ⟨ht223, hw⟩ := hw
        refine pw_runi X (m_cV X (b := la2) (ci := 4) (q := (RX4, TX4, tyX4, 15)) (met_X4_undo G C.2.1 M219 la2 _ hw) ht223 rfl (lw_V q2220 q2221 q2222 q107 q2223) ⟨rfl, nh_X4_undo⟩ ⟨Nat.le_of_ble_eq_true rfl, Nat.le_of_ble_eq_true rfl⟩ rfl (Nat.le_of_ble_eq_true rfl) dL_law_624) (fun r226 M224 hle225 hx => ?_)
        replace hw := hx hle225
        clear hx
        have ht227 : m_tg M224 la1 = 1 := m_le_tg hle225 ht222
        have ht228 : m_tg M224 la2 = 5 := m_le_tg hle225 ht223
        refine pw_icmp_eq X 958 dL_law_627 (by decide) (fun c229 => ?_) (fun c229 => ?_)
        · replace hw := hw.1 c229
          refine pw_iinc X (lx3 + 4) [(0, vR (some bS)), (1, vR (some la1)), (2, vR (some la2)), (3, vI (lx3 + 4))] [1, 2, 3, 0] dL_law_958 rfl (by first | rfl | decide) (by decide) rfl ?_
          refine pw_goto X 18 dL_law_961 (by decide) ?_
          exact ih _ la1 la2 (lx3 + 4) hw
        · replace hw := hw.2 c229
          refine pw_iconst X 0 dL_law_630 (by decide) ?_
          exact hw.elim
      replace hw := hw.2 c217
      by_cases c230 : ((xs (Int32.toNatClampNeg lx3)) &&& 31) = 16
      · replace hw := hw.1 c230
        refine pw_tableIn X 16 632 dL_law_32 c230 (by decide) (by decide) rfl (by decide) ?_
        refine pw_aload_n X dL_law_632 rfl rfl ?_
        obtain ⟨ht231, hw⟩ := hw
        refine pw_runi X (m_cV X (b := la1) (ci := 0) (q := (RX0, TX0, tyX0, 4)) (met_X0_keep G C.2.1 M la1 _ hw) ht231 rfl (lw_V q1848 q1849 q1850 q78 q1851) ⟨rfl, nh_X0_keep⟩ ⟨Nat.le_of_ble_eq_true rfl, Nat.le_of_ble_eq_true rfl⟩ rfl (Nat.le_of_ble_eq_true rfl) dL_law_633) (fun r234 M232 hle233 hx => ?_)
        replace hw := hx hle233
        clear hx
        have ht235 : m_tg M232 la1 = 1 := m_le_tg hle233 ht231
        refine pw_aload_n X dL_law_636 rfl rfl ?_
        obtain ⟨ht236, hw⟩ := hw
        refine pw_runi X (m_cV X (b := la2) (ci := 4) (q := (RX4, TX4, tyX4, 15)) (met_X4_keep G C.2.1 M232 la2 _ hw) ht236 rfl (lw_V q2224 q2225 q2226 q107 q2227) ⟨rfl, nh_X4_keep⟩ ⟨Nat.le_of_ble_eq_true rfl, Nat.le_of_ble_eq_true rfl⟩ rfl (Nat.le_of_ble_eq_true rfl) dL_law_637) (fun r239 M237 hle238 hx => ?_)
        replace hw := hx hle238
        clear hx
        have ht240 : m_tg M237 la1 = 1 := m_le_tg hle238 ht235
        have ht241 : m_tg M237 la2 = 5 := m_le_tg hle238 ht236
        refine pw_icmp_eq X 958 dL_law_640 (by decide) (fun c242 => ?_) (fun c242 => ?_)
        · replace hw := hw.1 c242
          refine pw_iinc X (lx3 + 4) [(0, vR (some bS)), (1, vR (some la1)), (2, vR (some la2)), (3, vI (lx3 + 4))] [1, 2, 3, 0] dL_law_958 rfl (by first | rfl | decide) (by decide) rfl ?_
          refine pw_goto X 18 dL_law_961 (by decide) ?_
          exact ih _ la1 la2 (lx3 + 4) hw
        · replace hw := hw.2 c242
          refine pw_iconst X 0 dL_law_643 (by decide) ?_
          exact hw.elim
      replace hw := hw.2 c230
      by_cases c243 : ((xs (Int32.toNatClampNeg lx3)) &&& 31) = 17
      · replace hw := hw.1 c243
        refine pw_tableIn X 17 645 dL_law_32 c243 (by decide) (by decide) rfl (by decide) ?_
        refine pw_aload_n X dL_law_645 rfl rfl ?_
        obtain ⟨ht244, hw⟩ := hw
        refine pw_runi X (m_cV X (b := la1) (ci := 0) (q := (RX0, TX0, tyX0, 4)) (met_X0_restore G C.2.1 M la1 _ hw) ht244 rfl (lw_V q1852 q1853 q1854 q78 q1855) ⟨rfl, nh_X0_restore⟩ ⟨Nat.le_of_ble_eq_true rfl, Nat.le_of_ble_eq_true rfl⟩ rfl (Nat.le_of_ble_eq_true rfl) dL_law_646) (fun r247 M245 hle246 hx => ?_)
        replace hw := hx hle246
        clear hx
        have ht248 : m_tg M245 la1 = 1 := m_le_tg hle246 ht244
        refine pw_aload_n X dL_law_649 rfl rfl ?_
        obtain ⟨ht249, hw⟩ := hw
        refine pw_runi X (m_cV X (b := la2) (ci := 4) (q := (RX4, TX4, tyX4, 15)) (met_X4_restore G C.2.1 M245 la2 _ hw) ht249 rfl (lw_V q2228 q2229 q2230 q107 q2231) ⟨rfl, nh_X4_restore⟩ ⟨Nat.le_of_ble_eq_true rfl, Nat.le_of_ble_eq_true rfl⟩ rfl (Nat.le_of_ble_eq_true rfl) dL_law_650) (fun r252 M250 hle251 hx => ?_)
        replace hw := hx hle251
        clear hx
        have ht253 : m_tg M250 la1 = 1 := m_le_tg hle251 ht248
        have ht254 : m_tg M250 la2 = 5 := m_le_tg hle251 ht249
        refine pw_icmp_eq X 958 dL_law_653 (by decide) (fun c255 => ?_) (fun c255 => ?_)
        · replace hw := hw.1 c255
          refine pw_iinc X (lx3 + 4) [(0, vR (some bS)), (1, vR (some la1)), (2, vR (some la2)), (3, vI (lx3 + 4))] [1, 2, 3, 0] dL_law_958 rfl (by first | rfl | decide) (by decide) rfl ?_
          refine pw_goto X 18 dL_law_961 (by decide) ?_
          exact ih _ la1 la2 (lx3 + 4) hw
        · replace hw := hw.2 c255
          refine pw_iconst X 0 dL_law_656 (by decide) ?_
          exact hw.elim
      replace hw := hw.2 c243
      by_cases c256 : ((xs (Int32.toNatClampNeg lx3)) &&& 31) = 18
      · replace hw := hw.1 c256
        refine pw_tableIn X 18 658 dL_law_32 c256 (by decide) (by decide) rfl (by decide) ?_
        refine pw_aload_n X dL_law_658 rfl rfl ?_
        refine pw_aload_n X dL_law_659 rfl rfl ?_
        refine pw_iload_n X dL_law_660 rfl rfl ?_
        refine pw_iconst X 1 dL_law_661 (by decide) ?_
        refine pw_iadd X dL_law_662 ?_
        obtain ⟨hi257, hw⟩ := hw
        refine pw_sld X hB hi257 dL_law_663 ?_
        refine pw_aload_n X dL_law_664 rfl rfl ?_
        refine pw_iload_n X dL_law_665 rfl rfl ?_
        refine pw_iconst X 2 dL_law_666 (by decide) ?_
        refine pw_iadd X dL_law_667 ?_
        obtain ⟨hi258, hw⟩ := hw
        refine pw_sld X hB hi258 dL_law_668 ?_
        obtain ⟨ht259, hw⟩ := hw
        refine pw_runi X (m_cV X (b := la1) (ci := 0) (q := (RX0, TX0, tyX0, 4)) (met_X0_distance G C.2.1 M la1 (xs (Int32.toNatClampNeg (lx3 + 1))) (xs (Int32.toNatClampNeg (lx3 + 2))) _ hw) ht259 rfl (lw_V q1856 q1857 q1858 q78 q1859) ⟨rfl, nh_X0_distance⟩ ⟨Nat.le_of_ble_eq_true rfl, Nat.le_of_ble_eq_true rfl⟩ rfl (Nat.le_of_ble_eq_true rfl) dL_law_669) (fun r262 M260 hle261 hx => ?_)
        replace hw := hx hle261
        clear hx
        have ht263 : m_tg M260 la1 = 1 := m_le_tg hle261 ht259
        refine pw_aload_n X dL_law_672 rfl rfl ?_
        refine pw_aload_n X dL_law_673 rfl rfl ?_
        refine pw_iload_n X dL_law_674 rfl rfl ?_
        refine pw_iconst X 1 dL_law_675 (by decide) ?_
        refine pw_iadd X dL_law_676 ?_
        obtain ⟨hi264, hw⟩ := hw
        refine pw_sld X hB hi264 dL_law_677 ?_
        refine pw_aload_n X dL_law_678 rfl rfl ?_
        refine pw_iload_n X dL_law_679 rfl rfl ?_
        refine pw_iconst X 2 dL_law_680 (by decide) ?_
        refine pw_iadd X dL_law_681 ?_
        obtain ⟨hi265, hw⟩ := hw
        refine pw_sld X hB hi265 dL_law_682 ?_
        obtain ⟨ht266, hw⟩ := hw
        refine pw_runi X (m_cV X (b := la2) (ci := 4) (q := (RX4, TX4, tyX4, 15)) (met_X4_distance G C.2.1 M260 la2 (xs (Int32.toNatClampNeg (lx3 + 1))) (xs (Int32.toNatClampNeg (lx3 + 2))) _ hw) ht266 rfl (lw_V q2232 q2233 q2234 q107 q2235) ⟨rfl, nh_X4_distance⟩ ⟨Nat.le_of_ble_eq_true rfl, Nat.le_of_ble_eq_true rfl⟩ rfl (Nat.le_of_ble_eq_true rfl) dL_law_683) (fun r269 M267 hle268 hx => ?_)
        replace hw := hx hle268
        clear hx
        have ht270 : m_tg M267 la1 = 1 := m_le_tg hle268 ht263
        have ht271 : m_tg M267 la2 = 5 := m_le_tg hle268 ht266
        refine pw_icmp_eq X 958 dL_law_686 (by decide) (fun c272 => ?_) (fun c272 => ?_)
        · replace hw := hw.1 c272
          refine pw_iinc X (lx3 + 4) [(0, vR (some bS)), (1, vR (some la1)), (2, vR (some la2)), (3, vI (lx3 + 4))] [1, 2, 3, 0] dL_law_958 rfl (by first | rfl | decide) (by decide) rfl ?_
          refine pw_goto X 18 dL_law_961 (by decide) ?_
          exact ih _ la1 la2 (lx3 + 4) hw
        · replace hw := hw.2 c272
          refine pw_iconst X 0 dL_law_689 (by decide) ?_
          exact hw.elim
      replace hw := hw.2 c256
      by_cases c273 : ((xs (Int32.toNatClampNeg lx3)) &&& 31) = 19
      · replace hw := hw.1 c273
        refine pw_tableIn X 19 691 dL_law_32 c273 (by decide) (by decide) rfl (by decide) ?_
        refine pw_aload_n X dL_law_691 rfl rfl ?_
        refine pw_aload_n X dL_law_692 rfl rfl ?_
        refine pw_iload_n X dL_law_693 rfl rfl ?_
        refine pw_iconst X 1 dL_law_694 (by decide) ?_
        refine pw_iadd X dL_law_695 ?_
        obtain ⟨hi274, hw⟩ := hw
        refine pw_sld X hB hi274 dL_law_696 ?_
        refine pw_aload_n X dL_law_697 rfl rfl ?_
        refine pw_iload_n X dL_law_698 rfl rfl ?_
        refine pw_iconst X 2 dL_law_699 (by decide) ?_
        refine pw_iadd X dL_law_700 ?_
        obtain ⟨hi275, hw⟩ := hw
        refine pw_sld X hB hi275 dL_law_701 ?_
        refine pw_aload_n X dL_law_702 rfl rfl ?_
        refine pw_iload_n X dL_law_703 rfl rfl ?_
        refine pw_iconst X 3 dL_law_704 (by decide) ?_
        refine pw_iadd X dL_law_705 ?_
        obtain ⟨hi276, hw⟩ := hw
        refine pw_sld X hB hi276 dL_law_706 ?_
        obtain ⟨ht277, hw⟩ := hw
        refine pw_runi X (m_cV X (b := la1) (ci := 0) (q := (RX0, TX0, tyX0, 4)) (met_X0_wayAt G C.2.1 M la1 (xs (Int32.toNatClampNeg (lx3 + 1))) (xs (Int32.toNatClampNeg (lx3 + 2))) (xs (Int32.toNatClampNeg (lx3 + 3))) _ hw) ht277 rfl (lw_V q1860 q1861 q1862 q78 q1863) ⟨rfl, nh_X0_wayAt⟩ ⟨Nat.le_of_ble_eq_true rfl, Nat.le_of_ble_eq_true rfl⟩ rfl (Nat.le_of_ble_eq_true rfl) dL_law_707) (fun r280 M278 hle279 hx => ?_)
        replace hw := hx hle279
        clear hx
        have ht281 : m_tg M278 la1 = 1 := m_le_tg hle279 ht277
        refine pw_aload_n X dL_law_710 rfl rfl ?_
        refine pw_aload_n X dL_law_711 rfl rfl ?_
        refine pw_iload_n X dL_law_712 rfl rfl ?_
        refine pw_iconst X 1 dL_law_713 (by decide) ?_
        refine pw_iadd X dL_law_714 ?_
        obtain ⟨hi282, hw⟩ := hw
        refine pw_sld X hB hi282 dL_law_715 ?_
        refine pw_aload_n X dL_law_716 rfl rfl ?_
        refine pw_iload_n X dL_law_717 rfl rfl ?_
        refine pw_iconst X 2 dL_law_718 (by decide) ?_
        refine pw_iadd X dL_law_719 ?_
        obtain ⟨hi283, hw⟩ := hw
        refine pw_sld X hB hi283 dL_law_720 ?_
        refine pw_aload_n X dL_law_721 rfl rfl ?_
        refine pw_iload_n X dL_law_722 rfl rfl ?_
        refine pw_iconst X 3 dL_law_723 (by decide) ?_
        refine pw_iadd X dL_law_724 ?_
        obtain ⟨hi284, hw⟩ := hw
        refine pw_sld X hB hi284 dL_law_725 ?_
        obtain ⟨ht285, hw⟩ := hw
        refine pw_runi X (m_cV X (b := la2) (ci := 4) (q := (RX4, TX4, tyX4, 15)) (met_X4_wayAt G C.2.1 M278 la2 (xs (Int32.toNatClampNeg (lx3 + 1))) (xs (Int32.toNatClampNeg (lx3 + 2))) (xs (Int32.toNatClampNeg (lx3 + 3))) _ hw) ht285 rfl (lw_V q2236 q2237 q2238 q107 q2239) ⟨rfl, nh_X4_wayAt⟩ ⟨Nat.le_of_ble_eq_true rfl, Nat.le_of_ble_eq_true rfl⟩ rfl (Nat.le_of_ble_eq_true rfl) dL_law_726) (fun r288 M286 hle287 hx => ?_)
        replace hw := hx hle287
        clear hx
        have ht289 : m_tg M286 la1 = 1 := m_le_tg hle287 ht281
        have ht290 : m_tg M286 la2 = 5 := m_le_tg hle287 ht285
        refine pw_icmp_eq X 958 dL_law_729 (by decide) (fun c291 => ?_) (fun c291 => ?_)
        · replace hw := hw.1 c291
          refine pw_iinc X (lx3 + 4) [(0, vR (some bS)), (1, vR (some la1)), (2, vR (some la2)), (3, vI (lx3 + 4))] [1, 2, 3, 0] dL_law_958 rfl (by first | rfl | decide) (by decide) rfl ?_
          refine pw_goto X 18 dL_law_961 (by decide) ?_
          exact ih _ la1 la2 (lx3 + 4) hw
        · replace hw := hw.2 c291
          refine pw_iconst X 0 dL_law_732 (by decide) ?_
          exact hw.elim
      replace hw := hw.2 c273
      by_cases c292 : ((xs (Int32.toNatClampNeg lx3)) &&& 31) = 20
      · replace hw := hw.1 c292
        refine pw_tableIn X 20 734 dL_law_32 c292 (by decide) (by decide) rfl (by decide) ?_
        refine pw_aload_n X dL_law_734 rfl rfl ?_
        refine pw_aload_n X dL_law_735 rfl rfl ?_
        refine pw_iload_n X dL_law_736 rfl rfl ?_
        refine pw_iconst X 1 dL_law_737 (by decide) ?_
        refine pw_iadd X dL_law_738 ?_
        obtain ⟨hi293, hw⟩ := hw
        refine pw_sld X hB hi293 dL_law_739 ?_
        refine pw_aload_n X dL_law_740 rfl rfl ?_
        refine pw_iload_n X dL_law_741 rfl rfl ?_
        refine pw_iconst X 2 dL_law_742 (by decide) ?_
        refine pw_iadd X dL_law_743 ?_
        obtain ⟨hi294, hw⟩ := hw
        refine pw_sld X hB hi294 dL_law_744 ?_
        obtain ⟨ht295, hw⟩ := hw
        refine pw_runi X (m_cV X (b := la1) (ci := 0) (q := (RX0, TX0, tyX0, 4)) (met_X0_member G C.2.1 M la1 (xs (Int32.toNatClampNeg (lx3 + 1))) (xs (Int32.toNatClampNeg (lx3 + 2))) _ hw) ht295 rfl (lw_V q1865 q1866 q1867 q78 q1868) ⟨rfl, nh_X0_member⟩ ⟨Nat.le_of_ble_eq_true rfl, Nat.le_of_ble_eq_true rfl⟩ rfl (Nat.le_of_ble_eq_true rfl) dL_law_745) (fun r298 M296 hle297 hx => ?_)
        replace hw := hx hle297
        clear hx
        have ht299 : m_tg M296 la1 = 1 := m_le_tg hle297 ht295
        refine pw_aload_n X dL_law_748 rfl rfl ?_
        refine pw_aload_n X dL_law_749 rfl rfl ?_
        refine pw_iload_n X dL_law_750 rfl rfl ?_
        refine pw_iconst X 1 dL_law_751 (by decide) ?_
        refine pw_iadd X dL_law_752 ?_
        obtain ⟨hi300, hw⟩ := hw
        refine pw_sld X hB hi300 dL_law_753 ?_
        refine pw_aload_n X dL_law_754 rfl rfl ?_
        refine pw_iload_n X dL_law_755 rfl rfl ?_
        refine pw_iconst X 2 dL_law_756 (by decide) ?_
        refine pw_iadd X dL_law_757 ?_
        obtain ⟨hi301, hw⟩ := hw
        refine pw_sld X hB hi301 dL_law_758 ?_
        obtain ⟨ht302, hw⟩ := hw
        refine pw_runi X (m_cV X (b := la2) (ci := 4) (q := (RX4, TX4, tyX4, 15)) (met_X4_member G C.2.1 M296 la2 (xs (Int32.toNatClampNeg (lx3 + 1))) (xs (Int32.toNatClampNeg (lx3 + 2))) _ hw) ht302 rfl (lw_V q2240 q2241 q2242 q107 q2243) ⟨rfl, nh_X4_member⟩ ⟨Nat.le_of_ble_eq_true rfl, Nat.le_of_ble_eq_true rfl⟩ rfl (Nat.le_of_ble_eq_true rfl) dL_law_759) (fun r305 M303 hle304 hx => ?_)
        replace hw := hx hle304
        clear hx
        have ht306 : m_tg M303 la1 = 1 := m_le_tg hle304 ht299
        have ht307 : m_tg M303 la2 = 5 := m_le_tg hle304 ht302
        refine pw_icmp_eq X 958 dL_law_762 (by decide) (fun c308 => ?_) (fun c308 => ?_)
        · replace hw := hw.1 c308
          refine pw_iinc X (lx3 + 4) [(0, vR (some bS)), (1, vR (some la1)), (2, vR (some la2)), (3, vI (lx3 + 4))] [1, 2, 3, 0] dL_law_958 rfl (by first | rfl | decide) (by decide) rfl ?_
          refine pw_goto X 18 dL_law_961 (by decide) ?_
          exact ih _ la1 la2 (lx3 + 4) hw
        · replace hw := hw.2 c308
          refine pw_iconst X 0 dL_law_765 (by decide) ?_
          exact hw.elim
      replace hw := hw.2 c292
      by_cases c309 : ((xs (Int32.toNatClampNeg lx3)) &&& 31) = 21
      · replace hw := hw.1 c309
        refine pw_tableIn X 21 767 dL_law_32 c309 (by decide) (by decide) rfl (by decide) ?_
        refine pw_aload_n X dL_law_767 rfl rfl ?_
        refine pw_aload_n X dL_law_768 rfl rfl ?_
        refine pw_iload_n X dL_law_769 rfl rfl ?_
        refine pw_iconst X 1 dL_law_770 (by decide) ?_
        refine pw_iadd X dL_law_771 ?_
        obtain ⟨hi310, hw⟩ := hw
        refine pw_sld X hB hi310 dL_law_772 ?_
        refine pw_aload_n X dL_law_773 rfl rfl ?_
        refine pw_iload_n X dL_law_774 rfl rfl ?_
        refine pw_iconst X 2 dL_law_775 (by decide) ?_
        refine pw_iadd X dL_law_776 ?_
        obtain ⟨hi311, hw⟩ := hw
        refine pw_sld X hB hi311 dL_law_777 ?_
        obtain ⟨ht312, hw⟩ := hw
        refine pw_runi X (m_cV X (b := la1) (ci := 0) (q := (RX0, TX0, tyX0, 4)) (met_X0_patrol G C.2.1 M la1 (xs (Int32.toNatClampNeg (lx3 + 1))) (xs (Int32.toNatClampNeg (lx3 + 2))) _ hw) ht312 rfl (lw_V q1891 q1892 q1893 q78 q1894) ⟨rfl, nh_X0_patrol⟩ ⟨Nat.le_of_ble_eq_true rfl, Nat.le_of_ble_eq_true rfl⟩ rfl (Nat.le_of_ble_eq_true rfl) dL_law_778) (fun r315 M313 hle314 hx => ?_)
        replace hw := hx hle314
        clear hx
        have ht316 : m_tg M313 la1 = 1 := m_le_tg hle314 ht312
        refine pw_aload_n X dL_law_781 rfl rfl ?_
        refine pw_aload_n X dL_law_782 rfl rfl ?_
        refine pw_iload_n X dL_law_783 rfl rfl ?_
        refine pw_iconst X 1 dL_law_784 (by decide) ?_
        refine pw_iadd X dL_law_785 ?_
        obtain ⟨hi317, hw⟩ := hw
        refine pw_sld X hB hi317 dL_law_786 ?_
        refine pw_aload_n X dL_law_787 rfl rfl ?_
        refine pw_iload_n X dL_law_788 rfl rfl ?_
        refine pw_iconst X 2 dL_law_789 (by decide) ?_
        refine pw_iadd X dL_law_790 ?_
        obtain ⟨hi318, hw⟩ := hw
        refine pw_sld X hB hi318 dL_law_791 ?_
        obtain ⟨ht319, hw⟩ := hw
        refine pw_runi X (m_cV X (b := la2) (ci := 4) (q := (RX4, TX4, tyX4, 15)) (met_X4_patrol G C.2.1 M313 la2 (xs (Int32.toNatClampNeg (lx3 + 1))) (xs (Int32.toNatClampNeg (lx3 + 2))) _ hw) ht319 rfl (lw_V q2244 q2245 q2246 q107 q2247) ⟨rfl, nh_X4_patrol⟩ ⟨Nat.le_of_ble_eq_true rfl, Nat.le_of_ble_eq_true rfl⟩ rfl (Nat.le_of_ble_eq_true rfl) dL_law_792) (fun r322 M320 hle321 hx => ?_)
        replace hw := hx hle321
        clear hx
        have ht323 : m_tg M320 la1 = 1 := m_le_tg hle321 ht316
        have ht324 : m_tg M320 la2 = 5 := m_le_tg hle321 ht319
        refine pw_icmp_eq X 958 dL_law_795 (by decide) (fun c325 => ?_) (fun c325 => ?_)
        · replace hw := hw.1 c325
          refine pw_iinc X (lx3 + 4) [(0, vR (some bS)), (1, vR (some la1)), (2, vR (some la2)), (3, vI (lx3 + 4))] [1, 2, 3, 0] dL_law_958 rfl (by first | rfl | decide) (by decide) rfl ?_
          refine pw_goto X 18 dL_law_961 (by decide) ?_
          exact ih _ la1 la2 (lx3 + 4) hw
        · replace hw := hw.2 c325
          refine pw_iconst X 0 dL_law_798 (by decide) ?_
          exact hw.elim
      replace hw := hw.2 c309
      by_cases c326 : ((xs (Int32.toNatClampNeg lx3)) &&& 31) = 22
      · replace hw := hw.1 c326
        refine pw_tableIn X 22 800 dL_law_32 c326 (by decide) (by decide) rfl (by decide) ?_
        refine pw_aload_n X dL_law_800 rfl rfl ?_
        refine pw_aload_n X dL_law_801 rfl rfl ?_
        refine pw_iload_n X dL_law_802 rfl rfl ?_
        refine pw_iconst X 1 dL_law_803 (by decide) ?_
        refine pw_iadd X dL_law_804 ?_
        obtain ⟨hi327, hw⟩ := hw
        refine pw_sld X hB hi327 dL_law_805 ?_
        refine pw_aload_n X dL_law_806 rfl rfl ?_
        refine pw_iload_n X dL_law_807 rfl rfl ?_
        refine pw_iconst X 2 dL_law_808 (by decide) ?_
        refine pw_iadd X dL_law_809 ?_
        obtain ⟨hi328, hw⟩ := hw
        refine pw_sld X hB hi328 dL_law_810 ?_
        obtain ⟨ht329, hw⟩ := hw
        refine pw_runi X (m_cV X (b := la1) (ci := 0) (q := (RX0, TX0, tyX0, 4)) (met_X0_garage G C.2.1 M la1 (xs (Int32.toNatClampNeg (lx3 + 1))) (xs (Int32.toNatClampNeg (lx3 + 2))) _ hw) ht329 rfl (lw_V q1895 q1896 q1897 q78 q1898) ⟨rfl, nh_X0_garage⟩ ⟨Nat.le_of_ble_eq_true rfl, Nat.le_of_ble_eq_true rfl⟩ rfl (Nat.le_of_ble_eq_true rfl) dL_law_811) (fun r332 M330 hle331 hx => ?_)
        replace hw := hx hle331
        clear hx
        have ht333 : m_tg M330 la1 = 1 := m_le_tg hle331 ht329
        refine pw_aload_n X dL_law_814 rfl rfl ?_
        refine pw_aload_n X dL_law_815 rfl rfl ?_
        refine pw_iload_n X dL_law_816 rfl rfl ?_
        refine pw_iconst X 1 dL_law_817 (by decide) ?_
        refine pw_iadd X dL_law_818 ?_
        obtain ⟨hi334, hw⟩ := hw
        refine pw_sld X hB hi334 dL_law_819 ?_
        refine pw_aload_n X dL_law_820 rfl rfl ?_
        refine pw_iload_n X dL_law_821 rfl rfl ?_
        refine pw_iconst X 2 dL_law_822 (by decide) ?_
        refine pw_iadd X dL_law_823 ?_
        obtain ⟨hi335, hw⟩ := hw
        refine pw_sld X hB hi335 dL_law_824 ?_
        obtain ⟨ht336, hw⟩ := hw
        refine pw_runi X (m_cV X (b := la2) (ci := 4) (q := (RX4, TX4, tyX4, 15)) (met_X4_garage G C.2.1 M330 la2 (xs (Int32.toNatClampNeg (lx3 + 1))) (xs (Int32.toNatClampNeg (lx3 + 2))) _ hw) ht336 rfl (lw_V q2248 q2249 q2250 q107 q2251) ⟨rfl, nh_X4_garage⟩ ⟨Nat.le_of_ble_eq_true rfl, Nat.le_of_ble_eq_true rfl⟩ rfl (Nat.le_of_ble_eq_true rfl) dL_law_825) (fun r339 M337 hle338 hx => ?_)
        replace hw := hx hle338
        clear hx
        have ht340 : m_tg M337 la1 = 1 := m_le_tg hle338 ht333
        have ht341 : m_tg M337 la2 = 5 := m_le_tg hle338 ht336
        refine pw_icmp_eq X 958 dL_law_828 (by decide) (fun c342 => ?_) (fun c342 => ?_)
        · replace hw := hw.1 c342
          refine pw_iinc X (lx3 + 4) [(0, vR (some bS)), (1, vR (some la1)), (2, vR (some la2)), (3, vI (lx3 + 4))] [1, 2, 3, 0] dL_law_958 rfl (by first | rfl | decide) (by decide) rfl ?_
          refine pw_goto X 18 dL_law_961 (by decide) ?_
          exact ih _ la1 la2 (lx3 + 4) hw
        · replace hw := hw.2 c342
          refine pw_iconst X 0 dL_law_831 (by decide) ?_
          exact hw.elim
      replace hw := hw.2 c326
      by_cases c343 : ((xs (Int32.toNatClampNeg lx3)) &&& 31) = 23
      · replace hw := hw.1 c343
        refine pw_tableIn X 23 833 dL_law_32 c343 (by decide) (by decide) rfl (by decide) ?_
        refine pw_aload_n X dL_law_833 rfl rfl ?_
        refine pw_aload_n X dL_law_834 rfl rfl ?_
        refine pw_iload_n X dL_law_835 rfl rfl ?_
        refine pw_iconst X 1 dL_law_836 (by decide) ?_
        refine pw_iadd X dL_law_837 ?_
        obtain ⟨hi344, hw⟩ := hw
        refine pw_sld X hB hi344 dL_law_838 ?_
        refine pw_aload_n X dL_law_839 rfl rfl ?_
        refine pw_iload_n X dL_law_840 rfl rfl ?_
        refine pw_iconst X 2 dL_law_841 (by decide) ?_
        refine pw_iadd X dL_law_842 ?_
        obtain ⟨hi345, hw⟩ := hw
        refine pw_sld X hB hi345 dL_law_843 ?_
        obtain ⟨ht346, hw⟩ := hw
        refine pw_runi X (m_cV X (b := la1) (ci := 0) (q := (RX0, TX0, tyX0, 4)) (met_X0_callOf G C.2.1 M la1 (xs (Int32.toNatClampNeg (lx3 + 1))) (xs (Int32.toNatClampNeg (lx3 + 2))) _ hw) ht346 rfl (lw_V q1899 q1900 q1901 q78 q1902) ⟨rfl, nh_X0_callOf⟩ ⟨Nat.le_of_ble_eq_true rfl, Nat.le_of_ble_eq_true rfl⟩ rfl (Nat.le_of_ble_eq_true rfl) dL_law_844) (fun r349 M347 hle348 hx => ?_)
        replace hw := hx hle348
        clear hx
        have ht350 : m_tg M347 la1 = 1 := m_le_tg hle348 ht346
        refine pw_aload_n X dL_law_847 rfl rfl ?_
        refine pw_aload_n X dL_law_848 rfl rfl ?_
        refine pw_iload_n X dL_law_849 rfl rfl ?_
        refine pw_iconst X 1 dL_law_850 (by decide) ?_
        refine pw_iadd X dL_law_851 ?_
        obtain ⟨hi351, hw⟩ := hw
        refine pw_sld X hB hi351 dL_law_852 ?_
        refine pw_aload_n X dL_law_853 rfl rfl ?_
        refine pw_iload_n X dL_law_854 rfl rfl ?_
        refine pw_iconst X 2 dL_law_855 (by decide) ?_
        refine pw_iadd X dL_law_856 ?_
        obtain ⟨hi352, hw⟩ := hw
        refine pw_sld X hB hi352 dL_law_857 ?_
        obtain ⟨ht353, hw⟩ := hw
        refine pw_runi X (m_cV X (b := la2) (ci := 4) (q := (RX4, TX4, tyX4, 15)) (met_X4_callOf G C.2.1 M347 la2 (xs (Int32.toNatClampNeg (lx3 + 1))) (xs (Int32.toNatClampNeg (lx3 + 2))) _ hw) ht353 rfl (lw_V q2252 q2253 q2254 q107 q2255) ⟨rfl, nh_X4_callOf⟩ ⟨Nat.le_of_ble_eq_true rfl, Nat.le_of_ble_eq_true rfl⟩ rfl (Nat.le_of_ble_eq_true rfl) dL_law_858) (fun r356 M354 hle355 hx => ?_)
        replace hw := hx hle355
        clear hx
        have ht357 : m_tg M354 la1 = 1 := m_le_tg hle355 ht350
        have ht358 : m_tg M354 la2 = 5 := m_le_tg hle355 ht353
        refine pw_icmp_eq X 958 dL_law_861 (by decide) (fun c359 => ?_) (fun c359 => ?_)
        · replace hw := hw.1 c359
          refine pw_iinc X (lx3 + 4) [(0, vR (some bS)), (1, vR (some la1)), (2, vR (some la2)), (3, vI (lx3 + 4))] [1, 2, 3, 0] dL_law_958 rfl (by first | rfl | decide) (by decide) rfl ?_
          refine pw_goto X 18 dL_law_961 (by decide) ?_
          exact ih _ la1 la2 (lx3 + 4) hw
        · replace hw := hw.2 c359
          refine pw_iconst X 0 dL_law_864 (by decide) ?_
          exact hw.elim
      replace hw := hw.2 c343
      by_cases c360 : ((xs (Int32.toNatClampNeg lx3)) &&& 31) = 24
      · replace hw := hw.1 c360
        refine pw_tableIn X 24 866 dL_law_32 c360 (by decide) (by decide) rfl (by decide) ?_
        refine pw_aload_n X dL_law_866 rfl rfl ?_
        refine pw_aload_n X dL_law_867 rfl rfl ?_
        refine pw_iload_n X dL_law_868 rfl rfl ?_
        refine pw_iconst X 1 dL_law_869 (by decide) ?_
        refine pw_iadd X dL_law_870 ?_
        obtain ⟨hi361, hw⟩ := hw
        refine pw_sld X hB hi361 dL_law_871 ?_
        obtain ⟨ht362, hw⟩ := hw
        refine pw_runi X (m_cV X (b := la1) (ci := 0) (q := (RX0, TX0, tyX0, 4)) (met_X0_waiting G C.2.1 M la1 (xs (Int32.toNatClampNeg (lx3 + 1))) _ hw) ht362 rfl (lw_V q1904 q1905 q1906 q78 q1907) ⟨rfl, nh_X0_waiting⟩ ⟨Nat.le_of_ble_eq_true rfl, Nat.le_of_ble_eq_true rfl⟩ rfl (Nat.le_of_ble_eq_true rfl) dL_law_872) (fun r365 M363 hle364 hx => ?_)
        replace hw := hx hle364
        clear hx
        have ht366 : m_tg M363 la1 = 1 := m_le_tg hle364 ht362
        refine pw_aload_n X dL_law_875 rfl rfl ?_
        refine pw_aload_n X dL_law_876 rfl rfl ?_
        refine pw_iload_n X dL_law_877 rfl rfl ?_
        refine pw_iconst X 1 dL_law_878 (by decide) ?_
        refine pw_iadd X dL_law_879 ?_
        obtain ⟨hi367, hw⟩ := hw
        refine pw_sld X hB hi367 dL_law_880 ?_
        obtain ⟨ht368, hw⟩ := hw
        refine pw_runi X (m_cV X (b := la2) (ci := 4) (q := (RX4, TX4, tyX4, 15)) (met_X4_waiting G C.2.1 M363 la2 (xs (Int32.toNatClampNeg (lx3 + 1))) _ hw) ht368 rfl (lw_V q2256 q2257 q2258 q107 q2259) ⟨rfl, nh_X4_waiting⟩ ⟨Nat.le_of_ble_eq_true rfl, Nat.le_of_ble_eq_true rfl⟩ rfl (Nat.le_of_ble_eq_true rfl) dL_law_881) (fun r371 M369 hle370 hx => ?_)
        replace hw := hx hle370
        clear hx
        have ht372 : m_tg M369 la1 = 1 := m_le_tg hle370 ht366
        have ht373 : m_tg M369 la2 = 5 := m_le_tg hle370 ht368
        refine pw_icmp_eq X 958 dL_law_884 (by decide) (fun c374 => ?_) (fun c374 => ?_)
        · replace hw := hw.1 c374
          refine pw_iinc X (lx3 + 4) [(0, vR (some bS)), (1, vR (some la1)), (2, vR (some la2)), (3, vI (lx3 + 4))] [1, 2, 3, 0] dL_law_958 rfl (by first | rfl | decide) (by decide) rfl ?_
          refine pw_goto X 18 dL_law_961 (by decide) ?_
          exact ih _ la1 la2 (lx3 + 4) hw
        · replace hw := hw.2 c374
          refine pw_iconst X 0 dL_law_887 (by decide) ?_
          exact hw.elim
      replace hw := hw.2 c360
      by_cases c375 : ((xs (Int32.toNatClampNeg lx3)) &&& 31) = 25
      · replace hw := hw.1 c375
        refine pw_tableIn X 25 889 dL_law_32 c375 (by decide) (by decide) rfl (by decide) ?_
        refine pw_aload_n X dL_law_889 rfl rfl ?_
        refine pw_aload_n X dL_law_890 rfl rfl ?_
        refine pw_iload_n X dL_law_891 rfl rfl ?_
        refine pw_iconst X 1 dL_law_892 (by decide) ?_
        refine pw_iadd X dL_law_893 ?_
        obtain ⟨hi376, hw⟩ := hw
        refine pw_sld X hB hi376 dL_law_894 ?_
        obtain ⟨ht377, hw⟩ := hw
        refine pw_runi X (m_cV X (b := la1) (ci := 0) (q := (RX0, TX0, tyX0, 4)) (met_X0_nearest G C.2.1 M la1 (xs (Int32.toNatClampNeg (lx3 + 1))) _ hw) ht377 rfl (lw_V q1909 q1910 q1911 q78 q1912) ⟨rfl, nh_X0_nearest⟩ ⟨Nat.le_of_ble_eq_true rfl, Nat.le_of_ble_eq_true rfl⟩ rfl (Nat.le_of_ble_eq_true rfl) dL_law_895) (fun r380 M378 hle379 hx => ?_)
        replace hw := hx hle379
        clear hx
        have ht381 : m_tg M378 la1 = 1 := m_le_tg hle379 ht377
        refine pw_aload_n X dL_law_898 rfl rfl ?_
        refine pw_aload_n X dL_law_899 rfl rfl ?_
        refine pw_iload_n X dL_law_900 rfl rfl ?_
        refine pw_iconst X 1 dL_law_901 (by decide) ?_
        refine pw_iadd X dL_law_902 ?_
        obtain ⟨hi382, hw⟩ := hw
        refine pw_sld X hB hi382 dL_law_903 ?_
        obtain ⟨ht383, hw⟩ := hw
        refine pw_runi X (m_cV X (b := la2) (ci := 4) (q := (RX4, TX4, tyX4, 15)) (met_X4_nearest G C.2.1 M378 la2 (xs (Int32.toNatClampNeg (lx3 + 1))) _ hw) ht383 rfl (lw_V q2260 q2261 q2262 q107 q2263) ⟨rfl, nh_X4_nearest⟩ ⟨Nat.le_of_ble_eq_true rfl, Nat.le_of_ble_eq_true rfl⟩ rfl (Nat.le_of_ble_eq_true rfl) dL_law_904) (fun r386 M384 hle385 hx => ?_)
        replace hw := hx hle385
        clear hx
        have ht387 : m_tg M384 la1 = 1 := m_le_tg hle385 ht381
        have ht388 : m_tg M384 la2 = 5 := m_le_tg hle385 ht383
        refine pw_icmp_eq X 958 dL_law_907 (by decide) (fun c389 => ?_) (fun c389 => ?_)
        · replace hw := hw.1 c389
          refine pw_iinc X (lx3 + 4) [(0, vR (some bS)), (1, vR (some la1)), (2, vR (some la2)), (3, vI (lx3 + 4))] [1, 2, 3, 0] dL_law_958 rfl (by first | rfl | decide) (by decide) rfl ?_
          refine pw_goto X 18 dL_law_961 (by decide) ?_
          exact ih _ la1 la2 (lx3 + 4) hw
        · replace hw := hw.2 c389
          refine pw_iconst X 0 dL_law_910 (by decide) ?_
          exact hw.elim
      replace hw := hw.2 c375
      by_cases c390 : ((xs (Int32.toNatClampNeg lx3)) &&& 31) = 26
      · replace hw := hw.1 c390
        refine pw_tableIn X 26 912 dL_law_32 c390 (by decide) (by decide) rfl (by decide) ?_
        refine pw_aload_n X dL_law_912 rfl rfl ?_
        refine pw_aload_n X dL_law_913 rfl rfl ?_
        refine pw_iload_n X dL_law_914 rfl rfl ?_
        refine pw_iconst X 1 dL_law_915 (by decide) ?_
        refine pw_iadd X dL_law_916 ?_
        obtain ⟨hi391, hw⟩ := hw
        refine pw_sld X hB hi391 dL_law_917 ?_
        obtain ⟨ht392, hw⟩ := hw
        refine pw_runi X (m_cV X (b := la1) (ci := 0) (q := (RX0, TX0, tyX0, 4)) (met_X0_waitFor G C.2.1 M la1 (xs (Int32.toNatClampNeg (lx3 + 1))) _ hw) ht392 rfl (lw_V q1915 q1916 q1917 q78 q1918) ⟨rfl, nh_X0_waitFor⟩ ⟨Nat.le_of_ble_eq_true rfl, Nat.le_of_ble_eq_true rfl⟩ rfl (Nat.le_of_ble_eq_true rfl) dL_law_918) (fun r395 M393 hle394 hx => ?_)
        replace hw := hx hle394
        clear hx
        have ht396 : m_tg M393 la1 = 1 := m_le_tg hle394 ht392
        refine pw_aload_n X dL_law_921 rfl rfl ?_
        refine pw_aload_n X dL_law_922 rfl rfl ?_
        refine pw_iload_n X dL_law_923 rfl rfl ?_
        refine pw_iconst X 1 dL_law_924 (by decide) ?_
        refine pw_iadd X dL_law_925 ?_
        obtain ⟨hi397, hw⟩ := hw
        refine pw_sld X hB hi397 dL_law_926 ?_
        obtain ⟨ht398, hw⟩ := hw
        refine pw_runi X (m_cV X (b := la2) (ci := 4) (q := (RX4, TX4, tyX4, 15)) (met_X4_waitFor G C.2.1 M393 la2 (xs (Int32.toNatClampNeg (lx3 + 1))) _ hw) ht398 rfl (lw_V q2264 q2265 q2266 q107 q2267) ⟨rfl, nh_X4_waitFor⟩ ⟨Nat.le_of_ble_eq_true rfl, Nat.le_of_ble_eq_true rfl⟩ rfl (Nat.le_of_ble_eq_true rfl) dL_law_927) (fun r401 M399 hle400 hx => ?_)
        replace hw := hx hle400
        clear hx
        have ht402 : m_tg M399 la1 = 1 := m_le_tg hle400 ht396
        have ht403 : m_tg M399 la2 = 5 := m_le_tg hle400 ht398
        refine pw_icmp_eq X 958 dL_law_930 (by decide) (fun c404 => ?_) (fun c404 => ?_)
        · replace hw := hw.1 c404
          refine pw_iinc X (lx3 + 4) [(0, vR (some bS)), (1, vR (some la1)), (2, vR (some la2)), (3, vI (lx3 + 4))] [1, 2, 3, 0] dL_law_958 rfl (by first | rfl | decide) (by decide) rfl ?_
          refine pw_goto X 18 dL_law_961 (by decide) ?_
          exact ih _ la1 la2 (lx3 + 4) hw
        · replace hw := hw.2 c404
          refine pw_iconst X 0 dL_law_933 (by decide) ?_
          exact hw.elim
      replace hw := hw.2 c390
      by_cases c405 : ((xs (Int32.toNatClampNeg lx3)) &&& 31) = 27
      · replace hw := hw.1 c405
        refine pw_tableIn X 27 935 dL_law_32 c405 (by decide) (by decide) rfl (by decide) ?_
        refine pw_aload_n X dL_law_935 rfl rfl ?_
        refine pw_aload_n X dL_law_936 rfl rfl ?_
        refine pw_iload_n X dL_law_937 rfl rfl ?_
        refine pw_iconst X 1 dL_law_938 (by decide) ?_
        refine pw_iadd X dL_law_939 ?_
        obtain ⟨hi406, hw⟩ := hw
        refine pw_sld X hB hi406 dL_law_940 ?_
        obtain ⟨ht407, hw⟩ := hw
        refine pw_runi X (m_cV X (b := la1) (ci := 0) (q := (RX0, TX0, tyX0, 4)) (met_X0_count G C.2.1 M la1 (xs (Int32.toNatClampNeg (lx3 + 1))) _ hw) ht407 rfl (lw_V q1920 q1921 q1922 q78 q1923) ⟨rfl, nh_X0_count⟩ ⟨Nat.le_of_ble_eq_true rfl, Nat.le_of_ble_eq_true rfl⟩ rfl (Nat.le_of_ble_eq_true rfl) dL_law_941) (fun r410 M408 hle409 hx => ?_)
        replace hw := hx hle409
        clear hx
        have ht411 : m_tg M408 la1 = 1 := m_le_tg hle409 ht407
        refine pw_aload_n X dL_law_944 rfl rfl ?_
        refine pw_aload_n X dL_law_945 rfl rfl ?_
        refine pw_iload_n X dL_law_946 rfl rfl ?_
        refine pw_iconst X 1 dL_law_947 (by decide) ?_
        refine pw_iadd X dL_law_948 ?_
        obtain ⟨hi412, hw⟩ := hw
        refine pw_sld X hB hi412 dL_law_949 ?_
        obtain ⟨ht413, hw⟩ := hw
        refine pw_runi X (m_cV X (b := la2) (ci := 4) (q := (RX4, TX4, tyX4, 15)) (met_X4_count G C.2.1 M408 la2 (xs (Int32.toNatClampNeg (lx3 + 1))) _ hw) ht413 rfl (lw_V q2268 q2269 q2270 q107 q2271) ⟨rfl, nh_X4_count⟩ ⟨Nat.le_of_ble_eq_true rfl, Nat.le_of_ble_eq_true rfl⟩ rfl (Nat.le_of_ble_eq_true rfl) dL_law_950) (fun r416 M414 hle415 hx => ?_)
        replace hw := hx hle415
        clear hx
        have ht417 : m_tg M414 la1 = 1 := m_le_tg hle415 ht411
        have ht418 : m_tg M414 la2 = 5 := m_le_tg hle415 ht413
        refine pw_icmp_eq X 958 dL_law_953 (by decide) (fun c419 => ?_) (fun c419 => ?_)
        · replace hw := hw.1 c419
          refine pw_iinc X (lx3 + 4) [(0, vR (some bS)), (1, vR (some la1)), (2, vR (some la2)), (3, vI (lx3 + 4))] [1, 2, 3, 0] dL_law_958 rfl (by first | rfl | decide) (by decide) rfl ?_
          refine pw_goto X 18 dL_law_961 (by decide) ?_
          exact ih _ la1 la2 (lx3 + 4) hw
        · replace hw := hw.2 c419
          refine pw_iconst X 0 dL_law_956 (by decide) ?_
          exact hw.elim
      replace hw := hw.2 c405
      refine pw_tableOut X 958 dL_law_32 (by have := lv_neT c3 (a := 0) (by decide); have := lv_neT c22 (a := 1) (by decide); have := lv_neT c37 (a := 2) (by decide); have := lv_neT c42 (a := 3) (by decide); have := lv_neT c59 (a := 4) (by decide); have := lv_neT c76 (a := 5) (by decide); have := lv_neT c91 (a := 6) (by decide); have := lv_neT c110 (a := 7) (by decide); have := lv_neT c125 (a := 8) (by decide); have := lv_neT c129 (a := 9) (by decide); have := lv_neT c144 (a := 10) (by decide); have := lv_neT c161 (a := 11) (by decide); have := lv_neT c176 (a := 12) (by decide); have := lv_neT c191 (a := 13) (by decide); have := lv_neT c204 (a := 14) (by decide); have := lv_neT c217 (a := 15) (by decide); have := lv_neT c230 (a := 16) (by decide); have := lv_neT c243 (a := 17) (by decide); have := lv_neT c256 (a := 18) (by decide); have := lv_neT c273 (a := 19) (by decide); have := lv_neT c292 (a := 20) (by decide); have := lv_neT c309 (a := 21) (by decide); have := lv_neT c326 (a := 22) (by decide); have := lv_neT c343 (a := 23) (by decide); have := lv_neT c360 (a := 24) (by decide); have := lv_neT c375 (a := 25) (by decide); have := lv_neT c390 (a := 26) (by decide); have := lv_neT c405 (a := 27) (by decide); omega) (by decide) ?_
      refine pw_iinc X (lx3 + 4) [(0, vR (some bS)), (1, vR (some la1)), (2, vR (some la2)), (3, vI (lx3 + 4))] [1, 2, 3, 0] dL_law_958 rfl (by first | rfl | decide) (by decide) rfl ?_
      refine pw_goto X 18 dL_law_961 (by decide) ?_
      exact ih _ la1 la2 (lx3 + 4) hw
theorem bk_L_law_0 (G : Gp) (C : m_Cx) (n0 s0 : Nat) (M0 : Mem) (bS L9 : Nat) (xs : Nat → Int32) {nm9 : String} (X : m_in G C R_law cL_law 4 (some .boolean) nm9 8192 104096 n0 s0) (hB : m_law G C bS L9 xs) (hl : C.2.1.stackTraces = false) (M : Mem)  (hw : wp_L_law G.2 M  bS L9 xs) : pW G C 4 n0 s0 M0 (lw_Z (m_be C) #[.ref bS] (m_s C)) M 0 [(0, vR (some bS))] [] := by
  obtain ⟨hf1, hw⟩ := hw
  refine pw_new X (ci := 0) (q := (RX0, TX0, tyX0, 4)) hf1 rfl in_X0 tyX0_ok q121 q122 q78 dL_law_0 (fun u2 h03 => ?_)
  obtain ⟨M4, hM5⟩ : ∃ z : Mem, z = (m_al M u2 1 0 4) := ⟨_, rfl⟩
  replace hw := hw u2 h03 M4 hM5
  have hle6 : m_le M M4 := by rw [hM5]; exact m_le_al h03
  change pW _ _ _ _ _ _ _ (m_al M u2 1 0 4) _ _ _
  rw [← hM5]
  have ht7 : m_tg M4 u2 = 1 := by rw [hM5, m_tg_al, if_pos rfl]
  refine pw_dup X dL_law_3 ?_
  refine pw_runv X (m_cI X (b := u2) (met_X0_init G C.2.1 M4 u2 _ hw) q125 q78 q123 q124 rfl nh_X0_init ⟨Nat.le_of_ble_eq_true rfl, Nat.le_of_ble_eq_true rfl⟩ rfl (Nat.le_of_ble_eq_true rfl) dL_law_4) (fun M8 hle9 hx => ?_)
  replace hw := hx hle9
  clear hx
  have ht10 : m_tg M8 u2 = 1 := m_le_tg hle9 ht7
  refine pw_astore_n X [(0, vR (some bS)), (1, vR (some u2))] [1, 0] dL_law_7 rfl (by decide) rfl ?_
  obtain ⟨hf11, hw⟩ := hw
  refine pw_new X (ci := 4) (q := (RX4, TX4, tyX4, 15)) hf11 rfl in_X4 tyX4_ok q1935 q1936 q107 dL_law_8 (fun u12 h013 => ?_)
  obtain ⟨M14, hM15⟩ : ∃ z : Mem, z = (m_al M8 u12 5 0 15) := ⟨_, rfl⟩
  replace hw := hw u12 h013 M14 hM15
  have hle16 : m_le M8 M14 := by rw [hM15]; exact m_le_al h013
  change pW _ _ _ _ _ _ _ (m_al M8 u12 5 0 15) _ _ _
  rw [← hM15]
  have ht17 : m_tg M14 u2 = 1 := m_le_tg hle16 ht10
  have ht18 : m_tg M14 u12 = 5 := by rw [hM15, m_tg_al, if_pos rfl]
  refine pw_dup X dL_law_11 ?_
  refine pw_runv X (m_cI X (b := u12) (met_X4_init G C.2.1 M14 u12 _ hw) q1939 q107 q1937 q1938 rfl nh_X4_init ⟨Nat.le_of_ble_eq_true rfl, Nat.le_of_ble_eq_true rfl⟩ rfl (Nat.le_of_ble_eq_true rfl) dL_law_12) (fun M19 hle20 hx => ?_)
  replace hw := hx hle20
  clear hx
  have ht21 : m_tg M19 u2 = 1 := m_le_tg hle20 ht17
  have ht22 : m_tg M19 u12 = 5 := m_le_tg hle20 ht18
  refine pw_astore_n X [(0, vR (some bS)), (1, vR (some u2)), (2, vR (some u12))] [1, 2, 0] dL_law_15 rfl (by decide) rfl ?_
  refine pw_iconst X 0 dL_law_16 (by decide) ?_
  refine pw_istore_n X [(0, vR (some bS)), (1, vR (some u2)), (2, vR (some u12)), (3, vI 0)] [1, 2, 3, 0] dL_law_17 rfl (by decide) rfl ?_
  obtain ⟨n18, hw⟩ := hw
  exact bk_L_law_18 G C n0 s0 M0 bS L9 xs X hB hl n18 _ u2 u12 0 hw
