set_option linter.unusedVariables false
set_option maxRecDepth 10000
/-! ===== counting and finding bits ===== -/
section BC
variable {σ : wS}
theorem andL (a b : Nat) : lN a &&& lN b = lN (a &&& b) := by
  apply Int64.toBitVec_inj.mp
  show BitVec.ofNat 64 a &&& BitVec.ofNat 64 b = BitVec.ofNat 64 (a &&& b)
  exact (BitVec.ofNat_and ..).symm
theorem addL (a b : Nat) : lN a + lN b = lN (a + b) := by
  apply Int64.toBitVec_inj.mp
  show BitVec.ofNat 64 a + BitVec.ofNat 64 b = BitVec.ofNat 64 (a + b)
  exact (BitVec.ofNat_add ..).symm
theorem subL {a b : Nat} (h : b ≤ a) : lN a - lN b = lN (a - b) := by
  have e : lN (a - b) + lN b = lN a := by rw [addL, Nat.sub_add_cancel h]
  rw [← e]
  exact Int64.add_sub_cancel _ _
theorem shr_c : ∀ k, k < 64 → ((nI k).toInt64.toUInt64 &&& Int64.toUInt64 63).toNat % 64 = k := by decide +kernel
theorem shrL {a k : Nat} (ha : a < 2 ^ 64) (hk : k < 64) : ((lN a).toUInt64 >>> ((nI k).toInt64.toUInt64 &&& Int64.toUInt64 63)).toInt64 = lN (a >>> k) := by
  have hs : a >>> k ≤ a := by
    rw [Nat.shiftRight_eq_div_pow]
    exact Nat.div_le_self _ _
  have e2 : UInt64.ofNat a >>> ((nI k).toInt64.toUInt64 &&& Int64.toUInt64 63) = UInt64.ofNat (a >>> k) := by
    apply UInt64.toNat_inj.1
    have h1 : (UInt64.ofNat a).toNat = a := Nat.mod_eq_of_lt ha
    have h2 : (UInt64.ofNat (a >>> k)).toNat = a >>> k := Nat.mod_eq_of_lt (by omega)
    rw [UInt64.toNat_shiftRight, shr_c k hk, h1, h2]
  show (UInt64.ofNat a >>> ((nI k).toInt64.toUInt64 &&& Int64.toUInt64 63)).toInt64 = _
  rw [e2]
  rfl
/-! lanes of a byte -/
theorem ln_and {a b c d : Nat} (hb : b < 256) (hd : d < 256) : (256 * a + b) &&& (256 * c + d) = 256 * (a &&& c) + (b &&& d) := by
  have hbd : (b &&& d) < 2 ^ 8 := Nat.lt_of_le_of_lt Nat.and_le_left hb
  apply Nat.eq_of_testBit_eq
  intro i
  rw [Nat.testBit_and, show (256 : Nat) = 2 ^ 8 from rfl, Nat.testBit_two_pow_mul_add a (show b < 2 ^ 8 from hb), Nat.testBit_two_pow_mul_add c (show d < 2 ^ 8 from hd), Nat.testBit_two_pow_mul_add _ hbd]
  by_cases h : i < 8
  · rw [if_pos h, if_pos h, if_pos h, Nat.testBit_and]
  · rw [if_neg h, if_neg h, if_neg h, Nat.testBit_and]
def rpt (c : Nat) : Nat → Nat
  | 0 => 0
  | n + 1 => 256 * rpt c n + c
def q1 (n x : Nat) : Nat := x - ((x >>> 1) &&& rpt 85 n)
def q2 (n x : Nat) : Nat := (x &&& rpt 51 n) + ((x >>> 2) &&& rpt 51 n)
def q3 (n x : Nat) : Nat := (x + (x >>> 4)) &&& rpt 15 n
def qb (n x : Nat) : Nat := q3 n (q2 n (q1 n x))
theorem d1 : ∀ b, b < 2 → ∀ x, x < 256 → (128 * b + x / 2) &&& 85 = (x >>> 1) &&& 85 := by decide +kernel
theorem d2 : ∀ b, b < 4 → ∀ x, x < 256 → (64 * b + x / 4) &&& 51 = (x >>> 2) &&& 51 := by decide +kernel
theorem q1_le {x : Nat} : (x >>> 1) &&& 85 ≤ x := Nat.le_trans Nat.and_le_left (by rw [Nat.shiftRight_eq_div_pow]; exact Nat.div_le_self _ _)
theorem q1_s {n x y : Nat} (hx : x < 256) : q1 (n + 1) (256 * y + x) = 256 * q1 n y + q1 1 x := by
  have e1 : (256 * y + x) >>> 1 = 256 * (y >>> 1) + (128 * (y % 2) + x / 2) := by
    rw [Nat.shiftRight_eq_div_pow, Nat.shiftRight_eq_div_pow]; omega
  have e2 : rpt 85 (n + 1) = 256 * rpt 85 n + 85 := rfl
  have e3 : rpt 85 1 = 85 := rfl
  have a : (y >>> 1) &&& rpt 85 n ≤ y := Nat.le_trans Nat.and_le_left (by rw [Nat.shiftRight_eq_div_pow]; exact Nat.div_le_self _ _)
  have b := q1_le (x := x)
  have hl : 128 * (y % 2) + x / 2 < 256 := by omega
  unfold q1
  rw [e1, e2, e3, ln_and hl (by decide), d1 _ (by omega) _ hx]
  omega
theorem q2_s {n x y : Nat} (hx : x < 256) : q2 (n + 1) (256 * y + x) = 256 * q2 n y + q2 1 x := by
  have e1 : (256 * y + x) >>> 2 = 256 * (y >>> 2) + (64 * (y % 4) + x / 4) := by
    rw [Nat.shiftRight_eq_div_pow, Nat.shiftRight_eq_div_pow]; omega
  have e2 : rpt 51 (n + 1) = 256 * rpt 51 n + 51 := rfl
  have e3 : rpt 51 1 = 51 := rfl
  have hl : 64 * (y % 4) + x / 4 < 256 := by omega
  unfold q2
  rw [e1, e2, e3, ln_and hl (by decide), ln_and hx (by decide), d2 _ (by omega) _ hx]
  omega
theorem rpt_m {c : Nat} (hc : c < 256) : ∀ n, rpt c n % 16 ≤ c % 16
  | 0 => Nat.zero_le _
  | n + 1 => by
    show (256 * rpt c n + c) % 16 ≤ _
    omega
theorem q2_16 {n x : Nat} : q2 n x % 16 ≤ 6 := by
  have h : ∀ z, (z &&& rpt 51 n) % 16 ≤ 3 := fun z => by
    rw [show (16 : Nat) = 2 ^ 4 from rfl, Nat.and_mod_two_pow]
    exact Nat.le_trans Nat.and_le_right (rpt_m (by decide) n)
  have a := h x
  have b := h (x >>> 2)
  unfold q2
  omega
theorem q2_1 {x : Nat} : q2 1 x ≤ 102 := by
  have a : x &&& rpt 51 1 ≤ rpt 51 1 := Nat.and_le_right
  have b : (x >>> 2) &&& rpt 51 1 ≤ rpt 51 1 := Nat.and_le_right
  have e3 : rpt 51 1 = 51 := rfl
  unfold q2
  omega
theorem q3_s {n x y : Nat} (hx : x ≤ 102) (hy : y % 16 ≤ 6) : q3 (n + 1) (256 * y + x) = 256 * q3 n y + q3 1 x := by
  have e1 : (256 * y + x) + (256 * y + x) >>> 4 = 256 * (y + y >>> 4) + (16 * (y % 16) + x + x / 16) := by
    rw [Nat.shiftRight_eq_div_pow, Nat.shiftRight_eq_div_pow]; omega
  have e2 : rpt 15 (n + 1) = 256 * rpt 15 n + 15 := rfl
  have e3 : rpt 15 1 = 15 := rfl
  have hl : 16 * (y % 16) + x + x / 16 < 256 := by omega
  have e4 : ∀ z, z &&& 15 = z % 16 := fun z => Nat.and_two_pow_sub_one_eq_mod z 4
  have e5 : x >>> 4 = x / 16 := Nat.shiftRight_eq_div_pow x 4
  unfold q3
  rw [e1, e2, e3, ln_and hl (by decide), e4, e4, e5]
  omega
theorem qb_s {n x y : Nat} (hx : x < 256) : qb (n + 1) (256 * y + x) = 256 * qb n y + qb 1 x := by
  have h1 : q1 1 x < 256 := Nat.lt_of_le_of_lt (Nat.sub_le _ _) hx
  unfold qb
  rw [q1_s hx, q2_s h1, q3_s q2_1 q2_16]
theorem d8 : ∀ x, x < 256 → qb 1 x = ctn x.testBit 8 := by decide +kernel
theorem ctn_cong {p q : Nat → Bool} : ∀ {n : Nat}, (∀ k, k < n → p k = q k) → ctn p n = ctn q n
  | 0, _ => rfl
  | n + 1, h => by
    show ctn p n + (if p n = true then 1 else 0) = ctn q n + (if q n = true then 1 else 0)
    rw [ctn_cong (fun k hk => h k (by omega)), h n (by omega)]
theorem ctn_split (p : Nat → Bool) (m : Nat) : ∀ n, ctn p (m + n) = ctn p m + ctn (fun k => p (m + k)) n
  | 0 => rfl
  | n + 1 => by
    show ctn p (m + n) + (if p (m + n) = true then 1 else 0) = ctn p m + (ctn (fun k => p (m + k)) n + (if p (m + n) = true then 1 else 0))
    rw [ctn_split p m n]
    omega
/-- bytes' counts, stepwise -/
theorem qb_b {n w : Nat} : ∃ c, c ≤ 8 ∧ qb (n + 1) w = 256 * qb n (w / 256) + c ∧ ctn w.testBit (8 * (n + 1)) = c + ctn (w / 256).testBit (8 * n) := by
  have hx : w % 256 < 256 := Nat.mod_lt _ (by decide)
  have e : 256 * (w / 256) + w % 256 = w := Nat.div_add_mod w 256
  refine ⟨ctn (w % 256).testBit 8, ctn_le _, ?_, ?_⟩
  · rw [← d8 _ hx, ← qb_s hx, e]
  · rw [show 8 * (n + 1) = 8 + 8 * n by omega, ctn_split]
    have a1 : ctn w.testBit 8 = ctn (w % 256).testBit 8 := ctn_cong fun k hk => by
      rw [show (256 : Nat) = 2 ^ 8 from rfl, Nat.testBit_mod_two_pow, decide_eq_true hk, Bool.true_and]
    have a2 : ctn (fun k => w.testBit (8 + k)) (8 * n) = ctn (w / 256).testBit (8 * n) := ctn_cong fun k hk => by
      rw [show (256 : Nat) = 2 ^ 8 from rfl, Nat.testBit_div_two_pow, Nat.add_comm]
    rw [a1, a2]
theorem qb_c {n m N M w : Nat} (hm : m = n + 1) (hN : N = 8 * (n + 1)) (hM : M = 8 * n) : ∃ c, c ≤ 8 ∧ qb m w = 256 * qb n (w / 256) + c ∧ ctn w.testBit N = c + ctn (w / 256).testBit M := by
  rw [hm, hN, hM]; exact qb_b
theorem dvX {c X k : Nat} (h : c < k) : (c + k * X) / k = X := by
  rw [Nat.add_mul_div_left _ _ (by omega), Nat.div_eq_of_lt h, Nat.zero_add]
theorem c_bitCount {Q : Int32 → wS → Prop} {w : Nat} (hw : w < 2 ^ 64) (hQ : Q (nI (ctn w.testBit 64)) σ) : w_J17_bitCount σ (lN w) Q := by
  obtain ⟨c0, h0, e0, f0⟩ : ∃ c, c ≤ 8 ∧ qb 8 w = 256 * qb 7 (w / 256) + c ∧ ctn (Nat.testBit w) 64 = c + ctn (Nat.testBit (w / 256)) 56 := qb_c (n := 7) (m := 8) (N := 64) (M := 56) (by omega) (by omega) (by omega)
  obtain ⟨c1, h1, e1, f1⟩ : ∃ c, c ≤ 8 ∧ qb 7 (w / 256) = 256 * qb 6 (w / 256 / 256) + c ∧ ctn (Nat.testBit (w / 256)) 56 = c + ctn (Nat.testBit (w / 256 / 256)) 48 := qb_c (n := 6) (m := 7) (N := 56) (M := 48) (by omega) (by omega) (by omega)
  obtain ⟨c2, h2, e2, f2⟩ : ∃ c, c ≤ 8 ∧ qb 6 (w / 256 / 256) = 256 * qb 5 (w / 256 / 256 / 256) + c ∧ ctn (Nat.testBit (w / 256 / 256)) 48 = c + ctn (Nat.testBit (w / 256 / 256 / 256)) 40 := qb_c (n := 5) (m := 6) (N := 48) (M := 40) (by omega) (by omega) (by omega)
  obtain ⟨c3, h3, e3, f3⟩ : ∃ c, c ≤ 8 ∧ qb 5 (w / 256 / 256 / 256) = 256 * qb 4 (w / 256 / 256 / 256 / 256) + c ∧ ctn (Nat.testBit (w / 256 / 256 / 256)) 40 = c + ctn (Nat.testBit (w / 256 / 256 / 256 / 256)) 32 := qb_c (n := 4) (m := 5) (N := 40) (M := 32) (by omega) (by omega) (by omega)
  obtain ⟨c4, h4, e4, f4⟩ : ∃ c, c ≤ 8 ∧ qb 4 (w / 256 / 256 / 256 / 256) = 256 * qb 3 (w / 256 / 256 / 256 / 256 / 256) + c ∧ ctn (Nat.testBit (w / 256 / 256 / 256 / 256)) 32 = c + ctn (Nat.testBit (w / 256 / 256 / 256 / 256 / 256)) 24 := qb_c (n := 3) (m := 4) (N := 32) (M := 24) (by omega) (by omega) (by omega)
  obtain ⟨c5, h5, e5, f5⟩ : ∃ c, c ≤ 8 ∧ qb 3 (w / 256 / 256 / 256 / 256 / 256) = 256 * qb 2 (w / 256 / 256 / 256 / 256 / 256 / 256) + c ∧ ctn (Nat.testBit (w / 256 / 256 / 256 / 256 / 256)) 24 = c + ctn (Nat.testBit (w / 256 / 256 / 256 / 256 / 256 / 256)) 16 := qb_c (n := 2) (m := 3) (N := 24) (M := 16) (by omega) (by omega) (by omega)
  obtain ⟨c6, h6, e6, f6⟩ : ∃ c, c ≤ 8 ∧ qb 2 (w / 256 / 256 / 256 / 256 / 256 / 256) = 256 * qb 1 (w / 256 / 256 / 256 / 256 / 256 / 256 / 256) + c ∧ ctn (Nat.testBit (w / 256 / 256 / 256 / 256 / 256 / 256)) 16 = c + ctn (Nat.testBit (w / 256 / 256 / 256 / 256 / 256 / 256 / 256)) 8 := qb_c (n := 1) (m := 2) (N := 16) (M := 8) (by omega) (by omega) (by omega)
  obtain ⟨c7, h7, e7, f7⟩ : ∃ c, c ≤ 8 ∧ qb 1 (w / 256 / 256 / 256 / 256 / 256 / 256 / 256) = 256 * qb 0 (w / 256 / 256 / 256 / 256 / 256 / 256 / 256 / 256) + c ∧ ctn (Nat.testBit (w / 256 / 256 / 256 / 256 / 256 / 256 / 256)) 8 = c + ctn (Nat.testBit (w / 256 / 256 / 256 / 256 / 256 / 256 / 256 / 256)) 0 := qb_c (n := 0) (m := 1) (N := 8) (M := 0) (by omega) (by omega) (by omega)
  have z0 : ∀ x, qb 0 x = 0 := fun x => by
    unfold qb q3
    exact Nat.and_zero _
  have z1 : ∀ x : Nat, ctn x.testBit 0 = 0 := fun x => rfl
  rw [z0] at e7
  rw [z1] at f7
  have a1 : (w >>> 1) &&& rpt 85 8 ≤ w := Nat.le_trans Nat.and_le_left (by rw [Nat.shiftRight_eq_div_pow]; exact Nat.div_le_self _ _)
  have m1 : rpt 85 8 = 6148914691236517205 := by decide +kernel
  have m2 : rpt 51 8 = 3689348814741910323 := by decide +kernel
  have m3 : rpt 15 8 = 1085102592571150095 := by decide +kernel
  have l1 : q1 8 w < 2 ^ 64 := Nat.lt_of_le_of_lt (Nat.sub_le _ _) hw
  have l2 : q2 8 (q1 8 w) < 2 ^ 64 := by
    have a : (q1 8 w) &&& rpt 51 8 ≤ rpt 51 8 := Nat.and_le_right
    have b : ((q1 8 w) >>> 2) &&& rpt 51 8 ≤ rpt 51 8 := Nat.and_le_right
    have c : q2 8 (q1 8 w) = ((q1 8 w) &&& rpt 51 8) + (((q1 8 w) >>> 2) &&& rpt 51 8) := rfl
    omega
  have l3 : qb 8 w = c0 + 256 * c1 + 65536 * c2 + 16777216 * c3 + 4294967296 * c4 + 1099511627776 * c5 + 281474976710656 * c6 + 72057594037927936 * c7 := by omega
  have l4 : ctn w.testBit 64 = c0 + c1 + c2 + c3 + c4 + c5 + c6 + c7 := by omega
  clear e0 e1 e2 e3 e4 e5 e6 e7 f0 f1 f2 f3 f4 f5 f6 f7 z0 z1
  generalize hv : qb 8 w = v at l3
  have r64 : ctn w.testBit 64 ≤ 64 := ctn_le _
  generalize ctn w.testBit 64 = r at l4 hQ r64
  have u1 : q1 8 w = w - ((w >>> 1) &&& rpt 85 8) := by unfold q1; exact Eq.refl _
  have u2 : ∀ y, q2 8 y = (y &&& rpt 51 8) + ((y >>> 2) &&& rpt 51 8) := fun y => by unfold q2; exact Eq.refl _
  have u3 : ∀ y, q3 8 y = (y + (y >>> 4)) &&& rpt 15 8 := fun y => by unfold q3; exact Eq.refl _
  have u4 : qb 8 w = q3 8 (q2 8 (q1 8 w)) := by unfold qb; exact Eq.refl _
  rw [m1] at u1 a1
  rw [m2] at u2
  rw [m3] at u3
  rw [hv] at u4
  generalize q1 8 w = y1 at u1 u4 l1 l2
  have u2' := u2 y1
  generalize q2 8 y1 = y2 at u2' u4 l2
  have u3' := u3 y2
  rw [← u4] at u3'
  have g1' : lN w - (((lN w).toUInt64 >>> ((1 : Int32).toInt64.toUInt64 &&& Int64.toUInt64 63)).toInt64 &&& (6148914691236517205 : Int64)) = lN y1 := by
    rw [show ((1 : Int32)) = nI 1 from rfl, shrL hw (by decide), show (6148914691236517205 : Int64) = lN 6148914691236517205 from rfl, andL, subL a1, ← u1]
  have g2' : (lN y1 &&& (3689348814741910323 : Int64)) + ((((lN y1).toUInt64 >>> ((2 : Int32).toInt64.toUInt64 &&& Int64.toUInt64 63)).toInt64) &&& (3689348814741910323 : Int64)) = lN y2 := by
    rw [show ((2 : Int32)) = nI 2 from rfl, shrL l1 (by decide), show (3689348814741910323 : Int64) = lN 3689348814741910323 from rfl, andL, andL, addL, ← u2']
  have g3 : (lN y2 + (((lN y2).toUInt64 >>> ((4 : Int32).toInt64.toUInt64 &&& Int64.toUInt64 63)).toInt64)) &&& (1085102592571150095 : Int64) = lN v := by
    rw [show ((4 : Int32)) = nI 4 from rfl, shrL l2 (by decide), show (1085102592571150095 : Int64) = lN 1085102592571150095 from rfl, addL, andL, ← u3']
  clear u1 u2 u3 u4 u2' u3'
  have sh : ∀ x k : Nat, x >>> k = x / 2 ^ k := fun x k => Nat.shiftRight_eq_div_pow x k
  clear a1 m1 m2 m3 l1 l2 hw
  obtain ⟨X, hX⟩ : ∃ X, X = c1 + 256 * c2 + 65536 * c3 + 16777216 * c4 + 4294967296 * c5 + 1099511627776 * c6 + 281474976710656 * c7 := ⟨_, rfl⟩
  have b7 : v / 2 ^ 8 = X := by
    rw [show v = c0 + 2 ^ 8 * X by clear h0 h1 h2 h3 h4 h5 h6 h7; omega]
    exact dvX (by clear l3 l4 hX; omega)
  obtain ⟨u, hu⟩ : ∃ u, u = v + X := ⟨_, rfl⟩
  obtain ⟨Y, hY⟩ : ∃ Y, Y = (c2 + c3) + 256 * (c3 + c4) + 65536 * (c4 + c5) + 16777216 * (c5 + c6) + 4294967296 * (c6 + c7) + 1099511627776 * c7 := ⟨_, rfl⟩
  have b9 : u / 2 ^ 16 = Y := by
    rw [show u = ((c0 + c1) + 256 * (c1 + c2)) + 2 ^ 16 * Y by clear h0 h1 h2 h3 h4 h5 h6 h7; omega]
    exact dvX (by clear l3 l4 hX hu hY b7; omega)
  obtain ⟨y, hy⟩ : ∃ y, y = u + Y := ⟨_, rfl⟩
  obtain ⟨Z, hZ⟩ : ∃ Z, Z = (c4 + c5 + c6 + c7) + 256 * (c5 + c6 + c7) + 65536 * (c6 + c7) + 16777216 * c7 := ⟨_, rfl⟩
  have b10 : y / 2 ^ 32 = Z := by
    rw [show y = ((c0 + c1 + c2 + c3) + 256 * (c1 + c2 + c3 + c4) + 65536 * (c2 + c3 + c4 + c5) + 16777216 * (c3 + c4 + c5 + c6)) + 2 ^ 32 * Z by clear h0 h1 h2 h3 h4 h5 h6 h7; omega]
    exact dvX (by clear l3 l4 hX hu hY hy hZ b7 b9; omega)
  obtain ⟨T, hT⟩ : ∃ T, T = 2 * (c1 + c2 + c3 + c4) + 512 * (c2 + c3 + c4 + c5) + 131072 * (c3 + c4 + c5 + c6) + 33554432 * (c4 + c5 + c6 + c7) + 8589934592 * (c5 + c6 + c7) + 2199023255552 * (c6 + c7) + 562949953421312 * c7 + 2 * (c5 + c6 + c7) + 512 * (c6 + c7) + 131072 * c7 := ⟨_, rfl⟩
  have b11 : (y + Z) % 2 ^ 7 = r := by
    rw [show y + Z = r + 2 ^ 7 * T by clear b7 b9 b10 r64 h0 h1 h2 h3 h4 h5 h6 h7; omega, Nat.add_mul_mod_self_left]
    exact Nat.mod_eq_of_lt (Nat.lt_of_le_of_lt r64 (by decide))
  have hl1 : v < 2 ^ 62 := by clear l4 hX hu hY hy hZ hT b7 b9 b10 b11; omega
  have hX2 : X ≤ v := by rw [← b7]; exact Nat.div_le_self _ _
  have hY2 : Y ≤ u := by rw [← b9]; exact Nat.div_le_self _ _
  have hl2 : u < 2 ^ 63 := by clear l3 l4 hX hY hy hZ hT b7 b9 b10 b11; omega
  have hl3 : y < 2 ^ 64 := by clear l3 l4 hX hY hZ hT b7 b9 b10 b11; omega
  unfold w_J17_bitCount
  intro v1 k1
  rw [k1, g1']
  intro v3 k3
  rw [k3, g2']
  intro v5 k5
  rw [k5, g3]
  intro v7 k7
  rw [k7, show ((8 : Int32)) = nI 8 from rfl, shrL (Nat.lt_trans hl1 (by decide)) (by decide), addL, sh, b7, ← hu]
  intro v9 k9
  rw [k9, show ((16 : Int32)) = nI 16 from rfl, shrL (Nat.lt_trans hl2 (by decide)) (by decide), addL, sh, b9, ← hy]
  intro v11 k11
  rw [k11, show ((32 : Int32)) = nI 32 from rfl, shrL hl3 (by decide), addL, sh, b10]
  have e32 : (lN (y + Z)).toInt32 &&& (127 : Int32) = nI r := by
    have c1 : (lN (y + Z)).toInt32 = nI (y + Z) := by
      apply Int32.toBitVec_inj.mp
      show (BitVec.ofNat 64 (y + Z)).signExtend 32 = BitVec.ofNat 32 (y + Z)
      apply BitVec.eq_of_getLsbD_eq
      intro i hi
      rw [BitVec.getLsbD_signExtend, BitVec.getLsbD_ofNat, BitVec.getLsbD_ofNat]
      simp [hi, show i < 64 by omega]
    rw [c1, show (127 : Int32) = nI 127 from rfl, and_nI, show (127 : Nat) = 2 ^ 7 - 1 from rfl, Nat.and_two_pow_sub_one_eq_mod, b11]
  rw [e32]
  exact hQ
def tz62 (x0 x1 : Int32) : Int32 := if x0 ≤ (4 : Int32) then x1 + ((x0.toUInt32 >>> ((1 : Int32).toUInt32 &&& Int32.toUInt32 31)).toInt32) else (x1 + (2 : Int32)) + ((((x0.toUInt32 >>> ((2 : Int32).toUInt32 &&& Int32.toUInt32 31)).toInt32).toUInt32 >>> ((1 : Int32).toUInt32 &&& Int32.toUInt32 31)).toInt32)
def tz49 (x0 x1 : Int32) : Int32 := if x0 ≤ (16 : Int32) then tz62 x0 x1 else tz62 ((x0.toUInt32 >>> ((4 : Int32).toUInt32 &&& Int32.toUInt32 31)).toInt32) (x1 + (4 : Int32))
def tz34 (x0 x1 : Int32) : Int32 := if x0 ≤ (256 : Int32) then tz49 x0 x1 else tz49 ((x0.toUInt32 >>> ((8 : Int32).toUInt32 &&& Int32.toUInt32 31)).toInt32) (x1 + (8 : Int32))
def tzF (v : Int32) : Int32 := if 0 < v then (if v ≤ (65536 : Int32) then tz34 v 1 else tz34 ((v.toUInt32 >>> ((16 : Int32).toUInt32 &&& Int32.toUInt32 31)).toInt32) ((1 : Int32) + (16 : Int32))) else v &&& 32
theorem tzF_d : ∀ i, i < 32 → tzF (nI (2 ^ i - 1)) = nI i := by decide +kernel
theorem p_62 {Q : Int32 → wS → Prop} {a b : Int32} (h : Q (tz62 a b) σ) : b_J16_numberOfTrailingZeros_62 Q σ a b := by
  unfold tz62 at h
  unfold b_J16_numberOfTrailingZeros_62
  by_cases c : a ≤ (4 : Int32)
  · rw [if_pos c] at h ⊢; exact h
  · rw [if_neg c] at h ⊢
    intro v e
    rw [e]; exact h
theorem p_49 {Q : Int32 → wS → Prop} {a b : Int32} (h : Q (tz49 a b) σ) : b_J16_numberOfTrailingZeros_49 Q σ a b := by
  unfold tz49 at h
  unfold b_J16_numberOfTrailingZeros_49
  by_cases c : a ≤ (16 : Int32)
  · rw [if_pos c] at h ⊢; exact p_62 h
  · rw [if_neg c] at h ⊢
    intro v e
    rw [e]; exact p_62 h
theorem p_34 {Q : Int32 → wS → Prop} {a b : Int32} (h : Q (tz34 a b) σ) : b_J16_numberOfTrailingZeros_34 Q σ a b := by
  unfold tz34 at h
  unfold b_J16_numberOfTrailingZeros_34
  by_cases c : a ≤ (256 : Int32)
  · rw [if_pos c] at h ⊢; exact p_49 h
  · rw [if_neg c] at h ⊢
    intro v e
    rw [e]; exact p_49 h
theorem low_mod {n i : Nat} (h1 : n.testBit i = true) (h0 : ∀ j, j < i → n.testBit j = false) : n % 2 ^ (i + 1) = 2 ^ i := by
  apply Nat.eq_of_testBit_eq
  intro j
  rw [Nat.testBit_mod_two_pow, Nat.testBit_two_pow]
  rcases Nat.lt_trichotomy j i with q | q | q
  · rw [h0 j q, Bool.and_false, decide_eq_false (show ¬ i = j by omega)]
  · rw [q, h1, decide_eq_true (show i < i + 1 by omega)]; simp
  · rw [decide_eq_false (show ¬ j < i + 1 by omega), decide_eq_false (show ¬ i = j by omega)]; rfl
theorem low_msk {n i : Nat} (hi : i < 32) (h1 : n.testBit i = true) (h0 : ∀ j, j < i → n.testBit j = false) : (nI n ^^^ (-1 : Int32)) &&& (nI n - (1 : Int32)) = nI (2 ^ i - 1) := by
  have hm := low_mod h1 h0
  have hp : 0 < 2 ^ i := Nat.pow_pos (by decide)
  have hlt : 2 ^ i < 2 ^ (i + 1) := Nat.pow_lt_pow_right (by decide) (by omega)
  have e : 2 ^ (i + 1) * (n / 2 ^ (i + 1)) + 2 ^ i = n := by rw [← hm]; exact Nat.div_add_mod _ _
  have e1 : 2 ^ (i + 1) * (n / 2 ^ (i + 1)) + (2 ^ i - 1) = n - 1 := by omega
  have hs : nI n - (1 : Int32) = nI (n - 1) := by
    have q : nI (n - 1) + 1 = nI n := by
      rw [← nI_succ]
      congr 1
      omega
    rw [← q]
    exact Int32.add_sub_cancel _ _
  rw [hs]
  apply Int32.toBitVec_inj.mp
  show (BitVec.ofNat 32 n ^^^ 4294967295#32) &&& BitVec.ofNat 32 (n - 1) = BitVec.ofNat 32 (2 ^ i - 1)
  apply BitVec.eq_of_getLsbD_eq
  intro j hj
  have b : (4294967295#32).getLsbD j = true := (by decide +kernel : ∀ j, j < 32 → (4294967295#32).getLsbD j = true) j hj
  rw [BitVec.getLsbD_and, BitVec.getLsbD_xor, b, BitVec.getLsbD_ofNat, BitVec.getLsbD_ofNat, BitVec.getLsbD_ofNat, decide_eq_true hj, Bool.true_and, Bool.true_and, Bool.true_and, Nat.testBit_two_pow_sub_one, ← e1, Nat.testBit_two_pow_mul_add _ (show 2 ^ i - 1 < 2 ^ (i + 1) by omega), Nat.testBit_two_pow_sub_one]
  conv => lhs; lhs; rw [← e]
  rw [Nat.testBit_two_pow_mul_add _ hlt, Nat.testBit_two_pow]
  by_cases q : j < i + 1
  · rw [if_pos q, if_pos q]
    by_cases z : j < i
    · rw [decide_eq_true z, decide_eq_false (show ¬ i = j by omega)]; rfl
    · rw [decide_eq_false z, Bool.and_false]
  · rw [if_neg q, if_neg q, decide_eq_false (show ¬ j < i by omega)]
    cases (n / 2 ^ (i + 1)).testBit (j - (i + 1)) <;> rfl
theorem c_ntz16 {Q : Int32 → wS → Prop} {n i : Nat} (hi : i < 32) (h1 : n.testBit i = true) (h0 : ∀ j, j < i → n.testBit j = false) (hQ : Q (nI i) σ) : w_J16_numberOfTrailingZeros σ (nI n) Q := by
  unfold w_J16_numberOfTrailingZeros
  intro v e
  rw [low_msk hi h1 h0] at e
  have d := tzF_d i hi
  rw [← e] at d
  rw [← d] at hQ
  unfold tzF at hQ
  by_cases c : 0 < v
  · rw [if_pos c] at hQ ⊢
    by_cases c2 : v ≤ (65536 : Int32)
    · rw [if_pos c2] at hQ ⊢; exact p_34 hQ
    · rw [if_neg c2] at hQ ⊢
      intro u k
      rw [k]; exact p_34 hQ
  · rw [if_neg c] at hQ ⊢; exact hQ
theorem lN_i32 (n : Nat) : (lN n).toInt32 = nI n := by
  apply Int32.toBitVec_inj.mp
  show (BitVec.ofNat 64 n).signExtend 32 = BitVec.ofNat 32 n
  apply BitVec.eq_of_getLsbD_eq
  intro i hi
  rw [BitVec.getLsbD_signExtend, BitVec.getLsbD_ofNat, BitVec.getLsbD_ofNat]
  simp [hi, show i < 64 by omega]
theorem c_ntz {Q : Int32 → wS → Prop} {w i : Nat} (hw : w < 2 ^ 64) (hi : i < 64) (h1 : w.testBit i = true) (h0 : ∀ j, j < i → w.testBit j = false) (hQ : Q (nI i) σ) : w_J17_numberOfTrailingZeros σ (lN w) Q := by
  unfold w_J17_numberOfTrailingZeros
  rw [show ((32 : Int32)).toInt64 = (nI 32).toInt64 from rfl, shrL hw (by decide), lN_i32, lN_i32]
  by_cases q : i < 32
  · have hz : ¬ nI w = 0 := fun z => by
      have z2 : BitVec.ofNat 32 w = 0#32 := congrArg Int32.toBitVec z
      have z3 := congrArg (fun x : BitVec 32 => x.getLsbD i) z2
      simp only [BitVec.getLsbD_ofNat, decide_eq_true q, h1] at z3
      simp at z3
    rw [if_neg hz]
    exact c_ntz16 q h1 h0 hQ
  · have hz : nI w = 0 := by
      apply Int32.toBitVec_inj.mp
      show BitVec.ofNat 32 w = 0#32
      apply BitVec.eq_of_getLsbD_eq
      intro j hj
      rw [BitVec.getLsbD_ofNat, h0 j (by omega), Bool.and_false]
      simp
    rw [if_pos hz]
    refine c_ntz16 (i := i - 32) (by omega) (by rw [Nat.testBit_shiftRight, show 32 + (i - 32) = i by omega]; exact h1) (fun j hj => by rw [Nat.testBit_shiftRight]; exact h0 _ (by omega)) ?_
    rw [show (32 : Int32) = nI 32 from rfl, nI_add, show 32 + (i - 32) = i by omega]
    exact hQ
end BC
