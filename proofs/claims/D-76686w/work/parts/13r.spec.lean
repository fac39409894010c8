set_option linter.unusedVariables false
set_option maxRecDepth 10000
/-! ===== the whole ghost state; what each call answers ===== -/
section SP
/-- memo, the rest, the image's memo, the shelves' cells, the trace -/
abbrev gS : Type := mS × mS × mS × (Nat → Int64) × trS
def sM (S : gS) (s : mS) : gS := (s, S.2)
def sAp (S : gS) (k : Nat) (f : Nat → Nat) : gS := (S.1, st S.2.1 k f, S.2.2)
def sIm (S : gS) (v : mS) : gS := (S.1, S.2.1, v, S.2.2.2)
def sCl (S : gS) (c : Nat → Int64) : gS := (S.1, S.2.1, S.2.2.1, c, S.2.2.2.2)
def sTr (S : gS) (x : trS) : gS := (S.1, S.2.1, S.2.2.1, S.2.2.2.1, x)
/-- refused with -b -/
def rfu (S : gS) (b : Nat) : gS := sAp S 0 (up (S.2.1 0) b (S.2.1 0 b + 1))
def noA (S : gS) (b : Nat) : Int32 × gS := (-nI b, rfu S b)
def noL (S : gS) (b : Nat) : Int64 × gS := ((-nI b).toInt64, rfu S b)
def noT (S : gS) (b : Nat) : Int64 × gS := ((-nI b - 10 : Int32).toInt64, rfu S b)
def noI (S : gS) (b : Nat) : Int32 × gS := (-nI b - 10, rfu S b)
def num (N : Nat) (a : Int32) : Option Nat := if 0 ≤ a ∧ a < nI N then some a.toNatClampNeg else none
theorem num_some {N n : Nat} (hN : N < 2 ^ 31) (h : n < N) : num N (nI n) = some n := by
  have h1 : 0 ≤ nI n ∧ nI n < nI N := ⟨nI_pos' (by omega), nI_lt h hN⟩
  unfold num
  rw [if_pos h1, nI_clamp (by omega)]
theorem num_lo {N : Nat} {a : Int32} (h : a < 0) : num N a = none := by
  unfold num
  rw [if_neg (fun z => (Int32.not_le.mpr h) z.1)]
theorem num_hi {N : Nat} {a : Int32} (h : nI N ≤ a) : num N a = none := by
  unfold num
  rw [if_neg (fun z => (Int32.not_lt.mpr h) z.2)]
theorem num_cs {N : Nat} (hN : N < 2 ^ 31) (a : Int32) : (∃ n, n < N ∧ a = nI n ∧ num N a = some n) ∨ (num N a = none ∧ (a < 0 ∨ ¬ a < 0 ∧ nI N ≤ a)) := by
  by_cases h0 : a < 0
  · exact Or.inr ⟨num_lo h0, Or.inl h0⟩
  · by_cases h1 : nI N ≤ a
    · exact Or.inr ⟨num_hi h1, Or.inr ⟨h0, h1⟩⟩
    · obtain ⟨n, hn, rfl⟩ := nI_of h0
      have h2 : n < N := by
        rcases Nat.lt_or_ge n N with q | q
        · exact q
        · exact absurd (nI_le q (by omega)) h1
      exact Or.inl ⟨n, h2, rfl, num_some hN h2⟩
/-! shelves -/
def nrw (k : Nat) (v : Int64) : Int64 := if k = 0 then v.toInt32.toInt8.toInt32.toInt64 else if k = 1 then v.toInt32.toInt16.toInt32.toInt64 else if k = 2 then v.toInt32.toInt64 else v
def zer (f : Nat → Int64) (i n : Nat) : Nat → Int64 := fun j => if i ≤ j ∧ j < i + n then 0 else f j
def o_row (S : gS) (a o n : Int32) : Int32 × gS := match num 8 a with
  | none => noA S 1
  | some s => if n < 0 then noA S 4 else match num 4 o with
    | none => noA S 6
    | some k => match num 161 n with
      | none => noA S 7
      | some m => (1, sCl (sAp (sAp (sAp S 1 (up (S.2.1 1) s 1)) 2 (up (S.2.1 2) s k)) 3 (up (S.2.1 3) s m)) (zer S.2.2.2.1 (160 * s) 160))
def o_set (S : gS) (a i : Int32) (v : Int64) : Int32 × gS := match num 8 a with
  | none => noA S 1
  | some s => if S.2.1 1 s = 2 then noA S 2 else if S.2.1 1 s = 0 then noA S 3 else match num (S.2.1 3 s) i with
    | none => noA S 5
    | some j => (1, sCl S (vp_updL S.2.2.2.1 (160 * s + j) (nrw (S.2.1 2 s) v)))
def cpy (f : Nat → Int64) (p q n : Nat) : Nat → Int64 := fun j => if q ≤ j ∧ j < q + n then f (p + (j - q)) else f j
def o_copy (S : gS) (a b i j n : Int32) : Int32 × gS := match num 8 a, num 8 b with
  | some p, some q =>
    if S.2.1 1 p = 2 ∨ S.2.1 1 q = 2 ∨ S.2.1 1 p = 1 ∧ S.2.1 1 q = 1 ∧ S.2.1 2 p ≠ S.2.1 2 q then noA S 2
    else if S.2.1 1 p = 0 ∨ S.2.1 1 q = 0 then noA S 3
    else if n < 0 then noA S 4
    else if i < 0 ∨ j < 0 ∨ nI (S.2.1 3 p) - n < i ∨ nI (S.2.1 3 q) - n < j then noA S 5
    else (1, sCl S (cpy S.2.2.2.1 (160 * p + i.toNatClampNeg) (160 * q + j.toNatClampNeg) n.toNatClampNeg))
  | _, _ => noA S 1
def o_element (S : gS) (a i : Int32) : Int64 × gS := match num 8 a with
  | none => (0, S)
  | some s => if S.2.1 1 s = 1 then (match num (S.2.1 3 s) i with
    | none => (0, S)
    | some j => (S.2.2.2.1 (160 * s + j), S)) else (0, S)
def o_show (S : gS) (a e : Int32) : Int32 × gS := match num 8 a with
  | none => noA S 1
  | some s => if e = -1 then (0, sAp S 1 (up (S.2.1 1) s 0)) else match num (mN S.1) e with
    | none => noA S 1
    | some x => (1, sAp (sAp S 1 (up (S.2.1 1) s 2)) 4 (up (S.2.1 4) s x))
def o_holds (S : gS) (a : Int32) : Int32 × gS := match num 8 a with
  | none => (-1, S)
  | some s => if S.2.1 1 s = 0 then (-1, S) else if S.2.1 1 s = 1 then (nI (100 + S.2.1 2 s), S) else (nI (S.2.1 4 s), S)
def isOf (is k : Nat) : Bool := decide (k = 0 ∨ is = k ∨ k = 2 ∧ (is = 3 ∨ is = 4) ∨ k = 5 ∧ is = 6)
def o_says (S : gS) (a b : Int32) : Int32 × gS := match num 8 a, num 7 b with
  | some s, some k =>
    if S.2.1 1 s = 1 ∨ S.2.1 1 s = 2 ∧ isOf (S.1 2 (S.2.1 4 s)) k = false then noA S 2
    else if S.2.1 1 s = 0 then noA S 3
    else (if k = 0 then (if S.1 8 (S.2.1 4 s) = 0 then nI (R S.1 (S.1 6 (S.2.1 4 s))) else 99)
      else if k = 2 then (if S.1 8 (S.2.1 4 s) = 0 then nI (R S.1 (S.1 4 (S.2.1 4 s))) else 99)
      else if k = 6 then nI (10 + S.1 3 (S.2.1 4 s)) else nI (S.1 3 (S.2.1 4 s)), S)
  | _, _ => noA S 1
/-! tables -/
def ord (set : Nat) (a : Int32) : Option Nat := if a = -1 then some 0 else match num 4 a with
  | some c => if set.testBit c = true then some (c + 1) else none
  | none => none
def plc (set : Nat) (a : Int32) : Option Nat := match num 5 a with
  | some c => if c = 4 ∨ set.testBit c = true then some c else none
  | none => none
def adt (s : mS) (r c o p : Nat) : mS := st (st (st (st (st s 14 (up (s 14) (s 10 0) p)) 13 (up (s 13) (s 10 0) o)) 12 (up (s 12) (s 10 0) c)) 11 (up (s 11) (s 10 0) r)) 10 (up (s 10) 0 (s 10 0 + 1))
def o_table (S : gS) (r c o p : Int32) : Int32 × gS := if r = 0 ∨ c = 0 then noA S 6 else match num 1000001 r, num 16 c with
  | some r', some c' => match ord c' o, plc c' p with
    | some o', some p' => if S.1 10 0 = 8 then noA S 7 else (nI (S.1 10 0), sM S (adt S.1 r' c' o' p'))
    | _, _ => noA S 6
  | _, _ => noA S 6
def o_tableOf (S : gS) (a b : Int32) : Int32 × gS := match num (S.1 10 0) a, num 4 b with
  | some i, some w => (if w = 0 then nI (S.1 11 i) else if w = 1 then nI (S.1 12 i) else if w = 2 then eI (S.1 13 i) else nI (S.1 14 i), S)
  | _, _ => noA S 5
def o_distinct (S : gS) (a v : Int32) : Int32 × gS := match num 4 a with
  | none => noA S 1
  | some c => if v = 0 then noA S 6 else match num 1000001 v with
    | none => noA S 6
    | some n => (nI (S.1 15 c), sM S (st S.1 15 (up (S.1 15) c n)))
/-! telling -/
def tlo (S : gS) (k p x y : Nat) : Int32 × gS := match lik S.1 k p x y with
  | some e => (nI (R S.1 (S.1 6 e)), S)
  | none => if mN S.1 = 64 then noA S 7 else (nI (mG S.1), sM S (nwx S.1 k p x y))
def mayK (s : mS) (k p x y : Nat) : Bool := (s 9 (R s x)).testBit (if k = 3 then p / 2 else p) && (decide (k < 5) || (s 9 (R s y)).testBit (if k = 3 then p / 2 else p))
def o_scan (S : gS) (a : Int32) : Int32 × gS := match num (S.1 10 0) a with
  | none => noA S 1
  | some i => tlo S 1 i 0 0
def o_keep (S : gS) (p x : Int32) : Int32 × gS := match num (mG S.1) x with
  | none => noA S 1
  | some g => match num 8 p with
    | none => noA S 6
    | some q => if mayK S.1 3 q g g = true then tlo S 3 q g g else noA S 6
def o_tally (S : gS) (c x : Int32) : Int32 × gS := match num 4 c, num (mG S.1) x with
  | some q, some g => if mayK S.1 4 q g g = true then tlo S 4 q g g else noA S 6
  | _, _ => noA S 1
def o_two (S : gS) (k : Nat) (c x y : Int32) : Int32 × gS := match num 4 c, num (mG S.1) x, num (mG S.1) y with
  | some q, some g, some h => if mayK S.1 k q g h = true then tlo S k q g h else noA S 6
  | _, _, _ => noA S 1
/-! groups -/
def o_same (S : gS) (a b : Int32) : Int32 × gS := match num (mG S.1) a, num (mG S.1) b with
  | some g, some h => if S.1 9 (R S.1 g) = S.1 9 (R S.1 h) then (nI (R (mrg S.1 g h) g), sM S (mrg S.1 g h)) else noA S 6
  | _, _ => noA S 1
def o_groupOf (S : gS) (a : Int32) : Int32 × gS := match num (mG S.1) a with
  | none => noA S 1
  | some g => (nI (R S.1 g), S)
def ctn (p : Nat → Bool) : Nat → Nat
  | 0 => 0
  | n + 1 => ctn p n + (if p n = true then 1 else 0)
def usr (s : mS) (g e : Nat) : Bool := decide (s 8 e = 0) && (decide (s 2 e ≠ 1) && decide (R s (s 4 e) = g) || decide (5 ≤ s 2 e) && decide (R s (s 5 e) = g))
def mem (s : mS) (g e : Nat) : Bool := decide (s 8 e = 0) && decide (R s (s 6 e) = g)
def o_group (S : gS) (a b : Int32) : Int32 × gS := match num (mG S.1) a, num 5 b with
  | some g, some w => (if w = 1 then nI (rw' S.1 (R S.1 g)) else if w = 2 then nI (S.1 9 (R S.1 g)) else if w = 3 then oN (lsu S.1 (mN S.1) (R S.1 g))
      else if w = 0 then nI (ctn (mem S.1 (R S.1 g)) (mN S.1)) else nI (ctn (usr S.1 (R S.1 g)) (mN S.1)), S)
  | _, _ => noA S 5
def o_expr (S : gS) (a b : Int32) : Int32 × gS := match num (mN S.1) a, num 6 b with
  | some e, some w => (if w = 0 then nI (S.1 2 e) else if w = 1 then nI (S.1 3 e) else if w = 5 then nI (S.1 8 e)
      else if S.1 8 e = 1 ∨ w = 2 ∧ S.1 2 e = 1 ∨ w = 3 ∧ S.1 2 e < 5 then -1
      else if w = 2 then nI (R S.1 (S.1 4 e)) else if w = 3 then nI (R S.1 (S.1 5 e)) else nI (R S.1 (S.1 6 e)), S)
  | _, _ => noA S 5
/-! firings -/
def exl : Nat → mS → Nat → Nat × mS
  | 0, s, k => (k, s)
  | n + 1, s, k => match fnx s (mN s) 0 with
    | none => (k, s)
    | some (e, r, f) => if 64 < mN s + nws s e r f then (k, s) else exl n (fir s e r f) (k + 1)
def o_explore (S : gS) (a : Int32) : Int32 × gS := match num 201 a with
  | none => noA S 6
  | some n => if n = 0 then noA S 6 else (nI (exl n S.1 0).1, sM S (exl n S.1 0).2)
def o_next (S : gS) (a : Int32) : Int32 × gS := match num 4 a with
  | none => noA S 5
  | some w => match fnx S.1 (mN S.1) 0 with
    | none => (-1, S)
    | some (e, r, f) => (if w = 0 then nI e else if w = 1 then nI r else if w = 2 then (if r = 0 then -1 else nI f) else if 64 < mN S.1 + nws S.1 e r f then 0 else 1, S)
def o_fired (S : gS) (a : Int32) : Int32 × gS := match num 7 a with
  | none => noA S 5
  | some r => (nI (S.1 17 r), S)
/-! costs -/
def wayN (a : Int32) : Option Nat := match num 12 a with
  | some k => if k = 0 ∨ k = 3 ∨ k = 7 then none else some k
  | none => none
def clr (a k : Nat) : Nat := a &&& (4294967295 - 2 ^ k)
def stb (a k : Nat) : Nat := a ||| 2 ^ k
def s19 (s : mS) (v : Nat) : mS := st s 19 (up (s 19) 0 v)
def o_allow (S : gS) (a b : Int32) : Int32 × gS := match wayN a with
  | none => noA S 1
  | some k => (if (S.1 19 0).testBit k = true then 1 else 0, sM S (s19 S.1 (if b = 0 then clr (S.1 19 0) k else stb (S.1 19 0) k)))
def nm1 (N : Nat) (a : Int32) : Option Nat := if a = -1 then some 0 else match num N a with
  | some n => some (n + 1)
  | none => none
def orN (c : Nat) : Int64 := if c ≤ MCH then lN c else -1
noncomputable def o_cost (S : gS) (a b c : Int32) : Int64 × gS := match num (mG S.1) a with
  | none => noT S 1
  | some g => match nm1 4 b, nm1 5 c with
    | some o, some p => (orN (cst S.1 (dm (R S.1 g) o p)), S)
    | _, _ => noT S 6
def mnl (f : Wy → Nat) (x : Nat) (l : List Wy) : Nat := l.foldl (fun x w => if f w < x then f w else x) x
noncomputable def o_costBy (S : gS) (a b c : Int32) : Int64 × gS := match num (mN S.1) a with
  | none => noT S 1
  | some e => if S.1 8 e = 0 then (match nm1 4 b, nm1 5 c with
    | some o, some p => (orN (mnl (sm (cst S.1)) OVR (wyE S.1 e o p)), S)
    | _, _ => noT S 6) else noT S 1
noncomputable def o_demands (S : gS) (a b c : Int32) : Int32 × gS := match num (mG S.1) a with
  | none => noA S 1
  | some g => match nm1 4 b, nm1 5 c with
    | some o, some p => (nI (cnp (clo S.1 (dm (R S.1 g) o p)) 1920), S)
    | _, _ => noA S 6
noncomputable def o_within (S : gS) (a b c : Int32) : Int32 × gS := match num (mG S.1) a with
  | none => noA S 1
  | some g => match nm1 4 b, nm1 5 c with
    | some o, some p => (if cst S.1 (dm (R S.1 g) o p) ≤ MCH then nI (cnp (fun d => clo S.1 (dm (R S.1 g) o p) d ∧ cst S.1 d ≤ cst S.1 (dm (R S.1 g) o p)) 1920) else 0, S)
    | _, _ => noA S 6
def wfn (c : Nat → Nat) : Nat → Int32 × Nat
  | 0 => (-1, MCH + 1)
  | p + 1 => if c p < (wfn c p).2 then (nI p, c p) else wfn c p
noncomputable def o_where (S : gS) (a b : Int32) : Int32 × gS := match num (mG S.1) a with
  | none => noI S 1
  | some g => match nm1 4 b with
    | some o => ((wfn (fun p => cst S.1 (dm (R S.1 g) o (p + 1))) 5).1, S)
    | none => noI S 6
noncomputable def o_worth (S : gS) (a b c k : Int32) : Int64 × gS := match num (mG S.1) a, wayN k with
  | some g, some w => (match nm1 4 b, nm1 5 c with
    | some o, some p => (if cst S.1 (dm (R S.1 g) o p) ≤ MCH ∧ cst (s19 S.1 (clr (S.1 19 0) w)) (dm (R S.1 g) o p) ≤ MCH then lN (cst (s19 S.1 (clr (S.1 19 0) w)) (dm (R S.1 g) o p)) - lN (cst S.1 (dm (R S.1 g) o p)) else -1, S)
    | _, _ => noT S 6)
  | _, _ => noT S 1
/-! prices -/
def o_price (S : gS) (k a b r : Int32) : Int64 × gS := match num 12 k with
  | none => noL S 1
  | some k' => match num 1000001 a, num 1000001 b, num 1000001 r with
    | some a', some b', some r' => (lN (prc k' a' b' r'), sTr S (rnl (0, S.2.2.2.2.2) (prl k')))
    | _, _, _ => noL S 6
def o_trace (S : gS) (a : Int32) : Int32 × gS := match num (min 20 S.2.2.2.2.1) a with
  | none => (-1, S)
  | some i => (S.2.2.2.2.2 i, S)
/-! plans -/
noncomputable def chs (s : mS) (d : Nat) : Option Wy := (wys s d).find? (fun w => decide (sm (cst s) w = cst s d))
noncomputable def nod (s : mS) (d : Nat) (w : Wy) (n : Nat) : Nat → Nat := fun k => if k = 6 then w.1 else if k = 7 then (if w.1 = 10 then d % 30 / 6 - 1 else if w.1 = 11 then d % 6 - 1 else match w.2.1 with
    | some e => s 3 e
    | none => 0)
  else if k = 8 then d / 30 else if k = 9 then d % 30 / 6 else if k = 10 then d % 6 else if k = 11 then (match w.2.2.2.2.1 with
    | some p => p + 1
    | none => 0)
  else if k = 12 then n else if k = 13 then (match w.2.1 with
    | some e => if s 2 e = 6 then 1 else 0
    | none => 0)
  else cst s d
/-- the nodes of a plan in the order that they grow -/
noncomputable def pl (s : mS) : Nat → Nat → Nat → Option (List (Nat → Nat))
  | 0, _, _ => none
  | R + 1, d, m => if m = 120 then none else match chs s d with
    | none => none
    | some w => match (match w.2.2.1 with
        | none => some []
        | some d1 => pl s R d1 (m + 1)) with
      | none => none
      | some L1 => match (match w.2.2.2.1 with
          | none => some []
          | some d2 => pl s R d2 (m + 1 + L1.length)) with
        | none => none
        | some L2 => some (nod s d w (1 + L1.length + L2.length) :: (L1 ++ L2))
def z9 : Nat → Nat := fun _ => 0
def sPl (S : gS) (L : List (Nat → Nat)) : gS := (S.1, (fun k => if 6 ≤ k ∧ k ≤ 14 then (fun i => (L.getD i z9) k) else if k = 5 then up (S.2.1 5) 1 L.length else S.2.1 k), S.2.2)
noncomputable def o_plan (S : gS) (a b c : Int32) : Int32 × gS := match num (mG S.1) a with
  | none => noA S 1
  | some g => match nm1 4 b, nm1 5 c with
    | some o, some p => if cst S.1 (dm (R S.1 g) o p) ≤ MCH then (match pl S.1 122 (dm (R S.1 g) o p) 0 with
      | some L => (nI L.length, sPl S L)
      | none => noA S 7) else noA S 5
    | _, _ => noA S 6
def o_planAt (S : gS) (a b : Int32) : Int32 × gS := match num (S.2.1 5 1) a, num 8 b with
  | some i, some w => (if w = 3 ∨ w = 4 ∨ w = 5 then eI (S.2.1 (6 + w) i) else nI (S.2.1 (6 + w) i), S)
  | _, _ => noA S 5
def o_planCost (S : gS) (a : Int32) : Int64 × gS := match num (S.2.1 5 1) a with
  | some i => (lN (S.2.1 14 i), S)
  | none => noL S 5
/-! texts of plans -/
abbrev WB (i : Nat) : List Int32 := wd_byt.getD i []
def wix (k h : Nat) : Nat := if k = 2 then 6 else if k < 8 then (if h = 1 then 8 else 9) else 7
def spl (A : mS) : Nat → Nat → List Int32 × Nat
  | 0, i => ([], i)
  | R + 1, i => if 10 ≤ A 6 i then spl A R (i + 1) else if A 6 i = 1 then (WB 5 ++ [48 + nI (A 7 i)], i + 1)
    else if 4 ≤ A 6 i ∧ A 6 i ≤ 6 then (WB (wix (A 6 i) (A 13 i)) ++ [48 + nI (A 7 i)] ++ WB 10 ++ (spl A R (i + 1)).1 ++ WB 11 ++ (spl A R (spl A R (i + 1)).2).1 ++ WB 12, (spl A R (spl A R (i + 1)).2).2)
    else (WB (wix (A 6 i) (A 13 i)) ++ [48 + nI (A 7 i)] ++ WB 10 ++ (spl A R (i + 1)).1 ++ WB 12, (spl A R (i + 1)).2)
def spc (f : Nat → Int64) (s k n : Nat) (l : List Int32) : Nat → Int64 := fun j => if 160 * s ≤ j ∧ j < 160 * s + n then nrw k (l.getD (j - 160 * s) 0).toInt64 else f j
def o_spell (S : gS) (a : Int32) : Int32 × gS := match num 8 a with
  | none => noA S 1
  | some s => if S.2.1 1 s = 2 then noA S 2 else if S.2.1 1 s = 0 then noA S 3 else if S.2.1 5 1 = 0 then noA S 5
    else if S.2.1 3 s < (spl S.2.1 122 0).1.length then noA S 7
    else (nI (spl S.2.1 122 0).1.length, sCl S (spc S.2.2.2.1 s (S.2.1 2 s) (spl S.2.1 122 0).1.length (spl S.2.1 122 0).1))
/-! trees -/
abbrev TRS : Nat := 1000000000
def xtr (s : mS) (f : Nat → Nat) (e : Nat) : Nat := if s 2 e = 1 then 1 else if s 2 e < 5 then f (R s (s 4 e)) else min TRS (f (R s (s 4 e)) * f (R s (s 5 e)))
def hgs (s : mS) (f : Nat → Nat) : Nat → Nat → Nat
  | 0, _ => 0
  | e + 1, g => if s 8 e = 0 ∧ R s (s 6 e) = g then min TRS (hgs s f e g + xtr s f e) else hgs s f e g
def tre (s : mS) : Nat → Nat → Nat
  | 0 => fun _ => 0
  | n + 1 => hgs s (tre s n) (mN s)
def o_trees (S : gS) (a b : Int32) : Int32 × gS := match num (mG S.1) a with
  | none => noA S 1
  | some g => match num 13 b with
    | none => noA S 6
    | some d => (nI (tre S.1 d (R S.1 g)), S)
/-! draws -/
def dsd (n : Nat) : Nat := (n * 1103515245 + 12345) % 4294967296
def drw (n b : Nat) : Nat := n / 65536 % b
def s20 (s : mS) (v : Nat) : mS := st s 20 (up (s 20) 0 v)
def dl1 (s : mS) : mS × Nat :=
  if mN s = 64 ∨ mayK s 5 (drw (dsd (s 20 0)) 4) (drw (dsd (dsd (s 20 0))) (mG s)) (drw (dsd (dsd (dsd (s 20 0)))) (mG s)) = false ∨ lik s 5 (drw (dsd (s 20 0)) 4) (drw (dsd (dsd (s 20 0))) (mG s)) (drw (dsd (dsd (dsd (s 20 0)))) (mG s)) ≠ none then (s20 s (dsd (dsd (dsd (s 20 0)))), 0)
  else (nwx (s20 s (dsd (dsd (dsd (s 20 0))))) 5 (drw (dsd (s 20 0)) 4) (drw (dsd (dsd (s 20 0))) (mG s)) (drw (dsd (dsd (dsd (s 20 0)))) (mG s)), 1)
def dll : Nat → mS → Nat → mS × Nat
  | 0, s, k => (s, k)
  | n + 1, s, k => dll n (dl1 s).1 (k + (dl1 s).2)
def o_deal (S : gS) (a : Int32) : Int32 × gS := if mG S.1 = 0 then noA S 5 else match num 21 a with
  | none => noA S 6
  | some n => if n = 0 then noA S 6 else (nI (dll n S.1 0).2, sM S (dll n S.1 0).1)
def o_seed (S : gS) (v : Int32) : Int32 × gS := (nI (S.1 20 0), sM S (s20 S.1 v.toBitVec.toNat))
def o_status (S : gS) (w : Int32) : Int32 × gS := match num 18 w with
  | none => (-1, S)
  | some k => (if k = 0 then nI (S.1 10 0) else if k = 1 then nI (mN S.1) else if k = 2 then nI (ctn (fun g => decide (S.1 7 g = g)) (mG S.1)) else if k = 3 then nI (ctn (fun e => decide (S.1 8 e ≠ 0)) (mN S.1))
      else if k = 4 then nI (S.1 18 0) else if k = 5 then nI (S.1 20 0) else if k = 6 then nI (S.2.1 5 1) else if k = 7 then nI (S.1 19 0) else if k = 8 then nI S.2.2.2.2.1 else if k = 9 then nI (mG S.1) else if k = 10 then -1 else nI (S.2.1 0 (k - 10)), S)
def o_fault (S : gS) : Int32 × gS := (eI (S.2.1 5 0), S)
/-! images -/
def sKp (S : gS) : gS := sIm (sAp S 5 (up (S.2.1 5) 2 1)) S.1
def o_image (S : gS) : Int32 × gS := (nI (mN S.1), sKp S)
def flw (A : mS) (n : Nat) : mS := st A 1 (fun i => if A 1 i = 2 ∧ n ≤ A 4 i then 0 else A 1 i)
def o_restore (S : gS) : Int32 × gS := if S.2.1 5 2 = 0 then noA S 6 else (nI (mN S.2.2.1), (S.2.2.1, flw S.2.1 (mN S.2.2.1), S.2.2))
/-! texts that are read -/
def mst (L : Nat → Int32) (n : Nat) : List Int32 → Nat → Nat ⊕ Nat
  | [], i => Sum.inr i
  | c :: w, i => if i < n ∧ L i = c then mst L n w (i + 1) else Sum.inl i
def kdl (c : Int32) : Nat := if c = 115 then 1 else if c = 107 then 3 else if c = 116 then 4 else if c = 106 then 5 else if c = 104 then 6 else 0
def ltr (L : Nat → Int32) (n i : Nat) : Int32 := if i < n then L i else 0
def lix (k : Nat) : Nat := if k = 1 then 5 else if k = 3 then 6 else if k = 4 then 7 else if k = 5 then 9 else 8
def und (s : mS) (k : Nat) : Nat := if k = 1 then s 10 0 else if k = 3 then 8 else 4
def dgt (L : Nat → Int32) (n u i : Nat) : Option Nat := if i < n ∧ ¬ L i < 48 ∧ L i < 48 + nI u then some (L i - 48).toNatClampNeg else none
def kcl (k p : Nat) : Nat := if k = 3 then p / 2 else p
/-- reading: the fault, or where it ends and the columns -/
def psr (s : mS) (L : Nat → Int32) (n : Nat) : Nat → Nat → Nat ⊕ (Nat × Nat)
  | 0, i => Sum.inl i
  | R + 1, i => if kdl (ltr L n i) = 0 then Sum.inl i else match mst L n (WB (lix (kdl (ltr L n i)))) i with
    | Sum.inl z => Sum.inl z
    | Sum.inr j => match dgt L n (und s (kdl (ltr L n i))) j with
      | none => Sum.inl j
      | some p => if kdl (ltr L n i) = 1 then Sum.inr (j + 1, s 12 p) else match mst L n [40] (j + 1) with
        | Sum.inl z => Sum.inl z
        | Sum.inr j1 => match psr s L n R j1 with
          | Sum.inl z => Sum.inl z
          | Sum.inr x => if kdl (ltr L n i) < 5 then (match mst L n [41] x.1 with
              | Sum.inl z => Sum.inl z
              | Sum.inr j3 => if x.2.testBit (kcl (kdl (ltr L n i)) p) = true then Sum.inr (j3, if kdl (ltr L n i) = 4 then 2 ^ p else x.2) else Sum.inl i)
            else match mst L n [44] x.1 with
              | Sum.inl z => Sum.inl z
              | Sum.inr j3 => match psr s L n R j3 with
                | Sum.inl z => Sum.inl z
                | Sum.inr y => match mst L n [41] y.1 with
                  | Sum.inl z => Sum.inl z
                  | Sum.inr j5 => if (x.2.testBit p && y.2.testBit p) = true then Sum.inr (j5, if kdl (ltr L n i) = 5 then x.2 ||| y.2 else x.2) else Sum.inl i
def dgv (L : Nat → Int32) (j : Nat) : Nat := (L j - 48).toNatClampNeg
def pse (s : mS) (L : Nat → Int32) (n R i : Nat) : Nat := match psr s L n R i with
  | Sum.inl z => z
  | Sum.inr x => x.1
/-- telling what was read -/
def tlr (s : mS) (L : Nat → Int32) (n : Nat) : Nat → Nat → mS → mS × Nat
  | 0, _, m => (m, 0)
  | R + 1, i, m => if kdl (ltr L n i) = 1 then tel m (1, dgv L (i + 5), 0, 0)
    else if kdl (ltr L n i) < 5 then tel (tlr s L n R (i + (WB (lix (kdl (ltr L n i)))).length + 2) m).1 (kdl (ltr L n i), dgv L (i + (WB (lix (kdl (ltr L n i)))).length), (tlr s L n R (i + (WB (lix (kdl (ltr L n i)))).length + 2) m).2, (tlr s L n R (i + (WB (lix (kdl (ltr L n i)))).length + 2) m).2)
    else tel (tlr s L n R (pse s L n R (i + 7) + 1) (tlr s L n R (i + 7) m).1).1 (kdl (ltr L n i), dgv L (i + 5), (tlr s L n R (i + 7) m).2, (tlr s L n R (pse s L n R (i + 7) + 1) (tlr s L n R (i + 7) m).1).2)
def sF (S : gS) (v : Nat) : gS := sAp S 5 (up (S.2.1 5) 0 v)
def txt (S : gS) (k : Nat) : Nat → Int32 := fun i => (S.2.2.2.1 (160 * k + i)).toInt32
def o_read (S : gS) (a : Int32) : Int32 × gS := match num 8 a with
  | none => noA S 1
  | some k => if S.2.1 1 k = 2 then noA S 2 else if S.2.1 1 k = 0 then noA S 3
    else match psr S.1 (txt S k) (S.2.1 3 k) 30 0 with
      | Sum.inl z => noA (sF S (z + 1)) 6
      | Sum.inr x => if x.1 < S.2.1 3 k then noA (sF S (x.1 + 1)) 6
        else if 64 < mN (tlr S.1 (txt S k) (S.2.1 3 k) 30 0 S.1).1 then noA (sF S 0) 7
        else (nI (tlr S.1 (txt S k) (S.2.1 3 k) 30 0 S.1).2, sM (sF S 0) (tlr S.1 (txt S k) (S.2.1 3 k) 30 0 S.1).1)
end SP
