set_option linter.unusedVariables false
set_option maxRecDepth 10000
section PT
variable {σ τ υ : wS} {t F : Nat} {s : mS}
/-! ways of a demand: kind, expression, inputs, place, price; orders and places are told one higher, 0 is none -/
abbrev Wy : Type := Nat × Option Nat × Option Nat × Option Nat × Option Nat × Nat
def eI : Nat → Int32
  | 0 => -1
  | n + 1 => nI n
def dm (g o p : Nat) : Nat := g * 30 + o * 6 + p
def mts (w i : Nat) : Bool := decide (w = 0 ∨ w = i)
def wyk (al k : Nat) (w : Wy) : List Wy := if al.testBit k = true then [w] else []
def okO (k o c : Nat) : Bool := if k = 4 ∨ k = 8 then decide (o = 0) else if k = 5 ∨ k = 9 then mts o (c + 1) else true
def orO (k o c : Nat) : Nat := if k = 5 ∨ k = 9 then c + 1 else if k = 6 then o else 0
def wyX (s : mS) (e o p k place : Nat) : List Wy := if (mts p (place + 1) && okO k o (s 3 e)) = true then wyk (s 19 0) k (k, some e, some (dm (R s (s 4 e)) (orO k o (s 3 e)) (place + 1)), (if 5 ≤ s 2 e then some (dm (R s (s 5 e)) (if k = 5 then s 3 e + 1 else 0) (place + 1)) else none), some place, prc k (rw' s (R s (s 4 e))) (if 5 ≤ s 2 e then rw' s (R s (s 5 e)) else 0) (rw' s (R s (s 6 e)))) else []
def wyY (s : mS) (e o p k : Nat) : List Wy := wyX s e o p k (s 3 e) ++ wyX s e o p k 4
def wyE (s : mS) (e o p : Nat) : List Wy :=
  if s 2 e = 1 then (if (mts o (s 13 (s 3 e)) && mts p (s 14 (s 3 e) + 1)) = true then wyk (s 19 0) 1 (1, some e, none, none, none, prc 1 (rw' s (R s (s 6 e))) 0 (rw' s (R s (s 6 e)))) else [])
  else if s 2 e = 3 then wyk (s 19 0) 2 (2, some e, some (dm (R s (s 4 e)) o p), none, none, prc 2 (rw' s (R s (s 4 e))) 0 (rw' s (R s (s 6 e))))
  else if s 2 e = 4 then wyY s e o p 8 ++ wyY s e o p 9 else wyY s e o p 4 ++ wyY s e o p 5 ++ wyY s e o p 6
def wyU (s : mS) (d : Nat) : Nat → List Wy
  | 0 => []
  | n + 1 => wyU s d n ++ (if s 8 n = 0 ∧ R s (s 6 n) = d / 30 then wyE s n (d % 30 / 6) (d % 6) else [])
def wyN1 (s : mS) (d : Nat) : List Wy := if d % 30 / 6 ≠ 0 ∧ (s 9 (d / 30)).testBit (d % 30 / 6 - 1) = true then wyk (s 19 0) 10 (10, none, some (dm (d / 30) 0 (d % 6)), none, none, prc 10 (rw' s (d / 30)) 0 (rw' s (d / 30))) else []
def wyN2 (s : mS) (d : Nat) : List Wy := if d % 30 / 6 = 0 ∧ d % 6 ≠ 0 ∧ (d % 6 = 5 ∨ (s 9 (d / 30)).testBit (d % 6 - 1) = true) then wyk (s 19 0) 11 (11, none, some (dm (d / 30) 0 0), none, none, prc 11 (rw' s (d / 30)) 0 (rw' s (d / 30))) else []
def wys (s : mS) (d : Nat) : List Wy := wyU s d (mN s) ++ (wyN1 s d ++ wyN2 s d)
theorem wyk_len {al k : Nat} {w : Wy} : (wyk al k w).length ≤ 1 := by
  unfold wyk
  split
  · exact Nat.le_refl 1
  · exact Nat.zero_le 1
theorem wyX_len {e o p k place : Nat} : (wyX s e o p k place).length ≤ 1 := by
  unfold wyX
  split
  · exact wyk_len
  · decide
theorem wyY_len {e o p k : Nat} : (wyY s e o p k).length ≤ 2 := by
  unfold wyY
  rw [List.length_append]
  have := wyX_len (s := s) (e := e) (o := o) (p := p) (k := k) (place := s 3 e)
  have := wyX_len (s := s) (e := e) (o := o) (p := p) (k := k) (place := 4)
  omega
theorem wyE_len {e o p : Nat} : (wyE s e o p).length ≤ 6 := by
  unfold wyE
  have y := fun k => wyY_len (s := s) (e := e) (o := o) (p := p) (k := k)
  split
  · split
    · exact Nat.le_trans wyk_len (by decide)
    · exact Nat.zero_le _
  · split
    · exact Nat.le_trans wyk_len (by decide)
    · split
      · rw [List.length_append]
        have := y 8
        have := y 9
        omega
      · rw [List.length_append, List.length_append]
        have := y 4
        have := y 5
        have := y 6
        omega
theorem wyU_len {d : Nat} : ∀ n, (wyU s d n).length ≤ 6 * n := by
  intro n
  induction n with
  | zero => exact Nat.zero_le _
  | succ n ih =>
    unfold wyU
    rw [List.length_append]
    have := wyE_len (s := s) (e := n) (o := d % 30 / 6) (p := d % 6)
    split
    · omega
    · simp; omega
theorem eI_inj {a b : Nat} (ha : a < 1000) (hb : b < 1000) : eI a = eI b ↔ a = b := by
  match a, b with
  | 0, 0 => exact ⟨fun _ => rfl, fun _ => rfl⟩
  | 0, b + 1 => exact ⟨fun h => absurd h.symm (nI_m1 (lt31 (by omega))), fun h => (nomatch h)⟩
  | a + 1, 0 => exact ⟨fun h => absurd h (nI_m1 (lt31 (by omega))), fun h => (nomatch h)⟩
  | a + 1, b + 1 => exact ⟨fun h => by have := (nI_eq (lt31 (by omega)) (lt31 (by omega))).mp h; omega, fun h => by rw [h]⟩
theorem eI_1 (a : Nat) : eI a + 1 = nI a := by
  match a with
  | 0 => rfl
  | a + 1 => exact (nI_succ a).symm
theorem eI_sub (a : Nat) : nI a - 1 = eI a := by
  match a with
  | 0 => rfl
  | a + 1 => exact nI_pred a
theorem sl5 : ∀ n, n < 32 → ((nI n &&& 31).toBitVec.smod 32).toNat = n := by decide
theorem bitI {n k : Nat} (hn : n < 2 ^ 31) (hk : k < 32) : (nI n >>> (nI k &&& 31)) &&& 1 = if n.testBit k = true then 1 else 0 := by
  rw [pk_shrN hn _ k (sl5 k hk), pk_andN (Nat.lt_of_le_of_lt (Nat.div_le_self _ _) (Nat.lt_trans hn (by decide))) 1 (by decide), Nat.testBit_eq_decide_div_mod_eq]
  have : n / 2 ^ k % 2 < 2 := Nat.mod_lt _ (by decide)
  by_cases c : n / 2 ^ k % 2 = 1
  · rw [if_pos (by simp [c]), c]; rfl
  · rw [if_neg (by simp [c]), show n / 2 ^ k % 2 ^ 1 = 0 by omega]; rfl
abbrev GW : List Nat := [2507, 2562, 2535, 2536, 2537, 2538, 2539, 2540, 12541]
def Tv (G : List Nat) (t : Nat) (σ τ : wS) : Prop := Tw G t σ τ ∧ oI τ 2507 t = oI σ 2507 t ∧ aI τ 2562 t = aI σ 2562 t
theorem Tv.refl {G : List Nat} : Tv G t σ σ := ⟨Tw.refl, rfl, rfl⟩
theorem Tv.trans {G : List Nat} (h : Tv G t σ τ) (k : Tv G t τ υ) : Tv G t σ υ := ⟨h.1.trans k.1, k.2.1.trans h.2.1, k.2.2.trans h.2.2⟩
def WL (σ : wS) (t : Nat) (L : List Wy) : Prop := oI σ 2535 t = nI L.length ∧ ∀ i (h : i < L.length), aI σ 2536 t i = nI L[i].1 ∧ aI σ 2537 t i = oN L[i].2.1 ∧ aI σ 2538 t i = oN L[i].2.2.1 ∧ aI σ 2539 t i = oN L[i].2.2.2.1 ∧ aI σ 2540 t i = oN L[i].2.2.2.2.1 ∧ aJ σ 12541 t i = lN L[i].2.2.2.2.2
/-- more of the memo: what is allowed, orders and places of tables -/
def TXo (σ : wS) (t : Nat) (s : mS) : Prop := oI σ 2504 t = nI (s 19 0) ∧ ∀ i, i < s 10 0 → aI σ 2513 t i = eI (s 13 i) ∧ aI σ 2514 t i = nI (s 14 i)
def Xo (s : mS) : Prop := s 19 0 < 4096 ∧ ∀ i, i < s 10 0 → s 13 i < 5 ∧ s 14 i < 5
theorem TXo.tw {G : List Nat} (h : TXo σ t s) (k : Tw G t σ τ) (d : ∀ g ∈ [2504, 2513, 2514], g ∉ G) : TXo τ t s := by
  refine ⟨by rw [k.I (d _ (by decide))]; exact h.1, fun i hi => ?_⟩
  rw [k.A (d 2513 (by decide)), k.A (d 2514 (by decide))]
  exact h.2 i hi
theorem TL.tw {G : List Nat} (h : TL σ t s) (k : Tw G t σ τ) (d : ∀ g ∈ GL, g ∉ G) : TL τ t s := by
  intro g hg hr
  rw [k.A (d 2530 (by decide)), k.A (d 2531 (by decide)), k.A (d 2532 (by decide))]
  exact h g hg hr
theorem t_way {Q : wS → Prop} {L : List Wy} {k a b r : Nat} {e one two pl : Option Nat} {A B C : Int64} {E O W P : Int32} (ok : ok24 σ t) (hal : oI σ 2504 t = nI (s 19 0)) (hal2 : s 19 0 < 4096) (hL : WL σ t L) (hn : L.length < 400) (hk : k < 12) (ha : a < 2 ^ 62) (hF : 100 ≤ F)
    (eA : A = lN a) (eB : B = lN b) (eC : C = lN r) (eE : E = oN e) (eO : O = oN one) (eW : W = oN two) (eP : P = oN pl)
    (hQ : ∀ τ, Tv GW t σ τ → WL τ t (L ++ wyk (s 19 0) k (k, e, one, two, pl, prc k a b r)) → Q τ) : w_X24_way F σ t (nI k) E O W P A B C Q := by
  subst eA eB eC eE eO eW eP
  refine ⟨ok, ?_⟩
  rw [hal, bitI (lt31 (by omega)) (by omega)]
  unfold wyk at hQ
  by_cases c : (s 19 0).testBit k = true
  · rw [if_pos c] at hQ ⊢
    rw [if_neg (by decide)]
    have hc : (nI L.length).toNatClampNeg = L.length := nI_clamp (lt31 (by omega))
    have vn : vp_in (nI L.length) 400 := vp_in_nI hn (by decide)
    have n0 := hL.1
    refine ⟨by rw [n0]; exact vn, bnd_sA fun σ1 w1 v1 o1 j1 => ⟨by rw [o1, n0]; exact vn, bnd_sA fun σ2 w2 v2 o2 j2 => ⟨by rw [o2, o1, n0]; exact vn, bnd_sA fun σ3 w3 v3 o3 j3 => ⟨by rw [o3, o2, o1, n0]; exact vn, bnd_sA fun σ4 w4 v4 o4 j4 => ⟨by rw [o4, o3, o2, o1, n0]; exact vn, bnd_sA fun σ5 w5 v5 o5 j5 => ?_⟩⟩⟩⟩⟩
    have O5 : oI σ5 = oI σ := o5.trans (o4.trans (o3.trans (o2.trans o1)))
    have J5 : aJ σ5 = aJ σ := j5.trans (j4.trans (j3.trans (j2.trans j1)))
    rw [n0, hc] at v1
    rw [o1, n0, hc] at v2
    rw [o2, o1, n0, hc] at v3
    rw [o3, o2, o1, n0, hc] at v4
    rw [o4, o3, o2, o1, n0, hc] at v5
    have W5 : Tw GW t σ σ5 := ((((Tw.refl.up w1 (by decide)).up w2 (by decide)).up w3 (by decide)).up w4 (by decide)).up w5 (by decide)
    rw [O5, n0]
    refine t_silent (W5.ok ok) hk ha hF (fun σ6 w6 b6 c6 => ⟨vn, bnd_sAJ fun σ7 w7 v7 o7 a7 => bnd_sI fun σ8 w8 v8 a8 j8 => hQ σ8 ⟨((W5.trans (w6.mono (by simp))).up w7 (by decide)).up w8 (by decide), ?_, ?_⟩ ⟨?_, fun i hi => ?_⟩⟩)
    · rw [w8.I (by decide), o7, b6, O5]
    · rw [a8, a7, c6, w5.A (by decide), w4.A (by decide), w3.A (by decide), w2.A (by decide), w1.A (by decide)]
    · rw [v8, o7, w6.I (by decide), O5, n0, ← nI_succ, List.length_append]; rfl
    · rw [hc] at v7
      have h36 : aI σ8 2536 t = upd (aI σ 2536 t) L.length (nI k) := by rw [a8, a7, w6.A (by decide), w5.A (by decide), w4.A (by decide), w3.A (by decide), w2.A (by decide), v1]
      have h37 : aI σ8 2537 t = upd (aI σ 2537 t) L.length (oN e) := by rw [a8, a7, w6.A (by decide), w5.A (by decide), w4.A (by decide), w3.A (by decide), v2, w1.A (by decide)]
      have h38 : aI σ8 2538 t = upd (aI σ 2538 t) L.length (oN one) := by rw [a8, a7, w6.A (by decide), w5.A (by decide), w4.A (by decide), v3, w2.A (by decide), w1.A (by decide)]
      have h39 : aI σ8 2539 t = upd (aI σ 2539 t) L.length (oN two) := by rw [a8, a7, w6.A (by decide), w5.A (by decide), v4, w3.A (by decide), w2.A (by decide), w1.A (by decide)]
      have h40 : aI σ8 2540 t = upd (aI σ 2540 t) L.length (oN pl) := by rw [a8, a7, w6.A (by decide), v5, w4.A (by decide), w3.A (by decide), w2.A (by decide), w1.A (by decide)]
      have h41 : aJ σ8 12541 t = vp_updL (aJ σ 12541 t) L.length (lN (prc k a b r)) := by rw [j8, v7, w6.AJ (by decide), J5]
      rw [h36, h37, h38, h39, h40, h41]
      have hi' : i < L.length + 1 := by rw [List.length_append] at hi; exact hi
      by_cases q : i = L.length
      · subst q
        rw [upd_s, upd_s, upd_s, upd_s, upd_s, updL_s]
        simp
      · rw [upd_n q, upd_n q, upd_n q, upd_n q, upd_n q, updL_n q]
        have hlt : i < L.length := by omega
        rw [List.getElem_append_left hlt]
        exact hL.2 i hlt
  · rw [if_neg c] at hQ ⊢
    rw [if_pos rfl]
    rw [List.append_nil] at hQ
    exact hQ σ Tv.refl hL
theorem t_demand {Q : Int32 → wS → Prop} {g o p : Nat} (h : Q (nI (dm g o p)) σ) : w_X24_demand σ (nI g) (eI o) (eI p) Q := by
  unfold w_X24_demand
  have e : (((nI g * (30 : Int32)) + ((eI o + (1 : Int32)) * (6 : Int32))) + eI p) + (1 : Int32) = nI (dm g o p) := by
    rw [Int32.add_assoc, eI_1, eI_1, nIl_30, show (6 : Int32) = nI 6 from rfl, pk_mul, pk_mul, nI_add, nI_add]
    rfl
  rw [e]; exact h
theorem t_meets {Q : Int32 → wS → Prop} {o c : Nat} {C : Int32} (ho : o < 1000) (hc : c < 1000) (eC : C = eI c) (h : Q (if mts o c = true then 1 else 0) σ) : w_X24_meets σ (eI o) C Q := by
  subst eC
  unfold w_X24_meets
  have e : (if eI o = (-1 : Int32) then (1 : Int32) else if eI o = eI c then (1 : Int32) else (0 : Int32)) = if mts o c = true then 1 else 0 := by
    unfold mts
    by_cases q : o = 0
    · subst q; simp [eI]
    · rw [if_neg (show ¬ eI o = (-1 : Int32) from fun z => q ((eI_inj (b := 0) ho (by decide)).mp z))]
      by_cases q2 : o = c
      · subst q2; simp
      · rw [if_neg (fun z => q2 ((eI_inj ho hc).mp z)), if_neg (by simp [q, q2])]
  rw [e]; exact h
end PT
