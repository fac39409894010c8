set_option linter.unusedVariables false
set_option maxRecDepth 10000
section PM
variable {s : mS}
def col (s : mS) (k p x y : Nat) : Nat := if k = 1 then s 12 p else if k = 4 then 2 ^ p else if k = 5 then s 9 (R s x) ||| s 9 (R s y) else s 9 (R s x)
/-- told anew: of a group of its own -/
def nwx (s : mS) (k p x y : Nat) : mS := adx (adg s (col s k p x y)) k p (R s x) (R s y) (mG s)
def okx (s : mS) (k p x y : Nat) : Prop := (k = 1 ∨ k = 3 ∨ k = 4 ∨ k = 5 ∨ k = 6) ∧ (k = 1 → p < s 10 0 ∧ s 12 p < 16) ∧ (k = 3 → p < 8) ∧ (4 ≤ k → p < 4) ∧ (k ≠ 1 → x < mG s) ∧ (5 ≤ k → y < mG s) ∧ (k = 4 → (s 9 (R s x)).testBit p = true)
theorem alk_R {k p x y e : Nat} (hs : Sh s) (hx : k ≠ 1 → x < mG s) (hy : 5 ≤ k → y < mG s) : alk s k p (R s x) (R s y) e = alk s k p x y e := by
  rw [Bool.eq_iff_iff, alk_iff, alk_iff]
  have a : ∀ b c : Nat, (k = 1 ∨ b = R s (R s x)) ↔ (k = 1 ∨ b = R s x) := by
    intro b c
    by_cases q : k = 1
    · simp [q]
    · rw [sh_RR hs (hx q)]
  have b : ∀ b c : Nat, (k < 5 ∨ b = R s (R s y)) ↔ (k < 5 ∨ b = R s y) := by
    intro b c
    by_cases q : k < 5
    · simp [q]
    · rw [sh_RR hs (hy (by omega))]
  rw [a _ 0, b _ 0]
theorem nwx_ok {k p x y : Nat} (hs : Sh s) (l : Lo s) (hn : No s) (hN : mN s < 144) (ho : okx s k p x y) (hl : lik s k p x y = none) : Sh (nwx s k p x y) ∧ Lo (nwx s k p x y) ∧ No (nwx s k p x y) := by
  obtain ⟨o1, o2, o3, o4, o5, o6, o7⟩ := ho
  have e7 : nwx s k p x y 7 = up (s 7) (mG s) (mG s) := rfl
  have e9 : nwx s k p x y 9 = up (s 9) (mG s) (col s k p x y) := rfl
  have n2 : nwx s k p x y 2 (mN s) = k := up_s
  have n3 : nwx s k p x y 3 (mN s) = p := up_s
  have n4 : nwx s k p x y 4 (mN s) = R s x := up_s
  have n5 : nwx s k p x y 5 (mN s) = R s y := up_s
  have n6 : nwx s k p x y 6 (mN s) = mG s := up_s
  have n8 : nwx s k p x y 8 (mN s) = 0 := up_s
  have eG : mG (nwx s k p x y) = mG s + 1 := show up (s 1) 0 (mG s + 1) 0 = mG s + 1 from up_s
  have h7 : ∀ g, g < mG s → nwx s k p x y 7 g = s 7 g := fun g hg => by rw [e7]; exact up_n (by omega)
  have h7' : nwx s k p x y 7 (mG s) = mG s := by rw [e7]; exact up_s
  have rN : R (nwx s k p x y) (mG s) = mG s := rt_self h7'
  have rO : ∀ {g}, g < mG s → R (nwx s k p x y) g = R s g := fun hg => new_R hs h7 hg
  have c9 : ∀ {g}, g < mG s → nwx s k p x y 9 (R s g) = s 9 (R s g) := fun hg => by
    have := sh_lt hs hg
    rw [e9]; exact up_n (by omega)
  have hx : k ≠ 1 → R (nwx s k p x y) (R s x) = R s x := fun q => by rw [rO (sh_lt hs (o5 q)), sh_RR hs (o5 q)]
  have hy : 5 ≤ k → R (nwx s k p x y) (R s y) = R s y := fun q => by rw [rO (sh_lt hs (o6 q)), sh_RR hs (o6 q)]
  have cN : nwx s k p x y 9 (R (nwx s k p x y) (nwx s k p x y 6 (mN s))) = col s k p x y := by rw [n6, rN, e9]; exact up_s
  refine new_ok hs l hn hN (show up (s 0) 0 (mN s + 1) 0 = mN s + 1 from up_s) rfl (by rw [eG]; have := hs.2.1; omega) (fun e he => ?_) h7 (fun g h1 h2 => ?_) (fun g hg => c9 hg) rfl n8 (by rw [n2]; exact o1) (by rw [n6, eG]; omega) ?_ ?_ ?_ ?_ ?_ ⟨?_, ?_⟩ ?_ (fun e he => ?_)
  · have q : e ≠ mN s := by omega
    exact ⟨up_n q, up_n q, up_n q, up_n q, up_n q, up_n q⟩
  · rw [eG] at h2
    have : g = mG s := by omega
    rw [this]; exact ⟨h7', n6⟩
  · rw [n2, n3]; exact fun q => (o2 q).1
  · rw [n2, n3]; exact o3
  · rw [n2, n3]; exact o4
  · rw [n2, n4]; exact fun q => sh_lt hs (o5 q)
  · rw [n2, n5]; exact fun q => sh_lt hs (o6 q)
  · rw [cN]
    unfold xc col
    rw [n2, n3, n4, n5, show nwx s k p x y 12 = s 12 from rfl]
    by_cases q1 : k = 1
    · rw [if_pos q1, if_pos q1]
    · rw [if_neg q1, if_neg q1, hx q1, c9 (o5 q1)]
      by_cases q4 : k = 4
      · rw [if_pos q4, if_pos q4]
      · rw [if_neg q4, if_neg q4]
        by_cases q5 : k = 5
        · rw [if_pos q5, if_pos q5, hy (by omega), c9 (o6 (by omega))]
        · rw [if_neg q5, if_neg q5]
  · rw [n2, n3, n4]
    intro q
    rw [hx (by omega), c9 (o5 (by omega))]
    exact o7 q
  · rw [cN]
    unfold col
    have hc : ∀ g, g < mG s → s 9 (R s g) < 2 ^ 4 := l.2.2.2
    by_cases q1 : k = 1
    · rw [if_pos q1]; exact (o2 q1).2
    · rw [if_neg q1]
      by_cases q4 : k = 4
      · rw [if_pos q4]
        have := o4 (by omega)
        show 2 ^ p < 2 ^ 4
        exact Nat.pow_lt_pow_right (a := 2) (by decide) this
      · rw [if_neg q4]
        by_cases q5 : k = 5
        · rw [if_pos q5]; exact Nat.or_lt_two_pow (n := 4) (hc _ (o5 q1)) (hc _ (o6 (by omega)))
        · rw [if_neg q5]; exact hc _ (o5 q1)
  · rw [n2, n3, n4, n5, alk_R hs o5 o6]
    exact fnd_none _ _ hl e (Nat.zero_le _) (by omega)
/-- a new one in a group that is there -/
def nwa (s : mS) (k p x y g : Nat) : mS := adx s k p (R s x) (R s y) g
theorem nwa_ok {k p x y g : Nat} (hs : Sh s) (l : Lo s) (hn : No s) (hN : mN s < 144) (ho : okx s k p x y) (hl : lik s k p x y = none) (hg : g < mG s) (hc : s 9 (R s g) = col s k p x y) : Sh (nwa s k p x y g) ∧ Lo (nwa s k p x y g) ∧ No (nwa s k p x y g) := by
  obtain ⟨o1, o2, o3, o4, o5, o6, o7⟩ := ho
  have n2 : nwa s k p x y g 2 (mN s) = k := up_s
  have n3 : nwa s k p x y g 3 (mN s) = p := up_s
  have n4 : nwa s k p x y g 4 (mN s) = R s x := up_s
  have n5 : nwa s k p x y g 5 (mN s) = R s y := up_s
  have n6 : nwa s k p x y g 6 (mN s) = g := up_s
  have n8 : nwa s k p x y g 8 (mN s) = 0 := up_s
  have eG : mG (nwa s k p x y g) = mG s := rfl
  have rO : ∀ {g'}, R (nwa s k p x y g) g' = R s g' := rfl
  have cN : nwa s k p x y g 9 (R (nwa s k p x y g) (nwa s k p x y g 6 (mN s))) = col s k p x y := by rw [n6]; exact hc
  refine new_ok hs l hn hN (show up (s 0) 0 (mN s + 1) 0 = mN s + 1 from up_s) rfl (by rw [eG]; have := hs.2.1; omega) (fun e he => ?_) (fun g' _ => rfl) (fun g' h1 h2 => ?_) (fun g' hg' => rfl) rfl n8 (by rw [n2]; exact o1) (by rw [n6, eG]; omega) ?_ ?_ ?_ ?_ ?_ ⟨?_, ?_⟩ ?_ (fun e he => ?_)
  · have q : e ≠ mN s := by omega
    exact ⟨up_n q, up_n q, up_n q, up_n q, up_n q, up_n q⟩
  · rw [eG] at h2; omega
  · rw [n2, n3]; exact fun q => (o2 q).1
  · rw [n2, n3]; exact o3
  · rw [n2, n3]; exact o4
  · rw [n2, n4]; exact fun q => sh_lt hs (o5 q)
  · rw [n2, n5]; exact fun q => sh_lt hs (o6 q)
  · rw [cN]
    unfold xc col
    rw [n2, n3, n4, n5, show nwa s k p x y g 12 = s 12 from rfl, show nwa s k p x y g 9 = s 9 from rfl, rO, rO]
    by_cases q1 : k = 1
    · rw [if_pos q1, if_pos q1]
    · rw [if_neg q1, if_neg q1, sh_RR hs (o5 q1)]
      by_cases q4 : k = 4
      · rw [if_pos q4, if_pos q4]
      · rw [if_neg q4, if_neg q4]
        by_cases q5 : k = 5
        · rw [if_pos q5, if_pos q5, sh_RR hs (o6 (by omega))]
        · rw [if_neg q5, if_neg q5]
  · rw [n2, n3, n4]
    intro q
    rw [rO, sh_RR hs (o5 (by omega))]
    exact o7 q
  · rw [n6]
    exact l.2.2.2 g hg
  · rw [n2, n3, n4, n5, alk_R hs o5 o6]
    exact fnd_none _ _ hl e (Nat.zero_le _) (by omega)
/-! rows of the groups -/
theorem fnd_end {P : Nat → Bool} : ∀ n i, fnd P (n + 1) i = (match fnd P n i with
  | some e => some e
  | none => if P (i + n) = true then some (i + n) else none) := by
  intro n
  induction n with
  | zero => intro i; rfl
  | succ n ih =>
    intro i
    show (if P i = true then some i else fnd P (n + 1) (i + 1)) = (match (if P i = true then some i else fnd P n (i + 1)) with | some e => some e | none => _)
    by_cases q : P i = true
    · rw [if_pos q, if_pos q]
    · rw [if_neg q, if_neg q, ih (i + 1), show i + 1 + n = i + (n + 1) by omega]
def lsu (s : mS) (n g : Nat) : Option Nat := fnd (fun e => decide (s 8 e = 0) && decide (R s (s 6 e) = g)) n 0
theorem lsu_succ {n g : Nat} : lsu s (n + 1) g = (match lsu s n g with
  | some e => some e
  | none => if s 8 n = 0 ∧ R s (s 6 n) = g then some n else none) := by
  unfold lsu
  rw [fnd_end, Nat.zero_add]
  simp
theorem lsu_of {n e g : Nat} (h1 : e < n) (h2 : s 8 e = 0) (h3 : R s (s 6 e) = g) : ∃ f, lsu s n g = some f ∧ f ≤ e := by
  cases h : lsu s n g with
  | none =>
    have := fnd_none _ _ h e (Nat.zero_le _) (by omega)
    simp [h2, h3] at this
  | some f =>
    refine ⟨f, rfl, Nat.le_of_not_lt fun q => ?_⟩
    have := (fnd_some _ _ h).2.2.2 e (Nat.zero_le _) q
    simp [h2, h3] at this
theorem lsu_some {n f g : Nat} (h : lsu s n g = some f) : f < n ∧ s 8 f = 0 ∧ R s (s 6 f) = g := by
  obtain ⟨-, h2, h3, -⟩ := fnd_some _ _ h
  simp at h3
  exact ⟨by omega, h3.1, h3.2⟩
def jn (s : mS) (r : Nat → Nat) (e : Nat) : Nat := max 1 (min 1000000 (r (R s (s 4 e)) * r (R s (s 5 e)) / s 15 (s 3 e)))
/-- the rows of an expression, by those of its inputs -/
def xrw (s : mS) (r : Nat → Nat) (e : Nat) : Nat := if s 2 e = 1 then s 11 (s 3 e) else if s 2 e = 3 then max 1 (r (R s (s 4 e)) / (if s 3 e % 2 = 0 then 10 else 2)) else if s 2 e = 4 then min (r (R s (s 4 e))) (s 15 (s 3 e)) else if s 2 e = 5 then jn s r e else min (r (R s (s 4 e))) (jn s r e)
def rwu (s : mS) : Nat → Nat → Nat
  | 0, _ => 0
  | n + 1, g => if lsu s n g = none ∧ s 8 n = 0 ∧ R s (s 6 n) = g then xrw s (rwu s n) n else rwu s n g
def rw' (s : mS) (g : Nat) : Nat := rwu s (mN s) g
/-- tables and numbers of values -/
def Tb (s : mS) : Prop := (∀ i, i < s 10 0 → (1 ≤ s 11 i ∧ s 11 i ≤ 1000000) ∧ 1 ≤ s 12 i ∧ s 12 i < 16) ∧ ∀ i, i < 4 → 1 ≤ s 15 i ∧ s 15 i ≤ 1000000
theorem xrw_le {r : Nat → Nat} {e : Nat} (hs : Sh s) (hb : Tb s) (he : e < mN s) (hx : s 2 e ≠ 1 → 1 ≤ r (R s (s 4 e)) ∧ r (R s (s 4 e)) ≤ 1000000) : 1 ≤ xrw s r e ∧ xrw s r e ≤ 1000000 := by
  obtain ⟨b6, b8, b2, b3, b3', b3'', b4, b5⟩ := hs.2.2.2.2 e he
  have J : 1 ≤ jn s r e ∧ jn s r e ≤ 1000000 := by unfold jn; omega
  unfold xrw
  by_cases q1 : s 2 e = 1
  · rw [if_pos q1]; exact (hb.1 _ (b3 q1)).1
  · obtain ⟨x1, x2⟩ := hx q1
    rw [if_neg q1]
    by_cases q3 : s 2 e = 3
    · rw [if_pos q3]
      have : r (R s (s 4 e)) / (if s 3 e % 2 = 0 then 10 else 2) ≤ r (R s (s 4 e)) := Nat.div_le_self _ _
      omega
    · rw [if_neg q3]
      by_cases q4 : s 2 e = 4
      · rw [if_pos q4]
        have := hb.2 _ (b3'' (by omega))
        omega
      · rw [if_neg q4]
        split <;> omega
theorem rwu_le (hs : Sh s) (l : Lo s) (hb : Tb s) : ∀ n, n ≤ mN s → ∀ g, lsu s n g ≠ none → 1 ≤ rwu s n g ∧ rwu s n g ≤ 1000000 := by
  intro n
  induction n with
  | zero => intro _ g h; exact absurd rfl h
  | succ n ih =>
    intro hn g h
    unfold rwu
    by_cases q : lsu s n g = none ∧ s 8 n = 0 ∧ R s (s 6 n) = g
    · rw [if_pos q]
      refine xrw_le hs hb (by omega) (fun q1 => ?_)
      obtain ⟨e', h1, h2, h3⟩ := (l.1 n (by omega) q.2.1).1 q1
      obtain ⟨f, hf, -⟩ := lsu_of h1 h2 h3
      exact ih (by omega) _ (by rw [hf]; exact fun z => nomatch z)
    · rw [if_neg q]
      refine ih (by omega) g (fun z => ?_)
      rw [lsu_succ, z] at h
      simp only at h
      rw [if_neg (fun w => q ⟨z, w⟩)] at h
      exact h rfl
theorem rwu_set {n m g : Nat} (h : lsu s n g ≠ none) (hm : n ≤ m) : rwu s m g = rwu s n g ∧ lsu s m g = lsu s n g := by
  induction hm with
  | refl => exact ⟨rfl, rfl⟩
  | @step m hm ih =>
    obtain ⟨i1, i2⟩ := ih
    have hne : lsu s m g ≠ none := by rw [i2]; exact h
    refine ⟨?_, ?_⟩
    · show (if lsu s m g = none ∧ s 8 m = 0 ∧ R s (s 6 m) = g then _ else rwu s m g) = _
      rw [if_neg (fun z => hne z.1), i1]
    · rw [lsu_succ, i2]
      cases hh : lsu s n g with
      | none => exact absurd hh h
      | some e => rfl
theorem rw_in {n e : Nat} (l : Lo s) (hn : n ≤ mN s) (he : e < n) (h8 : s 8 e = 0) : rwu s n (R s (s 6 e)) = rw' s (R s (s 6 e)) := by
  obtain ⟨f, hf, -⟩ := lsu_of he h8 (rfl : R s (s 6 e) = R s (s 6 e))
  exact ((rwu_set (by rw [hf]; exact fun z => nomatch z) hn).1).symm
end PM
