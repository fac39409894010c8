set_option linter.unusedVariables false
set_option maxRecDepth 10000
section PM
variable {s s1 : mS}
/-! a firing -/
def tel (s : mS) (x : X4) : mS × Nat := match lk4 s x with
  | some i => (s, R s (s 6 i))
  | none => (nwx s x.1 x.2.1 x.2.2.1 x.2.2.2, mG s)
def ok4x (s : mS) (x : X4) : Prop := okx s x.1 x.2.1 x.2.2.1 x.2.2.2
def col4 (s : mS) (x : X4) : Nat := col s x.1 x.2.1 x.2.2.1 x.2.2.2
def Old (s s1 : mS) : Prop := (mN s ≤ mN s1 ∧ mG s ≤ mG s1) ∧ (∀ e, e < mN s → s1 2 e = s 2 e ∧ s1 3 e = s 3 e ∧ s1 4 e = s 4 e ∧ s1 5 e = s 5 e ∧ s1 6 e = s 6 e ∧ s1 8 e = s 8 e) ∧ (∀ g, g < mG s → R s1 g = R s g ∧ s1 9 (R s g) = s 9 (R s g)) ∧ ∀ k, 10 ≤ k → s1 k = s k
theorem Old.refl : Old s s := ⟨⟨Nat.le_refl _, Nat.le_refl _⟩, fun e _ => ⟨rfl, rfl, rfl, rfl, rfl, rfl⟩, fun g _ => ⟨rfl, rfl⟩, fun k _ => rfl⟩
theorem nwx_old {k p x y : Nat} (hs : Sh s) : Old s (nwx s k p x y) ∧ R (nwx s k p x y) (mG s) = mG s ∧ nwx s k p x y 9 (mG s) = col s k p x y ∧ mN (nwx s k p x y) = mN s + 1 ∧ mG (nwx s k p x y) = mG s + 1 := by
  have e7 : nwx s k p x y 7 = up (s 7) (mG s) (mG s) := rfl
  have e9 : nwx s k p x y 9 = up (s 9) (mG s) (col s k p x y) := rfl
  have eN : mN (nwx s k p x y) = mN s + 1 := show up (s 0) 0 (mN s + 1) 0 = mN s + 1 from up_s
  have eG : mG (nwx s k p x y) = mG s + 1 := show up (s 1) 0 (mG s + 1) 0 = mG s + 1 from up_s
  have h7 : ∀ g, g < mG s → nwx s k p x y 7 g = s 7 g := fun g hg => by rw [e7]; exact up_n (by omega)
  refine ⟨⟨⟨by omega, by omega⟩, fun e he => ?_, fun g hg => ⟨new_R hs h7 hg, ?_⟩, fun k' hk => ?_⟩, rt_self (by rw [e7]; exact up_s), by rw [e9]; exact up_s, eN, eG⟩
  · have q : e ≠ mN s := by omega
    exact ⟨up_n q, up_n q, up_n q, up_n q, up_n q, up_n q⟩
  · have := sh_lt hs hg
    rw [e9]; exact up_n (by omega)
  · unfold nwx adx adg
    rw [st_n (by omega), st_n (by omega), st_n (by omega), st_n (by omega), st_n (by omega), st_n (by omega), st_n (by omega), st_n (by omega), st_n (by omega), st_n (by omega)]
theorem lik_col {k p x y i : Nat} (h : lik s k p x y = some i) (l : Lo s) : s 9 (R s (s 6 i)) = col s k p x y := by
  have hi := lik_lt h
  obtain ⟨h1, h2, h3, h4, h5⟩ := alk_iff.mp (fnd_some _ _ h).2.2.1
  rw [(l.2.2.1 i hi h1).1]
  unfold xc col
  rw [h2, h3]
  by_cases q1 : k = 1
  · rw [if_pos q1, if_pos q1]
  · rw [if_neg q1, if_neg q1, h4.resolve_left q1]
    by_cases q4 : k = 4
    · rw [if_pos q4, if_pos q4]
    · rw [if_neg q4, if_neg q4]
      by_cases q5 : k = 5
      · rw [if_pos q5, if_pos q5, h5.resolve_left (by omega)]
      · rw [if_neg q5, if_neg q5]
theorem tel_ok {x : X4} (hs : Sh s) (l : Lo s) (hn : No s) (hN : mN s < 144) (ho : ok4x s x) :
    Sh (tel s x).1 ∧ Lo (tel s x).1 ∧ No (tel s x).1 ∧ (tel s x).2 < mG (tel s x).1 ∧ R (tel s x).1 (tel s x).2 = (tel s x).2 ∧ (tel s x).1 9 (tel s x).2 = col4 s x ∧ Old s (tel s x).1 ∧ mN (tel s x).1 = mN s + (if lk4 s x = none then 1 else 0) := by
  unfold tel
  cases q : lk4 s x with
  | some i =>
    have hi := lik_lt q
    have B6 := sx_6 hs hi
    refine ⟨hs, l, hn, sh_lt hs B6, sh_RR hs B6, lik_col q l, Old.refl, ?_⟩
    rw [if_neg (fun z => (nomatch z))]
    rfl
  | none =>
    obtain ⟨a, b, c⟩ := nwx_ok hs l hn hN ho q
    obtain ⟨o, r, cc, eN, eG⟩ := nwx_old (k := x.1) (p := x.2.1) (x := x.2.2.1) (y := x.2.2.2) hs
    refine ⟨a, b, c, ?_, r, cc, o, ?_⟩
    · show mG s < mG (nwx s _ _ _ _); omega
    · rw [if_pos rfl]; exact eN
/-- columns of what comes: those of e's group -/
theorem cms_col {e r f g : Nat} (hs : Sh s) (l : Lo s) (hk : NK s e r f) (h4 : r ≠ 4) (ho : Old s s1) (hs1 : Sh s1) (hg : 1 ≤ r → g < mG s1 ∧ R s1 g = g ∧ s1 9 g = col4 s (brk s e r f)) :
    col4 s1 (cms s e r f g) = s 9 (R s (s 6 e)) ∧ ok4x s1 (cms s e r f g) := by
  obtain ⟨he, h8, hr, k0, hk2⟩ := hk
  obtain ⟨⟨n1, n2⟩, o2, o3, o4⟩ := ho
  have ce := (l.2.2.1 e he h8).1
  have pe := (sh_bnd hs he).2.1
  have O : ∀ y, y < mG s → s1 9 (R s1 y) = s 9 (R s y) := fun y hy => by rw [(o3 y hy).1]; exact (o3 y hy).2
  have oG : ∀ y, y < mG s → y < mG s1 := fun y hy => by omega
  rw [ce]
  unfold xc
  by_cases r0 : r = 0
  · subst r0
    have q := (k0 rfl).1
    have B4 := sx_4 hs he (by omega)
    have B5 := sx_5 hs he (by omega)
    rw [if_neg (by omega), if_neg (by omega), if_pos q]
    unfold cms
    rw [if_pos rfl]
    refine ⟨?_, Or.inr (Or.inr (Or.inr (Or.inl rfl))), fun z => (nomatch z), fun z => (nomatch z), fun _ => sx_p4 hs he (by omega), fun _ => oG _ B5, fun _ => oG _ B4, fun z => (nomatch z)⟩
    show (s1 9 (R s1 (s 5 e)) ||| s1 9 (R s1 (s 4 e))) = _
    rw [O _ B5, O _ B4, Nat.or_comm]
  · obtain ⟨hf, f8, hR, hk1, hfit⟩ := hk2 (by omega)
    obtain ⟨f1, f2, f3, -, f5, f6⟩ := fit_k (by omega) hr hfit
    obtain ⟨hg', gR, gc⟩ := hg (by omega)
    have cf := (l.2.2.1 f hf f8).1
    rw [hR] at cf
    have E4 := sx_4 hs he hk1
    have hr' : r = 1 ∨ r = 2 ∨ r = 3 ∨ r = 5 ∨ r = 6 := by omega
    unfold xc at cf
    rcases hr' with rfl | rfl | rfl | rfl | rfl
    · have q := f1 rfl
      have F4 := sx_4 hs hf (by omega)
      have F5 := sx_5 hs hf (by omega)
      have E5 := sx_5 hs he (by omega)
      rw [if_neg (show ¬ s 2 e = 1 by omega), if_neg (show ¬ s 2 e = 4 by omega), if_pos q.1, cf, if_neg (show ¬ s 2 f = 1 by omega), if_neg (show ¬ s 2 f = 4 by omega), if_pos q.2]
      have gc' : s1 9 g = (s 9 (R s (s 5 f)) ||| s 9 (R s (s 5 e))) := gc
      refine ⟨?_, Or.inr (Or.inr (Or.inr (Or.inl rfl))), fun z => (nomatch z), fun z => (nomatch z), fun _ => sx_p4 hs hf (by omega), fun _ => oG _ F4, fun _ => hg', fun z => (nomatch z)⟩
      show (s1 9 (R s1 (s 4 f)) ||| s1 9 (R s1 g)) = _
      rw [O _ F4, gR, gc', Nat.or_assoc]
    · have q := f2 rfl
      have F4 := sx_4 hs hf (by omega)
      have F5 := sx_5 hs hf (by omega)
      rw [if_neg (show ¬ s 2 e = 1 by omega), if_neg (show ¬ s 2 e = 4 by omega), if_neg (show ¬ s 2 e = 5 by omega), cf, if_neg (show ¬ s 2 f = 1 by omega), if_neg (show ¬ s 2 f = 4 by omega)]
      have gc' : s1 9 g = s 9 (R s (s 4 f)) := gc
      have bf := sx_2 hs hf
      refine ⟨?_, bf, fun z => absurd (show s 2 f = 1 from z) (by omega), fun z => absurd (show s 2 f = 3 from z) (by omega), fun _ => sx_p4 hs hf (by omega), fun _ => hg', fun _ => oG _ F5, fun z => absurd (show s 2 f = 4 from z) (by omega)⟩
      show col s1 (s 2 f) (s 3 f) g (s 5 f) = _
      unfold col
      rw [if_neg (by omega), if_neg (by omega), gR, gc', O _ F5]
    · have q := f3 rfl
      rw [if_neg (show ¬ s 2 e = 1 by omega), if_neg (show ¬ s 2 e = 4 by omega), if_neg (show ¬ s 2 e = 5 by omega), cf, if_neg (show ¬ s 2 f = 1 by omega), if_neg (show ¬ s 2 f = 4 by omega), if_neg (show ¬ s 2 f = 5 by omega)]
      have gc' : s1 9 g = s 9 (R s (s 4 f)) := gc
      refine ⟨?_, Or.inr (Or.inl rfl), fun z => (nomatch z), fun _ => (sh_bnd hs hf).2.1, fun z => absurd (show 4 ≤ 3 from z) (by decide), fun _ => hg', fun _ => hg', fun z => (nomatch z)⟩
      show s1 9 (R s1 g) = _
      rw [gR, gc']
    · have q := f5 rfl
      rw [if_neg (show ¬ s 2 e = 1 by omega), if_pos q.1]
      have gc' : s1 9 g = 2 ^ s 3 e := gc
      refine ⟨?_, Or.inr (Or.inl rfl), fun z => (nomatch z), fun _ => (sh_bnd hs hf).2.1, fun z => absurd (show 4 ≤ 3 from z) (by decide), fun _ => hg', fun _ => hg', fun z => (nomatch z)⟩
      show s1 9 (R s1 g) = _
      rw [gR, gc']
    · have q := f6 rfl
      have F5 := sx_5 hs hf (by omega)
      rw [if_neg (show ¬ s 2 e = 1 by omega), if_neg (show ¬ s 2 e = 4 by omega), if_neg (show ¬ s 2 e = 5 by omega), cf, if_neg (show ¬ s 2 f = 1 by omega), if_neg (show ¬ s 2 f = 4 by omega), if_neg (show ¬ s 2 f = 5 by omega)]
      have gc' : s1 9 g = s 9 (R s (s 4 f)) := gc
      refine ⟨?_, Or.inr (Or.inr (Or.inr (Or.inr rfl))), fun z => (nomatch z), fun z => (nomatch z), fun _ => sx_p4 hs hf (by omega), fun _ => hg', fun _ => oG _ F5, fun z => (nomatch z)⟩
      show s1 9 (R s1 g) = _
      rw [gR, gc']
theorem brk_okx {e r f : Nat} (hs : Sh s) (l : Lo s) (hk : NK s e r f) (h1 : 1 ≤ r) (h4 : r ≠ 4) : ok4x s (brk s e r f) := by
  obtain ⟨he, h8, hr, k0, hk2⟩ := hk
  obtain ⟨hf, f8, hR, hk1, hfit⟩ := hk2 h1
  obtain ⟨f1, f2, f3, -, f5, f6⟩ := fit_k h1 hr hfit
  have pe := (sh_bnd hs he).2.1
  have hr' : r = 1 ∨ r = 2 ∨ r = 3 ∨ r = 5 ∨ r = 6 := by omega
  rcases hr' with rfl | rfl | rfl | rfl | rfl
  · have q := f1 rfl
    exact ⟨Or.inr (Or.inr (Or.inr (Or.inl rfl))), fun z => (nomatch z), fun z => (nomatch z), fun _ => sx_p4 hs he (by omega), fun _ => sx_5 hs hf (by omega), fun _ => sx_5 hs he (by omega), fun z => (nomatch z)⟩
  · have q := f2 rfl
    exact ⟨Or.inr (Or.inl rfl), fun z => (nomatch z), fun _ => pe, fun z => absurd (show 4 ≤ 3 from z) (by decide), fun _ => sx_4 hs hf (by omega), fun z => absurd (show 5 ≤ 3 from z) (by decide), fun z => (nomatch z)⟩
  · have q := f3 rfl
    exact ⟨Or.inr (Or.inl rfl), fun z => (nomatch z), fun _ => pe, fun z => absurd (show 4 ≤ 3 from z) (by decide), fun _ => sx_4 hs hf (by omega), fun z => absurd (show 5 ≤ 3 from z) (by decide), fun z => (nomatch z)⟩
  · have q := f5 rfl
    refine ⟨Or.inr (Or.inr (Or.inl rfl)), fun z => (nomatch z), fun z => (nomatch z), fun _ => sx_p4 hs he (by omega), fun _ => sx_4 hs hf (by omega), fun z => absurd (show 5 ≤ 4 from z) (by decide), fun _ => ?_⟩
    have c1 := (l.2.2.1 f hf f8).1
    rw [hR] at c1
    unfold xc at c1
    rw [if_neg (show ¬ s 2 f = 1 by omega), if_neg (show ¬ s 2 f = 4 by omega), if_neg (show ¬ s 2 f = 5 by omega)] at c1
    have c2 := (l.2.2.1 e he h8).2 q.1
    rw [c1] at c2
    exact c2
  · have q := f6 rfl
    exact ⟨Or.inr (Or.inr (Or.inr (Or.inr rfl))), fun z => (nomatch z), fun z => (nomatch z), fun _ => sx_p4 hs he (by omega), fun _ => sx_4 hs hf (by omega), fun _ => sx_5 hs he (by omega), fun z => (nomatch z)⟩
end PM
