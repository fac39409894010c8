set_option linter.unusedVariables false
set_option maxRecDepth 10000
/-! ===== component: the whole relation ===== -/
section PC
variable {σ τ υ σ0 : wS} {x m F : Nat} {s : mS} {S : gS} {K : Nat → Nat} {P P' : Nat → Nat → Prop} {a b c d : Nat}
/-- which way an object stands for -/
def wyT (k : Nat) : Nat := if k = 3 then 15 else if k = 4 then 16 else if k = 5 then 17 else if k = 6 then 18 else if k = 7 ∨ k = 9 then 19 else if k = 8 then 20 else if k = 10 then 21 else if k = 11 then 22 else 14
/-- the objects of one PlanMemo: 0 memo, 1 trace, 2 firing, 3 search, 4 and 5 drafts, 6 ways, 7 the quiet trace, 10.. shelves, 20.. rules, 30.. ways, 50.. rows -/
def Sk (σ : wS) (x : Nat) (K : Nat → Nat) : Prop := (ok0 σ x ∧ oR σ 107 x = some (K 0) ∧ oR σ 102 x = some (K 1) ∧ oR σ 103 x = some (K 2) ∧ oR σ 104 x = some (K 3)) ∧
  (ok1 σ (K 1) ∧ ok2 σ (K 2) ∧ ok11 σ (K 3) ∧ ok3 σ (K 4) ∧ ok3 σ (K 5) ∧ ok12 σ (K 6) ∧ ok1 σ (K 7)) ∧ (K 4 ≠ K 5 ∧ K 7 ≠ K 1) ∧
  (oR σ 301 (K 2) = some (K 4) ∧ oR σ 302 (K 2) = some (K 5) ∧ oR σ 1200 (K 3) = some (K 6) ∧ oR σ 1301 (K 6) = some (K 7)) ∧
  (∀ r, r < 7 → aR σ 70300 (K 2) r = some (K (20 + r)) ∧ oC σ (K (20 + r)) = 5 + r) ∧ (∀ k, k < 12 → aR σ 81300 (K 6) k = some (K (30 + k)) ∧ oC σ (K (30 + k)) = wyT k) ∧
  (∀ i, i < 8 → aR σ 60100 x i = some (K (10 + i)) ∧ oC σ (K (10 + i)) = 24) ∧ (∀ i j, i < 8 → j < 8 → i ≠ j → K (10 + i) ≠ K (10 + j))
def Me (σ : wS) (m : Nat) (s : mS) : Prop := CM σ m s ∧ CFd σ m s ∧ CN σ m s
def Rf (σ : wS) (x : Nat) (A : mS) : Prop := ∀ i, i < 8 → aI σ 101 x i = nI (A 0 i)
def rwG (k : Nat) : Nat := if k = 0 then 32800 else if k = 1 then 52900 else if k = 2 then 3000 else 13100
/-- a row's object: its sort, its length, what it holds -/
def RW (σ : wS) (o k n : Nat) (f : Nat → Int64) : Prop := oC σ o = 28 + k ∧ aN σ (rwG k) o = some n ∧ (k < 3 → ∀ j, j < n → (aI σ (rwG k) o j).toInt64 = f j) ∧ (k = 3 → ∀ j, j < n → aJ σ 13100 o j = f j) ∧ ∀ j, j < n → nrw k (f j) = f j
def SH (σ : wS) (K : Nat → Nat) (S : gS) (i : Nat) : Prop := (S.2.1 1 i = 0 → oR σ 2400 (K (10 + i)) = none) ∧ (S.2.1 1 i = 1 → oR σ 2400 (K (10 + i)) = some (K (50 + i)) ∧ RW σ (K (50 + i)) (S.2.1 2 i) (S.2.1 3 i) (fun j => S.2.2.2.1 (160 * i + j))) ∧
  (S.2.1 1 i = 2 → ∃ o, oR σ 2400 (K (10 + i)) = some o ∧ XO σ o (S.2.1 4 i) (S.1 2 (S.2.1 4 i)) (S.1 3 (S.2.1 4 i)))
def Shv (σ : wS) (K : Nat → Nat) (S : gS) : Prop := (∀ i, i < 8 → SH σ K S i) ∧ ∀ i j, i < 8 → j < 8 → i ≠ j → S.2.1 1 i = 1 → S.2.1 1 j = 1 → K (50 + i) ≠ K (50 + j)
def TrC (σ : wS) (o : Nat) (y : trS) : Prop := oI σ 201 o = nI y.1 ∧ aI σ 200 o = y.2
def ImC (σ : wS) (x m : Nat) (A v : mS) : Prop := (A 5 2 = 0 → oR σ 108 x = none) ∧ (A 5 2 = 1 → ∃ m2, oR σ 108 x = some m2 ∧ m2 ≠ m ∧ CM σ m2 v ∧ CFd σ m2 v)
/-- a node's object -/
def ND (σ : wS) (o : Nat) (A : mS) (i : Nat) : Prop := oC σ o = 48 ∧ (oI σ 4803 o = nI (A 6 i) ∧ oI σ 4804 o = nI (A 7 i) ∧ (∃ d, oI σ 4800 o = nI d ∧ d < 1920 ∧ d / 30 = A 8 i ∧ d % 30 / 6 = A 9 i ∧ d % 6 = A 10 i) ∧ oI σ 4806 o = eI (A 11 i)) ∧ oI σ 4807 o = nI (A 12 i) ∧ oI σ 4812 o = nI (A 13 i) ∧ oJ σ 4801 o = lN (A 14 i)
/-- its inputs: the node behind it, and the one behind that -/
def NDL (σ : wS) (p o : Nat) (A : mS) (i : Nat) : Prop := (A 6 i = 1 → oR σ 4810 o = none) ∧ (A 6 i ≠ 1 → oR σ 4810 o = aR σ 114700 p (i + 1) ∧ i + 1 < A 5 1) ∧ (4 ≤ A 6 i ∧ A 6 i ≤ 6 → oR σ 4811 o = aR σ 114700 p (i + 1 + A 12 (i + 1)) ∧ i + 1 + A 12 (i + 1) < A 5 1) ∧ (¬ (4 ≤ A 6 i ∧ A 6 i ≤ 6) → oR σ 4811 o = none)
def PlC (σ : wS) (x : Nat) (A : mS) : Prop := (A 5 1 = 0 → oR σ 109 x = none) ∧ (A 5 1 ≠ 0 → ∃ p, oR σ 109 x = some p ∧ ok46 σ p ∧ oI σ 4703 p = nI (A 5 1) ∧ (∀ i, i < A 5 1 → ∃ o, aR σ 114700 p i = some o ∧ ND σ o A i ∧ NDL σ p o A i) ∧ ∀ i, A 5 1 ≤ i → i < 120 → aR σ 114700 p i = none)
def CK (σ : wS) (x : Nat) (K : Nat → Nat) (S : gS) : Prop := (Sk σ x K ∧ Me σ (K 0) S.1 ∧ Rf σ x S.2.1) ∧ (Shv σ K S ∧ TrC σ (K 1) S.2.2.2.2 ∧ oI σ 110 x = eI (S.2.1 5 0)) ∧ ImC σ x (K 0) S.2.1 S.2.2.1 ∧ PlC σ x S.2.1
def CC (σ : wS) (x : Nat) (S : gS) : Prop := ∃ K, CK σ x K S
/-! what a frame leaves of them -/
theorem Fr.I (f : Fr P a b σ τ) {g o c : Nat} (hc : oC σ o = c + 1) (hp : ¬ P g o) : oI τ g o = oI σ g o := (f.2.1 g o (by omega) hp).1.1.1
theorem Fr.J (f : Fr P a b σ τ) {g o c : Nat} (hc : oC σ o = c + 1) (hp : ¬ P g o) : oJ τ g o = oJ σ g o := (f.2.1 g o (by omega) hp).1.1.2.1
theorem Fr.R (f : Fr P a b σ τ) {g o c : Nat} (hc : oC σ o = c + 1) (hp : ¬ P g o) : oR τ g o = oR σ g o := (f.2.1 g o (by omega) hp).1.1.2.2.1
theorem Fr.A (f : Fr P a b σ τ) {g o c : Nat} (hc : oC σ o = c + 1) (hp : ¬ P g o) : aI τ g o = aI σ g o := (f.2.1 g o (by omega) hp).1.1.2.2.2
theorem Fr.AJ (f : Fr P a b σ τ) {g o c : Nat} (hc : oC σ o = c + 1) (hp : ¬ P g o) : aJ τ g o = aJ σ g o := (f.2.1 g o (by omega) hp).1.2.1
theorem Fr.AR (f : Fr P a b σ τ) {g o c : Nat} (hc : oC σ o = c + 1) (hp : ¬ P g o) : aR τ g o = aR σ g o := (f.2.1 g o (by omega) hp).1.2.2
theorem Fr.N (f : Fr P a b σ τ) {g o c : Nat} (hc : oC σ o = c + 1) (hp : ¬ P g o) : aN τ g o = aN σ g o := (f.2.1 g o (by omega) hp).2.1
theorem Fr.C (f : Fr P a b σ τ) {o c : Nat} (hc : oC σ o = c + 1) : oC τ o = c + 1 := (f.1.1 o (by omega)).trans hc
theorem Sk.fr (h : Sk σ x K) (f : Fr P a b σ τ) (d : ∀ g ∈ [107, 102, 103, 104, 60100, 301, 302, 1200, 1301, 70300, 81300], ∀ o, ¬ P g o) : Sk τ x K := by
  obtain ⟨⟨a1, a2, a3, a4, a5⟩, ⟨b1, b2, b3, b4, b5, b6, b7⟩, h2, ⟨c1, c2, c3, c4⟩, r, w, sh, di⟩ := h
  refine ⟨⟨ok0.ext a1 f.1, ?_, ?_, ?_, ?_⟩, ⟨ok1.ext b1 f.1, ok2.ext b2 f.1, ok11.ext b3 f.1, ok3.ext b4 f.1, ok3.ext b5 f.1, ok12.ext b6 f.1, ok1.ext b7 f.1⟩, h2, ⟨?_, ?_, ?_, ?_⟩, fun i hi => ?_, fun i hi => ?_, fun i hi => ?_, di⟩
  · rw [f.R a1.1 (d _ (by decide) _)]; exact a2
  · rw [f.R a1.1 (d _ (by decide) _)]; exact a3
  · rw [f.R a1.1 (d _ (by decide) _)]; exact a4
  · rw [f.R a1.1 (d _ (by decide) _)]; exact a5
  · rw [f.R b2.1 (d _ (by decide) _)]; exact c1
  · rw [f.R b2.1 (d _ (by decide) _)]; exact c2
  · rw [f.R b3.1 (d _ (by decide) _)]; exact c3
  · rw [f.R b6.1 (d _ (by decide) _)]; exact c4
  · rw [f.AR b2.1 (d _ (by decide) _)]
    exact ⟨(r i hi).1, by rw [f.C (c := 4 + i) (by rw [(r i hi).2]; omega)]; omega⟩
  · rw [f.AR b6.1 (d _ (by decide) _)]
    have hw : 13 < wyT i := by
      unfold wyT
      repeat' split
      all_goals decide
    obtain ⟨c, hc⟩ : ∃ c, wyT i = c + 1 := ⟨wyT i - 1, by omega⟩
    exact ⟨(w i hi).1, by rw [f.C (c := c) (by rw [(w i hi).2, hc]), hc]⟩
  · rw [f.AR a1.1 (d _ (by decide) _)]
    exact ⟨(sh i hi).1, f.C (sh i hi).2⟩
theorem Me.fr (h : Me σ m s) (f : Fr P a b σ τ) (d : ∀ g ∈ GMf ++ [12313, 2314, 2303, 2304, 2305, 2317, 2318], ¬ P g m) (d2 : ∀ g ∈ [3300, 3301, 3200, 3201, 3202, 3203], ∀ o, ¬ P g o) : Me τ m s := by
  have hm : oC σ m ≠ 0 := by rw [h.1.1.1.1]; decide
  exact ⟨h.1.fr f (fun g hg => d g (by revert g; decide)) d2, h.2.1.fr hm f (fun g hg => d g (by revert g; decide)), h.2.2.fr hm f (fun g hg => d g (by revert g; decide))⟩
theorem RW.fr {o k n : Nat} {q : Nat → Int64} (h : RW σ o k n q) (hk : k < 4) (f : Fr P a b σ τ) (d : ∀ g ∈ [32800, 52900, 3000, 13100], ¬ P g o) : RW τ o k n q := by
  obtain ⟨h1, h2, h3, h4, h5⟩ := h
  have hc : oC σ o = 27 + k + 1 := by omega
  have dg : ¬ P (rwG k) o := by
    apply d
    unfold rwG
    split
    · decide
    · split
      · decide
      · split <;> decide
  refine ⟨by rw [f.C hc]; omega, by rw [f.N hc dg]; exact h2, fun z => ?_, fun z => ?_, h5⟩
  · rw [f.A hc dg]; exact h3 z
  · rw [f.AJ hc (d _ (by decide))]; exact h4 z
theorem SH.fr {i : Nat} (h : SH σ K S i) (hc : oC σ (K (10 + i)) = 24) (h2 : S.2.1 2 i < 4) (f : Fr P a b σ τ) (d : ∀ g ∈ [32800, 52900, 3000, 13100, 2400, 3300, 3301], ∀ o, ¬ P g o) : SH τ K S i := by
  obtain ⟨x1, x2, x3⟩ := h
  unfold SH
  rw [f.R hc (d _ (by decide) _)]
  refine ⟨x1, fun z => ⟨(x2 z).1, (x2 z).2.fr h2 f (fun g hg => d g (by revert g; decide) _)⟩, fun z => ?_⟩
  obtain ⟨o, o1, o2⟩ := x3 z
  exact ⟨o, o1, o2.fr f (fun g hg => d g (by revert g; decide) o)⟩
theorem Shv.fr (h : Shv σ K S) (hk : Sk σ x K) (hA : AV S) (f : Fr P a b σ τ) (d : ∀ g ∈ [32800, 52900, 3000, 13100, 2400, 3300, 3301], ∀ o, ¬ P g o) : Shv τ K S :=
  ⟨fun i hi => (h.1 i hi).fr (hk.2.2.2.2.2.2.1 i hi).2 (hA i hi).2.1 f d, h.2⟩
theorem ND.fr {o i : Nat} {A : mS} (h : ND σ o A i) (f : Fr P a b σ τ) (d : ∀ g ∈ [4800, 4801, 4803, 4804, 4806, 4807, 4812], ∀ o, ¬ P g o) : ND τ o A i := by
  obtain ⟨h1, h2, h3, h4, h5⟩ := h
  unfold ND
  rw [f.I h1 (d 4803 (by decide) _), f.I h1 (d 4804 (by decide) _), f.I h1 (d 4800 (by decide) _), f.I h1 (d 4806 (by decide) _), f.I h1 (d 4807 (by decide) _), f.I h1 (d 4812 (by decide) _), f.J h1 (d 4801 (by decide) _)]
  exact ⟨f.C h1, h2, h3, h4, h5⟩
theorem PlC.fr {A : mS} (h : PlC σ x A) (hx : oC σ x = 1) (f : Fr P a b σ τ) (d : ∀ g ∈ [4800, 4801, 4803, 4804, 4806, 4807, 4812, 4810, 4811, 109, 4703, 114700], ∀ o, ¬ P g o) : PlC τ x A := by
  obtain ⟨h1, h2⟩ := h
  unfold PlC
  rw [f.R hx (d _ (by decide) _)]
  refine ⟨h1, fun z => ?_⟩
  obtain ⟨p, p1, p2, p3, p4, p5⟩ := h2 z
  refine ⟨p, p1, ok46.ext p2 f.1, ?_, ?_, ?_⟩
  · rw [f.I p2.1 (d _ (by decide) _)]; exact p3
  · intro i hi
    obtain ⟨o, o1, o2, o3⟩ := p4 i hi
    refine ⟨o, by rw [f.AR p2.1 (d _ (by decide) _)]; exact o1, o2.fr f (fun g hg o => d g (by revert g; decide) o), ?_⟩
    unfold NDL
    rw [f.R o2.1 (d 4810 (by decide) _), f.R o2.1 (d 4811 (by decide) _), f.AR p2.1 (d _ (by decide) _)]
    exact o3
  · rw [f.AR p2.1 (d _ (by decide) _)]; exact p5
theorem ImC.fr {A v : mS} (h : ImC σ x m A v) (hx : oC σ x = 1) (f : Fr P a b σ τ) (d : ∀ g ∈ GMf ++ [12313, 2314, 2303, 2304, 2305], ∀ o, o ≠ m → ¬ P g o) (d2 : ∀ g ∈ [3300, 3301, 3200, 3201, 3202, 3203, 108], ∀ o, ¬ P g o) : ImC τ x m A v := by
  obtain ⟨h1, h2⟩ := h
  unfold ImC
  rw [f.R hx (d2 _ (by decide) _)]
  refine ⟨h1, fun z => ?_⟩
  obtain ⟨m2, p1, p2, p3, p4⟩ := h2 z
  have hm : oC σ m2 ≠ 0 := by rw [p3.1.1.1]; decide
  exact ⟨m2, p1, p2, p3.fr f (fun g hg => d g (by revert g; decide) m2 p2) (fun g hg => d2 g (by revert g; decide)), p4.fr hm f (fun g hg => d g (by revert g; decide) m2 p2)⟩
/-- the fields of the component that tell of its state -/
abbrev GAll : List Nat := [107, 102, 103, 104, 60100, 301, 302, 1200, 1301, 70300, 81300, 2300, 2301, 2302, 2309, 2310, 22311, 2315, 2316, 2312, 2307, 102308, 92306, 12313, 2314, 2303, 2304, 2305, 2317, 2318, 3300, 3301, 3200, 3201, 3202, 3203, 101, 32800, 52900, 3000, 13100, 2400, 201, 200, 110, 108, 4800, 4801, 4803, 4804, 4806, 4807, 4812, 4810, 4811, 109, 4703, 114700]
theorem CK.fr (h : CK σ x K S) (hA : AV S) (f : Fr P a b σ τ) (d : ∀ g ∈ GAll, g ≠ 201 → g ≠ 200 → ∀ o, ¬ P g o) (d2 : ¬ P 201 (K 1) ∧ ¬ P 200 (K 1)) : CK τ x K S := by
  obtain ⟨⟨k1, k2, k3⟩, ⟨k4, k5, k6⟩, k7, k8⟩ := h
  have hx := k1.1.1.1
  have h1 := k1.2.1.1.1
  refine ⟨⟨k1.fr f (fun g hg => d g (by revert g; decide) (by revert g; decide) (by revert g; decide)), k2.fr f (fun g hg => d g (by revert g; decide) (by revert g; decide) (by revert g; decide) _) (fun g hg => d g (by revert g; decide) (by revert g; decide) (by revert g; decide)), fun i hi => ?_⟩, ⟨k4.fr k1 hA f (fun g hg => d g (by revert g; decide) (by revert g; decide) (by revert g; decide)), ⟨?_, ?_⟩, ?_⟩, k7.fr hx f (fun g hg o _ => d g (by revert g; decide) (by revert g; decide) (by revert g; decide) o) (fun g hg => d g (by revert g; decide) (by revert g; decide) (by revert g; decide)), k8.fr hx f (fun g hg => d g (by revert g; decide) (by revert g; decide) (by revert g; decide))⟩
  · rw [f.A hx (d _ (by decide) (by decide) (by decide) _)]; exact k3 i hi
  · rw [f.I h1 d2.1]; exact k5.1
  · rw [f.A h1 d2.2]; exact k5.2
  · rw [f.I hx (d _ (by decide) (by decide) (by decide) _)]; exact k6
/-- nothing told of changed -/
theorem CK.no (h : CK σ x K S) (hA : AV S) (f : Fr (fun _ _ => False) a b σ τ) : CK τ x K S := h.fr hA f (fun _ _ _ _ _ z => z) ⟨fun z => z, fun z => z⟩
/-- the component's calls leave the twins -/
def Cf (σ τ : wS) : Prop := Fr (fun _ o => oC σ o ≠ 25) 2000 20000 σ τ
theorem Fr.cf (f : Fr P a b σ τ) (hp : ∀ g o, P g o → oC σ o ≠ 25) (ha : a ≤ 2000) (hb : b ≤ 20000) : Cf σ τ := f.mono hp ha hb
theorem ck_ref {n : Nat} (h : CK σ x K S) (hA : AV S) (w : Wq [101] x σ τ) (hn : n < 8) (e : aI τ 101 x = upd (aI σ 101 x) n (aI σ 101 x n + 1)) : CK τ x K (rfu S n) := by
  have f : Fr (fun g o => o = x ∧ g = 101) 0 0 σ τ := w.fr (fun g hg => ⟨rfl, List.mem_singleton.mp hg⟩)
  obtain ⟨⟨k1, k2, k3⟩, ⟨k4, k5, k6⟩, k7, k8⟩ := h
  have hx := k1.1.1.1
  have h1 := k1.2.1.1.1
  have no : ∀ g, g ≠ 101 → ∀ o, ¬ (o = x ∧ g = 101) := fun g hg o z => hg z.2
  refine ⟨⟨k1.fr f (fun g hg => no g (by revert g; decide)), k2.fr f (fun g hg => no g (by revert g; decide) _) (fun g hg => no g (by revert g; decide)), fun i hi => ?_⟩, ⟨k4.fr k1 hA f (fun g hg => no g (by revert g; decide)), ⟨?_, ?_⟩, ?_⟩, k7.fr hx f (fun g hg o _ => no g (by revert g; decide) o) (fun g hg => no g (by revert g; decide)), ?_⟩
  · rw [e]
    show _ = nI (up (S.2.1 0) n (S.2.1 0 n + 1) i)
    by_cases q : i = n
    · rw [q, upd_s, up_s, k3 n hn, nI_succ]
    · rw [upd_n q, up_n q]; exact k3 i hi
  · rw [f.I h1 (no _ (by decide) _)]; exact k5.1
  · rw [f.A h1 (no _ (by decide) _)]; exact k5.2
  · rw [f.I hx (no _ (by decide) _)]; exact k6
  · have := k8.fr hx f (fun g hg => no g (by revert g; decide))
    exact this
theorem c_refd {Q : Int32 → wS → Prop} {n q : Nat} (h : CK σ x K S) (hA : AV S) (hn : n < 8) (hq : oC σ q = 26) (hw : oI σ 2606 q = -nI n) (hQ : ∀ τ, Wq [101] x σ τ → CK τ x K (rfu S n) → Q (-nI n) τ) : w_X0_refused σ x (some q) Q := by
  have e : - -nI n = nI n := Int32.neg_neg
  have c : (nI n).toNatClampNeg = n := nI_clamp (by omega)
  unfold w_X0_refused
  refine ⟨h.1.1.1.1, q, rfl, hq, ?_⟩
  rw [hw, e, c]
  refine ⟨vp_inN hn (by decide), bnd_A fun τ w v => ?_⟩
  rw [((w.sam (by decide)) q).1.1, hw]
  exact hQ τ w (ck_ref h hA w hn v)
theorem c_beyond {Q : Int32 → wS → Prop} (h : CK σ x K S) (hA : AV S) (hQ : ∀ τ, Wq [101] x σ τ → CK τ x K (rfu S 5) → Q (noA S 5).1 τ) : w_X0_beyond σ x Q := by
  unfold w_X0_beyond
  exact ⟨h.1.1.1.1, vp_inN (n := 5) (by decide) (by decide), bnd_A fun τ w v => hQ τ w (ck_ref h hA w (by decide) v)⟩
end PC
