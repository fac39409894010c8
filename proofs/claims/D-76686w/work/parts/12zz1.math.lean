set_option linter.unusedVariables false
set_option maxRecDepth 10000
/-! ===== the plain part: numbers, roots, alike expressions, merging ===== -/
section PM
abbrev mS : Type := Nat → Nat → Nat
def st (s : mS) (k : Nat) (f : Nat → Nat) : mS := fun k' => if k' = k then f else s k'
theorem st_s {s : mS} {k : Nat} {f : Nat → Nat} : st s k f k = f := by simp [st]
theorem st_n {s : mS} {k k' : Nat} {f : Nat → Nat} (h : k' ≠ k) : st s k f k' = s k' := by simp [st, h]
def up (f : Nat → Nat) (i v : Nat) : Nat → Nat := fun j => if j = i then v else f j
theorem up_s {f : Nat → Nat} {i v : Nat} : up f i v i = v := by simp [up]
theorem up_n {f : Nat → Nat} {i v j : Nat} (h : j ≠ i) : up f i v j = f j := by simp [up, h]
/-! roots -/
def rtf (f : Nat → Nat) : Nat → Nat → Nat
  | 0, g => g
  | n + 1, g => if f g = g then g else rtf f n (f g)
def rt (f : Nat → Nat) (g : Nat) : Nat := rtf f (g + 1) g
def Dn (f : Nat → Nat) (n : Nat) : Prop := ∀ g, g < n → f g ≤ g
theorem rtf_irr {f : Nat → Nat} {n : Nat} (h : Dn f n) : ∀ k k' g, g < n → g < k → g < k' → rtf f k g = rtf f k' g := by
  intro k
  induction k with
  | zero => intro k' g _ h2; omega
  | succ k ih =>
    intro k' g h1 h2 h3
    cases k' with
    | zero => omega
    | succ k' =>
      show (if f g = g then g else rtf f k (f g)) = (if f g = g then g else rtf f k' (f g))
      have hd := h g h1
      by_cases e : f g = g
      · rw [if_pos e, if_pos e]
      · rw [if_neg e, if_neg e]
        exact ih k' (f g) (by omega) (by omega) (by omega)
theorem rt_step {f : Nat → Nat} {n g : Nat} (h : Dn f n) (hg : g < n) (e : f g ≠ g) : rt f g = rt f (f g) := by
  have hd := h g hg
  show (if f g = g then g else rtf f g (f g)) = _
  rw [if_neg e]
  exact rtf_irr h _ _ _ (by omega) (by omega) (by omega)
theorem rt_self {f : Nat → Nat} {g : Nat} (e : f g = g) : rt f g = g := by
  show (if f g = g then g else rtf f g (f g)) = g
  rw [if_pos e]
theorem rt_ind {f : Nat → Nat} {n : Nat} (h : Dn f n) (P : Nat → Prop) (h1 : ∀ g, g < n → f g = g → P g) (h2 : ∀ g, g < n → f g ≠ g → f g < g → P (f g) → P g) : ∀ g, g < n → P g := by
  intro g
  induction g using Nat.strongRecOn with
  | _ g ih =>
    intro hg
    by_cases e : f g = g
    · exact h1 g hg e
    · have hd := h g hg
      exact h2 g hg e (by omega) (ih (f g) (by omega) (by omega))
theorem rt_le {f : Nat → Nat} {n : Nat} (h : Dn f n) : ∀ g, g < n → rt f g ≤ g :=
  rt_ind h _ (fun g hg e => by rw [rt_self e]; exact Nat.le_refl g) (fun g hg e hlt ih => by rw [rt_step h hg e]; omega)
theorem rt_lt {f : Nat → Nat} {n : Nat} (h : Dn f n) {g : Nat} (hg : g < n) : rt f g < n := Nat.lt_of_le_of_lt (rt_le h g hg) hg
theorem rt_fix {f : Nat → Nat} {n : Nat} (h : Dn f n) : ∀ g, g < n → f (rt f g) = rt f g :=
  rt_ind h _ (fun g hg e => by rw [rt_self e, e]) (fun g hg e hlt ih => by rw [rt_step h hg e]; exact ih)
theorem rt_rt {f : Nat → Nat} {n : Nat} (h : Dn f n) {g : Nat} (hg : g < n) : rt f (rt f g) = rt f g := rt_self (rt_fix h g hg)
/-- roots depend on what lies below alone -/
theorem rt_congr {f f' : Nat → Nat} {n : Nat} (h : Dn f n) (e : ∀ g, g < n → f' g = f g) : ∀ g, g < n → rt f' g = rt f g := by
  have h' : Dn f' n := fun g hg => by rw [e g hg]; exact h g hg
  exact rt_ind h _ (fun g hg q => by rw [rt_self q, rt_self (by rw [e g hg, q])]) (fun g hg q hlt ih => by
    rw [rt_step h hg q, rt_step h' hg (by rw [e g hg]; exact q), e g hg, ih])
/-- two roots become one -/
def un (f : Nat → Nat) (a b : Nat) : Nat → Nat := up f (max a b) (min a b)
theorem un_dn {f : Nat → Nat} {n a b : Nat} (h : Dn f n) : Dn (un f a b) n := by
  intro g hg
  unfold un
  by_cases e : g = max a b
  · rw [e, up_s]; omega
  · rw [up_n e]; exact h g hg
theorem rt_un {f : Nat → Nat} {n a b : Nat} (h : Dn f n) (ha : f a = a) (hb : f b = b) (hn : max a b < n) : ∀ g, g < n → rt (un f a b) g = if rt f g = max a b then min a b else rt f g := by
  have h' : Dn (un f a b) n := un_dn h
  have hmin : un f a b (min a b) = min a b := by
    unfold un
    by_cases e : min a b = max a b
    · rw [e, up_s, ← e]
    · rw [up_n e]
      rcases Nat.le_total a b with q | q
      · rw [Nat.min_eq_left q]; exact ha
      · rw [Nat.min_eq_right q]; exact hb
  have hmax : rt (un f a b) (max a b) = min a b := by
    have e1 : un f a b (max a b) = min a b := up_s
    by_cases e : min a b = max a b
    · rw [← e]; exact rt_self hmin
    · rw [rt_step h' hn (by rw [e1]; exact e), e1]; exact rt_self hmin
  refine rt_ind h _ (fun g hg e => ?_) (fun g hg e hlt ih => ?_)
  · rw [rt_self e]
    by_cases q : g = max a b
    · rw [if_pos q, q, hmax]
    · rw [if_neg q]; exact rt_self (by unfold un; rw [up_n q, e])
  · have q : g ≠ max a b := by
      intro q
      rcases Nat.le_total a b with z | z
      · rw [Nat.max_eq_right z] at q; rw [q] at e; exact e hb
      · rw [Nat.max_eq_left z] at q; rw [q] at e; exact e ha
    have e1 : un f a b g = f g := up_n q
    rw [rt_step h hg e, rt_step h' hg (by rw [e1]; exact e), e1, ih]
/-! the first that has it -/
def fnd (P : Nat → Bool) : Nat → Nat → Option Nat
  | 0, _ => none
  | n + 1, i => if P i = true then some i else fnd P n (i + 1)
theorem fnd_some {P : Nat → Bool} {e : Nat} : ∀ n i, fnd P n i = some e → i ≤ e ∧ e < i + n ∧ P e = true ∧ ∀ j, i ≤ j → j < e → P j = false := by
  intro n
  induction n with
  | zero => intro i h; cases h
  | succ n ih =>
    intro i h
    unfold fnd at h
    by_cases p : P i = true
    · rw [if_pos p] at h
      cases h
      exact ⟨Nat.le_refl _, by omega, p, fun j h1 h2 => by omega⟩
    · rw [if_neg p] at h
      obtain ⟨h1, h2, h3, h4⟩ := ih (i + 1) h
      refine ⟨by omega, by omega, h3, fun j h5 h6 => ?_⟩
      by_cases q : j = i
      · rw [q]; exact Bool.eq_false_iff.mpr p
      · exact h4 j (by omega) h6
theorem fnd_none {P : Nat → Bool} : ∀ n i, fnd P n i = none → ∀ j, i ≤ j → j < i + n → P j = false := by
  intro n
  induction n with
  | zero => intro i _ j h1 h2; omega
  | succ n ih =>
    intro i h j h1 h2
    unfold fnd at h
    by_cases p : P i = true
    · rw [if_pos p] at h; cases h
    · rw [if_neg p] at h
      by_cases q : j = i
      · rw [q]; exact Bool.eq_false_iff.mpr p
      · exact ih (i + 1) h j (by omega) (by omega)
theorem fnd_congr {P Q : Nat → Bool} : ∀ n i, (∀ j, i ≤ j → j < i + n → P j = Q j) → fnd P n i = fnd Q n i := by
  intro n
  induction n with
  | zero => intro i _; rfl
  | succ n ih =>
    intro i h
    unfold fnd
    rw [ih (i + 1) (fun j h1 h2 => h j (by omega) (by omega)), h i (Nat.le_refl _) (by omega)]
theorem fnd_of {P : Nat → Bool} {e : Nat} : ∀ n i, i ≤ e → e < i + n → P e = true → (∀ j, i ≤ j → j < e → P j = false) → fnd P n i = some e := by
  intro n
  induction n with
  | zero => intro i h1 h2; omega
  | succ n ih =>
    intro i h1 h2 h3 h4
    unfold fnd
    by_cases q : i = e
    · rw [q, if_pos h3]
    · rw [if_neg (by rw [h4 i (Nat.le_refl _) (by omega)]; decide)]
      exact ih (i + 1) (by omega) (by omega) h3 (fun j h5 h6 => h4 j (by omega) h6)
theorem fnd_no {P : Nat → Bool} : ∀ n i, (∀ j, i ≤ j → j < i + n → P j = false) → fnd P n i = none := by
  intro n
  induction n with
  | zero => intro i _; rfl
  | succ n ih =>
    intro i h
    unfold fnd
    rw [if_neg (by rw [h i (Nat.le_refl _) (by omega)]; decide)]
    exact ih (i + 1) (fun j h1 h2 => h j (by omega) (by omega))
/-! the memo: 0 how many expressions, 1 groups, 2 kind, 3 what by, 4 left, 5 right, 6 home, 7 into, 8 gone, 9 columns, 10 tables, 11 their rows, 12 columns, 13 order + 1, 14 place, 15 distinct, 16 fired, 17 fired by rules, 18 firings, 19 allowed, 20 seed -/
abbrev mN (s : mS) : Nat := s 0 0
abbrev mG (s : mS) : Nat := s 1 0
abbrev R (s : mS) (g : Nat) : Nat := rt (s 7) g
/-- alike: of this kind, by this, of these inputs -/
def alk (s : mS) (k p x y : Nat) (e : Nat) : Bool := decide (s 8 e = 0) && (decide (s 2 e = k) && (decide (s 3 e = p) && (decide (k = 1 ∨ R s (s 4 e) = R s x) && decide (k < 5 ∨ R s (s 5 e) = R s y))))
theorem alk_iff {s : mS} {k p x y e : Nat} : alk s k p x y e = true ↔ s 8 e = 0 ∧ s 2 e = k ∧ s 3 e = p ∧ (k = 1 ∨ R s (s 4 e) = R s x) ∧ (k < 5 ∨ R s (s 5 e) = R s y) := by
  simp [alk]
def lik (s : mS) (k p x y : Nat) : Option Nat := fnd (alk s k p x y) (mN s) 0
/-- the columns of an expression -/
def xc (s : mS) (c : Nat → Nat) (e : Nat) : Nat := if s 2 e = 1 then s 12 (s 3 e) else if s 2 e = 4 then 2 ^ s 3 e else if s 2 e = 5 then c (R s (s 4 e)) ||| c (R s (s 5 e)) else c (R s (s 4 e))
/-- what holds of a memo's shape -/
def Sh (s : mS) : Prop := mN s ≤ 144 ∧ mG s ≤ mN s ∧ Dn (s 7) (mG s) ∧ s 10 0 ≤ 8 ∧
  ∀ e, e < mN s → s 6 e < mG s ∧ s 8 e ≤ 1 ∧ (s 2 e = 1 ∨ s 2 e = 3 ∨ s 2 e = 4 ∨ s 2 e = 5 ∨ s 2 e = 6) ∧ (s 2 e = 1 → s 3 e < s 10 0) ∧ (s 2 e = 3 → s 3 e < 8) ∧ (4 ≤ s 2 e → s 3 e < 4) ∧ (s 2 e ≠ 1 → s 4 e < mG s) ∧ (5 ≤ s 2 e → s 5 e < mG s)
/-- what is lower stands; every group has one that stands; columns agree -/
def Lo (s : mS) : Prop := (∀ e, e < mN s → s 8 e = 0 → (s 2 e ≠ 1 → ∃ e', e' < e ∧ s 8 e' = 0 ∧ R s (s 6 e') = R s (s 4 e)) ∧ (5 ≤ s 2 e → ∃ e', e' < e ∧ s 8 e' = 0 ∧ R s (s 6 e') = R s (s 5 e))) ∧
  (∀ g, g < mG s → ∃ e, e < mN s ∧ s 8 e = 0 ∧ R s (s 6 e) = R s g) ∧
  (∀ e, e < mN s → s 8 e = 0 → s 9 (R s (s 6 e)) = xc s (s 9) e ∧ (s 2 e = 4 → (s 9 (R s (s 4 e))).testBit (s 3 e) = true)) ∧ (∀ g, g < mG s → s 9 (R s g) < 16)
/-- no two alike stand -/
def No (s : mS) : Prop := ∀ e f, e < f → f < mN s → s 8 f = 0 → alk s (s 2 f) (s 3 f) (s 4 f) (s 5 f) e = false
/-! one step of the merging pass -/
def uni (s : mS) (a b : Nat) : mS := st s 7 (un (s 7) (R s a) (R s b))
def drp (s : mS) (e f : Nat) : mS := uni (st s 8 (up (s 8) f 1)) (s 6 e) (s 6 f)
/-- what the pass does at f -/
def p1 (s : mS) (f : Nat) : mS := if s 8 f = 0 then (match lik s (s 2 f) (s 3 f) (s 4 f) (s 5 f) with
  | some e => if e = f then s else drp s e f
  | none => s) else s
def p1b (s : mS) (f : Nat) : Bool := decide (s 8 f = 0) && (match lik s (s 2 f) (s 3 f) (s 4 f) (s 5 f) with
  | some e => decide (e ≠ f)
  | none => false)
/-- the rest of a pass: from f on, n of them -/
def pas : Nat → Nat → mS → mS
  | 0, _, s => s
  | n + 1, f, s => pas n (f + 1) (p1 s f)
def pab : Nat → Nat → mS → Bool
  | 0, _, _ => false
  | n + 1, f, s => p1b s f || pab n (f + 1) (p1 s f)
def mgl : Nat → mS → mS
  | 0, s => s
  | n + 1, s => if pab (mN s) 0 s = true then mgl n (pas (mN s) 0 s) else pas (mN s) 0 s
def mrg (s : mS) (g h : Nat) : mS := mgl (mN s + 1) (uni s g h)
theorem st_id {s : mS} {k : Nat} {f : Nat → Nat} (h : f = s k) : st s k f = s := by
  funext k'
  unfold st
  by_cases e : k' = k
  · rw [if_pos e, h, e]
  · rw [if_neg e]
theorem sh_dn {s : mS} (h : Sh s) : Dn (s 7) (mG s) := h.2.2.1
theorem sh_lt {s : mS} (h : Sh s) {g : Nat} (hg : g < mG s) : R s g < mG s := rt_lt (sh_dn h) hg
theorem sh_fix {s : mS} (h : Sh s) {g : Nat} (hg : g < mG s) : s 7 (R s g) = R s g := rt_fix (sh_dn h) g hg
theorem sh_RR {s : mS} (h : Sh s) {g : Nat} (hg : g < mG s) : R s (R s g) = R s g := rt_rt (sh_dn h) hg
theorem uni_k {s : mS} {a b k : Nat} (h : k ≠ 7) : uni s a b k = s k := st_n h
theorem uni_R {s : mS} {a b g : Nat} (h : Sh s) (ha : a < mG s) (hb : b < mG s) (hg : g < mG s) : R (uni s a b) g = if R s g = max (R s a) (R s b) then min (R s a) (R s b) else R s g := by
  have e : uni s a b 7 = un (s 7) (R s a) (R s b) := st_s
  show rt (uni s a b 7) g = _
  rw [e]
  have h1 := sh_lt h ha
  have h2 := sh_lt h hb
  exact rt_un (sh_dn h) (sh_fix h ha) (sh_fix h hb) (by omega) g hg
theorem uni_eq {s : mS} {a b g g' : Nat} (h : Sh s) (ha : a < mG s) (hb : b < mG s) (hg : g < mG s) (hg' : g' < mG s) (e : R s g = R s g') : R (uni s a b) g = R (uni s a b) g' := by
  rw [uni_R h ha hb hg, uni_R h ha hb hg', e]
theorem uni_ab {s : mS} {a b : Nat} (h : Sh s) (ha : a < mG s) (hb : b < mG s) : R (uni s a b) a = R (uni s a b) b := by
  rw [uni_R h ha hb ha, uni_R h ha hb hb]
  rcases Nat.le_total (R s a) (R s b) with q | q
  · rw [Nat.max_eq_right q, Nat.min_eq_left q, if_pos rfl]
    by_cases e : R s a = R s b
    · rw [if_pos e]
    · rw [if_neg e]
  · rw [Nat.max_eq_left q, Nat.min_eq_right q, if_pos rfl]
    by_cases e : R s b = R s a
    · rw [if_pos e]
    · rw [if_neg e]
theorem uni_c {s : mS} {a b g : Nat} {c : Nat → Nat} (h : Sh s) (ha : a < mG s) (hb : b < mG s) (hc : c (R s a) = c (R s b)) (hg : g < mG s) : c (R (uni s a b) g) = c (R s g) := by
  rw [uni_R h ha hb hg]
  by_cases e : R s g = max (R s a) (R s b)
  · rw [if_pos e, e]
    rcases Nat.le_total (R s a) (R s b) with q | q
    · rw [Nat.max_eq_right q, Nat.min_eq_left q, hc]
    · rw [Nat.max_eq_left q, Nat.min_eq_right q, hc]
  · rw [if_neg e]
theorem sh_uni {s : mS} {a b : Nat} (h : Sh s) : Sh (uni s a b) := by
  obtain ⟨h1, h2, h3, h4, h5⟩ := h
  refine ⟨h1, h2, ?_, h4, h5⟩
  show Dn (un (s 7) (R s a) (R s b)) (mG s)
  exact un_dn h3
theorem xc_uni {s : mS} {a b e : Nat} (h : Sh s) (ha : a < mG s) (hb : b < mG s) (hc : s 9 (R s a) = s 9 (R s b)) (he : e < mN s) : xc (uni s a b) (uni s a b 9) e = xc s (s 9) e := by
  have H := h.2.2.2.2 e he
  have e9 : uni s a b 9 = s 9 := uni_k (by decide)
  rw [e9]
  unfold xc
  rw [uni_k (k := 2) (by decide), uni_k (k := 3) (by decide), uni_k (k := 12) (by decide), uni_k (k := 4) (by decide), uni_k (k := 5) (by decide)]
  by_cases q1 : s 2 e = 1
  · rw [if_pos q1, if_pos q1]
  · rw [if_neg q1, if_neg q1]
    have x1 : s 9 (R (uni s a b) (s 4 e)) = s 9 (R s (s 4 e)) := uni_c h ha hb hc (H.2.2.2.2.2.2.1 q1)
    rw [x1]
    by_cases q4 : s 2 e = 4
    · rw [if_pos q4, if_pos q4]
    · rw [if_neg q4, if_neg q4]
      by_cases q5 : s 2 e = 5
      · rw [if_pos q5, if_pos q5]
        have x2 : s 9 (R (uni s a b) (s 5 e)) = s 9 (R s (s 5 e)) := uni_c h ha hb hc (H.2.2.2.2.2.2.2 (by omega))
        rw [x2]
      · rw [if_neg q5, if_neg q5]
theorem lo_uni {s : mS} {a b : Nat} (h : Sh s) (l : Lo s) (ha : a < mG s) (hb : b < mG s) (hc : s 9 (R s a) = s 9 (R s b)) : Lo (uni s a b) := by
  obtain ⟨l1, l2, l3, l4⟩ := l
  refine ⟨fun e he hz => ?_, fun g hg => ?_, fun e he hz => ?_, fun g hg => ?_⟩
  · have H := h.2.2.2.2 e he
    obtain ⟨m1, m2⟩ := l1 e he hz
    refine ⟨fun q => ?_, fun q => ?_⟩
    · obtain ⟨e', g1, g2, g3⟩ := m1 q
      exact ⟨e', g1, g2, uni_eq h ha hb (h.2.2.2.2 e' (Nat.lt_trans g1 he)).1 (H.2.2.2.2.2.2.1 q) g3⟩
    · obtain ⟨e', g1, g2, g3⟩ := m2 q
      exact ⟨e', g1, g2, uni_eq h ha hb (h.2.2.2.2 e' (Nat.lt_trans g1 he)).1 (H.2.2.2.2.2.2.2 q) g3⟩
  · obtain ⟨e, g1, g2, g3⟩ := l2 g hg
    exact ⟨e, g1, g2, uni_eq h ha hb (h.2.2.2.2 e g1).1 hg g3⟩
  · have H := h.2.2.2.2 e he
    obtain ⟨m1, m2⟩ := l3 e he hz
    refine ⟨?_, fun q => ?_⟩
    · rw [xc_uni h ha hb hc he]
      exact (uni_c h ha hb hc H.1).trans m1
    · have := m2 q
      have x : s 9 (R (uni s a b) (s 4 e)) = s 9 (R s (s 4 e)) := uni_c h ha hb hc (H.2.2.2.2.2.2.1 (by have q' : s 2 e = 4 := q; omega))
      show (s 9 (R (uni s a b) (s 4 e))).testBit (s 3 e) = true
      rw [x]; exact this
  · have x : s 9 (R (uni s a b) g) = s 9 (R s g) := uni_c h ha hb hc hg
    show s 9 (R (uni s a b) g) < 16
    rw [x]; exact l4 g hg
theorem sh_gone {s : mS} {f : Nat} (h : Sh s) : Sh (st s 8 (up (s 8) f 1)) := by
  obtain ⟨h1, h2, h3, h4, h5⟩ := h
  refine ⟨h1, h2, h3, h4, fun e he => ?_⟩
  obtain ⟨k1, k2, k3⟩ := h5 e he
  refine ⟨k1, ?_, k3⟩
  show up (s 8) f 1 e ≤ 1
  unfold up
  split
  · exact Nat.le_refl 1
  · exact k2
theorem xc_like {s : mS} {e f : Nat} (h : alk s (s 2 f) (s 3 f) (s 4 f) (s 5 f) e = true) : xc s (s 9) e = xc s (s 9) f := by
  obtain ⟨h1, h2, h3, h4, h5⟩ := alk_iff.mp h
  unfold xc
  rw [h2, h3]
  by_cases q1 : s 2 f = 1
  · rw [if_pos q1, if_pos q1]
  · rw [if_neg q1, if_neg q1, h4.resolve_left q1]
    by_cases q4 : s 2 f = 4
    · rw [if_pos q4, if_pos q4]
    · rw [if_neg q4, if_neg q4]
      by_cases q5 : s 2 f = 5
      · rw [if_pos q5, if_pos q5, h5.resolve_left (by omega)]
      · rw [if_neg q5, if_neg q5]
theorem drp_R {s : mS} {e f : Nat} : R (drp s e f) = R (uni s (s 6 e) (s 6 f)) := rfl
theorem drp_k {s : mS} {e f k : Nat} (h : k ≠ 7) (h8 : k ≠ 8) : drp s e f k = s k := by
  unfold drp uni
  rw [st_n h, st_n h8]
theorem drp_8 {s : mS} {e f : Nat} : drp s e f 8 = up (s 8) f 1 := by
  unfold drp uni
  rw [st_n (by decide), st_s]
theorem sh_drp {s : mS} {e f : Nat} (h : Sh s) : Sh (drp s e f) := sh_uni (sh_gone h)
/-- the later of two alike is gone, their groups are one -/
theorem lo_drp {s : mS} {e f : Nat} (h : Sh s) (l : Lo s) (hef : e < f) (hf : f < mN s) (hz : s 8 f = 0) (hk : alk s (s 2 f) (s 3 f) (s 4 f) (s 5 f) e = true) : Lo (drp s e f) := by
  have he : e < mN s := Nat.lt_trans hef hf
  have hz' : s 8 e = 0 := (alk_iff.mp hk).1
  have ha := (h.2.2.2.2 e he).1
  have hb := (h.2.2.2.2 f hf).1
  have hc : s 9 (R s (s 6 e)) = s 9 (R s (s 6 f)) := by
    rw [(l.2.2.1 e he hz').1, (l.2.2.1 f hf hz).1, xc_like hk]
  have m := lo_uni h l ha hb hc
  obtain ⟨m1, m2, m3, m4⟩ := m
  have e8 : ∀ x, (drp s e f) 8 x = 0 → s 8 x = 0 ∧ x ≠ f := by
    intro x hx
    rw [drp_8] at hx
    unfold up at hx
    by_cases q : x = f
    · rw [if_pos q] at hx; omega
    · rw [if_neg q] at hx; exact ⟨hx, q⟩
  have e8' : ∀ x, s 8 x = 0 → x ≠ f → (drp s e f) 8 x = 0 := by
    intro x hx q
    rw [drp_8, up_n q]; exact hx
  have hR : R (uni s (s 6 e) (s 6 f)) (s 6 e) = R (uni s (s 6 e) (s 6 f)) (s 6 f) := uni_ab h ha hb
  have sub : ∀ x g, x < mN s → s 8 x = 0 → R (uni s (s 6 e) (s 6 f)) (s 6 x) = g → ∃ y, y ≤ x ∧ (drp s e f) 8 y = 0 ∧ R (uni s (s 6 e) (s 6 f)) (s 6 y) = g := by
    intro x g hx h8 hg
    by_cases q : x = f
    · refine ⟨e, by omega, e8' e hz' (by omega), ?_⟩
      rw [q] at hg
      rw [hR]; exact hg
    · exact ⟨x, Nat.le_refl _, e8' x h8 q, hg⟩
  refine ⟨fun x hx h8 => ?_, fun g hg => ?_, fun x hx h8 => ?_, fun g hg => m4 g hg⟩
  · obtain ⟨q1, q2⟩ := e8 x h8
    obtain ⟨g1, g2⟩ := m1 x hx q1
    refine ⟨fun z => ?_, fun z => ?_⟩
    · obtain ⟨y, y1, y2, y3⟩ := g1 z
      obtain ⟨w, w1, w2, w3⟩ := sub y _ (Nat.lt_trans y1 hx) y2 y3
      exact ⟨w, by omega, w2, w3⟩
    · obtain ⟨y, y1, y2, y3⟩ := g2 z
      obtain ⟨w, w1, w2, w3⟩ := sub y _ (Nat.lt_trans y1 hx) y2 y3
      exact ⟨w, by omega, w2, w3⟩
  · obtain ⟨y, y1, y2, y3⟩ := m2 g hg
    obtain ⟨w, w1, w2, w3⟩ := sub y _ y1 y2 y3
    exact ⟨w, Nat.lt_of_le_of_lt w1 y1, w2, w3⟩
  · exact m3 x hx (e8 x h8).1
/-! a pass -/
theorem lik_le {s : mS} {f : Nat} (hf : f < mN s) (hz : s 8 f = 0) : ∃ e, lik s (s 2 f) (s 3 f) (s 4 f) (s 5 f) = some e ∧ e ≤ f ∧ alk s (s 2 f) (s 3 f) (s 4 f) (s 5 f) e = true ∧ ∀ j, j < e → alk s (s 2 f) (s 3 f) (s 4 f) (s 5 f) j = false := by
  have self : alk s (s 2 f) (s 3 f) (s 4 f) (s 5 f) f = true := alk_iff.mpr ⟨hz, rfl, rfl, Or.inr rfl, Or.inr rfl⟩
  cases h : lik s (s 2 f) (s 3 f) (s 4 f) (s 5 f) with
  | none =>
    have := fnd_none _ _ h f (Nat.zero_le _) (by omega)
    rw [self] at this
    cases this
  | some e =>
    obtain ⟨h1, h2, h3, h4⟩ := fnd_some _ _ h
    refine ⟨e, rfl, ?_, h3, fun j hj => h4 j (Nat.zero_le _) hj⟩
    apply Nat.le_of_not_lt
    intro q
    have := h4 f (Nat.zero_le _) q
    rw [self] at this
    cases this
theorem p1_cases {s : mS} {f : Nat} (hf : f < mN s) : (p1b s f = false ∧ p1 s f = s ∧ (s 8 f = 0 → ∀ j, j < f → alk s (s 2 f) (s 3 f) (s 4 f) (s 5 f) j = false)) ∨ (∃ e, e < f ∧ p1b s f = true ∧ p1 s f = drp s e f ∧ s 8 f = 0 ∧ alk s (s 2 f) (s 3 f) (s 4 f) (s 5 f) e = true ∧ lik s (s 2 f) (s 3 f) (s 4 f) (s 5 f) = some e) := by
  unfold p1b p1
  by_cases hz : s 8 f = 0
  · obtain ⟨e, h1, h2, h3, h4⟩ := lik_le hf hz
    rw [h1, if_pos hz]
    by_cases q : e = f
    · left
      refine ⟨?_, ?_, fun _ j hj => h4 j (by omega)⟩
      · simp [q]
      · simp only [if_pos q]
    · right
      refine ⟨e, by omega, ?_, ?_, hz, h3, rfl⟩
      · simp [q, hz]
      · simp only [if_neg q]
  · left
    refine ⟨?_, by rw [if_neg hz], fun z => absurd z hz⟩
    simp [hz]
/-- what a pass leaves as it is -/
def Sm18 (s s' : mS) : Prop := ∀ k, k ≠ 7 → k ≠ 8 → s' k = s k
theorem p1_keep {s : mS} {f : Nat} (hf : f < mN s) (h : Sh s) (l : Lo s) : Sh (p1 s f) ∧ Lo (p1 s f) ∧ Sm18 s (p1 s f) := by
  rcases p1_cases hf with ⟨-, h2, -⟩ | ⟨e, h1, -, h2, h3, h4, -⟩
  · rw [h2]; exact ⟨h, l, fun k _ _ => rfl⟩
  · rw [h2]; exact ⟨sh_drp h, lo_drp h l h1 hf h3 h4, fun k k7 k8 => drp_k k7 k8⟩
theorem pas_keep : ∀ n f (s : mS), f + n = mN s → Sh s → Lo s → Sh (pas n f s) ∧ Lo (pas n f s) ∧ Sm18 s (pas n f s) := by
  intro n
  induction n with
  | zero => intro f s _ h l; exact ⟨h, l, fun k _ _ => rfl⟩
  | succ n ih =>
    intro f s e h l
    obtain ⟨h1, l1, k1⟩ := p1_keep (f := f) (by omega) h l
    have eN : mN (p1 s f) = mN s := by show p1 s f 0 0 = s 0 0; rw [k1 0 (by decide) (by decide)]
    obtain ⟨h2, l2, k2⟩ := ih (f + 1) (p1 s f) (by rw [eN]; omega) h1 l1
    exact ⟨h2, l2, fun k k7 k8 => (k2 k k7 k8).trans (k1 k k7 k8)⟩
/-- how many stand -/
def cnt (s : mS) : Nat → Nat
  | 0 => 0
  | n + 1 => cnt s n + (if s 8 n = 0 then 1 else 0)
theorem cnt_drp {s : mS} {e f : Nat} (hz : s 8 f = 0) : ∀ n, cnt (drp s e f) n + (if f < n then 1 else 0) = cnt s n := by
  intro n
  induction n with
  | zero => rfl
  | succ n ih =>
    show cnt (drp s e f) n + (if drp s e f 8 n = 0 then 1 else 0) + _ = cnt s n + _
    rw [drp_8]
    by_cases q : n = f
    · subst q
      rw [up_s, if_pos hz, if_pos (Nat.lt_succ_self _)]
      rw [if_neg (Nat.lt_irrefl _)] at ih
      simp; omega
    · rw [up_n q]
      by_cases q2 : f < n
      · rw [if_pos q2] at ih; rw [if_pos (show f < n + 1 by omega)]; omega
      · rw [if_neg q2] at ih; rw [if_neg (show ¬ f < n + 1 by omega)]; omega
theorem cnt_pas : ∀ n f (s : mS), f + n = mN s → Sh s → Lo s → cnt (pas n f s) (mN s) + (if pab n f s = true then 1 else 0) ≤ cnt s (mN s) := by
  intro n
  induction n with
  | zero => intro f s _ _ _; exact Nat.le_refl _
  | succ n ih =>
    intro f s e h l
    obtain ⟨h1, l1, k1⟩ := p1_keep (f := f) (by omega) h l
    have eN : mN (p1 s f) = mN s := by show p1 s f 0 0 = s 0 0; rw [k1 0 (by decide) (by decide)]
    have i := ih (f + 1) (p1 s f) (by rw [eN]; omega) h1 l1
    rw [eN] at i
    show cnt (pas n (f + 1) (p1 s f)) (mN s) + (if (p1b s f || pab n (f + 1) (p1 s f)) = true then 1 else 0) ≤ _
    rcases p1_cases (s := s) (f := f) (by omega) with ⟨g1, g2, -⟩ | ⟨e', g1, g2, g3, g4, -, -⟩
    · rw [g1, Bool.false_or]
      rw [g2] at i ⊢
      exact i
    · have c := cnt_drp (s := s) (e := e') g4 (mN s)
      rw [if_pos (by omega)] at c
      rw [g3] at i ⊢
      have : (if (p1b s f || pab n (f + 1) (drp s e' f)) = true then 1 else 0) ≤ 1 := by split <;> omega
      omega
theorem pab_false : ∀ n f (s : mS), f + n = mN s → pab n f s = false → pas n f s = s ∧ ∀ x, f ≤ x → x < mN s → s 8 x = 0 → ∀ j, j < x → alk s (s 2 x) (s 3 x) (s 4 x) (s 5 x) j = false := by
  intro n
  induction n with
  | zero => intro f s e _; exact ⟨rfl, fun x h1 h2 => by omega⟩
  | succ n ih =>
    intro f s e h
    have hb : (p1b s f || pab n (f + 1) (p1 s f)) = false := h
    obtain ⟨b1, b2⟩ := Bool.or_eq_false_iff.mp hb
    rcases p1_cases (s := s) (f := f) (by omega) with ⟨-, g2, g3⟩ | ⟨e', -, g2, -⟩
    · rw [g2] at b2
      obtain ⟨i1, i2⟩ := ih (f + 1) s (by omega) b2
      refine ⟨?_, fun x h1 h2 hz j hj => ?_⟩
      · show pas n (f + 1) (p1 s f) = s
        rw [g2]; exact i1
      · by_cases q : x = f
        · rw [q] at hz hj ⊢; exact g3 hz j hj
        · exact i2 x (by omega) h2 hz j hj
    · rw [b1] at g2; cases g2
theorem pab_no {s : mS} (h : No s) : ∀ n f, f + n = mN s → pab n f s = false ∧ pas n f s = s := by
  intro n
  induction n with
  | zero => intro f _; exact ⟨rfl, rfl⟩
  | succ n ih =>
    intro f e
    rcases p1_cases (s := s) (f := f) (by omega) with ⟨g1, g2, -⟩ | ⟨e', g0, -, -, g3, g4, -⟩
    · obtain ⟨i1, i2⟩ := ih (f + 1) (by omega)
      refine ⟨?_, ?_⟩
      · show (p1b s f || pab n (f + 1) (p1 s f)) = false
        rw [g1, g2, i1]; rfl
      · show pas n (f + 1) (p1 s f) = s
        rw [g2]; exact i2
    · rw [h e' f g0 (by omega) g3] at g4; cases g4
theorem no_of {s : mS} (h : pab (mN s) 0 s = false) : No s := by
  obtain ⟨-, i⟩ := pab_false (mN s) 0 s (by omega) h
  intro e f h1 h2 h3
  exact i f (Nat.zero_le _) h2 h3 e h1
theorem cnt_le {s : mS} : ∀ n, cnt s n ≤ n := by
  intro n
  induction n with
  | zero => exact Nat.le_refl _
  | succ n ih => show cnt s n + _ ≤ _; split <;> omega
theorem mgl_ok : ∀ n (s : mS), cnt s (mN s) < n → Sh s → Lo s → Sh (mgl n s) ∧ Lo (mgl n s) ∧ No (mgl n s) ∧ Sm18 s (mgl n s) := by
  intro n
  induction n with
  | zero => intro s h; omega
  | succ n ih =>
    intro s hc h l
    obtain ⟨h1, l1, k1⟩ := pas_keep (mN s) 0 s (by omega) h l
    have c := cnt_pas (mN s) 0 s (by omega) h l
    have eN : mN (pas (mN s) 0 s) = mN s := by show pas (mN s) 0 s 0 0 = s 0 0; rw [k1 0 (by decide) (by decide)]
    unfold mgl
    by_cases q : pab (mN s) 0 s = true
    · rw [if_pos q] at c ⊢
      obtain ⟨h2, l2, n2, k2⟩ := ih (pas (mN s) 0 s) (by rw [eN]; omega) h1 l1
      exact ⟨h2, l2, n2, fun k k7 k8 => (k2 k k7 k8).trans (k1 k k7 k8)⟩
    · rw [if_neg q]
      have q' : pab (mN s) 0 s = false := Bool.eq_false_iff.mpr q
      have e := (pab_false (mN s) 0 s (by omega) q').1
      refine ⟨h1, l1, ?_, k1⟩
      rw [e]; exact no_of q'
theorem mrg_ok {s : mS} {g h : Nat} (hs : Sh s) (l : Lo s) (hg : g < mG s) (hh : h < mG s) (hc : s 9 (R s g) = s 9 (R s h)) : Sh (mrg s g h) ∧ Lo (mrg s g h) ∧ No (mrg s g h) ∧ Sm18 s (mrg s g h) := by
  obtain ⟨h1, h2, h3, h4⟩ := mgl_ok (mN s + 1) (uni s g h) (Nat.lt_succ_of_le (cnt_le _)) (sh_uni hs) (lo_uni hs l hg hh hc)
  exact ⟨h1, h2, h3, fun k k7 k8 => (h4 k k7 k8).trans (uni_k k7)⟩
/-- two that are one already -/
theorem uni_same {s : mS} {g h : Nat} (hs : Sh s) (hg : g < mG s) (e : R s g = R s h) : uni s g h = s := by
  refine st_id ?_
  funext x
  unfold un up
  by_cases q : x = max (R s g) (R s h)
  · rw [if_pos q, q, ← e, Nat.max_self, Nat.min_self]
    exact (sh_fix hs hg).symm
  · rw [if_neg q]
theorem mrg_same {s : mS} {g h : Nat} (hs : Sh s) (hn : No s) (hg : g < mG s) (e : R s g = R s h) : mrg s g h = s := by
  unfold mrg
  rw [uni_same hs hg e]
  unfold mgl
  obtain ⟨h1, h2⟩ := pab_no hn (mN s) 0 (by omega)
  rw [h1, h2]
  rfl
/-! a new expression -/
def adx (s : mS) (k p x y g : Nat) : mS := st (st (st (st (st (st (st s 8 (up (s 8) (mN s) 0)) 6 (up (s 6) (mN s) g)) 5 (up (s 5) (mN s) y)) 4 (up (s 4) (mN s) x)) 3 (up (s 3) (mN s) p)) 2 (up (s 2) (mN s) k)) 0 (up (s 0) 0 (mN s + 1))
/-- of a group of its own, with these columns -/
def adg (s : mS) (c : Nat) : mS := st (st (st s 9 (up (s 9) (mG s) c)) 7 (up (s 7) (mG s) (mG s))) 1 (up (s 1) 0 (mG s + 1))
theorem new_R {s s' : mS} (h : Sh s) (hR : ∀ g, g < mG s → s' 7 g = s 7 g) {g : Nat} (hg : g < mG s) : R s' g = R s g := rt_congr (sh_dn h) hR g hg
theorem new_ok {s s' : mS} (h : Sh s) (l : Lo s) (hn : No s) (hN : mN s < 144) (eN : mN s' = mN s + 1) (eT : s' 10 0 = s 10 0) (eG : mG s ≤ mG s' ∧ mG s' ≤ mN s + 1)
    (old : ∀ e, e < mN s → s' 2 e = s 2 e ∧ s' 3 e = s 3 e ∧ s' 4 e = s 4 e ∧ s' 5 e = s 5 e ∧ s' 6 e = s 6 e ∧ s' 8 e = s 8 e)
    (hR : ∀ g, g < mG s → s' 7 g = s 7 g) (hR2 : ∀ g, mG s ≤ g → g < mG s' → s' 7 g = g ∧ s' 6 (mN s) = g)
    (hC : ∀ g, g < mG s → s' 9 (R s g) = s 9 (R s g)) (e12 : s' 12 = s 12)
    (k8 : s' 8 (mN s) = 0) (k2 : s' 2 (mN s) = 1 ∨ s' 2 (mN s) = 3 ∨ s' 2 (mN s) = 4 ∨ s' 2 (mN s) = 5 ∨ s' 2 (mN s) = 6) (k6 : s' 6 (mN s) < mG s')
    (p1 : s' 2 (mN s) = 1 → s' 3 (mN s) < s 10 0) (p3 : s' 2 (mN s) = 3 → s' 3 (mN s) < 8) (p4 : 4 ≤ s' 2 (mN s) → s' 3 (mN s) < 4) (kx : s' 2 (mN s) ≠ 1 → s' 4 (mN s) < mG s) (ky : 5 ≤ s' 2 (mN s) → s' 5 (mN s) < mG s)
    (hcol : s' 9 (R s' (s' 6 (mN s))) = xc s' (s' 9) (mN s) ∧ (s' 2 (mN s) = 4 → (s' 9 (R s' (s' 4 (mN s)))).testBit (s' 3 (mN s)) = true)) (h16 : s' 9 (R s' (s' 6 (mN s))) < 16)
    (hno : ∀ e, e < mN s → alk s (s' 2 (mN s)) (s' 3 (mN s)) (s' 4 (mN s)) (s' 5 (mN s)) e = false) : Sh s' ∧ Lo s' ∧ No s' := by
  have dn' : Dn (s' 7) (mG s') := by
    intro g hg
    by_cases q : g < mG s
    · rw [hR g q]; exact sh_dn h g q
    · rw [(hR2 g (by omega) hg).1]; exact Nat.le_refl _
  have rO : ∀ {g}, g < mG s → R s' g = R s g := fun hg => new_R h hR hg
  have rN : ∀ {g}, mG s ≤ g → g < mG s' → R s' g = g := fun h1 h2 => rt_self (hR2 _ h1 h2).1
  obtain ⟨l1, l2, l3, l4⟩ := l
  have split1 : ∀ {e}, e < mN s' → e < mN s ∨ e = mN s := by intro e he; rw [eN] at he; omega
  have O := fun e (he : e < mN s) => old e he
  have H := h.2.2.2.2
  have xcO : ∀ e, e < mN s → xc s' (s' 9) e = xc s (s 9) e := by
    intro e he
    obtain ⟨o2, o3, o4, o5, o6, o8⟩ := O e he
    have He := H e he
    unfold xc
    rw [o2, o3, o4, o5, e12]
    by_cases q1 : s 2 e = 1
    · rw [if_pos q1, if_pos q1]
    · rw [if_neg q1, if_neg q1]
      have hx := He.2.2.2.2.2.2.1 q1
      rw [rO hx, hC _ hx]
      by_cases q4 : s 2 e = 4
      · rw [if_pos q4, if_pos q4]
      · rw [if_neg q4, if_neg q4]
        by_cases q5 : s 2 e = 5
        · have hy := He.2.2.2.2.2.2.2 (by omega)
          rw [if_pos q5, if_pos q5, rO hy, hC _ hy]
        · rw [if_neg q5, if_neg q5]
  have alO : ∀ k p x y e, e < mN s → (k ≠ 1 → x < mG s) → (5 ≤ k → y < mG s) → alk s' k p x y e = alk s k p x y e := by
    intro k p x y e he hx hy
    obtain ⟨o2, o3, o4, o5, o6, o8⟩ := O e he
    have He := H e he
    rw [Bool.eq_iff_iff, alk_iff, alk_iff, o8, o2, o3, o4, o5]
    constructor
    · rintro ⟨a1, a2, a3, a4, a5⟩
      refine ⟨a1, a2, a3, ?_, ?_⟩
      · by_cases q : k = 1
        · exact Or.inl q
        · have := a4.resolve_left q
          rw [rO (He.2.2.2.2.2.2.1 (by omega)), rO (hx q)] at this
          exact Or.inr this
      · by_cases q : k < 5
        · exact Or.inl q
        · have := a5.resolve_left q
          rw [rO (He.2.2.2.2.2.2.2 (by omega)), rO (hy (by omega))] at this
          exact Or.inr this
    · rintro ⟨a1, a2, a3, a4, a5⟩
      refine ⟨a1, a2, a3, ?_, ?_⟩
      · by_cases q : k = 1
        · exact Or.inl q
        · have := a4.resolve_left q
          refine Or.inr ?_
          rw [rO (He.2.2.2.2.2.2.1 (by omega)), rO (hx q)]
          exact this
      · by_cases q : k < 5
        · exact Or.inl q
        · have := a5.resolve_left q
          refine Or.inr ?_
          rw [rO (He.2.2.2.2.2.2.2 (by omega)), rO (hy (by omega))]
          exact this
  refine ⟨⟨by omega, by omega, dn', by rw [eT]; exact h.2.2.2.1, fun e he => ?_⟩, ⟨fun e he hz => ?_, fun g hg => ?_, fun e he hz => ?_, fun g hg => ?_⟩, fun e f h1 h2 h3 => ?_⟩
  · rcases split1 he with q | rfl
    · obtain ⟨o2, o3, o4, o5, o6, o8⟩ := O e q
      obtain ⟨a1, a2, a3, a4, a5, a6, a7, a8⟩ := H e q
      rw [o2, o3, o4, o5, o6, o8, eT]
      exact ⟨by omega, a2, a3, a4, a5, a6, fun z => by have := a7 z; omega, fun z => by have := a8 z; omega⟩
    · rw [eT, k8]
      exact ⟨k6, by omega, k2, p1, p3, p4, fun z => by have := kx z; omega, fun z => by have := ky z; omega⟩
  · rcases split1 he with q | rfl
    · obtain ⟨o2, o3, o4, o5, o6, o8⟩ := O e q
      have He := H e q
      rw [o8] at hz
      obtain ⟨m1, m2⟩ := l1 e q hz
      rw [o2, o4, o5]
      refine ⟨fun z => ?_, fun z => ?_⟩
      · obtain ⟨y, y1, y2, y3⟩ := m1 z
        have hy : y < mN s := Nat.lt_trans y1 q
        obtain ⟨w2, w3, w4, w5, w6, w8⟩ := O y hy
        refine ⟨y, y1, by rw [w8]; exact y2, ?_⟩
        rw [w6, rO (H y hy).1, rO (He.2.2.2.2.2.2.1 z)]; exact y3
      · obtain ⟨y, y1, y2, y3⟩ := m2 z
        have hy : y < mN s := Nat.lt_trans y1 q
        obtain ⟨w2, w3, w4, w5, w6, w8⟩ := O y hy
        refine ⟨y, y1, by rw [w8]; exact y2, ?_⟩
        rw [w6, rO (H y hy).1, rO (He.2.2.2.2.2.2.2 z)]; exact y3
    · refine ⟨fun z => ?_, fun z => ?_⟩
      · obtain ⟨y, y1, y2, y3⟩ := l2 _ (kx z)
        obtain ⟨w2, w3, w4, w5, w6, w8⟩ := O y y1
        refine ⟨y, y1, by rw [w8]; exact y2, ?_⟩
        rw [w6, rO (H y y1).1, rO (kx z)]; exact y3
      · obtain ⟨y, y1, y2, y3⟩ := l2 _ (ky z)
        obtain ⟨w2, w3, w4, w5, w6, w8⟩ := O y y1
        refine ⟨y, y1, by rw [w8]; exact y2, ?_⟩
        rw [w6, rO (H y y1).1, rO (ky z)]; exact y3
  · by_cases q : g < mG s
    · obtain ⟨y, y1, y2, y3⟩ := l2 g q
      obtain ⟨w2, w3, w4, w5, w6, w8⟩ := O y y1
      refine ⟨y, by omega, by rw [w8]; exact y2, ?_⟩
      rw [w6, rO (H y y1).1, rO q]; exact y3
    · refine ⟨mN s, by omega, k8, ?_⟩
      rw [(hR2 g (by omega) hg).2]
  · rcases split1 he with q | rfl
    · obtain ⟨o2, o3, o4, o5, o6, o8⟩ := O e q
      have He := H e q
      rw [o8] at hz
      obtain ⟨m1, m2⟩ := l3 e q hz
      rw [xcO e q, o6, rO He.1, hC _ He.1, o2, o4, o3]
      refine ⟨m1, fun z => ?_⟩
      have hx := He.2.2.2.2.2.2.1 (by omega)
      rw [rO hx, hC _ hx]
      exact m2 z
    · exact hcol
  · by_cases q : g < mG s
    · rw [rO q, hC g q]; exact l4 g q
    · have := (hR2 g (by omega) hg).2
      rw [← this]; exact h16
  · rcases split1 h2 with q | rfl
    · obtain ⟨o2, o3, o4, o5, o6, o8⟩ := O f q
      have Hf := H f q
      rw [o8] at h3
      rw [o2, o3, o4, o5, alO _ _ _ _ e (by omega) Hf.2.2.2.2.2.2.1 Hf.2.2.2.2.2.2.2]
      exact hn e f h1 q h3
    · rw [alO _ _ _ _ e h1 kx ky]
      exact hno e h1
section
variable {s : mS} {k p x y g c : Nat}
theorem adx_0 : adx s k p x y g 0 = up (s 0) 0 (mN s + 1) := rfl
theorem adx_1 : adx s k p x y g 1 = s 1 := rfl
theorem adx_2 : adx s k p x y g 2 = up (s 2) (mN s) k := rfl
theorem adx_3 : adx s k p x y g 3 = up (s 3) (mN s) p := rfl
theorem adx_4 : adx s k p x y g 4 = up (s 4) (mN s) x := rfl
theorem adx_5 : adx s k p x y g 5 = up (s 5) (mN s) y := rfl
theorem adx_6 : adx s k p x y g 6 = up (s 6) (mN s) g := rfl
theorem adx_7 : adx s k p x y g 7 = s 7 := rfl
theorem adx_8 : adx s k p x y g 8 = up (s 8) (mN s) 0 := rfl
theorem adx_9 : adx s k p x y g 9 = s 9 := rfl
theorem adx_10 : adx s k p x y g 10 = s 10 := rfl
theorem adx_11 : adx s k p x y g 11 = s 11 := rfl
theorem adx_12 : adx s k p x y g 12 = s 12 := rfl
theorem adx_13 : adx s k p x y g 13 = s 13 := rfl
theorem adx_14 : adx s k p x y g 14 = s 14 := rfl
theorem adx_15 : adx s k p x y g 15 = s 15 := rfl
theorem adx_16 : adx s k p x y g 16 = s 16 := rfl
theorem adx_17 : adx s k p x y g 17 = s 17 := rfl
theorem adx_18 : adx s k p x y g 18 = s 18 := rfl
theorem adx_19 : adx s k p x y g 19 = s 19 := rfl
theorem adx_20 : adx s k p x y g 20 = s 20 := rfl
theorem adg_0 : adg s c 0 = s 0 := rfl
theorem adg_1 : adg s c 1 = up (s 1) 0 (mG s + 1) := rfl
theorem adg_2 : adg s c 2 = s 2 := rfl
theorem adg_3 : adg s c 3 = s 3 := rfl
theorem adg_4 : adg s c 4 = s 4 := rfl
theorem adg_5 : adg s c 5 = s 5 := rfl
theorem adg_6 : adg s c 6 = s 6 := rfl
theorem adg_7 : adg s c 7 = up (s 7) (mG s) (mG s) := rfl
theorem adg_8 : adg s c 8 = s 8 := rfl
theorem adg_9 : adg s c 9 = up (s 9) (mG s) c := rfl
theorem adg_10 : adg s c 10 = s 10 := rfl
theorem adg_11 : adg s c 11 = s 11 := rfl
theorem adg_12 : adg s c 12 = s 12 := rfl
theorem adg_13 : adg s c 13 = s 13 := rfl
theorem adg_14 : adg s c 14 = s 14 := rfl
theorem adg_15 : adg s c 15 = s 15 := rfl
theorem adg_16 : adg s c 16 = s 16 := rfl
theorem adg_17 : adg s c 17 = s 17 := rfl
theorem adg_18 : adg s c 18 = s 18 := rfl
theorem adg_19 : adg s c 19 = s 19 := rfl
theorem adg_20 : adg s c 20 = s 20 := rfl
end
end PM
