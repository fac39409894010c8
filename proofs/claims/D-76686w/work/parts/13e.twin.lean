set_option linter.unusedVariables false
set_option maxRecDepth 10000
section PT
variable {σ τ : wS} {t F : Nat} {s : mS}
/-! prices: numbers, and which bodies run -/
def bl : Nat → Nat → Nat
  | 0, _ => 0
  | n + 1, v => if v = 0 then 0 else bl n (v / 2) + 1
def rdp (k a b r : Nat) : Nat := if k = 3 ∨ k = 4 ∨ k = 6 then a + b else if k = 5 then a + b + r else if k = 8 then a * 2 else a
def wkp (k a b r : Nat) : Nat := if k = 3 ∨ k = 5 ∨ k = 7 ∨ k = 8 ∨ k = 9 then 0 + r else if k = 4 then 0 + r + b else if k = 6 then 0 + r + a * b else if k = 10 then 0 + a * bl 64 a else 0
def prc (k a b r : Nat) : Nat := if k = 11 then (rdp k a b r + wkp k a b r) * 3 else rdp k a b r + wkp k a b r
def rdl (k : Nat) : List Int32 := if k = 3 ∨ k = 4 ∨ k = 6 then [30, 10] else if k = 5 then [50, 30, 10] else if k = 8 then [80, 10] else [10]
def wkl (k : Nat) : List Int32 := if k = 3 ∨ k = 5 then [31, 11] else if k = 7 ∨ k = 8 ∨ k = 9 then [70, 11] else if k = 4 then [40, 31, 11] else if k = 6 then [60, 31, 11] else if k = 10 then [100, 11] else [11]
def prl (k : Nat) : List Int32 := (if k = 11 then [110, 12] else [12]) ++ rdl k ++ wkl k
abbrev trS : Type := Nat × (Nat → Int32)
def rn1 (x : trS) (b : Int32) : trS := (x.1 + 1, if x.1 < 20 then upd x.2 x.1 b else x.2)
def rnl (x : trS) (l : List Int32) : trS := l.foldl rn1 x
theorem rnl_app {x : trS} {l l' : List Int32} : rnl x (l ++ l') = rnl (rnl x l) l' := List.foldl_append
theorem rnl_1 {x : trS} : ∀ l : List Int32, (rnl x l).1 = x.1 + l.length := by
  intro l
  induction l generalizing x with
  | nil => rfl
  | cons b l ih =>
    show (rnl (rn1 x b) l).1 = _
    rw [ih]
    show x.1 + 1 + l.length = x.1 + (l.length + 1)
    omega
theorem rnl_20 {x : trS} (h : 20 ≤ x.1) : ∀ l : List Int32, (rnl x l).2 = x.2 := by
  intro l
  induction l generalizing x with
  | nil => rfl
  | cons b l ih =>
    show (rnl (rn1 x b) l).2 = _
    rw [ih (x := rn1 x b) (by show 20 ≤ x.1 + 1; omega)]
    show (if x.1 < 20 then _ else x.2) = x.2
    rw [if_neg (by omega)]
abbrev GR : List Nat := [2507, 2562]
def TB (σ : wS) (t : Nat) (x : trS) : Prop := oI σ 2507 t = nI x.1 ∧ aI σ 2562 t = x.2
theorem t_runs {Q : wS → Prop} {x : trS} {b : Int32} (hk : ok24 σ t) (h : TB σ t x) (hx : x.1 < 1000) (hQ : ∀ τ, Tw GR t σ τ → TB τ t (rn1 x b) → Q τ) : w_X24_runs σ t b Q := by
  refine ⟨hk, ?_⟩
  rw [h.1, nIl_20]
  by_cases c : 20 ≤ x.1
  · rw [if_pos (nI_le c (lt31 (by omega)))]
    refine bnd_sI fun τ w v a _ => hQ τ (w.mono (by simp)) ⟨?_, ?_⟩
    · rw [v, ← nI_succ]; rfl
    · show aI τ 2562 t = (if x.1 < 20 then _ else x.2)
      rw [if_neg (by omega), a, h.2]
  · rw [if_neg (nI_ge (by omega) (by decide))]
    refine ⟨vp_in_nI (by omega) (by decide), bnd_sA fun σ1 w1 v1 o1 _ => ?_⟩
    rw [o1, h.1]
    rw [nI_clamp (lt31 (by omega)), h.2] at v1
    refine bnd_sI fun τ w v a _ => hQ τ ((Tw.refl.up w1 (by decide)).up w (by decide)) ⟨?_, ?_⟩
    · rw [v, ← nI_succ]; rfl
    · show aI τ 2562 t = (if x.1 < 20 then _ else x.2)
      rw [if_pos (by omega), a, v1]
theorem t_under {Q : Int32 → wS → Prop} {k u : Nat} (hk : k = 1 ∧ u = 0 ∨ k = 2 ∧ u = 0 ∨ k = 4 ∧ u = 3 ∨ k = 5 ∧ u = 3 ∨ k = 6 ∧ u = 3 ∨ k = 7 ∧ u = 0 ∨ k = 8 ∧ u = 7 ∨ k = 9 ∧ u = 7 ∨ k = 10 ∧ u = 0 ∨ k = 11 ∧ u = 0) (h : Q (nI u) σ) : w_X24_under σ (nI k) Q := by
  unfold w_X24_under
  have e : (if nI k = 0 then (-1 : Int32) else if nI k < (4 : Int32) then if nI k = (8 : Int32) then (7 : Int32) else if nI k = (9 : Int32) then (7 : Int32) else (0 : Int32) else if (6 : Int32) < nI k then if nI k = (8 : Int32) then (7 : Int32) else if nI k = (9 : Int32) then (7 : Int32) else (0 : Int32) else (3 : Int32)) = nI u := by
    rcases hk with ⟨rfl, rfl⟩ | ⟨rfl, rfl⟩ | ⟨rfl, rfl⟩ | ⟨rfl, rfl⟩ | ⟨rfl, rfl⟩ | ⟨rfl, rfl⟩ | ⟨rfl, rfl⟩ | ⟨rfl, rfl⟩ | ⟨rfl, rfl⟩ | ⟨rfl, rfl⟩ <;> decide
  rw [e]; exact h
/-- what a call with this fuel does -/
def RdC (P : Nat → wS → Nat → Int32 → Int64 → Int64 → Int64 → (Int64 → wS → Prop) → Prop) (t : Nat) (R k : Nat) (l : List Int32) (a2 a4 a6 v : Int64) : Prop := ∀ (σ : wS) (x : trS) (Q : Int64 → wS → Prop), ok24 σ t → TB σ t x → x.1 + R < 1000 → (∀ τ, Tw GR t σ τ → TB τ t (rnl x l) → Q v τ) → P R σ t (nI k) a2 a4 a6 Q
section
variable {P : Nat → wS → Nat → Int32 → Int64 → Int64 → Int64 → (Int64 → wS → Prop) → Prop}
theorem rd_end {R k : Nat} {b : Int32} {a2 a4 a6 v : Int64} (e : ∀ (σ : wS) (Q : Int64 → wS → Prop), (ok24 σ t ∧ w_X24_runs σ t b (fun σ1 => Q v σ1)) → P (R + 1) σ t (nI k) a2 a4 a6 Q) : RdC P t (R + 1) k [b] a2 a4 a6 v := by
  intro σ x Q ok h hx hQ
  exact e σ Q ⟨ok, t_runs ok h (by omega) (fun τ w B => hQ τ w B)⟩
theorem rd_run {R k k' : Nat} {b : Int32} {l : List Int32} {a2 a4 a6 v : Int64} {g : Int64 → Int64} (h0 : RdC P t R k' l a2 a4 a6 v)
    (e : ∀ (σ : wS) (Q : Int64 → wS → Prop), (ok24 σ t ∧ w_X24_runs σ t b (fun σ1 => P R σ1 t (nI k') a2 a4 a6 (fun r σ2 => Q (g r) σ2))) → P (R + 1) σ t (nI k) a2 a4 a6 Q) : RdC P t (R + 1) k (b :: l) a2 a4 a6 (g v) := by
  intro σ x Q ok h hx hQ
  refine e σ Q ⟨ok, t_runs ok h (by omega) (fun τ w B => ?_)⟩
  refine h0 τ (rn1 x b) _ (w.ok ok) B (by show x.1 + 1 + R < 1000; omega) (fun υ w2 B2 => ?_)
  exact hQ υ (w.trans w2) B2
theorem rd_up {R k u : Nat} {l : List Int32} {a2 a4 a6 v : Int64} (h0 : RdC P t R u l a2 a4 a6 v) (hk : k = 1 ∧ u = 0 ∨ k = 2 ∧ u = 0 ∨ k = 4 ∧ u = 3 ∨ k = 5 ∧ u = 3 ∨ k = 6 ∧ u = 3 ∨ k = 7 ∧ u = 0 ∨ k = 8 ∧ u = 7 ∨ k = 9 ∧ u = 7 ∨ k = 10 ∧ u = 0 ∨ k = 11 ∧ u = 0)
    (e : ∀ (σ : wS) (Q : Int64 → wS → Prop), w_X24_under σ (nI k) (fun r σ1 => ok24 σ1 t ∧ P R σ1 t r a2 a4 a6 (fun r σ2 => Q r σ2)) → P (R + 1) σ t (nI k) a2 a4 a6 Q) : RdC P t (R + 1) k l a2 a4 a6 v := by
  intro σ x Q ok h hx hQ
  exact e σ Q (t_under hk ⟨ok, h0 σ x _ ok h (by omega) hQ⟩)
end
theorem rd_0 {R : Nat} {a2 a4 a6 : Int64} : RdC w_X24_reads_2 t (R + 1) 0 [10] a2 a4 a6 (a2) :=
  rd_end (v := a2) (fun σ Q h => by show wm_X24_reads_2 (w_X24_reads_2 _) σ t 0 a2 a4 a6 Q; unfold wm_X24_reads_2; rw [if_pos rfl]; exact h)
theorem rd_1 {R : Nat} {a2 a4 a6 : Int64} : RdC w_X24_reads_2 t (R + 2) 1 [10] a2 a4 a6 (a2) :=
  rd_up rd_0 (by decide) (fun σ Q h => by show wm_X24_reads_2 (w_X24_reads_2 _) σ t 1 a2 a4 a6 Q; unfold wm_X24_reads_2; rw [if_neg (by decide), if_pos rfl]; exact h)
theorem rd_2 {R : Nat} {a2 a4 a6 : Int64} : RdC w_X24_reads_2 t (R + 2) 2 [10] a2 a4 a6 (a2) :=
  rd_up rd_0 (by decide) (fun σ Q h => by show wm_X24_reads_2 (w_X24_reads_2 _) σ t 2 a2 a4 a6 Q; unfold wm_X24_reads_2; rw [if_neg (by decide), if_neg (by decide), if_pos rfl]; exact h)
theorem rd_3 {R : Nat} {a2 a4 a6 : Int64} : RdC w_X24_reads_2 t (R + 2) 3 [30, 10] a2 a4 a6 (a2 + a4) :=
  rd_run (g := fun r => r + a4) rd_0 (fun σ Q h => by show wm_X24_reads_2 (w_X24_reads_2 _) σ t 3 a2 a4 a6 Q; unfold wm_X24_reads_2; rw [if_neg (by decide), if_neg (by decide), if_neg (by decide), if_pos rfl]; exact h)
theorem rd_4 {R : Nat} {a2 a4 a6 : Int64} : RdC w_X24_reads_2 t (R + 3) 4 [30, 10] a2 a4 a6 (a2 + a4) :=
  rd_up rd_3 (by decide) (fun σ Q h => by show wm_X24_reads_2 (w_X24_reads_2 _) σ t 4 a2 a4 a6 Q; unfold wm_X24_reads_2; rw [if_neg (by decide), if_neg (by decide), if_neg (by decide), if_neg (by decide), if_pos rfl]; exact h)
theorem rd_5 {R : Nat} {a2 a4 a6 : Int64} : RdC w_X24_reads_2 t (R + 3) 5 [50, 30, 10] a2 a4 a6 (a2 + a4 + a6) :=
  rd_run (g := fun r => r + a6) rd_3 (fun σ Q h => by show wm_X24_reads_2 (w_X24_reads_2 _) σ t 5 a2 a4 a6 Q; unfold wm_X24_reads_2; rw [if_neg (by decide), if_neg (by decide), if_neg (by decide), if_neg (by decide), if_neg (by decide), if_pos rfl]; exact h)
theorem rd_6 {R : Nat} {a2 a4 a6 : Int64} : RdC w_X24_reads_2 t (R + 3) 6 [30, 10] a2 a4 a6 (a2 + a4) :=
  rd_up rd_3 (by decide) (fun σ Q h => by show wm_X24_reads_2 (w_X24_reads_2 _) σ t 6 a2 a4 a6 Q; unfold wm_X24_reads_2; rw [if_neg (by decide), if_neg (by decide), if_neg (by decide), if_neg (by decide), if_neg (by decide), if_neg (by decide), if_pos rfl]; exact h)
theorem rd_7 {R : Nat} {a2 a4 a6 : Int64} : RdC w_X24_reads_2 t (R + 2) 7 [10] a2 a4 a6 (a2) :=
  rd_up rd_0 (by decide) (fun σ Q h => by show wm_X24_reads_2 (w_X24_reads_2 _) σ t 7 a2 a4 a6 Q; unfold wm_X24_reads_2; rw [if_neg (by decide), if_neg (by decide), if_neg (by decide), if_neg (by decide), if_neg (by decide), if_neg (by decide), if_neg (by decide), if_pos rfl]; exact h)
theorem rd_8 {R : Nat} {a2 a4 a6 : Int64} : RdC w_X24_reads_2 t (R + 3) 8 [80, 10] a2 a4 a6 (a2 * 2) :=
  rd_run (g := fun r => r * 2) rd_7 (fun σ Q h => by show wm_X24_reads_2 (w_X24_reads_2 _) σ t 8 a2 a4 a6 Q; unfold wm_X24_reads_2; rw [if_neg (by decide), if_neg (by decide), if_neg (by decide), if_neg (by decide), if_neg (by decide), if_neg (by decide), if_neg (by decide), if_neg (by decide), if_pos rfl]; exact h)
theorem rd_9 {R : Nat} {a2 a4 a6 : Int64} : RdC w_X24_reads_2 t (R + 3) 9 [10] a2 a4 a6 (a2) :=
  rd_up rd_7 (by decide) (fun σ Q h => by show wm_X24_reads_2 (w_X24_reads_2 _) σ t 9 a2 a4 a6 Q; unfold wm_X24_reads_2; rw [if_neg (by decide), if_neg (by decide), if_neg (by decide), if_neg (by decide), if_neg (by decide), if_neg (by decide), if_neg (by decide), if_neg (by decide), if_neg (by decide)]; exact h)
theorem rd_10 {R : Nat} {a2 a4 a6 : Int64} : RdC w_X24_reads_2 t (R + 2) 10 [10] a2 a4 a6 (a2) :=
  rd_up rd_0 (by decide) (fun σ Q h => by show wm_X24_reads_2 (w_X24_reads_2 _) σ t 10 a2 a4 a6 Q; unfold wm_X24_reads_2; rw [if_neg (by decide), if_neg (by decide), if_neg (by decide), if_neg (by decide), if_neg (by decide), if_neg (by decide), if_neg (by decide), if_neg (by decide), if_neg (by decide)]; exact h)
theorem rd_11 {R : Nat} {a2 a4 a6 : Int64} : RdC w_X24_reads_2 t (R + 2) 11 [10] a2 a4 a6 (a2) :=
  rd_up rd_0 (by decide) (fun σ Q h => by show wm_X24_reads_2 (w_X24_reads_2 _) σ t 11 a2 a4 a6 Q; unfold wm_X24_reads_2; rw [if_neg (by decide), if_neg (by decide), if_neg (by decide), if_neg (by decide), if_neg (by decide), if_neg (by decide), if_neg (by decide), if_neg (by decide), if_neg (by decide)]; exact h)
theorem wk_0 {R : Nat} {a2 a4 a6 : Int64} : RdC (w_X24_works F) t (R + 1) 0 [11] a2 a4 a6 (0) :=
  rd_end (v := 0) (fun σ Q h => by show wm_X24_works F (w_X24_works F _) σ t 0 a2 a4 a6 Q; unfold wm_X24_works; rw [if_pos rfl]; exact h)
theorem wk_1 {R : Nat} {a2 a4 a6 : Int64} : RdC (w_X24_works F) t (R + 2) 1 [11] a2 a4 a6 (0) :=
  rd_up wk_0 (by decide) (fun σ Q h => by show wm_X24_works F (w_X24_works F _) σ t 1 a2 a4 a6 Q; unfold wm_X24_works; rw [if_neg (by decide), if_pos rfl]; exact h)
theorem wk_2 {R : Nat} {a2 a4 a6 : Int64} : RdC (w_X24_works F) t (R + 2) 2 [11] a2 a4 a6 (0) :=
  rd_up wk_0 (by decide) (fun σ Q h => by show wm_X24_works F (w_X24_works F _) σ t 2 a2 a4 a6 Q; unfold wm_X24_works; rw [if_neg (by decide), if_neg (by decide), if_pos rfl]; exact h)
theorem wk_3 {R : Nat} {a2 a4 a6 : Int64} : RdC (w_X24_works F) t (R + 2) 3 [31, 11] a2 a4 a6 (0 + a6) :=
  rd_run (g := fun r => r + a6) wk_0 (fun σ Q h => by show wm_X24_works F (w_X24_works F _) σ t 3 a2 a4 a6 Q; unfold wm_X24_works; rw [if_neg (by decide), if_neg (by decide), if_neg (by decide), if_pos rfl]; exact h)
theorem wk_4 {R : Nat} {a2 a4 a6 : Int64} : RdC (w_X24_works F) t (R + 3) 4 [40, 31, 11] a2 a4 a6 (0 + a6 + a4) :=
  rd_run (g := fun r => r + a4) wk_3 (fun σ Q h => by show wm_X24_works F (w_X24_works F _) σ t 4 a2 a4 a6 Q; unfold wm_X24_works; rw [if_neg (by decide), if_neg (by decide), if_neg (by decide), if_neg (by decide), if_pos rfl]; exact h)
theorem wk_5 {R : Nat} {a2 a4 a6 : Int64} : RdC (w_X24_works F) t (R + 3) 5 [31, 11] a2 a4 a6 (0 + a6) :=
  rd_up wk_3 (by decide) (fun σ Q h => by show wm_X24_works F (w_X24_works F _) σ t 5 a2 a4 a6 Q; unfold wm_X24_works; rw [if_neg (by decide), if_neg (by decide), if_neg (by decide), if_neg (by decide), if_neg (by decide), if_pos rfl]; exact h)
theorem wk_6 {R : Nat} {a2 a4 a6 : Int64} : RdC (w_X24_works F) t (R + 3) 6 [60, 31, 11] a2 a4 a6 (0 + a6 + a2 * a4) :=
  rd_run (g := fun r => r + a2 * a4) wk_3 (fun σ Q h => by show wm_X24_works F (w_X24_works F _) σ t 6 a2 a4 a6 Q; unfold wm_X24_works; rw [if_neg (by decide), if_neg (by decide), if_neg (by decide), if_neg (by decide), if_neg (by decide), if_neg (by decide), if_pos rfl]; exact h)
theorem wk_7 {R : Nat} {a2 a4 a6 : Int64} : RdC (w_X24_works F) t (R + 2) 7 [70, 11] a2 a4 a6 (0 + a6) :=
  rd_run (g := fun r => r + a6) wk_0 (fun σ Q h => by show wm_X24_works F (w_X24_works F _) σ t 7 a2 a4 a6 Q; unfold wm_X24_works; rw [if_neg (by decide), if_neg (by decide), if_neg (by decide), if_neg (by decide), if_neg (by decide), if_neg (by decide), if_neg (by decide), if_pos rfl]; exact h)
theorem wk_8 {R : Nat} {a2 a4 a6 : Int64} : RdC (w_X24_works F) t (R + 3) 8 [70, 11] a2 a4 a6 (0 + a6) :=
  rd_up wk_7 (by decide) (fun σ Q h => by show wm_X24_works F (w_X24_works F _) σ t 8 a2 a4 a6 Q; unfold wm_X24_works; rw [if_neg (by decide), if_neg (by decide), if_neg (by decide), if_neg (by decide), if_neg (by decide), if_neg (by decide), if_neg (by decide), if_neg (by decide), if_pos rfl]; exact h)
theorem wk_9 {R : Nat} {a2 a4 a6 : Int64} : RdC (w_X24_works F) t (R + 3) 9 [70, 11] a2 a4 a6 (0 + a6) :=
  rd_up wk_7 (by decide) (fun σ Q h => by show wm_X24_works F (w_X24_works F _) σ t 9 a2 a4 a6 Q; unfold wm_X24_works; rw [if_neg (by decide), if_neg (by decide), if_neg (by decide), if_neg (by decide), if_neg (by decide), if_neg (by decide), if_neg (by decide), if_neg (by decide), if_neg (by decide), if_pos rfl]; exact h)
theorem wk_11 {R : Nat} {a2 a4 a6 : Int64} : RdC (w_X24_works F) t (R + 2) 11 [11] a2 a4 a6 (0) :=
  rd_up wk_0 (by decide) (fun σ Q h => by show wm_X24_works F (w_X24_works F _) σ t 11 a2 a4 a6 Q; unfold wm_X24_works; rw [if_neg (by decide), if_neg (by decide), if_neg (by decide), if_neg (by decide), if_neg (by decide), if_neg (by decide), if_neg (by decide), if_neg (by decide), if_neg (by decide), if_neg (by decide), if_neg (by decide)]; exact h)
theorem t_digits {rc : wS → Nat → Int32 → Int64 → Int64 → Int64 → (Int64 → wS → Prop) → Prop} {Q : Int64 → wS → Prop} {k : wS → Int64 → Prop} {a2 a4 a6 : Int64} : ∀ m n x v, v < 2 ^ m → v < 2 ^ 62 → m < n → k σ (lN (x + bl m v)) → l_X24_works_162 F rc t a2 a4 a6 Q k n σ (lN x) (lN v) := by
  intro m
  induction m with
  | zero =>
    intro n x v h1 _ h2 hk
    cases n with
    | zero => omega
    | succ n =>
      have : v = 0 := by omega
      subst this
      show (if lN 0 ≤ (0 : Int64) then _ else _)
      rw [if_pos (by decide)]
      exact hk
  | succ m ih =>
    intro n x v h1 h3 h2 hk
    cases n with
    | zero => omega
    | succ n =>
      unfold bl at hk
      show (if lN v ≤ (0 : Int64) then _ else _)
      by_cases c : v = 0
      · subst c
        rw [if_pos (by decide)]
        exact hk
      · rw [if_neg c] at hk
        rw [if_neg (fun z => c (by have := (pk_lLE (b := 0) (by omega) (by decide)).mp z; omega))]
        have e1 : lN v / (2 : Int64) = lN (v / 2) := pk_lDiv (b := 2) (by omega) (by decide) (by decide)
        rw [e1, lN_1]
        exact ih n (x + 1) (v / 2) (by rw [Nat.pow_succ] at h1; omega) (by omega) (by omega) (by rw [show x + 1 + bl m (v / 2) = x + (bl m (v / 2) + 1) by omega]; exact hk)
theorem wk_10 {R a : Nat} {a4 a6 : Int64} (ha : a < 2 ^ 62) (hF : 100 ≤ F) : RdC (w_X24_works F) t (R + 2) 10 [100, 11] (lN a) a4 a6 (0 + lN a * lN (bl 64 a)) := by
  intro σ x Q ok h hx hQ
  show wm_X24_works F (w_X24_works F _) σ t 10 (lN a) a4 a6 Q
  unfold wm_X24_works
  rw [if_neg (by decide), if_neg (by decide), if_neg (by decide), if_neg (by decide), if_neg (by decide), if_neg (by decide), if_neg (by decide), if_neg (by decide), if_neg (by decide), if_neg (by decide), if_pos rfl]
  refine ⟨ok, t_runs ok h (by omega) (fun τ w B => ?_)⟩
  refine t_digits 64 F 0 a (Nat.lt_of_lt_of_le ha (by decide)) ha (by omega) ?_
  refine ⟨w.ok ok, wk_0 τ (rn1 x 100) _ (w.ok ok) B (by show x.1 + 1 + _ < 1000; omega) (fun υ w2 B2 => ?_)⟩
  rw [Nat.zero_add]
  exact hQ υ (w.trans w2) B2
theorem t_reads {k a b r : Nat} (hk : k < 12) : RdC w_X24_reads_2 t 5 k (rdl k) (lN a) (lN b) (lN r) (lN (rdp k a b r)) := by
  have h2 : (2 : Int64) = lN 2 := rfl
  match k, hk with
  | 0, _ => exact rd_0
  | 1, _ => exact rd_1
  | 2, _ => exact rd_2
  | 3, _ => have := rd_3 (t := t) (R := 3) (a2 := lN a) (a4 := lN b) (a6 := lN r); rw [lN_add] at this; exact this
  | 4, _ => have := rd_4 (t := t) (R := 2) (a2 := lN a) (a4 := lN b) (a6 := lN r); rw [lN_add] at this; exact this
  | 5, _ => have := rd_5 (t := t) (R := 2) (a2 := lN a) (a4 := lN b) (a6 := lN r); rw [lN_add, lN_add] at this; exact this
  | 6, _ => have := rd_6 (t := t) (R := 2) (a2 := lN a) (a4 := lN b) (a6 := lN r); rw [lN_add] at this; exact this
  | 7, _ => exact rd_7
  | 8, _ => have := rd_8 (t := t) (R := 2) (a2 := lN a) (a4 := lN b) (a6 := lN r); rw [h2, lN_mul] at this; exact this
  | 9, _ => exact rd_9
  | 10, _ => exact rd_10
  | 11, _ => exact rd_11
theorem t_works {k a b r : Nat} (hk : k < 12) (ha : a < 2 ^ 62) (hF : 100 ≤ F) : RdC (w_X24_works F) t 5 k (wkl k) (lN a) (lN b) (lN r) (lN (wkp k a b r)) := by
  have h0 : (0 : Int64) = lN 0 := rfl
  match k, hk with
  | 0, _ => exact wk_0
  | 1, _ => exact wk_1
  | 2, _ => exact wk_2
  | 3, _ => have := wk_3 (F := F) (t := t) (R := 3) (a2 := lN a) (a4 := lN b) (a6 := lN r); rw [h0, lN_add] at this; exact this
  | 4, _ => have := wk_4 (F := F) (t := t) (R := 2) (a2 := lN a) (a4 := lN b) (a6 := lN r); rw [h0, lN_add, lN_add] at this; exact this
  | 5, _ => have := wk_5 (F := F) (t := t) (R := 2) (a2 := lN a) (a4 := lN b) (a6 := lN r); rw [h0, lN_add] at this; exact this
  | 6, _ => have := wk_6 (F := F) (t := t) (R := 2) (a2 := lN a) (a4 := lN b) (a6 := lN r); rw [h0, lN_mul, lN_add, lN_add] at this; exact this
  | 7, _ => have := wk_7 (F := F) (t := t) (R := 3) (a2 := lN a) (a4 := lN b) (a6 := lN r); rw [h0, lN_add] at this; exact this
  | 8, _ => have := wk_8 (F := F) (t := t) (R := 2) (a2 := lN a) (a4 := lN b) (a6 := lN r); rw [h0, lN_add] at this; exact this
  | 9, _ => have := wk_9 (F := F) (t := t) (R := 2) (a2 := lN a) (a4 := lN b) (a6 := lN r); rw [h0, lN_add] at this; exact this
  | 10, _ => have := wk_10 (F := F) (t := t) (R := 3) (a := a) (a4 := lN b) (a6 := lN r) ha hF; rw [h0, lN_mul, lN_add] at this; exact this
  | 11, _ => exact wk_11
theorem t_priceOf {Q : Int64 → wS → Prop} {x : trS} {k a b r : Nat} (ok : ok24 σ t) (h : TB σ t x) (hx : x.1 < 900) (hk : k < 12) (ha : a < 2 ^ 62) (hF : 100 ≤ F) (hQ : ∀ τ, Tw GR t σ τ → TB τ t (rnl x (prl k)) → Q (lN (prc k a b r)) τ) : w_X24_priceOf F σ t (nI k) (lN a) (lN b) (lN r) Q := by
  unfold w_X24_priceOf
  have core : ∀ (l : List Int32) (υ : wS) (K : Int64 → Int64 → wS → Prop), l.length < 10 → Tw GR t σ υ → TB υ t (rnl x l) → (∀ τ, Tw GR t σ τ → TB τ t (rnl x (l ++ rdl k ++ wkl k)) → K (lN (rdp k a b r)) (lN (wkp k a b r)) τ) → w_X24_reads_2 5 υ t (nI k) (lN a) (lN b) (lN r) (fun r6 σ7 => w_X24_works F 5 σ7 t (nI k) (lN a) (lN b) (lN r) (fun r9 σ10 => K r6 r9 σ10)) := by
    intro l υ K hl w B hK
    have n1 := rnl_1 (x := x) l
    refine t_reads hk υ _ _ (w.ok ok) B (by omega) (fun τ1 w1 B1 => ?_)
    have n2 := rnl_1 (x := rnl x l) (rdl k)
    have n3 : (rdl k).length ≤ 3 := by unfold rdl; split <;> (try split) <;> (try split) <;> decide
    refine t_works hk ha hF τ1 _ _ ((w.trans w1).ok ok) B1 (by omega) (fun τ2 w2 B2 => ?_)
    refine hK τ2 ((w.trans w1).trans w2) ?_
    rw [rnl_app, rnl_app]
    exact B2
  by_cases c : k = 11
  · subst c
    rw [if_pos (show nI 11 = (11 : Int32) from rfl)]
    refine ⟨ok, t_runs ok h (by omega) (fun τ w B => t_runs (w.ok ok) B (by show x.1 + 1 < 1000; omega) (fun τ2 w2 B2 => ?_))⟩
    refine core [110, 12] τ2 (fun r19 r22 σ23 => Q ((r19 + r22) * (3 : Int64)) σ23) (by decide) (w.trans w2) B2 (fun υ w3 B3 => ?_)
    have := hQ υ w3 B3
    rw [show (3 : Int64) = lN 3 from rfl, lN_add, lN_mul]
    exact this
  · rw [if_neg (show ¬ nI k = (11 : Int32) from nI_eqf (by omega) (by decide) c)]
    refine ⟨ok, t_runs ok h (by omega) (fun τ w B => ?_)⟩
    refine core [12] τ (fun r6 r9 σ10 => Q (r6 + r9) σ10) (by decide) w B (fun υ w3 B3 => ?_)
    rw [lN_add]
    unfold prl prc at hQ
    rw [if_neg c, if_neg c] at hQ
    exact hQ υ w3 B3
/-- a price that leaves no trace -/
theorem t_silent {Q : Int64 → wS → Prop} {k a b r : Nat} (ok : ok24 σ t) (hk : k < 12) (ha : a < 2 ^ 62) (hF : 100 ≤ F) (hQ : ∀ τ, Tw GR t σ τ → oI τ 2507 t = oI σ 2507 t → aI τ 2562 t = aI σ 2562 t → Q (lN (prc k a b r)) τ) : w_X24_silent F σ t (nI k) (lN a) (lN b) (lN r) Q := by
  refine ⟨ok, bnd_sI fun σ1 w1 v1 a1 _ => ?_⟩
  refine t_priceOf (x := (20, aI σ 2562 t)) (w1.ok ok) ⟨v1, by rw [a1]⟩ (show 20 < 900 by decide) hk ha hF (fun τ w B => ?_)
  refine bnd_sI fun υ w2 v2 a2 _ => hQ υ (((w1.mono (by simp)).trans w).up w2 (by decide)) v2 ?_
  have e := B.2
  rw [rnl_20 (show 20 ≤ 20 by decide)] at e
  rw [a2, e]
end PT
