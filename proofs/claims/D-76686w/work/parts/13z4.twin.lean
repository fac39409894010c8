set_option linter.unusedVariables false
set_option maxRecDepth 10000
/-! ===== twin: images ===== -/
section PT
variable {σ τ υ : wS} {t F : Nat} {s : mS} {S : gS}
theorem nIl_130 : (130 : Int32) = nI 130 := rfl
theorem nIl_270 : (270 : Int32) = nI 270 := rfl
theorem nIl_340 : (340 : Int32) = nI 340 := rfl
theorem nIl_410 : (410 : Int32) = nI 410 := rfl
/-- what stays of object t, where arrays may come -/
def Tk (G : List Nat) (t : Nat) (σ τ : wS) : Prop := (ok24 σ t → ok24 τ t) ∧ ∀ g, g ∉ G → oI τ g t = oI σ g t ∧ aI τ g t = aI σ g t ∧ aJ τ g t = aJ σ g t
theorem Tk.I {G : List Nat} (h : Tk G t σ τ) {g : Nat} (hg : g ∉ G) : oI τ g t = oI σ g t := (h.2 g hg).1
theorem Tk.A {G : List Nat} (h : Tk G t σ τ) {g : Nat} (hg : g ∉ G) : aI τ g t = aI σ g t := (h.2 g hg).2.1
theorem Tk.AJ {G : List Nat} (h : Tk G t σ τ) {g : Nat} (hg : g ∉ G) : aJ τ g t = aJ σ g t := (h.2 g hg).2.2
theorem Tw.tk {G : List Nat} (h : Tw G t σ τ) : Tk G t σ τ := ⟨h.ok, fun g hg => ⟨h.I hg, h.A hg, h.AJ hg⟩⟩
theorem Tk.trans {G : List Nat} (h : Tk G t σ τ) (k : Tk G t τ υ) : Tk G t σ υ := ⟨fun x => k.1 (h.1 x), fun g hg => by
  obtain ⟨a, b, c⟩ := h.2 g hg
  obtain ⟨d, e, f⟩ := k.2 g hg
  exact ⟨d.trans a, e.trans b, f.trans c⟩⟩
theorem Tk.mono {G G' : List Nat} (h : Tk G t σ τ) (k : ∀ g ∈ G, g ∈ G') : Tk G' t σ τ := ⟨h.1, fun g hg => h.2 g (fun z => hg (k g z))⟩
theorem TM.tk {G : List Nat} (h : TM σ t s) (k : Tk G t σ τ) (d : ∀ g ∈ GM, g ∉ G) : TM τ t s := by
  obtain ⟨⟨a1, a2, a3, a4⟩, b, c, e, f⟩ := h
  refine ⟨⟨k.1 a1, ?_, ?_, ?_⟩, fun x hx => ?_, fun g hg => ?_, fun i hi => ?_, fun i hi => ?_⟩
  · rw [k.I (d _ (by decide))]; exact a2
  · rw [k.I (d _ (by decide))]; exact a3
  · rw [k.I (d _ (by decide))]; exact a4
  · rw [k.A (d 2515 (by decide)), k.A (d 2516 (by decide)), k.A (d 2517 (by decide)), k.A (d 2518 (by decide)), k.A (d 2519 (by decide)), k.A (d 22521 (by decide))]; exact b x hx
  · rw [k.A (d 2520 (by decide))]; exact c g hg
  · rw [k.A (d 2511 (by decide)), k.A (d 2512 (by decide))]; exact e i hi
  · rw [k.A (d 2510 (by decide))]; exact f i hi
theorem TXo.tk {G : List Nat} (h : TXo σ t s) (k : Tk G t σ τ) (d : ∀ g ∈ [2504, 2513, 2514], g ∉ G) : TXo τ t s := by
  refine ⟨by rw [k.I (d _ (by decide))]; exact h.1, fun i hi => ?_⟩
  rw [k.A (d 2513 (by decide)), k.A (d 2514 (by decide))]; exact h.2 i hi
theorem TF.tk {G : List Nat} (h : TF σ t s) (k : Tk G t σ τ) (d : ∀ g ∈ [22522, 2523, 2503], g ∉ G) : TF τ t s := by
  refine ⟨fun i hi => ?_, fun i hi => ?_, ?_⟩
  · rw [k.A (d 22522 (by decide))]; exact h.1 i hi
  · rw [k.A (d 2523 (by decide))]; exact h.2.1 i hi
  · rw [k.I (d 2503 (by decide))]; exact h.2.2
theorem TR.tk {A : mS} {G : List Nat} (h : TR σ t A) (k : Tk G t σ τ) (d : ∀ g ∈ [2509], g ∉ G) : TR τ t A := by
  intro i hi
  rw [k.A (d _ (by decide))]; exact h i hi
theorem TS.tk {A : mS} {G : List Nat} (h : TS σ t A) (k : Tk G t σ τ) (d : ∀ g ∈ [2524, 2525, 2526, 2527], g ∉ G) : TS τ t A := by
  intro i hi
  rw [k.A (d 2524 (by decide)), k.A (d 2525 (by decide)), k.A (d 2526 (by decide)), k.A (d 2527 (by decide))]; exact h i hi
theorem TC.tk {c : Nat → Int64} {G : List Nat} (h : TC σ t c) (k : Tk G t σ τ) (d : ∀ g ∈ [12528], g ∉ G) : TC τ t c := by
  intro i hi
  rw [k.AJ (d _ (by decide))]; exact h i hi
theorem TZ.tk {G : List Nat} (h : TZ σ t S) (k : Tk G t σ τ) (d : ∀ g ∈ [2505, 2506, 2507, 2562], g ∉ G) : TZ τ t S := by
  refine ⟨?_, ?_, ?_, ?_⟩
  · rw [k.I (d _ (by decide))]; exact h.1
  · rw [k.I (d _ (by decide))]; exact h.2.1
  · rw [k.I (d _ (by decide))]; exact h.2.2.1
  · rw [k.A (d _ (by decide))]; exact h.2.2.2
theorem TP.tk {A : mS} {G : List Nat} (h : TP σ t A) (k : Tk G t σ τ) (d : ∀ g ∈ [2508, 2542, 2543, 2544, 2545, 2546, 2547, 2548, 2549, 12551], g ∉ G) : TP τ t A := by
  refine ⟨by rw [k.I (d _ (by decide))]; exact h.1, fun i hi => ?_⟩
  rw [k.A (d 2542 (by decide)), k.A (d 2543 (by decide)), k.A (d 2544 (by decide)), k.A (d 2545 (by decide)), k.A (d 2546 (by decide)), k.A (d 2547 (by decide)), k.A (d 2548 (by decide)), k.A (d 2549 (by decide)), k.AJ (d 12551 (by decide))]
  exact h.2 i hi
/-- a new array, moved to a field of t -/
def Nw (g f n t : Nat) (σ τ : wS) : Prop := Tk [g] t σ τ ∧ Tu t σ τ ∧ aN τ g t = some n ∧ (∀ g', g' ≠ g → aN τ g' t = aN σ g' t) ∧ rC σ = rC τ + 1 ∧ rS σ = rS τ + n ∧ (∀ g', oI τ g' = oI σ g')
theorem nw_of {g f n : Nat} (hf : f % 10000 = 0) (hg : g ≠ f) (ok : ok24 σ t) (h0 : aN σ g t = none) (hr : 1 ≤ rC σ ∧ n ≤ rS σ) (ht : t ≠ nx σ) (hn : n ≤ 40000) : Nw g f n t σ (mvA (mkA σ f n) g t f (nx σ)) := by
  have N1 : ∀ g' a', ¬ (g' = g ∧ a' = t) → ¬ (g' = f ∧ a' = nx σ) → aN (mvA (mkA σ f n) g t f (nx σ)) g' a' = aN σ g' a' := fun g' a' h1 h2 => by
    rw [mvA_N h1 h2]
    exact (mkA_N h2).1
  have E0 : Ext σ (mkA σ f n) := Ext.mkA hf
  have h0' : aN (mkA σ f n) g t = none := by rw [(mkA_N (fun z => hg z.1)).1]; exact h0
  have E1 : Ext (mkA σ f n) (mvA (mkA σ f n) g t f (nx σ)) := Ext.mvA hf h0'
  have U : ∀ {α : Type} (G : Nat → Nat → α) (v v' : α) (g' a' : Nat), ¬ (g' = g ∧ a' = t) → ¬ (g' = f ∧ a' = nx σ) → u2 (u2 G f (nx σ) v) g t v' g' a' = G g' a' := fun G v v' g' a' h1 h2 => by
    have e1 : u2 (u2 G f (nx σ) v) g t v' g' a' = u2 G f (nx σ) v g' a' := by
      unfold u2
      by_cases z : g' = g
      · rw [if_pos z, if_neg (fun y => h1 ⟨z, y⟩)]
      · rw [if_neg z]
    rw [e1]
    unfold u2
    by_cases z : g' = f
    · rw [if_pos z, if_neg (fun y => h2 ⟨z, y⟩), z]
    · rw [if_neg z]
  refine ⟨⟨fun k => (k.ext E0).ext E1, fun g' hg' => ?_⟩, ⟨⟨rfl, rfl⟩, fun g' o q hq => ?_, ?_, ?_, ?_⟩, ?_, fun g' hg' => N1 _ _ (fun z => hg' z.1) (fun z => ht z.2), ?_, ?_, fun _ => rfl⟩
  · have q1 : ¬ (g' = g ∧ t = t) := fun z => hg' (by rw [z.1]; exact List.mem_singleton.mpr rfl)
    have q2 : ¬ (g' = f ∧ t = nx σ) := fun z => ht z.2
    exact ⟨rfl, U _ _ _ _ _ q1 q2, U _ _ _ _ _ q1 q2⟩
  · have q1 : ¬ (g' = g ∧ o = t) := fun z => q z.2
    have q2 : ¬ (g' = f ∧ o = nx σ) := fun z => by omega
    exact ⟨⟨rfl, rfl, U _ _ _ _ _ q1 q2, U _ _ _ _ _ q1 q2⟩, N1 _ _ q1 q2, U _ _ _ _ _ q1 q2, U _ _ _ _ _ q1 q2⟩
  · exact Nat.le_succ _
  · show rC σ ≤ rC σ - 1 + 4; omega
  · show rS σ ≤ rS σ - n + 40000; omega
  · exact mvA_new mkA_n
  · show rC σ = rC σ - 1 + 1; omega
  · show rS σ = rS σ - n + n; omega
theorem t_nwo {g f n : Nat} {k : wS → Prop} (hf : f % 10000 = 0) (hg : g ≠ f) (ok : ok24 σ t) (h0 : aN σ g t = none) (hr : 1 ≤ rC σ ∧ n ≤ rS σ) (hn : n ≤ 40000) (h : ∀ τ, Nw g f n t σ τ → k τ) : nwo σ n (bnd (mkA σ f n) fun σ1 => aN σ1 g t = none ∧ bnd (mvA σ1 g t f (nx σ)) fun σ2 => k σ2) := by
  refine ⟨hr, fun hc _ => ?_⟩
  have ht : t ≠ nx σ := fun z => by
    have := ok.1
    rw [z, hc] at this
    exact absurd this (by decide)
  intro σ1 e1
  subst e1
  refine ⟨by rw [(mkA_N (fun z => hg z.1)).1]; exact h0, fun σ2 e2 => ?_⟩
  subst e2
  exact h _ (nw_of hf hg ok h0 hr ht hn)

theorem t_i89 {Q : Int32 → wS → Prop} {kk : wS → Prop} {σ0 : wS} (ok : ok24 σ0 t) (hn : aN σ0 2572 t = some 600) (hQ : ∀ τ, Tw [2572] t σ0 τ → (∀ j, j < 4 → aI τ 2572 t (6 + j) = aI σ0 2510 t j) → (∀ j, j < 6 → aI τ 2572 t j = aI σ0 2572 t j) → kk τ) : ∀ n x σ, x ≤ 4 → 4 - x < n → Tw [2572] t σ0 σ → (∀ j, j < x → aI σ 2572 t (6 + j) = aI σ0 2510 t j) → (∀ j, j < 6 → aI σ 2572 t j = aI σ0 2572 t j) → l_X24_image_89 F t Q kk n σ (nI x) := by
  intro n
  induction n with
  | zero => intro x σ h1 h2; omega
  | succ n ih =>
    intro x σ h1 h2 W ha hb
    unfold l_X24_image_89
    refine ⟨W.ok ok, ?_⟩
    by_cases q : x = 4
    · rw [q, if_pos (by decide)]
      rw [q] at ha
      exact hQ σ W ha hb
    · rw [if_neg (show ¬ (4 : Int32) ≤ nI x from nI_ge (b := 4) (by omega) (by decide)), nIl_6, nI_add, nI_clamp (by omega), nI_clamp (by omega)]
      refine ⟨vp_inN (by omega) (by decide), 600, by rw [W.1.2.2.2.1]; exact hn, vp_inN (by omega) (by decide), bnd_sA fun τ w1 v1 _ _ => ?_⟩
      rw [nIl_1, nI_add]
      refine ih (x + 1) τ (by omega) (by omega) (W.trans w1) (fun j hj => ?_) (fun j hj => ?_)
      · rw [v1]
        by_cases z : j = x
        · rw [z, upd_s, W.A (by decide)]
        · rw [upd_n (by omega)]; exact ha j (by omega)
      · rw [v1, upd_n (by omega)]; exact hb j hj
theorem t_i114 {Q : Int32 → wS → Prop} {kk : wS → Prop} {σ0 : wS} (ok : ok24 σ0 t) (hn : aN σ0 2572 t = some 600) (hQ : ∀ τ, Tw [2572] t σ0 τ → (∀ j, j < 7 → aI τ 2572 t (10 + j) = aI σ0 2523 t j) → (∀ j, j < 10 → aI τ 2572 t j = aI σ0 2572 t j) → kk τ) : ∀ n x σ, x ≤ 7 → 7 - x < n → Tw [2572] t σ0 σ → (∀ j, j < x → aI σ 2572 t (10 + j) = aI σ0 2523 t j) → (∀ j, j < 10 → aI σ 2572 t j = aI σ0 2572 t j) → l_X24_image_114 F t Q kk n σ (nI x) := by
  intro n
  induction n with
  | zero => intro x σ h1 h2; omega
  | succ n ih =>
    intro x σ h1 h2 W ha hb
    unfold l_X24_image_114
    refine ⟨W.ok ok, ?_⟩
    by_cases q : x = 7
    · rw [q, if_pos (by decide)]
      rw [q] at ha
      exact hQ σ W ha hb
    · rw [if_neg (show ¬ (7 : Int32) ≤ nI x from nI_ge (b := 7) (by omega) (by decide)), nIl_10, nI_add, nI_clamp (by omega), nI_clamp (by omega)]
      refine ⟨vp_inN (by omega) (by decide), 600, by rw [W.1.2.2.2.1]; exact hn, vp_inN (by omega) (by decide), bnd_sA fun τ w1 v1 _ _ => ?_⟩
      rw [nIl_1, nI_add]
      refine ih (x + 1) τ (by omega) (by omega) (W.trans w1) (fun j hj => ?_) (fun j hj => ?_)
      · rw [v1]
        by_cases z : j = x
        · rw [z, upd_s, W.A (by decide)]
        · rw [upd_n (by omega)]; exact ha j (by omega)
      · rw [v1, upd_n (by omega)]; exact hb j hj
theorem t_i140 {Q : Int32 → wS → Prop} {kk : wS → Prop} {σ0 : wS} (ok : ok24 σ0 t) (hn : aN σ0 2572 t = some 600) (hQ : ∀ τ, Tw [2572] t σ0 τ → (∀ j, j < 8 → aI τ 2572 t (20 + j) = aI σ0 2511 t j ∧ aI τ 2572 t (30 + j) = aI σ0 2512 t j ∧ aI τ 2572 t (40 + j) = aI σ0 2513 t j ∧ aI τ 2572 t (50 + j) = aI σ0 2514 t j) → (∀ j, j < 20 → aI τ 2572 t j = aI σ0 2572 t j) → kk τ) : ∀ n x σ, x ≤ 8 → 8 - x < n → Tw [2572] t σ0 σ → (∀ j, j < x → aI σ 2572 t (20 + j) = aI σ0 2511 t j ∧ aI σ 2572 t (30 + j) = aI σ0 2512 t j ∧ aI σ 2572 t (40 + j) = aI σ0 2513 t j ∧ aI σ 2572 t (50 + j) = aI σ0 2514 t j) → (∀ j, j < 20 → aI σ 2572 t j = aI σ0 2572 t j) → l_X24_image_140 F t Q kk n σ (nI x) := by
  intro n
  induction n with
  | zero => intro x σ h1 h2; omega
  | succ n ih =>
    intro x σ h1 h2 W ha hb
    unfold l_X24_image_140
    refine ⟨W.ok ok, ?_⟩
    by_cases q : x = 8
    · rw [q, if_pos (by decide)]
      rw [q] at ha
      exact hQ σ W ha hb
    · rw [if_neg (show ¬ (8 : Int32) ≤ nI x from nI_ge (b := 8) (by omega) (by decide)), nIl_20, nIl_30, nIl_40, nIl_50, nI_add, nI_add, nI_add, nI_add, nI_clamp (n := 20 + x) (by omega), nI_clamp (n := 30 + x) (by omega), nI_clamp (n := 40 + x) (by omega), nI_clamp (n := 50 + x) (by omega), nI_clamp (n := x) (by omega)]
      refine ⟨vp_inN (by omega) (by decide), 600, by rw [W.1.2.2.2.1]; exact hn, vp_inN (by omega) (by decide), bnd_sA fun σ1 w1 v1 _ _ => ⟨vp_inN (by omega) (by decide), bnd_sA fun σ2 w2 v2 _ _ => ⟨vp_inN (by omega) (by decide), bnd_sA fun σ3 w3 v3 _ _ => ⟨vp_inN (by omega) (by decide), bnd_sA fun σ4 w4 v4 _ _ => ?_⟩⟩⟩⟩
      rw [nIl_1, nI_add]
      have W4 : Tw [2572] t σ σ4 := ((w1.trans w2).trans w3).trans w4
      have f : aI σ4 2572 t = upd (upd (upd (upd (aI σ 2572 t) (20 + x) (aI σ0 2511 t x)) (30 + x) (aI σ0 2512 t x)) (40 + x) (aI σ0 2513 t x)) (50 + x) (aI σ0 2514 t x) := by
        rw [v4, v3, v2, v1, w3.A (g := 2514) (by decide), w2.A (g := 2514) (by decide), w1.A (g := 2514) (by decide), W.A (g := 2514) (by decide), w2.A (g := 2513) (by decide), w1.A (g := 2513) (by decide), W.A (g := 2513) (by decide), w1.A (g := 2512) (by decide), W.A (g := 2512) (by decide), W.A (g := 2511) (by decide)]
      refine ih (x + 1) σ4 (by omega) (by omega) (W.trans W4) (fun j hj => ?_) (fun j hj => ?_)
      · rw [f]
        by_cases z : j = x
        · subst z
          refine ⟨?_, ?_, ?_, ?_⟩
          · rw [upd_n (by omega), upd_n (by omega), upd_n (by omega), upd_s]
          · rw [upd_n (by omega), upd_n (by omega), upd_s]
          · rw [upd_n (by omega), upd_s]
          · rw [upd_s]
        · obtain ⟨a1, a2, a3, a4⟩ := ha j (by omega)
          refine ⟨?_, ?_, ?_, ?_⟩
          · rw [upd_n (by omega), upd_n (by omega), upd_n (by omega), upd_n (by omega)]; exact a1
          · rw [upd_n (by omega), upd_n (by omega), upd_n (by omega), upd_n (by omega)]; exact a2
          · rw [upd_n (by omega), upd_n (by omega), upd_n (by omega), upd_n (by omega)]; exact a3
          · rw [upd_n (by omega), upd_n (by omega), upd_n (by omega), upd_n (by omega)]; exact a4
      · rw [f, upd_n (by omega), upd_n (by omega), upd_n (by omega), upd_n (by omega)]; exact hb j hj
theorem t_i202 {Q : Int32 → wS → Prop} {kk : wS → Prop} {σ0 : wS} (ok : ok24 σ0 t) (hn : aN σ0 2572 t = some 600) (hn2 : aN σ0 22573 t = some 64) (hQ : ∀ τ, Tw [2572, 22573] t σ0 τ → (∀ j, j < 64 → (aI τ 2572 t (60 + j) = aI σ0 2515 t j ∧ aI τ 2572 t (130 + j) = aI σ0 2516 t j ∧ aI τ 2572 t (200 + j) = aI σ0 2517 t j ∧ aI τ 2572 t (270 + j) = aI σ0 2518 t j ∧ aI τ 2572 t (340 + j) = aI σ0 2519 t j ∧ aI τ 2572 t (410 + j) = aI σ0 2520 t j) ∧ aI τ 22573 t j = vp_nar .boolean (aI σ0 22521 t j)) → (∀ j, j < 60 → aI τ 2572 t j = aI σ0 2572 t j) → kk τ) : ∀ n x σ, x ≤ 64 → 64 - x < n → Tw [2572, 22573] t σ0 σ → (∀ j, j < x → (aI σ 2572 t (60 + j) = aI σ0 2515 t j ∧ aI σ 2572 t (130 + j) = aI σ0 2516 t j ∧ aI σ 2572 t (200 + j) = aI σ0 2517 t j ∧ aI σ 2572 t (270 + j) = aI σ0 2518 t j ∧ aI σ 2572 t (340 + j) = aI σ0 2519 t j ∧ aI σ 2572 t (410 + j) = aI σ0 2520 t j) ∧ aI σ 22573 t j = vp_nar .boolean (aI σ0 22521 t j)) → (∀ j, j < 60 → aI σ 2572 t j = aI σ0 2572 t j) → l_X24_image_202 F t Q kk n σ (nI x) := by
  intro n
  induction n with
  | zero => intro x σ h1 h2; omega
  | succ n ih =>
    intro x σ h1 h2 W ha hb
    unfold l_X24_image_202
    refine ⟨W.ok ok, ?_⟩
    by_cases q : x = 64
    · rw [q, if_pos (by decide)]
      rw [q] at ha
      exact hQ σ W ha hb
    · rw [if_neg (show ¬ (64 : Int32) ≤ nI x from nI_ge (b := 64) (by omega) (by decide)), nIl_60, nIl_130, nIl_200, nIl_270, nIl_340, nIl_410, nI_add, nI_add, nI_add, nI_add, nI_add, nI_add, nI_clamp (n := 60 + x) (by omega), nI_clamp (n := 130 + x) (by omega), nI_clamp (n := 200 + x) (by omega), nI_clamp (n := 270 + x) (by omega), nI_clamp (n := 340 + x) (by omega), nI_clamp (n := 410 + x) (by omega), nI_clamp (n := x) (by omega)]
      refine ⟨vp_inN (by omega) (by decide), 600, by rw [W.1.2.2.2.1]; exact hn, vp_inN (by omega) (by decide), bnd_sA fun σ1 w1 v1 _ _ => ⟨vp_inN (by omega) (by decide), bnd_sA fun σ2 w2 v2 _ _ => ⟨vp_inN (by omega) (by decide), bnd_sA fun σ3 w3 v3 _ _ => ⟨vp_inN (by omega) (by decide), bnd_sA fun σ4 w4 v4 _ _ => ⟨vp_inN (by omega) (by decide), bnd_sA fun σ5 w5 v5 _ _ => ⟨vp_inN (by omega) (by decide), bnd_sA fun σ6 w6 v6 _ _ => ⟨64, by rw [w6.1.2.2.2.1, w5.1.2.2.2.1, w4.1.2.2.2.1, w3.1.2.2.2.1, w2.1.2.2.2.1, w1.1.2.2.2.1, W.1.2.2.2.1]; exact hn2, vp_inN (by omega) (by decide), bnd_sA fun σ7 w7 v7 _ _ => ?_⟩⟩⟩⟩⟩⟩⟩
      rw [nIl_1, nI_add]
      have W6 : Tw [2572] t σ σ6 := ((((w1.trans w2).trans w3).trans w4).trans w5).trans w6
      have W7 : Tw [2572, 22573] t σ σ7 := (W6.mono (by decide)).up w7 (by decide)
      have f : aI σ7 2572 t = upd (upd (upd (upd (upd (upd (aI σ 2572 t) (60 + x) (aI σ0 2515 t x)) (130 + x) (aI σ0 2516 t x)) (200 + x) (aI σ0 2517 t x)) (270 + x) (aI σ0 2518 t x)) (340 + x) (aI σ0 2519 t x)) (410 + x) (aI σ0 2520 t x) := by
        rw [w7.A (by decide), v6, v5, v4, v3, v2, v1, w5.A (g := 2520) (by decide), w4.A (g := 2520) (by decide), w3.A (g := 2520) (by decide), w2.A (g := 2520) (by decide), w1.A (g := 2520) (by decide), W.A (g := 2520) (by decide), w4.A (g := 2519) (by decide), w3.A (g := 2519) (by decide), w2.A (g := 2519) (by decide), w1.A (g := 2519) (by decide), W.A (g := 2519) (by decide), w3.A (g := 2518) (by decide), w2.A (g := 2518) (by decide), w1.A (g := 2518) (by decide), W.A (g := 2518) (by decide), w2.A (g := 2517) (by decide), w1.A (g := 2517) (by decide), W.A (g := 2517) (by decide), w1.A (g := 2516) (by decide), W.A (g := 2516) (by decide), W.A (g := 2515) (by decide)]
      have f2 : aI σ7 22573 t = upd (aI σ 22573 t) x (vp_nar .boolean (aI σ0 22521 t x)) := by
        rw [v7, W6.A (by decide), W6.A (by decide), W.A (g := 22521) (by decide)]
      refine ih (x + 1) σ7 (by omega) (by omega) (W.trans W7) (fun j hj => ?_) (fun j hj => ?_)
      · rw [f, f2]
        by_cases z : j = x
        · subst z
          refine ⟨⟨?_, ?_, ?_, ?_, ?_, ?_⟩, by rw [upd_s]⟩
          · rw [upd_n (by omega), upd_n (by omega), upd_n (by omega), upd_n (by omega), upd_n (by omega), upd_s]
          · rw [upd_n (by omega), upd_n (by omega), upd_n (by omega), upd_n (by omega), upd_s]
          · rw [upd_n (by omega), upd_n (by omega), upd_n (by omega), upd_s]
          · rw [upd_n (by omega), upd_n (by omega), upd_s]
          · rw [upd_n (by omega), upd_s]
          · rw [upd_s]
        · obtain ⟨⟨a1, a2, a3, a4, a5, a6⟩, a7⟩ := ha j (by omega)
          refine ⟨⟨?_, ?_, ?_, ?_, ?_, ?_⟩, by rw [upd_n z]; exact a7⟩
          · rw [upd_n (by omega), upd_n (by omega), upd_n (by omega), upd_n (by omega), upd_n (by omega), upd_n (by omega)]; exact a1
          · rw [upd_n (by omega), upd_n (by omega), upd_n (by omega), upd_n (by omega), upd_n (by omega), upd_n (by omega)]; exact a2
          · rw [upd_n (by omega), upd_n (by omega), upd_n (by omega), upd_n (by omega), upd_n (by omega), upd_n (by omega)]; exact a3
          · rw [upd_n (by omega), upd_n (by omega), upd_n (by omega), upd_n (by omega), upd_n (by omega), upd_n (by omega)]; exact a4
          · rw [upd_n (by omega), upd_n (by omega), upd_n (by omega), upd_n (by omega), upd_n (by omega), upd_n (by omega)]; exact a5
          · rw [upd_n (by omega), upd_n (by omega), upd_n (by omega), upd_n (by omega), upd_n (by omega), upd_n (by omega)]; exact a6
      · rw [f, upd_n (by omega), upd_n (by omega), upd_n (by omega), upd_n (by omega), upd_n (by omega), upd_n (by omega)]; exact hb j hj
theorem t_i305 {Q : Int32 → wS → Prop} {σ0 : wS} (ok : ok24 σ0 t) (hn : aN σ0 22574 t = some 29120) (hQ : ∀ τ, Tw [22574] t σ0 τ → (∀ j, j < 29120 → aI τ 22574 t j = vp_nar .boolean (aI σ0 22522 t j)) → Q (oI σ0 2501 t) τ) : ∀ n x σ, x ≤ 29120 → 29120 - x < n → Tw [22574] t σ0 σ → (∀ j, j < x → aI σ 22574 t j = vp_nar .boolean (aI σ0 22522 t j)) → l_X24_image_305 F t Q n σ (nI x) := by
  intro n
  induction n with
  | zero => intro x σ h1 h2; omega
  | succ n ih =>
    intro x σ h1 h2 W ha
    unfold l_X24_image_305
    refine ⟨W.ok ok, ?_⟩
    by_cases q : x = 29120
    · rw [q, if_pos (by decide), W.I (by decide)]
      rw [q] at ha
      exact hQ σ W ha
    · rw [if_neg (show ¬ (29120 : Int32) ≤ nI x from nI_ge (b := 29120) (by omega) (by decide)), nI_clamp (by omega)]
      refine ⟨29120, by rw [W.1.2.2.2.1]; exact hn, vp_inN (by omega) (by decide), vp_inN (by omega) (by decide), bnd_sA fun τ w1 v1 _ _ => ?_⟩
      rw [nIl_1, nI_add]
      refine ih (x + 1) τ (by omega) (by omega) (W.trans w1) (fun j hj => ?_)
      rw [v1]
      by_cases z : j = x
      · rw [z, upd_s, W.A (by decide)]
      · rw [upd_n z]; exact ha j (by omega)
theorem nar_b {b : Nat} (h : b ≤ 1) : vp_nar .boolean (nI b) = nI b := by
  rcases Nat.lt_or_ge b 1 with q | q
  · rw [show b = 0 by omega]; rfl
  · rw [show b = 1 by omega]; rfl
abbrev GI : List Nat := [2571, 2572, 22573, 22574]
theorem t_im35 {Q : Int32 → wS → Prop} (hT : (TM σ t S.1 ∧ TXo σ t S.1 ∧ TF σ t S.1) ∧ (TR σ t S.2.1 ∧ TS σ t S.2.1 ∧ TC σ t S.2.2.2.1 ∧ TZ σ t S) ∧ TP σ t S.2.1) (hM : MV S.1) (hn1 : aN σ 2572 t = some 600) (hn2 : aN σ 22573 t = some 64) (hn3 : aN σ 22574 t = some 29120) (hF : 100000 ≤ F) (hQ : ∀ τ, Tw GI t σ τ → TT τ t (sKp S) → Q (nI (mN S.1)) τ) : b_X24_image_35 F t Q σ := by
  have hs := hM.1.1
  have hG := hs.2.1
  have hN := hM.2.2
  have ok := hT.1.1.1.1
  unfold b_X24_image_35
  refine ⟨ok, bnd_sI fun τ0 u0 z0 _ _ => ?_⟩
  have c0 : (0 : Int32).toNatClampNeg = 0 := by decide
  have c1 : (1 : Int32).toNatClampNeg = 1 := by decide
  have c2 : (2 : Int32).toNatClampNeg = 2 := by decide
  have c3 : (3 : Int32).toNatClampNeg = 3 := by decide
  have c4 : (4 : Int32).toNatClampNeg = 4 := by decide
  have c5 : (5 : Int32).toNatClampNeg = 5 := by decide
  rw [c0, c1, c2, c3, c4, c5]
  refine ⟨600, by rw [u0.1.2.2.2.1]; exact hn1, vp_inN (n := 0) (by decide) (by decide), bnd_sA fun τ1 u1 z1 _ _ => ⟨vp_inN (n := 1) (by decide) (by decide), bnd_sA fun τ2 u2 z2 _ _ => ⟨vp_inN (n := 2) (by decide) (by decide), bnd_sA fun τ3 u3 z3 _ _ => ⟨vp_inN (n := 3) (by decide) (by decide), bnd_sA fun τ4 u4 z4 _ _ => ⟨vp_inN (n := 4) (by decide) (by decide), bnd_sA fun τ5 u5 z5 _ _ => ⟨vp_inN (n := 5) (by decide) (by decide), bnd_sA fun τ6 u6 z6 _ _ => ?_⟩⟩⟩⟩⟩⟩
  have U6 : Tw [2571, 2572] t σ τ6 := (((((u0.mono (by decide)).up u1 (by decide)).up u2 (by decide)).up u3 (by decide)).up u4 (by decide)).up u5 (by decide) |>.up u6 (by decide)
  have f : aI τ6 2572 t = upd (upd (upd (upd (upd (upd (aI σ 2572 t) 0 (oI σ 2500 t)) 1 (oI σ 2501 t)) 2 (oI σ 2502 t)) 3 (oI σ 2503 t)) 4 (oI σ 2504 t)) 5 (oI σ 2505 t) := by
    rw [z6, z5, z4, z3, z2, z1, u0.A (by decide), u5.I (by decide), u4.I (by decide), u3.I (by decide), u2.I (by decide), u1.I (by decide), u0.I (by decide), u4.I (by decide), u3.I (by decide), u2.I (by decide), u1.I (by decide), u0.I (by decide), u3.I (by decide), u2.I (by decide), u1.I (by decide), u0.I (by decide), u2.I (by decide), u1.I (by decide), u0.I (by decide), u1.I (by decide), u0.I (by decide), u0.I (by decide)]
  have N : ∀ {τ' : wS} {G : List Nat}, Tw G t σ τ' → aN τ' 2572 t = some 600 ∧ aN τ' 22573 t = some 64 ∧ aN τ' 22574 t = some 29120 := fun h => by rw [h.1.2.2.2.1]; exact ⟨hn1, hn2, hn3⟩
  refine t_i89 (U6.ok ok) (N U6).1 (fun τ7 w7 a7 b7 => ?_) F 0 τ6 (by omega) (by omega) Tw.refl (fun j h => absurd h (by omega)) (fun j _ => rfl)
  have U7 : Tw [2571, 2572] t σ τ7 := U6.up w7 (by decide)
  refine t_i114 (U7.ok ok) (N U7).1 (fun τ8 w8 a8 b8 => ?_) F 0 τ7 (by omega) (by omega) Tw.refl (fun j h => absurd h (by omega)) (fun j _ => rfl)
  have U8 : Tw [2571, 2572] t σ τ8 := U7.up w8 (by decide)
  refine t_i140 (U8.ok ok) (N U8).1 (fun τ9 w9 a9 b9 => ?_) F 0 τ8 (by omega) (by omega) Tw.refl (fun j h => absurd h (by omega)) (fun j _ => rfl)
  have U9 : Tw [2571, 2572] t σ τ9 := U8.up w9 (by decide)
  refine t_i202 (U9.ok ok) (N U9).1 (N U9).2.1 (fun τa wa aa ba => ?_) F 0 τ9 (by omega) (by omega) Tw.refl (fun j h => absurd h (by omega)) (fun j _ => rfl)
  have Ua : Tw [2571, 2572, 22573] t σ τa := (U9.mono (by decide)).trans (wa.mono (by decide))
  refine t_i305 (Ua.ok ok) (N Ua).2.2 (fun τb wb ab => ?_) F 0 τa (by omega) (by omega) Tw.refl (fun j h => absurd h (by omega))
  have Ub : Tw GI t σ τb := (Ua.mono (by decide)).trans (wb.mono (by decide))
  rw [Ua.I (by decide), hT.1.1.1.2.2.1]
  obtain ⟨⟨m1, m2, m3, m4⟩, mE, mG', mT, mD⟩ := hT.1.1
  have hz := hT.2.1.2.2.2
  have K : ∀ j, j < 60 → aI τb 2572 t j = aI τ9 2572 t j := fun j hj => by rw [wb.A (by decide)]; exact ba j hj
  have K2 : ∀ j, j < 20 → aI τb 2572 t j = aI τ8 2572 t j := fun j hj => (K j (by omega)).trans (b9 j hj)
  have K3 : ∀ j, j < 10 → aI τb 2572 t j = aI τ7 2572 t j := fun j hj => (K2 j (by omega)).trans (b8 j hj)
  have K4 : ∀ j, j < 6 → aI τb 2572 t j = aI τ6 2572 t j := fun j hj => (K3 j (by omega)).trans (b7 j hj)
  refine hQ τb Ub ⟨⟨hT.1.1.tw Ub (by decide), hT.1.2.1.tw Ub (by decide), hT.1.2.2.tw Ub (by decide)⟩, ⟨hT.2.1.1.tw Ub (by decide), hT.2.1.2.1.tw Ub (by decide), hT.2.1.2.2.1.tw Ub (by decide), ?_, ?_, ?_⟩, ?_, ?_⟩
  · rw [Ub.I (by decide)]; exact hz.1
  · rw [Ub.I (by decide)]
    show _ = eI (up (S.2.1 5) 2 1 0)
    rw [up_n (by decide)]; exact hz.2.1
  · exact ⟨by rw [Ub.I (by decide)]; exact hz.2.2.1, by rw [Ub.A (by decide)]; exact hz.2.2.2⟩
  · have := hT.2.2.tw Ub (by decide)
    show TP τb t (st S.2.1 5 (up (S.2.1 5) 2 1))
    unfold TP at this ⊢
    rw [st_s, up_n (by decide), st_n (k := 5) (k' := 6) (by decide), st_n (k := 5) (k' := 7) (by decide), st_n (k := 5) (k' := 8) (by decide), st_n (k := 5) (k' := 9) (by decide), st_n (k := 5) (k' := 10) (by decide), st_n (k := 5) (k' := 11) (by decide), st_n (k := 5) (k' := 12) (by decide), st_n (k := 5) (k' := 13) (by decide), st_n (k := 5) (k' := 14) (by decide)]
    exact this
  · have e2 : (sKp S).2.1 5 2 = 1 := show up (S.2.1 5) 2 1 2 = 1 from up_s
    unfold TI
    rw [e2]
    refine ⟨⟨?_, Nat.le_refl 1⟩, fun z => absurd z (by decide), fun _ => ⟨N Ub, ⟨⟨?_, ?_, ?_, ?_, ?_, ?_⟩, ?_, ?_, ?_, ?_, ?_⟩, ?_, ?_⟩⟩
    · have : oI τb 2571 t = 1 := by rw [wb.I (by decide), wa.I (by decide), w9.I (by decide), w8.I (by decide), w7.I (by decide), u6.I (by decide), u5.I (by decide), u4.I (by decide), u3.I (by decide), u2.I (by decide), u1.I (by decide), z0]
      rw [this]; rfl
    · rw [K4 0 (by decide), f, upd_n (by decide), upd_n (by decide), upd_n (by decide), upd_n (by decide), upd_n (by decide), upd_s]; exact m2
    · rw [K4 1 (by decide), f, upd_n (by decide), upd_n (by decide), upd_n (by decide), upd_n (by decide), upd_s]; exact m3
    · rw [K4 2 (by decide), f, upd_n (by decide), upd_n (by decide), upd_n (by decide), upd_s]; exact m4
    · rw [K4 3 (by decide), f, upd_n (by decide), upd_n (by decide), upd_s]; exact hT.1.2.2.2.2
    · rw [K4 4 (by decide), f, upd_n (by decide), upd_s]; exact hT.1.2.1.1
    · rw [K4 5 (by decide), f, upd_s]; exact hz.1
    · intro i hi
      rw [K3 _ (by omega), a7 i hi, U6.A (by decide)]; exact mD i hi
    · intro i hi
      rw [K2 _ (by omega), a8 i hi, U7.A (by decide)]; exact hT.1.2.2.2.1 i hi
    · intro i hi
      have h8 : i < 8 := Nat.lt_of_lt_of_le hi hs.2.2.2.1
      obtain ⟨y1, y2, y3, y4⟩ := a9 i h8
      rw [K _ (by omega), K _ (by omega), K _ (by omega), K _ (by omega), y1, y2, y3, y4, U8.A (by decide), U8.A (by decide), U8.A (by decide), U8.A (by decide)]
      exact ⟨(mT i hi).1, (mT i hi).2, (hT.1.2.1.2 i hi).1, (hT.1.2.1.2 i hi).2⟩
    · intro e he
      have h64 : e < 64 := Nat.lt_of_lt_of_le he hN
      obtain ⟨⟨y1, y2, y3, y4, y5, y6⟩, -⟩ := aa e h64
      obtain ⟨x1, x2, x3, x4, x5, x6⟩ := mE e he
      rw [wb.A (by decide), y1, y2, y3, y4, y5, U9.A (by decide), U9.A (by decide), U9.A (by decide), U9.A (by decide), U9.A (by decide)]
      exact ⟨x1, x2, x3, x4, x5⟩
    · intro g hg
      have h64 : g < 64 := Nat.lt_of_lt_of_le hg (Nat.le_trans hG hN)
      rw [wb.A (by decide), (aa g h64).1.2.2.2.2.2, U9.A (by decide)]
      exact mG' g hg
    · intro e he
      have h64 : e < 64 := Nat.lt_of_lt_of_le he hN
      rw [wb.A (by decide), (aa e h64).2, U9.A (by decide), (mE e he).2.2.2.2.2]
      exact nar_b (by have := (sh_bnd hs he).2.2.2; omega)
    · intro i hi
      rw [ab i hi, Ua.A (by decide), hT.1.2.2.1 i hi]
      exact nar_b (hM.2.1.2.2 i)
theorem t_image {Q : Int32 → wS → Prop} (hT : TT σ t S) (hM : MV S.1) (hr : 4 ≤ rC σ ∧ 40000 ≤ rS σ) (hF : 100000 ≤ F) (hQ : ∀ τ, Tu t σ τ → TT τ t (o_image S).2 → Q (o_image S).1 τ) : w_X24_image F σ t Q := by
  obtain ⟨⟨j1, j2⟩, j3, j4⟩ := hT.2.2.2
  unfold w_X24_image
  rw [j1]
  refine ⟨hT.ok, ?_⟩
  by_cases q : S.2.1 5 2 = 0
  · rw [if_pos (by rw [q]; rfl)]
    obtain ⟨n1, n2, n3⟩ := j3 q
    refine t_nwo (g := 2572) (f := 0) (n := 600) (by decide) (by decide) hT.ok n1 ⟨by omega, by omega⟩ (by decide) (fun τ1 h1 => ?_)
    obtain ⟨k1, u1, a1, b1, c1, d1, e1⟩ := h1
    have ok1 := k1.1 hT.ok
    refine t_nwo (g := 22573) (f := 20000) (n := 64) (by decide) (by decide) ok1 (by rw [b1 _ (by decide)]; exact n2) ⟨by omega, by omega⟩ (by decide) (fun τ2 h2 => ?_)
    obtain ⟨k2, u2, a2, b2, c2, d2, e2⟩ := h2
    have ok2 := k2.1 ok1
    refine t_nwo (g := 22574) (f := 20000) (n := 29120) (by decide) (by decide) ok2 (by rw [b2 _ (by decide), b1 _ (by decide)]; exact n3) ⟨by omega, by omega⟩ (by decide) (fun τ3 h3 => ?_)
    obtain ⟨k3, u3, a3, b3, c3, d3, e3⟩ := h3
    have K : Tk [2572, 22573, 22574] t σ τ3 := ((k1.mono (by decide)).trans (k2.mono (by decide))).trans (k3.mono (by decide))
    refine t_im35 (S := S) ⟨⟨hT.1.1.tk K (by decide), hT.1.2.1.tk K (by decide), hT.1.2.2.tk K (by decide)⟩, ⟨hT.2.1.1.tk K (by decide), hT.2.1.2.1.tk K (by decide), hT.2.1.2.2.1.tk K (by decide), hT.2.1.2.2.2.tk K (by decide)⟩, hT.2.2.1.tk K (by decide)⟩ hM (by rw [b3 _ (by decide), b2 _ (by decide)]; exact a1) (by rw [b3 _ (by decide)]; exact a2) a3 hF (fun τ w h => ?_)
    exact hQ τ (by
      obtain ⟨⟨x1, x2⟩, x3, x6, -, -⟩ := u1
      obtain ⟨⟨y1, y2⟩, y3, y6, -, -⟩ := u2
      obtain ⟨⟨z1, z2⟩, z3, z6, -, -⟩ := u3
      obtain ⟨⟨v1, v2⟩, v3, v6, -, -⟩ := w.tu
      have vc := w.1.2.2.2.2.2.2.1
      have vs := w.1.2.2.2.2.2.2.2
      refine ⟨⟨v1.trans (z1.trans (y1.trans x1)), v2.trans (z2.trans (y2.trans x2))⟩, fun g o q hq => ?_, by omega, by omega, by omega⟩
      obtain ⟨⟨p1, p2, p3, p4⟩, p5, p6, p7⟩ := x3 g o q hq
      obtain ⟨⟨q1, q2, q3, q4⟩, q5, q6, q7⟩ := y3 g o q (by omega)
      obtain ⟨⟨r1, r2, r3, r4⟩, r5, r6, r7⟩ := z3 g o q (by omega)
      obtain ⟨⟨s1, s2, s3, s4⟩, s5, s6, s7⟩ := v3 g o q (by omega)
      exact ⟨⟨s1.trans (r1.trans (q1.trans p1)), s2.trans (r2.trans (q2.trans p2)), s3.trans (r3.trans (q3.trans p3)), s4.trans (r4.trans (q4.trans p4))⟩, s5.trans (r5.trans (q5.trans p5)), s6.trans (r6.trans (q6.trans p6)), s7.trans (r7.trans (q7.trans p7))⟩) h
  · rw [if_neg (show ¬ nI (S.2.1 5 2) = (0 : Int32) from nI_eqf (b := 0) (by omega) (by decide) q)]
    obtain ⟨⟨n1, n2, n3⟩, -⟩ := j4 (by omega)
    exact t_im35 (S := S) ⟨hT.1, hT.2.1, hT.2.2.1⟩ hM n1 n2 n3 hF (fun τ w h => hQ τ w.tu h)
end PT
