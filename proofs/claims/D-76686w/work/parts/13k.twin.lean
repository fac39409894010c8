set_option linter.unusedVariables false
set_option maxRecDepth 10000
section PT
variable {σ τ υ : wS} {t F : Nat} {s : mS}
/-! demands that are reached -/
def inW (w : Wy) (y : Nat) : Prop := w.2.2.1 = some y ∨ w.2.2.2.1 = some y
def clo (s : mS) (a d : Nat) : Prop := ∀ S : Nat → Prop, S a → (∀ x, S x → ∀ w, w ∈ wys s x → ∀ y, inW w y → S y) → S d
theorem clo_a {a : Nat} : clo s a a := fun S h _ => h
theorem clo_w {a d y : Nat} {w : Wy} (h : clo s a d) (hw : w ∈ wys s d) (hy : inW w y) : clo s a y := fun S h1 h2 => h2 d (h S h1 h2) w hw y hy
theorem clo_dm {a d : Nat} (hs : Sh s) (l : Lo s) (hb : Tb s) (ha : Dm s a) (h : clo s a d) : Dm s d :=
  h (Dm s) ha (fun x hx w hw y hy => by
    obtain ⟨-, -, o1, o2, -⟩ := wys_in hs l hb hx hw
    rcases hy with hy | hy
    · exact o1 y hy
    · exact o2 y hy)
noncomputable def cnp (P : Nat → Prop) : Nat → Nat
  | 0 => 0
  | n + 1 => cnp P n + @ite _ (P n) (Classical.propDecidable _) 1 0
def KW (σ : wS) (t : Nat) (K : Nat → Nat) : Prop := ∀ d, d < 1920 → aI σ 22576 t d = nI (K d)
def KI (s : mS) (a : Nat) (K : Nat → Nat) : Prop := (∀ d, K d = 1 → clo s a d) ∧ K a = 1 ∧ ∀ d, K d ≤ 1
theorem cnp_eq {P : Nat → Prop} {K : Nat → Nat} (h : ∀ d, K d ≤ 1 ∧ (K d = 1 ↔ P d)) : ∀ n, cnp P n = tot K n := by
  intro n
  induction n with
  | zero => rfl
  | succ n ih =>
    unfold cnp tot
    rw [ih]
    obtain ⟨h1, h2⟩ := h n
    by_cases q : P n
    · rw [if_pos q]; have := h2.mpr q; omega
    · rw [if_neg q]
      have : K n ≠ 1 := fun z => q (h2.mp z)
      omega
theorem tot_1 {K : Nat → Nat} (h : ∀ d, K d ≤ 1) : ∀ n, tot K n ≤ n := by
  intro n
  induction n with
  | zero => exact Nat.le_refl _
  | succ n ih => unfold tot; have := h n; omega
theorem ki_up {a d : Nat} {K : Nat → Nat} (h : KI s a K) (hd : clo s a d) : KI s a (up K d 1) := by
  obtain ⟨h1, h2, h3⟩ := h
  have hu : ∀ x, up K d 1 x = if x = d then 1 else K x := fun x => rfl
  refine ⟨fun x hx => ?_, ?_, fun x => ?_⟩
  · by_cases q : x = d
    · rw [q]; exact hd
    · rw [up_n q] at hx; exact h1 x hx
  · by_cases q : a = d
    · rw [q, up_s]
    · rw [up_n q]; exact h2
  · by_cases q : x = d
    · rw [q, up_s]; exact Nat.le_refl 1
    · rw [up_n q]; exact h3 x
theorem tot_up1 {K : Nat → Nat} {d : Nat} (hd : d < 1920) (h0 : K d = 0) : tot (up K d 1) 1920 = tot K 1920 + 1 := by
  have := tot_up (c := K) (d := d) (v := 1) 1920
  rw [if_pos hd, if_pos hd] at this
  omega
def Ok (K K' : Nat → Nat) (x x' : Int32) (S : Prop) : Prop := (K' = K ∧ x' = x ∧ S) ∨ (tot K 1920 < tot K' 1920 ∧ x' = 1)
theorem Ok.le {K K' : Nat → Nat} {x x' : Int32} {S : Prop} (h : Ok K K' x x' S) : tot K 1920 ≤ tot K' 1920 := by
  rcases h with ⟨h, -⟩ | ⟨h, -⟩
  · rw [h]; exact Nat.le_refl _
  · omega
theorem Ok.tr {K K' K2 : Nat → Nat} {x x' x2 : Int32} {S S' S2 : Prop} (h : Ok K K' x x' S) (k : Ok K' K2 x' x2 S') (f : K' = K → S → S' → S2) : Ok K K2 x x2 S2 := by
  have a := h.le
  have b := k.le
  rcases h with ⟨e1, e2, e3⟩ | ⟨e1, e2⟩
  · rcases k with ⟨g1, g2, g3⟩ | ⟨g1, g2⟩
    · exact Or.inl ⟨g1.trans e1, g2.trans e2, f e1 e3 g3⟩
    · exact Or.inr ⟨by omega, g2⟩
  · rcases k with ⟨g1, g2, g3⟩ | ⟨g1, g2⟩
    · exact Or.inr ⟨by rw [g1]; exact e1, by rw [g2, e2]⟩
    · exact Or.inr ⟨by omega, g2⟩
abbrev GK : List Nat := [2507, 2562, 2535, 2536, 2537, 2538, 2539, 2540, 12541, 22576]
theorem Wx.dem (h : Wx σ t s) (w : Tw [22576] t σ τ) : Wx τ t s := ⟨h.1.tw w (by decide), h.2.1.tw w (by decide), h.2.2.tw w (by decide)⟩
theorem WL.dem {L : List Wy} (h : WL σ t L) (w : Tw [22576] t σ τ) : WL τ t L := by
  refine ⟨by rw [w.I (by decide)]; exact h.1, fun i hi => ?_⟩
  rw [w.A (by decide), w.A (by decide), w.A (by decide), w.A (by decide), w.A (by decide), w.AJ (by decide)]
  exact h.2 i hi
theorem KW.tw {G : List Nat} {K : Nat → Nat} (h : KW σ t K) (k : Tw G t σ τ) (d : 22576 ∉ G) : KW τ t K := fun x hx => by rw [k.A d]; exact h x hx
/-- one input -/
theorem t_118 {Q : Int32 → wS → Prop} {k90 : wS → Int32 → Int32 → Int32 → Int32 → Int32 → Prop} {k158 : wS → Int32 → Int32 → Int32 → Int32 → Prop} {a : Nat} {K : Nat → Nat} {o : Option Nat} {x x4 x5 x6 : Int32} (ok : ok24 σ t) (hK : KW σ t K) (hI : KI s a K) (ho : ∀ y, o = some y → clo s a y ∧ y < 1920)
    (h : ∀ τ K' x', Tv GK t σ τ → Tw [22576] t σ τ → KW τ t K' → KI s a K' → Ok K K' x x' (∀ y, o = some y → K y = 1) → k90 τ (nI (tot K' 1920)) x' x4 x5 (x6 + 1)) : b_X24_closes_118 F t Q k90 k158 σ (nI (tot K 1920)) x x4 x5 x6 (oN o) := by
  unfold b_X24_closes_118
  cases o with
  | none =>
    rw [if_pos (show oN none = (-1 : Int32) from rfl)]
    exact h σ K x Tv.refl Tw.refl hK hI (Or.inl ⟨rfl, rfl, fun y hy => (nomatch hy)⟩)
  | some d =>
    obtain ⟨h1, h2⟩ := ho d rfl
    rw [show oN (some d) = nI d from rfl, if_neg (nI_m1 (lt31 (by omega)))]
    refine ⟨ok, vp_in_nI h2 (by decide), ?_⟩
    have hk1 := hI.2.2 d
    rw [nI_clamp (n := d) (lt31 (by omega)), hK d h2]
    by_cases c : K d = 0
    · rw [if_pos (by rw [c]; rfl)]
      refine bnd_sA fun σ1 w1 v1 o1 j1 => ?_
      rw [nar_b1] at v1
      have ht := tot_up1 h2 c
      rw [← nI_succ, ← ht]
      refine h σ1 (up K d 1) 1 ⟨w1.mono (by simp), by rw [o1], w1.A (by decide)⟩ w1 (fun y hy => ?_) (ki_up hI h1) (Or.inr ⟨by omega, rfl⟩)
      rw [v1]
      by_cases z : y = d
      · rw [z, upd_s, up_s]; rfl
      · rw [upd_n z, up_n z]; exact hK y hy
    · rw [if_neg (fun z => c ((nI_n0 (lt31 (by omega))).mp z))]
      exact h σ K x Tv.refl Tw.refl hK hI (Or.inl ⟨rfl, rfl, fun y hy => by cases hy; omega⟩)
theorem t_c78 {Q : Int32 → wS → Prop} {k164 : wS → Int32 → Int32 → Int32 → Prop} {a d : Nat} {L : List Wy} {x4 : Int32} (hs : Sh s) (l : Lo s) (hb : Tb s) (hG : mG s ≤ 64) (ha : Dm s a) (hd : clo s a d) (eL : L = wys s d) (hL : L.length ≤ 386) (hF : 200 ≤ F) : ∀ n i σ (K : Nat → Nat) (x : Int32), i ≤ L.length → L.length - i < n → Wx σ t s → WL σ t L → KW σ t K → KI s a K →
    (∀ τ K' x', Tv GK t σ τ → Wx τ t s → KW τ t K' → KI s a K' → Ok K K' x x' (∀ j (h : j < L.length), i ≤ j → ∀ y, inW L[j] y → K y = 1) → k164 τ (nI (tot K' 1920)) x' x4) → l_X24_closes_78 F t Q k164 n σ (nI (tot K 1920)) x x4 (nI i) := by
  intro n
  induction n with
  | zero => intro i σ K x _ h; omega
  | succ n ih =>
    intro i σ K x hi hn hw hW hK hI h
    refine ⟨hw.1.1.1, ?_⟩
    rw [hW.1]
    by_cases q : L.length ≤ i
    · rw [if_pos (nI_le q (lt31 (by omega)))]
      exact h σ K x Tv.refl hw hK hI (Or.inl ⟨rfl, rfl, fun j h1 h2 => by omega⟩)
    · rw [if_neg (nI_ge (by omega) (lt31 (by omega)))]
      have hi' : i < L.length := by omega
      have hmem : L[i] ∈ wys s d := by rw [← eL]; exact List.getElem_mem hi'
      have cl : ∀ y, inW L[i] y → clo s a y ∧ y < 1920 := fun y hy => by
        have := clo_w hd hmem hy
        exact ⟨this, dm_lt hG (clo_dm hs l hb ha this)⟩
      have vi : vp_in (nI i) 400 := vp_in_nI (by omega) (by decide)
      have ci : (nI i).toNatClampNeg = i := nI_clamp (lt31 (by omega))
      obtain ⟨f, rfl⟩ : ∃ f, F = f + 3 := ⟨F - 3, by omega⟩
      unfold l_X24_closes_90
      rw [if_neg (by decide), if_pos rfl]
      refine ⟨hw.1.1.1, vi, ?_⟩
      rw [ci, (hW.2 i hi').2.2.1]
      refine t_118 hw.1.1.1 hK hI (fun y hy => cl y (Or.inl hy)) (fun τ1 K1 x1 v1 w1 k1 i1 o1 => ?_)
      have hw1 := hw.dem w1
      have hW1 := hW.dem w1
      unfold l_X24_closes_90
      rw [if_neg (by decide), if_neg (by decide)]
      refine ⟨hw1.1.1.1, vi, ?_⟩
      rw [ci, (hW1.2 i hi').2.2.2.1]
      refine t_118 hw1.1.1.1 k1 i1 (fun y hy => cl y (Or.inr hy)) (fun τ2 K2 x2 v2 w2 k2 i2 o2 => ?_)
      unfold l_X24_closes_90
      rw [if_pos (show (2 : Int32) ≤ 0 + 1 + 1 by decide), ← nI_succ]
      refine ih (i + 1) τ2 K2 x2 (by omega) (by omega) (hw1.dem w2) (hW1.dem w2) k2 i2 (fun τ K' x' v hw' hk' hi' o' => h τ K' x' ((v1.trans v2).trans v) hw' hk' hi' ?_)
      have o12 : Ok K K2 x x2 (∀ y, inW L[i] y → K y = 1) := o1.tr o2 (fun e s1 s2 y hy => by
        rcases hy with hy | hy
        · exact s1 y hy
        · have := s2 y hy; rw [e] at this; exact this)
      refine o12.tr o' (fun e s1 s2 j hj hij y hy => ?_)
      by_cases z : j = i
      · subst z; exact s1 y hy
      · have := s2 j hj (by omega) y hy
        rw [e] at this; exact this
theorem t_c46 {Q : Int32 → wS → Prop} {k170 : wS → Int32 → Int32 → Prop} {a : Nat} (hs : Sh s) (l : Lo s) (hb : Tb s) (hX : Xo s) (hN : mN s ≤ 64) (ha : Dm s a) (hF : 2000 ≤ F) : ∀ n d σ (K : Nat → Nat) (x : Int32), d ≤ 1920 → 1920 - d < n → Wx σ t s → KW σ t K → KI s a K →
    (∀ τ K' x', Tv GK t σ τ → Wx τ t s → KW τ t K' → KI s a K' → Ok K K' x x' (∀ d', d ≤ d' → d' < 1920 → K d' = 1 → ∀ w, w ∈ wys s d' → ∀ y, inW w y → K y = 1) → k170 τ (nI (tot K' 1920)) x') → l_X24_closes_46 F t Q k170 n σ (nI (tot K 1920)) x (nI d) := by
  have b2 := hs.2.1
  intro n
  induction n with
  | zero => intro d σ K x _ h; omega
  | succ n ih =>
    intro d σ K x hd hn hw hK hI h
    refine ⟨hw.1.1.1, ?_⟩
    rw [show (1920 : Int32) = nI 1920 from rfl]
    by_cases q : 1920 ≤ d
    · rw [if_pos (nI_le q (lt31 (by omega)))]
      exact h σ K x Tv.refl hw hK hI (Or.inl ⟨rfl, rfl, fun d' h1 h2 => by omega⟩)
    · rw [if_neg (nI_ge (by omega) (lt31 (by omega)))]
      have hk1 := hI.2.2 d
      refine ⟨vp_in_nI (by omega) (by decide), ?_⟩
      rw [nI_clamp (n := d) (lt31 (by omega)), hK d (by omega)]
      by_cases c : K d = 0
      · rw [if_pos (by rw [c]; rfl), ← nI_succ]
        refine ih (d + 1) σ K x (by omega) (by omega) hw hK hI (fun τ K' x' v h1 h2 h3 h4 => h τ K' x' v h1 h2 h3 ?_)
        rcases h4 with ⟨g1, g2, g3⟩ | g
        · refine Or.inl ⟨g1, g2, fun d' k1 k2 k3 => ?_⟩
          by_cases z : d' = d
          · rw [z] at k3; omega
          · exact g3 d' (by omega) k2 k3
        · exact Or.inr g
      · rw [if_neg (fun z => c ((nI_n0 (lt31 (by omega))).mp z))]
        have hcl := hI.1 d (by omega)
        have hD := clo_dm hs l hb ha hcl
        refine t_waysOf hw hs l hb hX hN hD (by omega) (fun σ1 w1 W1 => ?_)
        refine t_c78 hs l hb (by omega) ha hcl rfl (wys_len hN) (by omega) F 0 σ1 K x (Nat.zero_le _) (by have := wys_len (s := s) (d := d) hN; omega) (hw.tv w1) W1 (hK.tw w1.1 (by decide)) hI (fun σ2 K2 x2 v2 hw2 k2 i2 o2 => ?_)
        have V1 : Tv GK t σ σ1 := w1.mono (by decide)
        rw [← nI_succ]
        refine ih (d + 1) σ2 K2 x2 (by omega) (by omega) hw2 k2 i2 (fun τ K' x' v h1 h2 h3 h4 => h τ K' x' ((V1.trans v2).trans v) h1 h2 h3 ?_)
        refine o2.tr h4 (fun e s1 s2 d' k1 k2' k3 w hw' y hy => ?_)
        by_cases z : d' = d
        · subst z
          obtain ⟨j, hj, ej⟩ := List.getElem_of_mem hw'
          rw [← ej] at hy
          exact s1 j hj (Nat.zero_le _) y hy
        · rw [e] at s2
          exact s2 d' (by omega) k2' k3 w hw' y hy
theorem t_c37 {Q : Int32 → wS → Prop} {a : Nat} (hs : Sh s) (l : Lo s) (hb : Tb s) (hX : Xo s) (hN : mN s ≤ 64) (ha : Dm s a) (hF : 2000 ≤ F) : ∀ n σ (K : Nat → Nat), 1920 - tot K 1920 + 2 ≤ n → Wx σ t s → KW σ t K → KI s a K →
    (∀ τ K', Tv GK t σ τ → Wx τ t s → KW τ t K' → KI s a K' → (∀ d', d' < 1920 → K' d' = 1 → ∀ w, w ∈ wys s d' → ∀ y, inW w y → K' y = 1) → Q (nI (tot K' 1920)) τ) → l_X24_closes_37 F t Q n σ (nI (tot K 1920)) 1 := by
  intro n
  induction n with
  | zero => intro σ K h; omega
  | succ n ih =>
    intro σ K hn hw hK hI h
    show (if (1 : Int32) = 0 then Q _ σ else _)
    rw [if_neg (by decide)]
    have hle := tot_1 hI.2.2 1920
    refine t_c46 hs l hb hX hN ha hF F 0 σ K 0 (by omega) (by omega) hw hK hI (fun τ K' x' v h1 h2 h3 h4 => ?_)
    have hle' := tot_1 h3.2.2 1920
    rcases h4 with ⟨g1, g2, g3⟩ | ⟨g1, g2⟩
    · subst g1 g2
      cases n with
      | zero => omega
      | succ n =>
        show (if (0 : Int32) = 0 then Q _ τ else _)
        rw [if_pos rfl]
        exact h τ K' v h1 h2 h3 (fun d' k => g3 d' (Nat.zero_le _) k)
    · subst g2
      exact ih τ K' (by omega) h1 h2 h3 (fun υ K2 w2 => h υ K2 (v.trans w2))
/-- closes: what is reached, and how many -/
theorem t_closes {Q : Int32 → wS → Prop} {a : Nat} (hw : Wx σ t s) (hs : Sh s) (l : Lo s) (hb : Tb s) (hX : Xo s) (hN : mN s ≤ 64) (ha : Dm s a) (hF : 10000 ≤ F)
    (h : ∀ τ K, Tv GK t σ τ → Wx τ t s → KW τ t K → (∀ d, K d ≤ 1 ∧ (K d = 1 ↔ clo s a d)) → Q (nI (cnp (clo s a) 1920)) τ) : w_X24_closes F σ t (nI a) Q := by
  have b2 := hs.2.1
  have hal : a < 1920 := dm_lt (by omega) ha
  have key : ∀ n d σ2, d ≤ 1920 → 1920 - d < n → Tv GK t σ σ2 → Wx σ2 t s → (∀ x, x < d → aI σ2 22576 t x = nI (up (fun _ => 0) a 1 x)) → l_X24_closes_2 F t (nI a) Q (fun σ13 => l_X24_closes_37 F t Q F σ13 (1 : Int32) (1 : Int32)) n σ2 (nI d) := by
    intro n
    induction n with
    | zero => intro d σ2 _ h; omega
    | succ n ih =>
      intro d σ2 hd hn v hw2 hL
      refine ⟨hw2.1.1.1, ?_⟩
      rw [show (1920 : Int32) = nI 1920 from rfl]
      by_cases c : 1920 ≤ d
      · rw [if_pos (nI_le c (lt31 (by omega)))]
        have hI : KI s a (up (fun _ => 0) a 1) := by
          refine ⟨fun x hx => ?_, up_s, fun x => ?_⟩
          · by_cases z : x = a
            · rw [z]; exact clo_a
            · rw [up_n z] at hx; cases hx
          · by_cases z : x = a
            · rw [z, up_s]; exact Nat.le_refl 1
            · rw [up_n z]; exact Nat.zero_le 1
        have e1 : tot (up (fun _ => 0) a 1) 1920 = 1 := by
          rw [tot_up1 hal rfl]
          have : ∀ n, tot (fun _ => 0) n = 0 := by
            intro n
            induction n with
            | zero => rfl
            | succ n ih => unfold tot; rw [ih]
          rw [this]
        have := t_c37 (Q := Q) (F := F) (t := t) hs l hb hX hN ha (by omega) F σ2 (up (fun _ => 0) a 1) (by rw [e1]; omega) hw2 (fun x hx => hL x (by omega)) hI (fun τ K' v2 h1 h2 h3 h4 => ?_)
        · rw [e1] at this
          exact this
        · have iff : ∀ d, K' d ≤ 1 ∧ (K' d = 1 ↔ clo s a d) := fun d => by
            refine ⟨h3.2.2 d, h3.1 d, fun hc => ?_⟩
            exact (hc (fun y => K' y = 1 ∧ y < 1920) ⟨h3.2.1, hal⟩ (fun x hx w hw' y hy => ⟨h4 x hx.2 hx.1 w hw' y hy, dm_lt (by omega) (clo_dm hs l hb ha (clo_w (h3.1 x hx.1) hw' hy))⟩)).1
          rw [← cnp_eq iff]
          exact h τ K' (v.trans v2) h1 h2 iff
      · rw [if_neg (nI_ge (by omega) (lt31 (by omega)))]
        refine ⟨vp_in_nI (by omega) (by decide), bnd_sA fun σ3 w3 v3 o3 j3 => ?_⟩
        rw [nI_clamp (n := d) (lt31 (by omega))] at v3
        rw [← nI_succ]
        refine ih (d + 1) σ3 (by omega) (by omega) (v.trans ⟨w3.mono (by simp), by rw [o3], w3.A (by decide)⟩) (hw2.dem w3) (fun x hx => ?_)
        rw [v3]
        by_cases z : x = d
        · subst z
          rw [upd_s]
          by_cases y : x = a
          · rw [y, if_pos rfl, up_s]; rfl
          · rw [if_neg (nI_eqf (by omega) (by omega) y), up_n y]; rfl
        · rw [upd_n z]; exact hL x (by omega)
  exact key F 0 σ (by omega) (by omega) Tv.refl hw (fun x hx => absurd hx (Nat.not_lt_zero _))
end PT
