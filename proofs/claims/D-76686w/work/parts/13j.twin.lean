set_option linter.unusedVariables false
set_option maxRecDepth 10000
section PT
variable {σ τ υ : wS} {t F : Nat} {s : mS}
abbrev GC : List Nat := [2507, 2562, 2535, 2536, 2537, 2538, 2539, 2540, 12541, 2530, 2531, 2532, 12533]
theorem Tv.mono {G G' : List Nat} (h : Tv G t σ τ) (k : ∀ g ∈ G, g ∈ G') : Tv G' t σ τ := ⟨h.1.mono k, h.2⟩
theorem Wx.cost (h : Wx σ t s) (w : Tw [12533] t σ τ) : Wx τ t s := ⟨h.1.tw w (by decide), h.2.1.tw w (by decide), h.2.2.tw w (by decide)⟩
theorem WL.cost {L : List Wy} (h : WL σ t L) (w : Tw [12533] t σ τ) : WL τ t L := by
  refine ⟨by rw [w.I (by decide)]; exact h.1, fun i hi => ?_⟩
  rw [w.A (by decide), w.A (by decide), w.A (by decide), w.A (by decide), w.A (by decide), w.AJ (by decide)]
  exact h.2 i hi
/-- what a walk over ways or demands leaves -/
def Oc (c c' : Nat → Nat) (x x' : Int32) (S : Prop) : Prop := (c' = c ∧ x' = x ∧ S) ∨ (tot c' 1920 < tot c 1920 ∧ x' = 1)
theorem Oc.tot_le {c c' : Nat → Nat} {x x' : Int32} {S : Prop} (h : Oc c c' x x' S) : tot c' 1920 ≤ tot c 1920 := by
  rcases h with ⟨h, -⟩ | ⟨h, -⟩
  · rw [h]; exact Nat.le_refl _
  · omega
theorem t_c74 {Q : wS → Prop} {K : wS → Int32 → Int32 → Prop} {d : Nat} {L : List Wy} (hs : Sh s) (hG : mG s ≤ 64) (hd : Dm s d) (eL : L = wys s d) (hL : L.length ≤ 386) (hF : 200 ≤ F) (hin : ∀ w, w ∈ L → okW s w) : ∀ n i σ (c : Nat → Nat) (x : Int32), i ≤ L.length → L.length - i < n → Wx σ t s → WL σ t L → CW σ t c → Pf s c →
    (∀ τ c' x', Tv GC t σ τ → Wx τ t s → CW τ t c' → Pf s c' → Oc c c' x x' (∀ j (h : j < L.length), i ≤ j → c d ≤ sm c L[j]) → K τ x' (nI d)) → l_X24_costs_74 F t Q K n σ x (nI d) (nI i) := by
  have mo := MO
  have hdl : d < 1920 := dm_lt hG hd
  intro n
  induction n with
  | zero => intro i σ c x _ h; omega
  | succ n ih =>
    intro i σ c x hi hn hw hW hC hP hK
    refine ⟨hw.1.1.1, ?_⟩
    rw [hW.1]
    by_cases q : L.length ≤ i
    · rw [if_pos (nI_le q (lt31 (by omega)))]
      exact hK σ c x Tv.refl hw hC hP (Or.inl ⟨rfl, rfl, fun j h1 h2 => by omega⟩)
    · rw [if_neg (nI_ge (by omega) (lt31 (by omega)))]
      have hi' : i < L.length := by omega
      have hmem : L[i] ∈ L := List.getElem_mem hi'
      refine t_sum hw.1.1.1 hW hC hP.1 (by omega) hi' (hin _ hmem) hG ?_
      refine ⟨vp_in_nI hdl (by decide), ?_⟩
      rw [nI_clamp (n := d) (lt31 (by omega)), hC d hdl]
      have hs1 : sm c L[i] ≤ OVR := cap_le
      have hs2 := hP.1 d
      by_cases r : c d ≤ sm c L[i]
      · rw [if_pos ((pk_lLE (by omega) (by omega)).mpr r), ← nI_succ]
        refine ih (i + 1) σ c x (by omega) (by omega) hw hW hC hP (fun τ c' x' w hw2 h2 h3 h4 => hK τ c' x' w hw2 h2 h3 ?_)
        rcases h4 with ⟨h4, h5, h6⟩ | h4
        · refine Or.inl ⟨h4, h5, fun j hj hij => ?_⟩
          by_cases z : j = i
          · subst z; exact r
          · exact h6 j hj (by omega)
        · exact Or.inr h4
      · rw [if_neg (fun z => r ((pk_lLE (by omega) (by omega)).mp z))]
        refine bnd_sAJ fun σ1 w1 v1 o1 a1 => ?_
        rw [← nI_succ]
        have hC1 : CW σ1 t (up c d (sm c L[i])) := by
          intro y hy
          rw [v1]
          by_cases z : y = d
          · rw [z, updL_s, up_s]
          · rw [updL_n z, up_n z]; exact hC y hy
        have hP1 := pf_up hP hd (by rw [← eL]; exact hmem) (by omega : sm c L[i] < c d)
        have ht := tot_lt (c := c) (v := sm c L[i]) hdl (by omega)
        have V1 : Tv GC t σ σ1 := ⟨w1.mono (by simp), by rw [o1], by rw [a1]⟩
        refine ih (i + 1) σ1 _ 1 (by omega) (by omega) (hw.cost w1) (hW.cost w1) hC1 hP1 (fun τ c' x' w hw2 h2 h3 h4 => hK τ c' x' (V1.trans w) hw2 h2 h3 ?_)
        rcases h4 with ⟨h4, h5, h6⟩ | ⟨h4, h5⟩
        · exact Or.inr ⟨by rw [h4]; exact ht, h5⟩
        · exact Or.inr ⟨by omega, h5⟩
theorem t_c38 {Q : wS → Prop} {K : wS → Int32 → Prop} (hs : Sh s) (l : Lo s) (hb : Tb s) (hX : Xo s) (hN : mN s ≤ 64) (hF : 400 ≤ F) : ∀ n d σ (c : Nat → Nat) (x : Int32), d ≤ mG s * 30 → mG s * 30 - d < n → Wx σ t s → CW σ t c → Pf s c →
    (∀ τ c' x', Tv GC t σ τ → Wx τ t s → CW τ t c' → Pf s c' → Oc c c' x x' (∀ d', d ≤ d' → Dm s d' → ∀ w, w ∈ wys s d' → c d' ≤ sm c w) → K τ x') → l_X24_costs_38 F t Q K n σ x (nI d) := by
  have b2 := hs.2.1
  intro n
  induction n with
  | zero => intro d σ c x _ h; omega
  | succ n ih =>
    intro d σ c x hd hn hw hC hP hK
    have T := hw.1
    refine ⟨T.1.1, ?_⟩
    rw [T.1.2.2.2, nIl_30, pk_mul]
    by_cases q : mG s * 30 ≤ d
    · rw [if_pos (nI_le q (lt31 (by omega)))]
      refine hK σ c x Tv.refl hw hC hP (Or.inl ⟨rfl, rfl, fun d' h1 h2 => ?_⟩)
      have := h2.1
      omega
    · rw [if_neg (nI_ge (by omega) (lt31 (by omega))), pk_div (lt31 (by omega)) (by decide) (by decide)]
      have hg : d / 30 < mG s := by omega
      have hr := sh_lt hs hg
      refine t_root T hs hg (by omega) ?_
      by_cases r : R s (d / 30) = d / 30
      · rw [if_pos (by rw [r])]
        have hD : Dm s d := ⟨hg, r⟩
        refine t_waysOf hw hs l hb hX hN hD (by omega) (fun σ1 w1 W1 => ?_)
        refine t_c74 hs (by omega) hD rfl (wys_len hN) (by omega) (fun w h => wys_in hs l hb hD h) F 0 σ1 c x (Nat.zero_le _) (by have := wys_len (s := s) (d := d) hN; omega) (hw.tv w1) W1 (hC.tw w1.1 (by decide)) hP (fun σ2 c2 x2 w2 hw2 C2 P2 o2 => ?_)
        have V1 : Tv GC t σ σ1 := w1.mono (by decide)
        rw [← nI_succ]
        refine ih (d + 1) σ2 c2 x2 (by omega) (by omega) hw2 C2 P2 (fun τ c' x' w h1 h2 h3 h4 => hK τ c' x' ((V1.trans w2).trans w) h1 h2 h3 ?_)
        rcases o2 with ⟨e1, e2, e3⟩ | ⟨e1, e2⟩
        · subst e1 e2
          rcases h4 with ⟨g1, g2, g3⟩ | g
          · refine Or.inl ⟨g1, g2, fun d' k1 k2 w' hw' => ?_⟩
            by_cases z : d' = d
            · subst z
              obtain ⟨j, hj, ej⟩ := List.getElem_of_mem hw'
              rw [← ej]
              exact e3 j hj (Nat.zero_le _)
            · exact g3 d' (by omega) k2 w' hw'
          · exact Or.inr g
        · have := h4.tot_le
          rcases h4 with ⟨g1, g2, g3⟩ | ⟨g1, g2⟩
          · exact Or.inr ⟨by omega, by rw [g2, e2]⟩
          · exact Or.inr ⟨by omega, g2⟩
      · rw [if_neg (nI_eqf (by omega) (by omega) r), ← nI_succ]
        refine ih (d + 1) σ c x (by omega) (by omega) hw hC hP (fun τ c' x' w h1 h2 h3 h4 => hK τ c' x' w h1 h2 h3 ?_)
        rcases h4 with ⟨g1, g2, g3⟩ | g
        · refine Or.inl ⟨g1, g2, fun d' k1 k2 w' hw' => ?_⟩
          by_cases z : d' = d
          · subst z; exact absurd k2.2 r
          · exact g3 d' (by omega) k2 w' hw'
        · exact Or.inr g
theorem t_c30 {Q : wS → Prop} (hs : Sh s) (l : Lo s) (hb : Tb s) (hX : Xo s) (hN : mN s ≤ 64) (hF : 10000 ≤ F) : ∀ n σ (c : Nat → Nat), tot c 1920 + 2 ≤ n → Wx σ t s → CW σ t c → Pf s c →
    (∀ τ c', Tv GC t σ τ → Wx τ t s → CW τ t c' → Fix s c' → Q τ) → l_X24_costs_30 F t Q n σ 1 := by
  have b2 := hs.2.1
  intro n
  induction n with
  | zero => intro σ c h; omega
  | succ n ih =>
    intro σ c hn hw hC hP hQ
    show (if (1 : Int32) = 0 then Q σ else _)
    rw [if_neg (by decide)]
    refine t_c38 hs l hb hX hN (by omega) F 0 σ c 0 (Nat.zero_le _) (by omega) hw hC hP (fun τ c' x' w h1 h2 h3 h4 => ?_)
    rcases h4 with ⟨g1, g2, g3⟩ | ⟨g1, g2⟩
    · subst g1 g2
      cases n with
      | zero => omega
      | succ n =>
        show (if (0 : Int32) = 0 then Q τ else _)
        rw [if_pos rfl]
        exact hQ τ c' w h1 h2 (fix_of h3 (fun d hd => g3 d (Nat.zero_le _) hd))
    · subst g2
      exact ih τ c' (by omega) h1 h2 h3 (fun υ c2 w2 => hQ υ c2 (w.trans w2))
theorem t_costs {Q : wS → Prop} (hT : TM σ t s) (hO : TXo σ t s) (hs : Sh s) (l : Lo s) (hb : Tb s) (hX : Xo s) (hN : mN s ≤ 64) (hF : 10000000000000000 ≤ F) (hQ : ∀ τ, Tv GC t σ τ → Wx τ t s → CW τ t (cst s) → Q τ) : w_X24_costs F σ t Q := by
  have b2 := hs.2.1
  have mo := MO
  refine ⟨hT.1.1, t_tells hT hs l hb (by omega) (fun σ1 w1 L1 => ?_)⟩
  have V1 : Tv GC t σ σ1 := ⟨w1.mono (by decide), w1.I (by decide), by rw [w1.A (by decide)]⟩
  have hw1 : Wx σ1 t s := ⟨hT.tw w1 (by decide), L1, hO.tw w1 (by decide)⟩
  have key : ∀ n d σ2, d ≤ 1920 → 1920 - d < n → Tv GC t σ σ2 → Wx σ2 t s → (∀ x, x < d → aJ σ2 12533 t x = lN OVR) → l_X24_costs_6 F t Q (fun σ16 => l_X24_costs_30 F t Q F σ16 (1 : Int32)) n σ2 (nI d) := by
    intro n
    induction n with
    | zero => intro d σ2 _ h; omega
    | succ n ih =>
      intro d σ2 hd hn w hw hL
      unfold l_X24_costs_6
      rw [show (1920 : Int32) = nI 1920 from rfl]
      by_cases c : 1920 ≤ d
      · rw [if_pos (nI_le c (lt31 (by omega)))]
        have ht := tot_le (c := fun _ => OVR) (fun _ => Nat.le_refl _) 1920
        refine t_c30 hs l hb hX hN (by omega) F σ2 (fun _ => OVR) (by omega) hw (fun x hx => hL x (by omega)) pf_0 (fun τ c' w2 h1 h2 h3 => ?_)
        have e : c' = cst s := fix_one hs l hb h3 (cst_fix (by omega))
        rw [e] at h2
        exact hQ τ (w.trans w2) h1 h2
      · rw [if_neg (nI_ge (by omega) (lt31 (by omega)))]
        refine ⟨hw.1.1.1, vp_in_nI (by omega) (by decide), bnd_sAJ fun σ3 w3 v3 o3 a3 => ?_⟩
        rw [nI_clamp (n := d) (lt31 (by omega))] at v3
        rw [← nI_succ]
        have V3 : Tv GC t σ2 σ3 := ⟨w3.mono (by simp), by rw [o3], by rw [a3]⟩
        refine ih (d + 1) σ3 (by omega) (by omega) (w.trans V3) (hw.cost w3) (fun x hx => ?_)
        rw [v3]
        by_cases z : x = d
        · rw [z, updL_s]; rfl
        · rw [updL_n z]; exact hL x (by omega)
  exact key F 0 σ1 (Nat.zero_le _) (by omega) V1 hw1 (fun x hx => absurd hx (Nat.not_lt_zero _))
end PT
