set_option linter.unusedVariables false
set_option maxRecDepth 10000
/-! ===== component: shelves ===== -/
section PC
variable {σ τ υ σ0 : wS} {x m F : Nat} {s : mS} {S : gS} {K K' : Nat → Nat} {P P' : Nat → Nat → Prop} {a b c d : Nat}
theorem Sk.k (h : Sk σ x K) (e : ∀ j, j < 50 → K' j = K j) : Sk σ x K' := by
  obtain ⟨⟨a1, a2, a3, a4, a5⟩, ⟨b1, b2, b3, b4, b5, b6, b7⟩, h2, ⟨c1, c2, c3, c4⟩, r, w, sh, di⟩ := h
  refine ⟨⟨a1, ?_, ?_, ?_, ?_⟩, ⟨?_, ?_, ?_, ?_, ?_, ?_, ?_⟩, ?_, ⟨?_, ?_, ?_, ?_⟩, fun i hi => ?_, fun i hi => ?_, fun i hi => ?_, fun i j hi hj hij => ?_⟩
  · rw [e 0 (by decide)]; exact a2
  · rw [e 1 (by decide)]; exact a3
  · rw [e 2 (by decide)]; exact a4
  · rw [e 3 (by decide)]; exact a5
  · rw [e 1 (by decide)]; exact b1
  · rw [e 2 (by decide)]; exact b2
  · rw [e 3 (by decide)]; exact b3
  · rw [e 4 (by decide)]; exact b4
  · rw [e 5 (by decide)]; exact b5
  · rw [e 6 (by decide)]; exact b6
  · rw [e 7 (by decide)]; exact b7
  · rw [e 4 (by decide), e 5 (by decide), e 7 (by decide), e 1 (by decide)]; exact h2
  · rw [e 2 (by decide), e 4 (by decide)]; exact c1
  · rw [e 2 (by decide), e 5 (by decide)]; exact c2
  · rw [e 3 (by decide), e 6 (by decide)]; exact c3
  · rw [e 6 (by decide), e 7 (by decide)]; exact c4
  · rw [e 2 (by decide), e (20 + i) (by omega)]; exact r i hi
  · rw [e 6 (by decide), e (30 + i) (by omega)]; exact w i hi
  · rw [e (10 + i) (by omega)]; exact sh i hi
  · rw [e (10 + i) (by omega), e (10 + j) (by omega)]; exact di i j hi hj hij
theorem RW.k {o k n : Nat} {q q' : Nat → Int64} (h : RW σ o k n q) (e : ∀ j, j < n → q' j = q j) : RW σ o k n q' :=
  ⟨h.1, h.2.1, fun z j hj => by rw [e j hj]; exact h.2.2.1 z j hj, fun z j hj => by rw [e j hj]; exact h.2.2.2.1 z j hj, fun j hj => by rw [e j hj]; exact h.2.2.2.2 j hj⟩
abbrev GRow : List Nat := [32800, 52900, 3000, 13100]
def Psh (K : Nat → Nat) (i q : Nat) (g o : Nat) : Prop := (o = K (10 + i) ∧ g = 2400) ∨ (o = q ∧ g ∈ GRow)
/-- one shelf changed -/
theorem ck_sh {i q : Nat} {A' : mS} {c' : Nat → Int64} (h : CK σ x K S) (hA : AV S) (hi : i < 8) (f : Fr (Psh K i q) a b σ τ) (hq : oC σ q = 0 ∨ S.2.1 1 i = 1 ∧ q = K (50 + i) ∨ q = K (10 + i)) (hK : ∀ j, j ≠ 50 + i → K' j = K j) (hAk : ∀ k, k = 0 ∨ 5 ≤ k → A' k = S.2.1 k) (hAj : ∀ j k, j < 8 → j ≠ i → 1 ≤ k → k ≤ 4 → A' k j = S.2.1 k j) (hc : ∀ j, j < 8 → j ≠ i → ∀ m, m < 160 → c' (160 * j + m) = S.2.2.2.1 (160 * j + m)) (hS : SH τ K' (S.1, A', S.2.2.1, c', S.2.2.2.2) i) (hd : A' 1 i = 1 → ∀ j, j < 8 → j ≠ i → S.2.1 1 j = 1 → K' (50 + i) ≠ K (50 + j)) : CK τ x K' (S.1, A', S.2.2.1, c', S.2.2.2.2) := by
  obtain ⟨⟨k1, k2, k3⟩, ⟨k4, k5, k6⟩, k7, k8⟩ := h
  have hx := k1.1.1.1
  have h1 := k1.2.1.1.1
  have no : ∀ g, g ∉ [2400, 32800, 52900, 3000, 13100] → ∀ o, ¬ Psh K i q g o := fun g hg o z => by
    rcases z with ⟨_, z⟩ | ⟨_, z⟩
    · exact hg (by rw [z]; decide)
    · exact hg (List.mem_cons_of_mem _ z)
  have eK0 : K' 0 = K 0 := hK 0 (by omega)
  have eK1 : K' 1 = K 1 := hK 1 (by omega)
  refine ⟨⟨(k1.k (fun j hj => hK j (by omega))).fr f (fun g hg => no g (by revert g; decide)), ?_, fun j hj => ?_⟩, ⟨⟨fun j hj => ?_, fun j j' hj hj' hjj z1 z2 => ?_⟩, ⟨?_, ?_⟩, ?_⟩, ?_, ?_⟩
  · rw [eK0]; exact k2.fr f (fun g hg => no g (by revert g; decide) _) (fun g hg => no g (by revert g; decide))
  · rw [f.A hx (no _ (by decide) _)]
    show _ = nI (A' 0 j)
    rw [hAk 0 (Or.inl rfl)]; exact k3 j hj
  · by_cases z : j = i
    · rw [z]; exact hS
    have s1 : A' 1 j = S.2.1 1 j := hAj j 1 hj z (by decide) (by decide)
    have s2 : A' 2 j = S.2.1 2 j := hAj j 2 hj z (by decide) (by decide)
    have s3 : A' 3 j = S.2.1 3 j := hAj j 3 hj z (by decide) (by decide)
    have s4 : A' 4 j = S.2.1 4 j := hAj j 4 hj z (by decide) (by decide)
    have cj := (k1.2.2.2.2.2.2.1 j hj).2
    have ci := (k1.2.2.2.2.2.2.1 i hi).2
    have nq : K (10 + j) ≠ q := fun y => by
      rcases hq with w | ⟨w, w'⟩ | w
      · rw [y, w] at cj; exact absurd cj (by decide)
      · have := ((k4.1 i hi).2.1 w).2.1
        rw [← w', ← y, cj] at this
        omega
      · exact k1.2.2.2.2.2.2.2 j i hj hi z (y.trans w)
    have np : ¬ Psh K i q 2400 (K (10 + j)) := fun y => by
      rcases y with ⟨y, _⟩ | ⟨y, _⟩
      · exact k1.2.2.2.2.2.2.2 j i hj hi z y
      · exact nq y
    obtain ⟨y1, y2, y3⟩ := k4.1 j hj
    unfold SH
    show (A' 1 j = 0 → _) ∧ (A' 1 j = 1 → _ = some (K' (50 + j)) ∧ RW τ (K' (50 + j)) (A' 2 j) (A' 3 j) (fun m => c' (160 * j + m))) ∧ (A' 1 j = 2 → ∃ o, _ = some o ∧ XO τ o (A' 4 j) (S.1 2 (A' 4 j)) (S.1 3 (A' 4 j)))
    rw [hK (10 + j) (by omega), hK (50 + j) (by omega), s1, s2, s3, s4, f.R cj np]
    refine ⟨y1, fun w => ⟨(y2 w).1, ?_⟩, fun w => ?_⟩
    · have R1 := (y2 w).2
      have n3 := (hA j hj).2.2.1
      refine (R1.fr (hA j hj).2.1 f (fun g hg y => ?_)).k (fun m hm => hc j hj z m (by omega))
      rcases y with ⟨_, y⟩ | ⟨y, _⟩
      · rw [y] at hg; exact absurd hg (by decide)
      · rcases hq with w2 | ⟨w2, w3⟩ | w2
        · have := R1.1
          rw [y, w2] at this
          omega
        · exact k4.2 j i hj hi z w w2 (y.trans w3)
        · have := R1.1
          rw [y, w2, ci] at this
          omega
    · obtain ⟨o, o1, o2⟩ := y3 w
      exact ⟨o, o1, o2.fr f (fun g hg => no g (by revert g; decide) _)⟩
  · have s1 : ∀ j, j < 8 → j ≠ i → A' 1 j = S.2.1 1 j := fun j hj z => hAj j 1 hj z (by decide) (by decide)
    by_cases w : j = i
    · rw [w] at z1 ⊢
      have w' : j' ≠ i := fun y => hjj (w.trans y.symm)
      rw [hK (50 + j') (by omega)]
      exact hd z1 j' hj' w' (by rw [← s1 j' hj' w']; exact z2)
    · by_cases w' : j' = i
      · rw [w'] at z2 ⊢
        rw [hK (50 + j) (by omega)]
        exact fun y => hd z2 j hj w (by rw [← s1 j hj w]; exact z1) y.symm
      · rw [hK (50 + j) (by omega), hK (50 + j') (by omega)]
        exact k4.2 j j' hj hj' hjj (by rw [← s1 j hj w]; exact z1) (by rw [← s1 j' hj' w']; exact z2)
  · rw [eK1, f.I h1 (no _ (by decide) _)]; exact k5.1
  · rw [eK1, f.A h1 (no _ (by decide) _)]; exact k5.2
  · rw [f.I hx (no _ (by decide) _)]
    show _ = eI (A' 5 0)
    rw [hAk 5 (by omega)]; exact k6
  · rw [eK0]
    have := k7.fr hx f (fun g hg o _ => no g (by revert g; decide) o) (fun g hg => no g (by revert g; decide))
    show ImC τ x (K 0) A' S.2.2.1
    unfold ImC at this ⊢
    rw [hAk 5 (by omega)]
    exact this
  · have := k8.fr hx f (fun g hg => no g (by revert g; decide))
    show PlC τ x A'
    unfold PlC ND NDL at this ⊢
    rw [hAk 5 (by omega), hAk 6 (by omega), hAk 7 (by omega), hAk 8 (by omega), hAk 9 (by omega), hAk 10 (by omega), hAk 11 (by omega), hAk 12 (by omega), hAk 13 (by omega), hAk 14 (by omega)]
    exact this
theorem psh_P {i q : Nat} (h : CK σ x K S) (hA : AV S) (hi : i < 8) (hq : oC σ q = 0 ∨ S.2.1 1 i = 1 ∧ q = K (50 + i) ∨ q = K (10 + i)) : ∀ g o, Psh K i q g o → oC σ o ≠ 25 := fun g o z => by
  rcases z with ⟨z, -⟩ | ⟨z, -⟩
  · rw [z, (h.1.1.2.2.2.2.2.2.1 i hi).2]; decide
  · rw [z]
    rcases hq with w | ⟨w, w'⟩ | w
    · rw [w]; decide
    · rw [w', ((h.2.1.1.1 i hi).2.1 w).2.1]
      have := (hA i hi).2.1
      omega
    · rw [w, (h.1.1.2.2.2.2.2.2.1 i hi).2]; decide
/-- the shelf asked for -/
theorem c_shelf {Q : Int32 → wS → Prop} {Q1 : Option Nat → wS → Prop} {v : Int32} {B : wS → Nat → Prop} (hK : CK σ x K S) (hA : AV S) (hr : RM σ) (hB : ∀ τ q, B τ q = (ok0 τ x ∧ w_X0_refused τ x (some q) (fun r σ => Q r σ))) (h1 : ∀ i, i < 8 → v = nI i → num 8 v = some i → Q1 (some (K (10 + i))) σ) (hQ : num 8 v = none → ∀ υ, Cf σ υ → CC υ x (rfu S 1) → Q (-nI 1) υ) : w_X0_shelf σ x v Q1 (fun c9 q9 τ9 => c9 = 25 ∧ B τ9 q9) := by
  obtain ⟨r1, r2⟩ := hr
  unfold w_X0_shelf
  refine ⟨hK.1.1.1.1, fun hv => ?_, fun hv => ?_⟩
  · rcases num_cs (N := 8) (by decide) v with ⟨i, hi, ha, e⟩ | ⟨e, -⟩
    · rw [ha, nI_clamp (by omega), (hK.1.1.2.2.2.2.2.2.1 i hi).1]
      exact h1 i hi ha e
    · exact absurd hv (nvp (by decide) e)
  · have e : num 8 v = none := by
      rcases num_cs (N := 8) (by decide) v with ⟨n, hn, ha, e⟩ | ⟨e, -⟩
      · rw [ha] at hv; exact absurd (vp_inN hn (by decide)) hv
      · exact e
    refine c_vmx (by omega) (fun q τ f => ⟨rfl, ?_⟩)
    have k := hK.no hA f
    obtain ⟨g1, g2⟩ := f.2.2.1
    unfold b_X0_shelf_7
    refine c_nwo (by omega) (fun τ2 f2 no _ => c_exc (b := 1) (σ0 := τ) (q := nx τ) f2 no.1 no.2.1 (fun τ3 f3 r3 => ⟨rfl, ?_⟩))
    rw [hB]
    exact c_thr k hA (by decide) f noP (by decide) (by decide) f3 r3 (hQ e)
/-- reading a row's element -/
theorem c_get {Q : Int64 → wS → Prop} {Xh : Nat → Nat → wS → Prop} {o k n : Nat} {f : Nat → Int64} {v : Int32} (hR : RW σ o k n f) (hk : k < 4) (hn : n ≤ 160) (h1 : ∀ j, j < n → num n v = some j → v = nI j → Q (f j) σ) (h0 : num n v = none → vmx σ 3 222 (fun q9 τ9 => Xh 101 q9 τ9)) : v_X26v_get σ o v Q Xh := by
  obtain ⟨r1, r2, r3, r4, -⟩ := hR
  have nv : ¬ vp_in v n → num n v = none := fun hv => by
    rcases num_cs (N := n) (by omega) v with ⟨i, hi, ha, e⟩ | ⟨e, -⟩
    · rw [ha] at hv; exact absurd (vp_inN hi (by omega)) hv
    · exact e
  have yv : vp_in v n → ∃ j, j < n ∧ num n v = some j ∧ v = nI j ∧ v.toNatClampNeg = j := fun hv => by
    rcases num_cs (N := n) (by omega) v with ⟨i, hi, ha, e⟩ | ⟨e, -⟩
    · exact ⟨i, hi, e, ha, by rw [ha]; exact nI_clamp (by omega)⟩
    · exact absurd hv (nvp (by omega) e)
  unfold v_X26v_get
  have h4 : k = 0 ∨ k = 1 ∨ k = 2 ∨ k = 3 := by omega
  rcases h4 with rfl | rfl | rfl | rfl
  · rw [if_pos r1]
    refine ⟨r1, n, r2, by omega, fun hv => ?_, fun hv => h0 (nv hv)⟩
    obtain ⟨j, j1, j2, j3, j4⟩ := yv hv
    rw [j4, show aI σ 32800 o j = aI σ (rwG 0) o j from rfl, r3 (by decide) j j1]
    exact h1 j j1 j2 j3
  · rw [if_neg (by rw [r1]; decide), if_pos r1]
    refine ⟨r1, n, r2, by omega, fun hv => ?_, fun hv => h0 (nv hv)⟩
    obtain ⟨j, j1, j2, j3, j4⟩ := yv hv
    rw [j4, show aI σ 52900 o j = aI σ (rwG 1) o j from rfl, r3 (by decide) j j1]
    exact h1 j j1 j2 j3
  · rw [if_neg (by rw [r1]; decide), if_neg (by rw [r1]; decide), if_pos r1]
    refine ⟨r1, n, r2, by omega, fun hv => ?_, fun hv => h0 (nv hv)⟩
    obtain ⟨j, j1, j2, j3, j4⟩ := yv hv
    rw [j4, show aI σ 3000 o j = aI σ (rwG 2) o j from rfl, r3 (by decide) j j1]
    exact h1 j j1 j2 j3
  · rw [if_neg (by rw [r1]; decide), if_neg (by rw [r1]; decide), if_neg (by rw [r1]; decide), if_pos r1]
    refine ⟨r1, n, r2, by omega, fun hv => ?_, fun hv => h0 (nv hv)⟩
    obtain ⟨j, j1, j2, j3, j4⟩ := yv hv
    rw [j4, r4 rfl j j1]
    exact h1 j j1 j2 j3
end PC
