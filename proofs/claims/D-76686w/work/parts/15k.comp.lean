set_option linter.unusedVariables false
set_option maxRecDepth 10000
/-! ===== component: small calls ===== -/
section PC
variable {σ τ υ σ0 : wS} {x m F : Nat} {s : mS} {S : gS} {K : Nat → Nat} {P P' : Nat → Nat → Prop} {a b c d : Nat}
theorem c_vmx {k1 k2 : Nat} {B : Nat → wS → Prop} (hr : k1 ≤ rC σ ∧ k2 ≤ rS σ) (h : ∀ q τ, Fr (fun _ _ => False) k1 k2 σ τ → B q τ) : vmx σ k1 k2 B := by
  refine ⟨hr, fun q n c s hn hc hs => h q _ ⟨⟨fun _ _ => rfl, fun _ _ _ _ _ hn => ⟨hn, rfl⟩⟩, fun g o _ _ => ⟨⟨⟨rfl, rfl, rfl, rfl⟩, rfl, rfl⟩, rfl, rfl⟩, ⟨?_, ?_⟩, hn⟩⟩
  · exact hc
  · exact hs
theorem c_bey2 {Q : Int32 → wS → Prop} (hK : CK σ x K S) (hA : AV S) (h0 : Fr P a b σ0 σ) (hP : ∀ g o, P g o → oC σ0 o ≠ 25) (ha : a ≤ 2000) (hb : b ≤ 20000) (hQ : ∀ τ, Cf σ0 τ → CC τ x (noA S 5).2 → Q (noA S 5).1 τ) : w_X0_beyond σ x Q := by
  have hx := hK.1.1.1.1.1
  refine c_beyond hK hA (fun τ w k => hQ τ ?_ ⟨K, k⟩)
  refine (Fr.w (P := fun _ o => oC σ0 o ≠ 25) (h0.mono hP (Nat.le_refl _) (Nat.le_refl _)) w ?_).mono (fun _ _ z => z) ha hb
  by_cases z : oC σ0 x = 0
  · exact Or.inl z
  · exact Or.inr fun g _ y => by rw [← h0.1.1 x z, hx] at y; exact absurd y (by decide)
theorem nvp {N : Nat} {a : Int32} (hN : N < 2 ^ 31) (h : num N a = none) : ¬ vp_in a N := by
  intro z
  rcases num_cs hN a with ⟨n, _, _, e⟩ | ⟨_, y | ⟨y, y'⟩⟩
  · rw [h] at e; cases e
  · exact z (Or.inl y)
  · obtain ⟨n, hn, rfl⟩ := nI_of y
    exact z (Or.inr (by rw [nI_clamp hn]; exact (nI_leI hN hn).mp y'))
/-- the memo's parts that a new frame leaves -/
theorem cm_part (h : CM σ m s) (f : Fr P a b σ τ) (d : ∀ g ∈ [2301, 2302, 2309, 2310, 22311, 2315, 2316, 2312, 102308], ¬ P g m) (d2 : ∀ g ∈ [3300, 3301], ∀ o, ¬ P g o) : (ok22 τ m ∧ oI τ 2301 m = nI (mN s) ∧ oI τ 2302 m = nI (mG s)) ∧ (∀ e, e < mN s → CE1 τ m s e) ∧ (∀ g, g < mG s → aI τ 2316 m g = nI (s 7 g) ∧ aI τ 2312 m g = nI (s 9 g)) := by
  obtain ⟨⟨a1, a2, a3, a4⟩, hb, hc, he, hf⟩ := h
  have hm : oC σ m ≠ 0 := by rw [a1.1]; decide
  have I : ∀ g ∈ [2301, 2302, 2309, 2310, 22311, 2315, 2316, 2312, 102308], oI τ g m = oI σ g m := fun g hg => (f.2.1 g m hm (d g hg)).1.1.1
  have A : ∀ g ∈ [2301, 2302, 2309, 2310, 22311, 2315, 2316, 2312, 102308], aI τ g m = aI σ g m := fun g hg => (f.2.1 g m hm (d g hg)).1.1.2.2.2
  have AR : ∀ g ∈ [2301, 2302, 2309, 2310, 22311, 2315, 2316, 2312, 102308], aR τ g m = aR σ g m := fun g hg => (f.2.1 g m hm (d g hg)).1.2.2
  refine ⟨⟨ok22.ext a1 f.1, ?_, ?_⟩, fun x hx => ?_, fun g hg => ?_⟩
  · rw [I _ (by decide)]; exact a3
  · rw [I _ (by decide)]; exact a4
  · obtain ⟨⟨o, h1, h2⟩, h3, h4, h5, h6⟩ := hb x hx
    refine ⟨⟨o, by rw [AR _ (by decide)]; exact h1, h2.fr f (fun g hg => d2 g hg o)⟩, ?_, ?_, ?_, ?_⟩
    · rw [A 2309 (by decide)]; exact h3
    · rw [A 2310 (by decide)]; exact h4
    · rw [A 22311 (by decide)]; exact h5
    · rw [A 2315 (by decide)]; exact h6
  · rw [A 2316 (by decide), A 2312 (by decide)]; exact hc g hg
theorem rwu_k {s' : mS} {N : Nat} (e : ∀ k, 2 ≤ k → k ≤ 8 → s' k = s k) (e15 : s' 15 = s 15) (e11 : ∀ n, n < N → s 2 n = 1 → s' 11 (s 3 n) = s 11 (s 3 n)) : ∀ n, n ≤ N → ∀ g, rwu s' n g = rwu s n g := by
  have hR : ∀ g, R s' g = R s g := fun g => by unfold R; rw [e 7 (by decide) (by decide)]
  have hl : ∀ n g, lsu s' n g = lsu s n g := fun n g => by
    unfold lsu
    rw [e 8 (by decide) (by decide), e 6 (by decide) (by decide), show R s' = R s from funext hR]
  intro n
  induction n with
  | zero => intro _ g; rfl
  | succ n ih =>
    intro hn g
    have ih' := ih (by omega)
    show (if lsu s' n g = none ∧ s' 8 n = 0 ∧ R s' (s' 6 n) = g then xrw s' (rwu s' n) n else rwu s' n g) = if lsu s n g = none ∧ s 8 n = 0 ∧ R s (s 6 n) = g then xrw s (rwu s n) n else rwu s n g
    rw [hl, ih', show rwu s' n = rwu s n from funext ih', e 8 (by decide) (by decide), e 6 (by decide) (by decide), show R s' = R s from funext hR]
    have ex : xrw s' (rwu s n) n = xrw s (rwu s n) n := by
      unfold xrw jn
      rw [e 2 (by decide) (by decide), e 3 (by decide) (by decide), e 4 (by decide) (by decide), e 5 (by decide) (by decide), e15, show R s' = R s from funext hR]
      by_cases q : s 2 n = 1
      · rw [if_pos q, if_pos q]; exact e11 n (by omega) q
      · rw [if_neg q, if_neg q]
    rw [ex]
theorem cn_k {s' : mS} (h : CN σ m s) (e : ∀ k, k ≤ 8 → s' k = s k) (e15 : s' 15 = s 15) (e11 : ∀ n, n < mN s → s 2 n = 1 → s' 11 (s 3 n) = s 11 (s 3 n)) : CN σ m s' := by
  refine h.imp id (fun z => ⟨z.1, fun g hg hr => ?_⟩)
  have eN : mN s' = mN s := congrFun (e 0 (by decide)) 0
  have eG : mG s' = mG s := congrFun (e 1 (by decide)) 0
  have eR : R s' g = R s g := by unfold R; rw [e 7 (by decide)]
  rw [eG] at hg
  rw [eR] at hr
  rw [z.2 g hg hr]
  unfold rw'
  rw [eN, rwu_k (N := mN s) (fun k _ hk => e k hk) e15 e11 _ (Nat.le_refl _)]
theorem c_distinct {Q : Int32 → wS → Prop} {p v : Int32} (hK : CK σ x K S) (hI : IV S) (hr : RM σ) (hQ : ∀ τ, Cf σ τ → CC τ x (o_distinct S p v).2 → Q (o_distinct S p v).1 τ) : w_X0_distinct σ x p v Q := by
  unfold w_X0_distinct
  refine c_mustC hK hI.1.2 (fr0 (σ := σ)) noP hr (by decide) (by decide) (fun _ _ => rfl) (fun q hq hp e1 => ?_) (fun e1 => ?_)
  · refine c_in1 (N := 1000001) (by decide) (by decide) (fun e => ?_) (fun n h1 hn hv e => ?_)
    · have eo : o_distinct S p v = noA S 6 := by
        unfold o_distinct
        rw [e1]
        dsimp only
        by_cases z : v = 0
        · rw [if_pos z]
        · rw [if_neg z, e.resolve_left z]
      rw [eo] at hQ
      exact c_needX (n := 6) (Q := Q) hK hI.1.2 (by decide) (fr0 (σ := σ)) noP hr (by decide) (by decide) (fun _ _ => rfl) (fun z => absurd rfl z) (fun _ => hQ)
    · have eo : o_distinct S p v = (nI (S.1 15 q), sM S (st S.1 15 (up (S.1 15) q n))) := by
        unfold o_distinct
        rw [e1]
        dsimp only
        rw [if_neg (by rw [hv]; exact nI_eqf (b := 0) (by omega) (by decide) (by omega)), e]
      rw [eo] at hQ
      refine c_needX (n := 6) (Q := Q) hK hI.1.2 (by decide) (fr0 (σ := σ)) noP hr (by decide) (by decide) (fun _ _ => rfl) (fun _ => ⟨hK.1.1.1.1, K 0, (ck_m hK).1, (ck_m hK).2, ?_, ?_⟩) (fun z => absurd z (by decide))
      · rw [hp]; exact vp_inN hq (by decide)
      intro y hy
      have C := hK.1.2.1.1
      rw [hp, nI_clamp (by omega), C.2.2.2.2 q hq] at hy
      rw [hp, nI_clamp (by omega)]
      refine bnd_A fun τ w e2 => ?_
      refine ⟨K 0, by rw [(w.sam (by decide) x).1.2.2.1]; exact (ck_m hK).1, ok22.ext (ck_m hK).2 w.ext, ?_⟩
      unfold w_X22_changed
      refine ⟨ok22.ext (ck_m hK).2 w.ext, bnd_I fun υ w2 e3 => ?_⟩
      have W : Wq [2307, 2318] (K 0) σ υ := (w.mono (by decide)).up w2 (by decide)
      have f : Fr (fun g o => o = K 0 ∧ g ∈ [2307, 2318]) 0 0 σ υ := W.fr (fun g hg => ⟨rfl, hg⟩)
      have no : ∀ g, g ∉ [2307, 2318] → ∀ o, ¬ (o = K 0 ∧ g ∈ [2307, 2318]) := fun g hg o z => hg z.2
      have hm : oC σ (K 0) ≠ 0 := by rw [C.1.1.1]; decide
      obtain ⟨⟨p1, p2, p3⟩, p4, p5⟩ := cm_part C f (fun g hg => no g (by revert g; decide) _) (fun g hg => no g (by revert g; decide))
      have C2 : CM υ (K 0) (st S.1 15 (up (S.1 15) q n)) := by
        refine ⟨⟨p1, ?_, p2, p3⟩, p4, p5, fun i hi => ?_, fun i hi => ?_⟩
        · rw [(f.2.1 2300 _ hm (no _ (by decide) _)).1.1.1]; exact C.1.2.1
        · obtain ⟨o, o1, o2⟩ := C.2.2.2.1 i hi
          exact ⟨o, by rw [(f.2.1 92306 _ hm (no _ (by decide) _)).1.2.2]; exact o1, o2.fr f (fun g hg => no g (by revert g; decide) _)⟩
        · rw [(w2.2 2307 _ (fun _ => by decide)).1.2.2.2, e2]
          show _ = nI (up (S.1 15) q n i)
          by_cases z : i = q
          · rw [z, upd_s, up_s]; exact hv
          · rw [upd_n z, up_n z]; exact C.2.2.2.2 i hi
      have ck := ck_memo hK hI.1.2 f (by decide) (s' := st S.1 15 (up (S.1 15) q n)) ⟨C2, hK.1.2.1.2.1.fr hm f (fun g hg => no g (by revert g; decide) _), Or.inl e3⟩ (fun i hi _ => ⟨rfl, rfl⟩)
      rw [hy]
      exact hQ υ (f.cf (ck_P hK) (by decide) (by decide)) ⟨K, ck⟩
  · have eo : o_distinct S p v = noA S 1 := by unfold o_distinct; rw [e1]
    rw [eo] at hQ; exact hQ
theorem c_fault {Q : Int32 → wS → Prop} (hK : CK σ x K S) (hQ : ∀ τ, Cf σ τ → CC τ x (o_fault S).2 → Q (o_fault S).1 τ) : w_X0_fault σ x Q := by
  unfold w_X0_fault
  refine ⟨hK.1.1.1.1, ?_⟩
  rw [hK.2.1.2.2]
  exact hQ σ cf_0 ⟨K, hK⟩
theorem c_seed {Q : Int32 → wS → Prop} {v : Int32} (hK : CK σ x K S) (hI : IV S) (hQ : ∀ τ, Cf σ τ → CC τ x (o_seed S v).2 → Q (o_seed S v).1 τ) : w_X0_seed σ x v Q := by
  unfold w_X0_seed
  refine ⟨hK.1.1.1.1, K 0, (ck_m hK).1, (ck_m hK).2, bnd_I fun τ w e => ?_⟩
  obtain ⟨C, ⟨f1, f2, f3, f4, f5⟩, N⟩ := hK.1.2.1
  have f : Fr (fun g o => o = K 0 ∧ g ∈ [2305]) 0 0 σ τ := w.fr (fun g hg => ⟨rfl, hg⟩)
  have no : ∀ g, g ∉ [2305] → ∀ o, ¬ (o = K 0 ∧ g ∈ [2305]) := fun g hg o z => hg z.2
  have hm : oC σ (K 0) ≠ 0 := by rw [C.1.1.1]; decide
  rw [f5]
  have Fd : CFd τ (K 0) (s20 S.1 v.toBitVec.toNat) := by
    refine ⟨?_, ?_, ?_, ?_, ?_⟩
    · rw [(f.2.1 12313 _ hm (no _ (by decide) _)).1.2.1]; exact f1
    · rw [(f.2.1 2314 _ hm (no _ (by decide) _)).1.1.2.2.2]; exact f2
    · rw [(f.2.1 2303 _ hm (no _ (by decide) _)).1.1.1]; exact f3
    · rw [(f.2.1 2304 _ hm (no _ (by decide) _)).1.1.1]; exact f4
    · rw [e]; exact (nI_bv v).symm
  exact hQ τ (f.cf (ck_P hK) (by decide) (by decide)) ⟨K, ck_memo hK hI.1.2 f (by decide) (s' := s20 S.1 v.toBitVec.toNat) ⟨C.fr f (fun g hg => no g (by revert g; decide) _) (fun g hg => no g (by revert g; decide)), Fd, cn_k (N.fr hm f (fun g hg => no g (by revert g; decide) _)) (fun k hk => st_n (by omega)) rfl (fun _ _ _ => rfl)⟩ (fun i hi _ => ⟨rfl, rfl⟩)⟩
theorem tI20 : ∀ T, T ≤ 20 → ((nI T - (1 : Int32)).toInt64).toInt = (T : Int) - 1 := by decide
theorem c_trace {Q : Int32 → wS → Prop} {v : Int32} (hK : CK σ x K S) (hI : IV S) (hQ : ∀ τ, Cf σ τ → CC τ x (o_trace S v).2 → Q (o_trace S v).1 τ) : w_X0_trace σ x v Q := by
  have k1 := hK.1.1.1.2.2.1
  have o1 := hK.1.1.2.1.1
  have hm := hI.2.2
  unfold w_X0_trace
  refine ⟨hK.1.1.1.1, K 1, k1, o1, ?_⟩
  rw [hK.2.1.2.1.1]
  have em : (if (20 : Int32) < nI S.2.2.2.2.1 then (20 : Int32) else nI S.2.2.2.2.1) = nI (min 20 S.2.2.2.2.1) := by
    by_cases q : 20 < S.2.2.2.2.1
    · rw [if_pos (show (20 : Int32) < nI _ from nI_lt (a := 20) q (by omega)), show min 20 S.2.2.2.2.1 = 20 by omega]; rfl
    · rw [if_neg (show ¬ (20 : Int32) < nI _ from nI_nlt (a := 20) (b := S.2.2.2.2.1) (by omega) (by decide)), show min 20 S.2.2.2.2.1 = S.2.2.2.2.1 by omega]
  rw [em]
  refine c_in0 (N := min 20 S.2.2.2.2.1) (by omega) (tI20 _ (by omega)) (fun e => ?_) (fun i hi hv e => ?_)
  · have eo : o_trace S v = (-1, S) := by unfold o_trace; rw [e]
    rw [eo] at hQ
    rw [if_pos rfl]
    exact hQ σ cf_0 ⟨K, hK⟩
  · have eo : o_trace S v = (S.2.2.2.2.2 i, S) := by unfold o_trace; rw [e]
    rw [eo] at hQ
    rw [if_neg (by decide), hv]
    refine ⟨K 1, k1, o1, vp_inN (by omega) (by decide), ?_⟩
    rw [nI_clamp (by omega), hK.2.1.2.1.2]
    exact hQ σ cf_0 ⟨K, hK⟩
theorem c_fired {Q : Int32 → wS → Prop} {v : Int32} (hK : CK σ x K S) (hI : IV S) (hr : RM σ) (hQ : ∀ τ, Cf σ τ → CC τ x (o_fired S v).2 → Q (o_fired S v).1 τ) : w_X0_fired σ x v Q := by
  obtain ⟨r1, r2⟩ := hr
  unfold w_X0_fired
  refine ⟨hK.1.1.1.1, K 0, (ck_m hK).1, (ck_m hK).2, fun hv => ?_, fun hv => ?_⟩
  · rcases num_cs (N := 7) (by decide) v with ⟨n, hn, ha, e⟩ | ⟨e, -⟩
    · have eo : o_fired S v = (nI (S.1 17 n), S) := by unfold o_fired; rw [e]
      rw [eo] at hQ
      rw [ha, nI_clamp (by omega), hK.1.2.1.2.1.2.1 n hn]
      exact hQ σ cf_0 ⟨K, hK⟩
    · exact absurd hv (nvp (by decide) e)
  · have e : num 7 v = none := by
      rcases num_cs (N := 7) (by decide) v with ⟨n, hn, ha, e⟩ | ⟨e, -⟩
      · rw [ha] at hv; exact absurd (vp_inN hn (by decide)) hv
      · exact e
    have eo : o_fired S v = noA S 5 := by unfold o_fired; rw [e]
    rw [eo] at hQ
    refine c_vmx (by omega) (fun q τ f => ⟨rfl, ?_⟩)
    have k := hK.no hI.1.2 f
    exact ⟨k.1.1.1.1, c_bey2 k hI.1.2 f noP (by decide) (by decide) hQ⟩
theorem c_mustW {Q : Int32 → wS → Prop} {Q1 : wS → Prop} {v : Int32} {B : wS → Nat → Prop} (hK : CK σ x K S) (hA : AV S) (h0 : Fr P a b σ0 σ) (hP : ∀ g o, P g o → oC σ0 o ≠ 25) (hr : RM σ0) (ha : a + 1 ≤ 2000) (hb : b + 7 ≤ 20000) (hB : ∀ τ q, B τ q = (ok0 τ x ∧ w_X0_refused τ x (some q) (fun r σ => Q r σ))) (h1 : ∀ k, k < 12 → k ≠ 0 → k ≠ 3 → k ≠ 7 → v = nI k → wayN v = some k → Q1 σ) (hQ : wayN v = none → ∀ υ, Cf σ0 υ → CC υ x (rfu S 1) → Q (-nI 1) υ) : w_X0_mustWay σ v Q1 (fun c9 q9 τ9 => c9 = 25 ∧ B τ9 q9) := by
  unfold w_X0_mustWay
  refine c_in0 (N := 12) (by decide) (by decide) (fun e => ?_) (fun k hk hv e => ?_)
  · rw [if_pos rfl]
    refine c_needX (n := 1) hK hA (by decide) h0 hP hr ha hb hB (fun z => absurd rfl z) (fun _ => hQ ?_)
    unfold wayN; rw [e]
  · have d : ∀ k, k < 12 → (if (((3958 : Int32) >>> (nI k &&& 31)) &&& (1 : Int32)) = 0 then (0 : Int32) else 1) = if k = 0 ∨ k = 3 ∨ k = 7 then 0 else 1 := by decide +kernel
    rw [if_neg (by decide), hv, d k hk]
    by_cases z : k = 0 ∨ k = 3 ∨ k = 7
    · rw [if_pos z]
      refine c_needX (n := 1) hK hA (by decide) h0 hP hr ha hb hB (fun z => absurd rfl z) (fun _ => hQ ?_)
      unfold wayN; rw [e]; exact if_pos z
    · rw [if_neg z]
      refine c_needX (n := 1) hK hA (by decide) h0 hP hr ha hb hB (fun _ => h1 k hk (by omega) (by omega) (by omega) hv ?_) (fun z => absurd z (by decide))
      unfold wayN; rw [e]; exact if_neg z
theorem d39 : ∀ k, k < 12 → k ≠ 0 → k ≠ 3 → k ≠ 7 → (3958 : Nat).testBit k = true ∧ 2 ^ k &&& 3958 = 2 ^ k := by decide
theorem clr_39 {a k : Nat} : clr a k &&& 3958 = clr (a &&& 3958) k := by
  unfold clr
  rw [Nat.and_assoc, Nat.and_comm (4294967295 - 2 ^ k), ← Nat.and_assoc]
theorem stb_39 {a k : Nat} (h : 2 ^ k &&& 3958 = 2 ^ k) : stb a k &&& 3958 = stb (a &&& 3958) k := by
  unfold stb
  rw [Nat.and_or_distrib_right, h]
theorem c_allow {Q : Int32 → wS → Prop} {v w : Int32} (hK : CK σ x K S) (hI : IV S) (hr : RM σ) (hQ : ∀ τ, Cf σ τ → CC τ x (o_allow S v w).2 → Q (o_allow S v w).1 τ) : w_X0_allow σ x v w Q := by
  unfold w_X0_allow
  refine c_mustW hK hI.1.2 (fr0 (σ := σ)) noP hr (by decide) (by decide) (fun _ _ => rfl) (fun k hk n0 n3 n7 hv e => ⟨hK.1.1.1.1, K 0, (ck_m hK).1, (ck_m hK).2, ?_⟩) (fun e => ?_)
  · have eo : o_allow S v w = (if (S.1 19 0).testBit k = true then 1 else 0, sM S (s19 S.1 (if w = 0 then clr (S.1 19 0) k else stb (S.1 19 0) k))) := by unfold o_allow; rw [e]
    rw [eo] at hQ
    obtain ⟨C, ⟨f1, f2, f3, f4, f5⟩, N⟩ := hK.1.2.1
    have h4 : S.1 19 0 < 4096 := hI.1.1.1.2.1.2.1.1
    have h5 : (S.1 19 0 &&& 3958) < 4096 := Nat.lt_of_le_of_lt Nat.and_le_left h4
    obtain ⟨d1, d2⟩ := d39 k hk n0 n3 n7
    have tb : (S.1 19 0 &&& 3958).testBit k = (S.1 19 0).testBit k := by rw [Nat.testBit_and, d1, Bool.and_true]
    rw [hv, f4, bitI (by omega) (by omega), clr_I hk, stb_I hk, tb]
    intro y hy
    rw [hy]
    refine bnd_I fun τ w1 e1 => ?_
    have f : Fr (fun g o => o = K 0 ∧ g ∈ [2304]) 0 0 σ τ := w1.fr (fun g hg => ⟨rfl, hg⟩)
    have no : ∀ g, g ∉ [2304] → ∀ o, ¬ (o = K 0 ∧ g ∈ [2304]) := fun g hg o z => hg z.2
    have hm : oC σ (K 0) ≠ 0 := by rw [C.1.1.1]; decide
    have Fd : CFd τ (K 0) (s19 S.1 (if w = 0 then clr (S.1 19 0) k else stb (S.1 19 0) k)) := by
      refine ⟨?_, ?_, ?_, ?_, ?_⟩
      · rw [(f.2.1 12313 _ hm (no _ (by decide) _)).1.2.1]; exact f1
      · rw [(f.2.1 2314 _ hm (no _ (by decide) _)).1.1.2.2.2]; exact f2
      · rw [(f.2.1 2303 _ hm (no _ (by decide) _)).1.1.1]; exact f3
      · rw [e1]
        show _ = nI ((if w = 0 then clr (S.1 19 0) k else stb (S.1 19 0) k) &&& 3958)
        by_cases z : w = 0
        · rw [if_pos z, if_pos z, clr_39]
        · rw [if_neg z, if_neg z, stb_39 d2]
      · rw [(f.2.1 2305 _ hm (no _ (by decide) _)).1.1.1]; exact f5
    exact hQ τ (f.cf (ck_P hK) (by decide) (by decide)) ⟨K, ck_memo hK hI.1.2 f (by decide) (s' := s19 S.1 (if w = 0 then clr (S.1 19 0) k else stb (S.1 19 0) k)) ⟨C.fr f (fun g hg => no g (by revert g; decide) _) (fun g hg => no g (by revert g; decide)), Fd, cn_k (N.fr hm f (fun g hg => no g (by revert g; decide) _)) (fun k hk => st_n (by omega)) rfl (fun _ _ _ => rfl)⟩ (fun i hi _ => ⟨rfl, rfl⟩)⟩
  · have eo : o_allow S v w = noA S 1 := by unfold o_allow; rw [e]
    rw [eo] at hQ; exact hQ
end PC
