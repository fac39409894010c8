set_option linter.unusedVariables false
set_option maxRecDepth 10000
/-! ===== component: show, holds, copy ===== -/
section PC
variable {σ τ υ σ0 : wS} {x m F : Nat} {s : mS} {S : gS} {K K' : Nat → Nat} {P P' : Nat → Nat → Prop} {a b c d : Nat}
theorem i64_inj {u v : Int32} (h : u.toInt64 = v.toInt64) : u = v := by
  have := congrArg Int64.toInt32 h
  simpa using this
theorem rw_fits {o k n j : Nat} {f : Nat → Int64} (hR : RW σ o k n f) (hk : k < 3) (hj : j < n) : fits (wd_ft (rwG k / 10000)) (.int (aI σ (rwG k) o j)) = true := by
  have e := hR.2.2.1 hk j hj
  have r := hR.2.2.2.2 j hj
  generalize aI σ (rwG k) o j = v at e
  rw [← e] at r
  have h3 : k = 0 ∨ k = 1 ∨ k = 2 := by omega
  rcases h3 with rfl | rfl | rfl
  · have r2 : v.toInt8.toInt32 = v := by
      refine i64_inj (Eq.trans ?_ r)
      unfold nrw
      rw [if_pos rfl]; simp
    have l1 := Int8.le_toInt v.toInt8
    have l2 := Int8.toInt_lt v.toInt8
    rw [← Int8.toInt_toInt32, r2] at l1 l2
    show (decide (-128 ≤ v) && decide (v ≤ 127)) = true
    rw [decide_eq_true (show (-128 : Int32) ≤ v by rw [Int32.le_iff_toInt_le, show (-128 : Int32).toInt = -128 by decide]; omega), decide_eq_true (show v ≤ (127 : Int32) by rw [Int32.le_iff_toInt_le, show (127 : Int32).toInt = 127 by decide]; omega)]
    rfl
  · have r2 : v.toInt16.toInt32 = v := by
      refine i64_inj (Eq.trans ?_ r)
      unfold nrw
      rw [if_neg (by decide), if_pos rfl]; simp
    have l1 := Int16.le_toInt v.toInt16
    have l2 := Int16.toInt_lt v.toInt16
    rw [← Int16.toInt_toInt32, r2] at l1 l2
    show (decide (-32768 ≤ v) && decide (v ≤ 32767)) = true
    rw [decide_eq_true (show (-32768 : Int32) ≤ v by rw [Int32.le_iff_toInt_le, show (-32768 : Int32).toInt = -32768 by decide]; omega), decide_eq_true (show v ≤ (32767 : Int32) by rw [Int32.le_iff_toInt_le, show (32767 : Int32).toInt = 32767 by decide]; omega)]
    rfl
  · rfl
theorem c_holdX {Q : Int32 → wS → Prop} {i : Nat} (hK : CK σ x K S) (hA : AV S) (hi : i < 8) (hQ : Q (if S.2.1 1 i = 2 then 1 else 0) σ) : w_X23_holdsExpression σ (K (10 + i)) Q := by
  have k10 := (hK.1.1.2.2.2.2.2.2.1 i hi).2
  have hA2 := (hA i hi).2.1
  unfold w_X23_holdsExpression
  rcases sh_c hK hA hi with ⟨z, e⟩ | ⟨z, e, R1⟩ | ⟨z, o, e, X1⟩
  · rw [e]
    refine ⟨k10, (fun b y => nomatch y), fun v h0 _ => ?_⟩
    rw [if_neg (by omega)] at hQ
    rw [h0 rfl]
    exact ⟨Or.inl rfl, hQ⟩
  · rw [e]
    refine ⟨k10, fun b y => by cases y; exact Or.inr (R1.o26 hA2), fun v _ h1 => ?_⟩
    rw [if_neg (by omega)] at hQ
    rw [(h1 _ rfl).2 (R1.o26 hA2)]
    exact ⟨Or.inl rfl, hQ⟩
  · rw [e]
    refine ⟨k10, fun b y => by cases y; exact Or.inl X1.o32, fun v _ h1 => ?_⟩
    rw [if_pos z] at hQ
    rw [(h1 _ rfl).1 X1.o32]
    exact ⟨Or.inr rfl, hQ⟩
theorem c_sort {Q : Int32 → wS → Prop} {o k n : Nat} {f : Nat → Int64} (hR : RW σ o k n f) (hk : k < 4) (hQ : Q (nI k) σ) : v_X26v_sort σ o Q := by
  have r1 := hR.1
  unfold v_X26v_sort
  have h4 : k = 0 ∨ k = 1 ∨ k = 2 ∨ k = 3 := by omega
  rcases h4 with rfl | rfl | rfl | rfl
  · rw [if_pos r1]; exact hQ
  · rw [if_neg (by rw [r1]; decide), if_pos r1]; exact hQ
  · rw [if_neg (by rw [r1]; decide), if_neg (by rw [r1]; decide), if_pos r1]; exact hQ
  · rw [if_neg (by rw [r1]; decide), if_neg (by rw [r1]; decide), if_neg (by rw [r1]; decide), if_pos r1]; exact hQ
theorem c_held {Q : Option Nat → wS → Prop} {o k n : Nat} {f : Nat → Int64} (hR : RW σ o k n f) (hk : k < 4) (hQ : Q (some (aD σ (rwG k) o)) σ) : v_X26v_held σ o Q := by
  have r1 := hR.1
  have r2 := hR.2.1
  unfold v_X26v_held
  have h4 : k = 0 ∨ k = 1 ∨ k = 2 ∨ k = 3 := by omega
  rcases h4 with rfl | rfl | rfl | rfl
  · rw [if_pos r1]; exact ⟨r1, n, r2, hQ⟩
  · rw [if_neg (by rw [r1]; decide), if_pos r1]; exact ⟨r1, n, r2, hQ⟩
  · rw [if_neg (by rw [r1]; decide), if_neg (by rw [r1]; decide), if_pos r1]; exact ⟨r1, n, r2, hQ⟩
  · rw [if_neg (by rw [r1]; decide), if_neg (by rw [r1]; decide), if_neg (by rw [r1]; decide), if_pos r1]; exact ⟨r1, n, r2, hQ⟩
/-- a shelf shows, or holds nothing -/
theorem ck_show {i e : Nat} {o : Option Nat} {A' : mS} (hK : CK σ x K S) (hA : AV S) (hi : i < 8) (w : Wq [2400] (K (10 + i)) σ τ) (v : oR τ 2400 (K (10 + i)) = o) (hAk : ∀ k, k = 0 ∨ 5 ≤ k → A' k = S.2.1 k) (hAj : ∀ j k, j < 8 → j ≠ i → 1 ≤ k → k ≤ 4 → A' k j = S.2.1 k j) (hz : (A' 1 i = 0 ∧ o = none) ∨ (A' 1 i = 2 ∧ ∃ q, o = some q ∧ XO σ q (A' 4 i) (S.1 2 (A' 4 i)) (S.1 3 (A' 4 i)))) : CK τ x K (S.1, A', S.2.2) ∧ Cf σ τ := by
  have ci := (hK.1.1.2.2.2.2.2.2.1 i hi).2
  have f : Fr (Psh K i (K (10 + i))) 0 0 σ τ := w.fr (fun g hg => Or.inl ⟨rfl, List.mem_singleton.mp hg⟩)
  have f1 : Fr (fun g o => o = K (10 + i) ∧ g = 2400) 0 0 σ τ := w.fr (fun g hg => ⟨rfl, List.mem_singleton.mp hg⟩)
  have no : ∀ g, g ≠ 2400 → ∀ o, ¬ (o = K (10 + i) ∧ g = 2400) := fun g hg o z => hg z.2
  refine ⟨ck_sh (S := S) (A' := A') (c' := S.2.2.2.1) hK hA hi f (Or.inr (Or.inr rfl)) (fun _ _ => rfl) hAk hAj (fun _ _ _ _ _ => rfl) ⟨fun y => ?_, fun y => ?_, fun y => ?_⟩ (fun z => ?_), f1.cf (fun g o z => by rw [z.1, ci]; decide) (by decide) (by decide)⟩
  · rcases hz with ⟨z, z2⟩ | ⟨z, -⟩
    · exact v.trans z2
    · exact absurd (z.symm.trans y) (by decide)
  · rcases hz with ⟨z, -⟩ | ⟨z, -⟩
    · exact absurd (z.symm.trans y) (by decide)
    · exact absurd (z.symm.trans y) (by decide)
  · rcases hz with ⟨z, -⟩ | ⟨z, q, z2, X1⟩
    · exact absurd (z.symm.trans y) (by decide)
    · exact ⟨q, v.trans z2, X1.fr f1 (fun g hg => no g (by revert g; decide) _)⟩
  · rcases hz with ⟨y, -⟩ | ⟨y, -⟩
    · exact absurd (y.symm.trans z) (by decide)
    · exact absurd (y.symm.trans z) (by decide)
theorem c_show {Q : Int32 → wS → Prop} {v w : Int32} (hK : CK σ x K S) (hI : IV S) (hr : RM σ) (hQ : ∀ τ, Cf σ τ → CC τ x (o_show S v w).2 → Q (o_show S v w).1 τ) : w_X0_show σ x v w Q := by
  have hA := hI.1.2
  have hN := hI.1.1.1.2.2
  have C := hK.1.2.1.1
  have km := ck_m hK
  unfold w_X0_show
  refine ⟨hK.1.1.1.1, c_shelf hK hA hr (fun _ _ => rfl) (fun i hi ha ea => ?_) (fun ea => ?_)⟩
  rotate_left
  · have eo : o_show S v w = noA S 1 := by unfold o_show; rw [ea]
    rw [eo] at hQ; exact hQ
  have ci := (hK.1.1.2.2.2.2.2.2.1 i hi).2
  by_cases q : w = -1
  · rw [if_pos q]
    have eo : o_show S v w = (0, sAp S 1 (up (S.2.1 1) i 0)) := by unfold o_show; rw [ea]; exact if_pos q
    rw [eo] at hQ
    refine ⟨K (10 + i), rfl, ci, bnd_R fun τ w1 v1 => ?_⟩
    obtain ⟨k1, cf⟩ := ck_show (A' := st S.2.1 1 (up (S.2.1 1) i 0)) (e := 0) hK hA hi w1 v1 (fun k hk => st_n (by omega)) (fun j k hj hji h1 h4 => by
      by_cases y : k = 1
      · rw [y, st_s, up_n hji]
      · rw [st_n y]) (Or.inl ⟨by rw [st_s, up_s], rfl⟩)
    exact hQ τ cf ⟨K, k1⟩
  · rw [if_neg q]
    refine ⟨K 0, km.1, km.2, c_isExpr C (by omega) (fun ee => ?_) (fun e he hw ee => ?_)⟩
    · have eo : o_show S v w = noA S 1 := by unfold o_show; rw [ea]; simp only [if_neg q, ee]
      rw [eo] at hQ
      exact c_needX (n := 1) (Q := Q) hK hA (by decide) (fr0 (σ := σ)) noP hr (by decide) (by decide) (fun _ _ => rfl) (fun z => absurd rfl z) (fun _ => hQ)
    · have eo : o_show S v w = (1, sAp (sAp S 1 (up (S.2.1 1) i 2)) 4 (up (S.2.1 4) i e)) := by unfold o_show; rw [ea]; simp only [if_neg q, ee]
      rw [eo] at hQ
      refine c_needX (n := 1) (Q := Q) hK hA (by decide) (fr0 (σ := σ)) noP hr (by decide) (by decide) (fun _ _ => rfl) (fun _ => ?_) (fun z => absurd z (by decide))
      obtain ⟨⟨o, o1, o2⟩, -⟩ := C.2.1 e he
      refine ⟨K 0, km.1, km.2, by rw [hw]; exact vp_inN (by omega) (by decide), K (10 + i), rfl, ci, ?_⟩
      rw [hw, nI_clamp (by omega), o1]
      refine bnd_R fun τ w1 v1 => ?_
      obtain ⟨k1, cf⟩ := ck_show (A' := st (st S.2.1 1 (up (S.2.1 1) i 2)) 4 (up (S.2.1 4) i e)) (e := 0) hK hA hi w1 v1 (fun k hk => by rw [st_n (by omega), st_n (by omega)]) (fun j k hj hji h1 h4 => by
        by_cases y4 : k = 4
        · rw [y4, st_s, up_n hji]
        rw [st_n y4]
        by_cases y : k = 1
        · rw [y, st_s, up_n hji]
        · rw [st_n y]) (Or.inr ⟨by rw [st_n (by decide), st_s, up_s], o, rfl, by rw [st_s, up_s]; exact o2⟩)
      exact hQ τ cf ⟨K, k1⟩
theorem c_holds {Q : Int32 → wS → Prop} {v : Int32} (hK : CK σ x K S) (hI : IV S) (hQ : ∀ τ, Cf σ τ → CC τ x (o_holds S v).2 → Q (o_holds S v).1 τ) : w_X0_holds σ x v Q := by
  have hA := hI.1.2
  have go : ∀ r, o_holds S v = (r, S) → Q r σ := fun r e => by
    rw [e] at hQ
    exact hQ σ cf_0 ⟨K, hK⟩
  unfold w_X0_holds
  rcases num_cs (N := 8) (by decide) v with ⟨i, hi, ha, e⟩ | ⟨e, h | ⟨h, h'⟩⟩
  · have hA2 := (hA i hi).2.1
    rw [ha, if_neg (nI_pos (by omega)), if_neg (show ¬ (8 : Int32) ≤ nI i from nI_ge (b := 8) hi (by decide)), nI_clamp (by omega)]
    refine ⟨hK.1.1.1.1, vp_inN hi (by decide), K (10 + i), (hK.1.1.2.2.2.2.2.2.1 i hi).1, (hK.1.1.2.2.2.2.2.2.1 i hi).2, ?_⟩
    rcases sh_c hK hA hi with ⟨z, e2⟩ | ⟨z, e2, R1⟩ | ⟨z, o, e2, X1⟩
    · rw [e2]
      exact go _ (by unfold o_holds; rw [e]; exact if_pos z)
    · rw [e2]
      intro y hy
      rw [hy]
      refine ⟨fun b y => by cases y; exact Or.inr (R1.o26 hA2), fun u _ h1 => ?_⟩
      rw [(h1 _ rfl).2 (R1.o26 hA2), if_pos rfl]
      refine ⟨fun b y => by cases y; exact R1.o26 hA2, K (50 + i), rfl, c_sort R1 hA2 ?_⟩
      rw [show (100 : Int32) = nI 100 from rfl, nI_add]
      exact go _ (by unfold o_holds; rw [e]; simp only [if_neg (show ¬ S.2.1 1 i = 0 by omega), if_pos z])
    · rw [e2]
      intro y hy
      rw [hy]
      refine ⟨fun b y => by cases y; exact Or.inl X1.o32, fun u _ h1 => ?_⟩
      rw [(h1 _ rfl).1 X1.o32, if_neg (by decide)]
      refine ⟨fun b y => by cases y; exact X1.o32, o, rfl, X1.o32, ?_⟩
      rw [X1.2.1]
      exact go _ (by unfold o_holds; rw [e]; simp only [if_neg (show ¬ S.2.1 1 i = 0 by omega), if_neg (show ¬ S.2.1 1 i = 1 by omega)])
  · rw [if_pos h]
    exact go _ (by unfold o_holds; rw [e])
  · rw [if_neg h, if_pos (show (8 : Int32) ≤ v from h')]
    exact go _ (by unfold o_holds; rw [e])
theorem rwG_t : ∀ k, k < 4 → rwG k / 10000 < 6 ∧ (rwG k / 10000 = 1 ↔ k = 3) ∧ rwG k ∈ GRow := by decide
/-- copying between two rows of one sort -/
theorem ck_copy {p q i j n k : Nat} (hK : CK σ x K S) (hA : AV S) (hp : p < 8) (hq : q < 8) (zp : S.2.1 1 p = 1) (zq : S.2.1 1 q = 1) (hkp : S.2.1 2 p = k) (hkq : S.2.1 2 q = k) (hi : i + n ≤ S.2.1 3 p) (hj : j + n ≤ S.2.1 3 q) (w : Wq [rwG k] (K (50 + q)) σ τ) (e3 : k = 3 → aJ τ 13100 (K (50 + q)) = va_cpy (aJ σ 13100 (K (50 + p))) (aJ σ 13100 (K (50 + q))) i j n) (e2 : k < 3 → aI τ (rwG k) (K (50 + q)) = va_cpy (aI σ (rwG k) (K (50 + p))) (aI σ (rwG k) (K (50 + q))) i j n) : CK τ x K (sCl S (cpy S.2.2.2.1 (160 * p + i) (160 * q + j) n)) ∧ Cf σ τ := by
  have hk : k < 4 := by have := (hA p hp).2.1; omega
  obtain ⟨t1, t2, t3⟩ := rwG_t k hk
  have p3 := (hA p hp).2.2.1
  have q3 := (hA q hq).2.2.1
  have f : Fr (Psh K q (K (50 + q))) 0 0 σ τ := w.fr (fun g hg => Or.inr ⟨rfl, by rw [List.mem_singleton.mp hg]; exact t3⟩)
  have Rp := ((hK.2.1.1.1 p hp).2.1 zp).2
  have Rq := ((hK.2.1.1.1 q hq).2.1 zq).2
  rw [hkp] at Rp
  rw [hkq] at Rq
  have ct : ∀ m, m < S.2.1 3 q → cpy S.2.2.2.1 (160 * p + i) (160 * q + j) n (160 * q + m) = if j ≤ m ∧ m < j + n then S.2.2.2.1 (160 * p + (i + (m - j))) else S.2.2.2.1 (160 * q + m) := fun m hm => by
    unfold cpy
    by_cases y : j ≤ m ∧ m < j + n
    · rw [if_pos (by omega), if_pos y, show 160 * p + i + (160 * q + m - (160 * q + j)) = 160 * p + (i + (m - j)) by omega]
    · rw [if_neg (by omega), if_neg y]
  refine ⟨ck_row hK hA hq zq f (fun j' hj' hjq m hm => ?_) ⟨?_, ?_, fun z m hm => ?_, fun z m hm => ?_, fun m hm => ?_⟩ (Or.inr (w.sam ?_ _).1.2.2.1), f.cf (psh_P hK hA hq (Or.inr (Or.inl ⟨zq, rfl⟩))) (by decide) (by decide)⟩
  · unfold cpy
    rw [if_neg (by omega)]
  · rw [w.1.1, hkq]; exact Rq.1
  · rw [w.1.2.1, hkq]; exact Rq.2.1
  · rw [hkq] at z ⊢
    dsimp only
    rw [e2 z, ct m hm]
    unfold va_cpy
    by_cases y : j ≤ m ∧ m < j + n
    · rw [if_pos y, if_pos y]; exact Rp.2.2.1 z _ (by omega)
    · rw [if_neg y, if_neg y]; exact Rq.2.2.1 z _ hm
  · rw [hkq] at z
    dsimp only
    rw [e3 z, ct m hm]
    unfold va_cpy
    by_cases y : j ≤ m ∧ m < j + n
    · rw [if_pos y, if_pos y]; exact Rp.2.2.2.1 z _ (by omega)
    · rw [if_neg y, if_neg y]; exact Rq.2.2.2.1 z _ hm
  · rw [hkq]
    dsimp only
    rw [ct m hm]
    by_cases y : j ≤ m ∧ m < j + n
    · rw [if_pos y]; exact Rp.2.2.2.2 _ (by omega)
    · rw [if_neg y]; exact Rq.2.2.2.2 _ hm
  · intro z
    rw [← List.mem_singleton.mp z] at t3
    exact absurd t3 (by decide)
theorem c_copy {Q : Int32 → wS → Prop} {v1 v2 v3 v4 v5 : Int32} (hK : CK σ x K S) (hI : IV S) (hr : RM σ) (hQ : ∀ τ, Cf σ τ → CC τ x (o_copy S v1 v2 v3 v4 v5).2 → Q (o_copy S v1 v2 v3 v4 v5).1 τ) : w_X0_copy σ x v1 v2 v3 v4 v5 Q := by
  have hA := hI.1.2
  unfold w_X0_copy
  refine ⟨hK.1.1.1.1, c_shelf hK hA hr (fun _ _ => rfl) (fun p hp ha ea => ?_) (fun ea => ?_)⟩
  rotate_left
  · have eo : o_copy S v1 v2 v3 v4 v5 = noA S 1 := by unfold o_copy; rw [ea] <;> cases num 8 v2 <;> rfl
    rw [eo] at hQ; exact hQ
  refine c_shelf hK hA hr (fun _ _ => rfl) (fun q hq hb eb => ?_) (fun eb => ?_)
  rotate_left
  · have eo : o_copy S v1 v2 v3 v4 v5 = noA S 1 := by unfold o_copy; rw [ea, eb]
    rw [eo] at hQ; exact hQ
  have cp := (hK.1.1.2.2.2.2.2.2.1 p hp).2
  have cq := (hK.1.1.2.2.2.2.2.2.1 q hq).2
  obtain ⟨p1, p2, p3, -⟩ := hA p hp
  obtain ⟨q1, q2, q3, -⟩ := hA q hq
  have eo : o_copy S v1 v2 v3 v4 v5 = if S.2.1 1 p = 2 ∨ S.2.1 1 q = 2 ∨ S.2.1 1 p = 1 ∧ S.2.1 1 q = 1 ∧ S.2.1 2 p ≠ S.2.1 2 q then noA S 2
    else if S.2.1 1 p = 0 ∨ S.2.1 1 q = 0 then noA S 3
    else if v5 < 0 then noA S 4
    else if v3 < 0 ∨ v4 < 0 ∨ nI (S.2.1 3 p) - v5 < v3 ∨ nI (S.2.1 3 q) - v5 < v4 then noA S 5
    else (1, sCl S (cpy S.2.2.2.1 (160 * p + v3.toNatClampNeg) (160 * q + v4.toNatClampNeg) v5.toNatClampNeg)) := by unfold o_copy; rw [ea, eb]
  rw [eo] at hQ
  have x2 : (S.2.1 1 p = 2 ∨ S.2.1 1 q = 2 ∨ S.2.1 1 p = 1 ∧ S.2.1 1 q = 1 ∧ S.2.1 2 p ≠ S.2.1 2 q) → ∀ υ, Cf σ υ → CC υ x (rfu S 2) → Q (-nI 2) υ := fun z => by
    rw [if_pos z] at hQ; exact hQ
  have b85 : ¬ (S.2.1 1 p = 2 ∨ S.2.1 1 q = 2 ∨ S.2.1 1 p = 1 ∧ S.2.1 1 q = 1 ∧ S.2.1 2 p ≠ S.2.1 2 q) → b_X0_copy_85 x v3 v4 v5 Q σ (some (K (10 + p))) (some (K (10 + q))) := fun z => by
    rw [if_neg z] at hQ
    have x3 : (S.2.1 1 p = 0 ∨ S.2.1 1 q = 0) → ∀ υ, Cf σ υ → CC υ x (rfu S 3) → Q (-nI 3) υ := fun z => by
      rw [if_pos z] at hQ; exact hQ
    unfold b_X0_copy_85
    refine ⟨K (10 + p), rfl, cp, c_rowX (Q := Q) hK hA hr hp (fun _ _ => rfl) (fun zp => ?_) (fun y => absurd (Or.inl y) z) (fun y => x3 (Or.inl y))⟩
    refine ⟨K (10 + q), rfl, cq, c_rowX (Q := Q) hK hA hr hq (fun _ _ => rfl) (fun zq => ?_) (fun y => absurd (Or.inr (Or.inl y)) z) (fun y => x3 (Or.inr y))⟩
    have zk : S.2.1 2 q = S.2.1 2 p := Decidable.byContradiction fun y => z (Or.inr (Or.inr ⟨zp, zq, fun w => y w.symm⟩))
    rw [if_neg (by omega)] at hQ
    have Rp := ((hK.2.1.1.1 p hp).2.1 zp).2
    have Rq := ((hK.2.1.1.1 q hq).2.1 zq).2
    refine c_needX (n := 4) (Q := Q) hK hA (by decide) (fr0 (σ := σ)) noP hr (by decide) (by decide) (fun _ _ => rfl) (fun y => ?_) (fun y => ?_)
    rotate_left
    · have hn : v5 < 0 := by
        by_cases y2 : v5 < 0
        · exact y2
        · rw [if_neg y2] at y; exact absurd y (by decide)
      rw [if_pos hn] at hQ; exact hQ
    have hn : ¬ v5 < 0 := fun y2 => y (if_pos y2)
    rw [if_neg hn] at hQ
    refine ⟨K (50 + p), rfl, c_held Rp p2 ⟨K (50 + q), rfl, c_held Rq q2 ?_⟩⟩
    have n1 := Rp.2.1
    have n2 := Rq.2.1
    rw [zk] at n2 ⊢
    obtain ⟨t1, t2, t3⟩ := rwG_t _ p2
    have out : (v3 < 0 ∨ v4 < 0 ∨ nI (S.2.1 3 p) - v5 < v3 ∨ nI (S.2.1 3 q) - v5 < v4) ↔ ¬ cpyIn v3 v4 v5 (S.2.1 3 p) (S.2.1 3 q) := by
      unfold cpyIn
      by_cases y1 : v3 < 0
      · exact ⟨fun _ h => h.1 y1, fun _ => Or.inl y1⟩
      by_cases y2 : v4 < 0
      · exact ⟨fun _ h => h.2.1 y2, fun _ => Or.inr (Or.inl y2)⟩
      obtain ⟨m, hm, rfl⟩ := nI_of hn
      obtain ⟨i', hi, rfl⟩ := nI_of y1
      obtain ⟨j', hj, rfl⟩ := nI_of y2
      rw [sub_lt (by omega) hm hi, sub_lt (by omega) hm hj, nI_clamp hm, nI_clamp hi, nI_clamp hj]
      constructor
      · rintro (h | h | h | h) ⟨-, -, -, h1, h2⟩
        · exact y1 h
        · exact y2 h
        · omega
        · omega
      · intro h
        by_cases h1 : S.2.1 3 p < m + i'
        · exact Or.inr (Or.inr (Or.inl h1))
        · by_cases h2 : S.2.1 3 q < m + j'
          · exact Or.inr (Or.inr (Or.inr h2))
          · exact absurd ⟨y1, y2, hn, by omega, by omega⟩ h
    refine ⟨rwG (S.2.1 2 p) / 10000, rwG (S.2.1 2 p), K (50 + p), S.2.1 3 p, rwG (S.2.1 2 p), K (50 + q), S.2.1 3 q, ⟨⟨rfl, rfl⟩, ⟨n1, n2⟩, ⟨rfl, rfl, t1⟩, ⟨by omega, by omega⟩, fun y1 y2 u hu => ?_⟩, fun y => ?_, fun y => ?_⟩
    · obtain ⟨_, _, _, h1, h2⟩ := y2
      refine rw_fits Rp ?_ (by omega)
      have : S.2.1 2 p ≠ 3 := fun w => y1 (t2.mpr w)
      omega
    · rw [if_neg (fun w => out.mp w y)] at hQ
      obtain ⟨_, _, _, h1, h2⟩ := y
      unfold cpyW
      by_cases k3 : S.2.1 2 p = 3
      · rw [if_pos (t2.mpr k3)]
        refine bnd_AJ fun τ w e => ?_
        rw [k3] at w e
        obtain ⟨ck, cf⟩ := ck_copy (k := 3) hK hA hp hq zp zq k3 (zk.trans k3) h1 h2 w (fun _ => e) (fun y => absurd y (by decide))
        exact hQ τ cf ⟨K, ck⟩
      · rw [if_neg (fun w => k3 (t2.mp w))]
        refine bnd_A fun τ w e => ?_
        obtain ⟨ck, cf⟩ := ck_copy (k := S.2.1 2 p) hK hA hp hq zp zq rfl zk h1 h2 w (fun y => absurd y k3) (fun _ => e)
        exact hQ τ cf ⟨K, ck⟩
    · rw [if_pos (out.mpr y)] at hQ
      obtain ⟨r1, r2⟩ := hr
      refine c_vmx (by omega) (fun q τ f => ⟨rfl, ?_⟩)
      obtain ⟨g1, g2⟩ := f.2.2.1
      unfold b_X0_copy_135 b_X0_copy_149
      exact c_nwo (by omega) (fun τ2 f2 no _ => c_exc (b := 5) (σ0 := τ) (q := nx τ) f2 no.1 no.2.1 (fun τ3 f3 r3 => c_thr (hK.no hA f) hA (by decide) f noP (by decide) (by decide) f3 r3 hQ))
  have b35 : ∀ y : Int32, (y = 0 ∧ (S.2.1 1 p = 2 ∨ S.2.1 1 q = 2)) ∨ (y = 1 ∧ ¬ (S.2.1 1 p = 2 ∨ S.2.1 1 q = 2)) → b_X0_copy_35 x v3 v4 v5 Q σ (some (K (10 + p))) (some (K (10 + q))) y := fun y hy => by
    unfold b_X0_copy_35
    refine c_needX (n := 2) (Q := Q) hK hA (by decide) (fr0 (σ := σ)) noP hr (by decide) (by decide) (fun _ _ => rfl) (fun y1 => ?_) (fun y1 => ?_)
    · have nz : ¬ (S.2.1 1 p = 2 ∨ S.2.1 1 q = 2) := by
        rcases hy with ⟨h, -⟩ | ⟨-, h⟩
        · exact absurd h y1
        · exact h
      refine ⟨K (10 + p), rfl, cp, ?_⟩
      rcases sh_c hK hA hp with ⟨z, e⟩ | ⟨z, e, R1⟩ | ⟨z, o, e, X1⟩
      · rw [e]
        exact b85 (by omega)
      · rw [e]
        refine ⟨K (10 + q), rfl, cq, ?_⟩
        rcases sh_c hK hA hq with ⟨z', e'⟩ | ⟨z', e', R2⟩ | ⟨z', o, e', X1⟩
        · rw [e']
          exact b85 (by omega)
        · rw [e']
          refine c_rowX (Q := Q) hK hA hr hp (fun _ _ => rfl) (fun _ => ?_) (fun y => absurd (Or.inl y) nz) (fun y => by omega)
          refine ⟨K (50 + p), rfl, c_sort R1 p2 ?_⟩
          refine c_rowX (Q := Q) hK hA hr hq (fun _ _ => rfl) (fun _ => ?_) (fun y => absurd (Or.inr y) nz) (fun y => by omega)
          refine ⟨K (50 + q), rfl, c_sort R2 q2 ?_⟩
          refine c_needX (n := 2) (Q := Q) hK hA (by decide) (fr0 (σ := σ)) noP hr (by decide) (by decide) (fun _ _ => rfl) (fun y2 => ?_) (fun y2 => ?_)
          · refine b85 (fun w => ?_)
            rcases w with w | w | ⟨_, _, w⟩
            · exact nz (Or.inl w)
            · exact nz (Or.inr w)
            · exact y2 (if_neg (nI_eqf (by omega) (by omega) w))
          · refine x2 (Or.inr (Or.inr ⟨z, z', fun w => ?_⟩))
            rw [if_pos (by rw [w])] at y2
            exact absurd y2 (by decide)
        · exact absurd (Or.inr z') nz
      · exact absurd (Or.inl z) nz
    · rcases hy with ⟨-, h⟩ | ⟨h, -⟩
      · exact x2 (h.elim (fun h => Or.inl h) (fun h => Or.inr (Or.inl h)))
      · rw [h] at y1; exact absurd y1 (by decide)
  refine ⟨K (10 + p), rfl, cp, c_holdX hK hA hp ?_⟩
  by_cases zp : S.2.1 1 p = 2
  · rw [if_pos zp, if_neg (by decide)]
    exact b35 0 (Or.inl ⟨rfl, Or.inl zp⟩)
  · rw [if_neg zp, if_pos rfl]
    refine ⟨K (10 + q), rfl, cq, c_holdX hK hA hq ?_⟩
    by_cases zq : S.2.1 1 q = 2
    · rw [if_pos zq, if_neg (by decide)]
      exact b35 0 (Or.inl ⟨rfl, Or.inr zq⟩)
    · rw [if_neg zq, if_pos rfl]
      exact b35 1 (Or.inr ⟨rfl, fun w => w.elim zp zq⟩)
end PC
