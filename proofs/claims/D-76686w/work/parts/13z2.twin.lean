set_option linter.unusedVariables false
set_option maxRecDepth 10000
/-! ===== twin: texts of plans ===== -/
section PT
variable {σ τ υ : wS} {t F : Nat} {s : mS} {S : gS}
def TLt (σ : wS) (t : Nat) (l : List Int32) : Prop := oI σ 2564 t = nI l.length ∧ ∀ j (h : j < l.length), aI σ 2563 t j = l[j]
theorem t_put1 {Q : wS → Prop} {l : List Int32} {c : Int32} (hL : TLt σ t l) (hl : l.length < 4000) (hQ : ∀ τ, Tw [2563, 2564] t σ τ → TLt τ t (l ++ [c]) → Q τ) : bnd (sA σ 2563 t (upd (aI σ 2563 t) (oI σ 2564 t).toNatClampNeg c)) fun σ12 => bnd (sI σ12 2564 t ((oI σ12 2564 t) + (1 : Int32))) fun σ15 => Q σ15 := by
  refine bnd_sA fun σ1 w1 v1 _ _ => bnd_sI fun σ2 w2 v2 _ _ => hQ σ2 ((w1.mono (by decide)).up w2 (by decide)) ⟨?_, fun j hj => ?_⟩
  · rw [v2, w1.I (by decide), hL.1, nIl_1, nI_add, List.length_append]; rfl
  · rw [w2.A (by decide), v1, hL.1, nI_clamp (by omega)]
    by_cases z : j = l.length
    · subst z
      rw [upd_s, List.getElem_append_right (Nat.le_refl _)]
      simp
    · have hj' : j < l.length := by
        rw [List.length_append] at hj
        have : ([c] : List Int32).length = 1 := rfl
        omega
      rw [upd_n z, List.getElem_append_left hj']
      exact hL.2 j hj'
theorem len_d : ∀ i, i < 15 → (Int32.ofNat (wd_len.getD i 0)) >>> ((0 : Int32) &&& 31) = nI (wd_len.getD i 0) := by decide
theorem t_len {Q : Int32 → wS → Prop} {i : Nat} (hi : i < 15) (h : Q (nI (wd_len.getD i 0)) σ) : w_J6_length σ i Q := by
  unfold w_J6_length w_J6_coder
  refine ⟨hi, by decide, hi, ?_⟩
  show Q ((Int32.ofNat (wd_len.getD i 0)) >>> ((0 : Int32) &&& 31)) σ
  rw [len_d i hi]; exact h
theorem chr_d : ∀ i, i < 13 → ∀ j, j < 6 → ((((wd_byt.getD i []).getD j 0) &&& (255 : Int32)).toUInt32 % 65536).toInt32 = (wd_byt.getD i []).getD j 0 := by decide
theorem len_b : ∀ i, i < 13 → wd_len.getD i 0 ≤ 6 ∧ (WB i).length = wd_len.getD i 0 := by decide
theorem t_chr {Q : Int32 → wS → Prop} {i j : Nat} (hi : i < 13) (hj : j < wd_len.getD i 0) (h : Q ((WB i).getD j 0) σ) : w_J6_charAt σ i (nI j) Q := by
  have hl := (len_b i hi).1
  unfold w_J6_charAt w_J6_isLatin1 w_J15_charAt w_J6_checkIndex w_J14_checkIndex
  have e := chr_d i hi j (by omega)
  have n1 := pk_nc (((wd_byt.getD i []).getD j 0) &&& (255 : Int32))
  rw [nI_clamp (show j < 2 ^ 31 by omega)]
  refine ⟨by omega, by decide, by omega, rfl, by decide, by omega, fun z1 => ⟨nI_pos (by omega), nI_lt hj (by omega), vp_inN hj (by omega), n1, n1, ?_⟩⟩
  rw [e]
  exact h
theorem gtD {l : List Int32} {x : Nat} (h : x < l.length) : l.getD x 0 = l[x] := by simp [List.getD, h]
theorem t_wr2 {Q : wS → Prop} {i : Nat} {l : List Int32} {σ0 : wS} (hi : i < 13) (ok : ok24 σ0 t) (hl : l.length + 6 < 4000) (hQ : ∀ τ, Tw [2563, 2564] t σ0 τ → TLt τ t (l ++ WB i) → Q τ) : ∀ n x σ, x ≤ wd_len.getD i 0 → wd_len.getD i 0 - x < n → Tw [2563, 2564] t σ0 σ → TLt σ t (l ++ (WB i).take x) → l_X24_writes_2 F t i Q n σ (nI x) := by
  obtain ⟨b1, b2⟩ := len_b i hi
  intro n
  induction n with
  | zero => intro x σ h1 h2; omega
  | succ n ih =>
    intro x σ h1 h2 w hL
    unfold l_X24_writes_2
    refine ⟨by omega, t_len (by omega) ?_⟩
    by_cases q : x = wd_len.getD i 0
    · rw [if_pos (nI_le (by omega) (by omega))]
      rw [q, ← b2, List.take_length] at hL
      exact hQ σ w hL
    · have hx : x < (WB i).length := by omega
      rw [if_neg (nI_ge (by omega) (by omega))]
      have hlen : (l ++ (WB i).take x).length = l.length + x := by rw [List.length_append, List.length_take]; omega
      refine ⟨w.ok ok, t_chr hi (by omega) ⟨?_, t_put1 hL (by omega) (fun τ w1 h1 => ?_)⟩⟩
      · rw [hL.1, hlen]; exact vp_inN (by omega) (by decide)
      · rw [nIl_1, nI_add]
        refine ih (x + 1) τ (by omega) (by omega) (w.trans w1) ?_
        have e : l ++ (WB i).take (x + 1) = l ++ (WB i).take x ++ [(WB i).getD x 0] := by
          rw [List.append_assoc, List.take_succ_eq_append_getElem hx, gtD hx]
        rw [e]
        exact h1
theorem t_writes {Q : wS → Prop} {i : Nat} {l : List Int32} (hi : i < 13) (ok : ok24 σ t) (hF : 100 ≤ F) (hL : TLt σ t l) (hl : l.length + 6 < 4000) (hQ : ∀ τ, Tw [2563, 2564] t σ τ → TLt τ t (l ++ WB i) → Q τ) : w_X24_writes F σ t i Q := by
  unfold w_X24_writes
  have := (len_b i hi).1
  exact t_wr2 hi ok hl hQ F 0 σ (by omega) (by omega) Tw.refl (by rw [List.take_zero, List.append_nil]; exact hL)
theorem pl_len (hs : Sh s) : ∀ R d m L, m ≤ 120 → pl s R d m = some L → m + L.length ≤ 120 ∧ 1 ≤ L.length := by
  intro R
  induction R with
  | zero => intro d m L _ h; cases h
  | succ R ih =>
    intro d m L hm h
    by_cases q : m = 120
    · have : pl s (R + 1) d m = none := by show (if m = 120 then none else _) = _; rw [if_pos q]
      rw [this] at h; cases h
    · cases hc : chs s d with
      | none =>
        have : pl s (R + 1) d m = none := by show (if m = 120 then none else match chs s d with | none => none | some w => _) = _; rw [if_neg q, hc]
        rw [this] at h; cases h
      | some w =>
        rw [pl_eq q hc] at h
        have ho : ∀ o m L, m ≤ 120 → plo s R o m = some L → m + L.length ≤ 120 := by
          intro o m L hm h
          cases o with
          | none => cases h; exact hm
          | some d => exact (ih d m L hm h).1
        cases h1 : plo s R w.2.2.1 (m + 1) with
        | none => rw [h1] at h; cases h
        | some L1 =>
          rw [h1] at h
          dsimp only at h
          cases h2 : plo s R w.2.2.2.1 (m + 1 + L1.length) with
          | none => rw [h2] at h; cases h
          | some L2 =>
            rw [h2] at h
            cases h
            have a1 := ho _ _ _ (by omega) h1
            have a2 := ho _ _ _ a1 h2
            rw [List.length_cons, List.length_append]
            omega
/-- what a plan is: the node, then what is within -/
theorem pl_some {R d m : Nat} {L : List (Nat → Nat)} (hs : Sh s) (h : pl s (R + 1) d m = some L) : ∃ w L1 L2, chs s d = some w ∧ shp s d w ∧ plo s R w.2.2.1 (m + 1) = some L1 ∧ plo s R w.2.2.2.1 (m + 1 + L1.length) = some L2 ∧ L = nod s d w (1 + L1.length + L2.length) :: (L1 ++ L2) := by
  by_cases q : m = 120
  · have : pl s (R + 1) d m = none := by show (if m = 120 then none else _) = _; rw [if_pos q]
    rw [this] at h; cases h
  · cases hc : chs s d with
    | none =>
      have : pl s (R + 1) d m = none := by show (if m = 120 then none else match chs s d with | none => none | some w => _) = _; rw [if_neg q, hc]
      rw [this] at h; cases h
    | some w =>
      rw [pl_eq q hc] at h
      cases h1 : plo s R w.2.2.1 (m + 1) with
      | none => rw [h1] at h; cases h
      | some L1 =>
        rw [h1] at h
        dsimp only at h
        cases h2 : plo s R w.2.2.2.1 (m + 1 + L1.length) with
        | none => rw [h2] at h; cases h
        | some L2 =>
          rw [h2] at h
          cases h
          exact ⟨w, L1, L2, rfl, wys_sh hs (List.mem_of_find?_eq_some hc), h1, h2, rfl⟩
/-- the ghost plan from i on is L -/
def AtL (A : mS) (i : Nat) (L : List (Nat → Nat)) : Prop := ∀ j (h : j < L.length), ∀ k, 6 ≤ k → k ≤ 14 → A k (i + j) = L[j] k
theorem AtL.tl {A : mS} {i : Nat} {f : Nat → Nat} {L1 L2 : List (Nat → Nat)} (h : AtL A i (f :: (L1 ++ L2))) : (∀ k, 6 ≤ k → k ≤ 14 → A k i = f k) ∧ AtL A (i + 1) L1 ∧ AtL A (i + 1 + L1.length) L2 := by
  refine ⟨fun k h1 h2 => h 0 (by simp) k h1 h2, fun j hj k h1 h2 => ?_, fun j hj k h1 h2 => ?_⟩
  · have := h (j + 1) (by simp; omega) k h1 h2
    rw [show i + (j + 1) = i + 1 + j by omega] at this
    rw [this]
    show ((L1 ++ L2)[j]'(by rw [List.length_append]; omega)) k = _
    rw [List.getElem_append_left hj]
  · have := h (L1.length + j + 1) (by simp; omega) k h1 h2
    rw [show i + (L1.length + j + 1) = i + 1 + L1.length + j by omega] at this
    rw [this]
    show ((L1 ++ L2)[L1.length + j]'(by rw [List.length_append]; omega)) k = _
    rw [List.getElem_append_right (by omega)]
    have e : ∀ (x : Nat) (hx : x < L2.length), x = j → L2[x] k = L2[j] k := fun x hx h => by subst h; rfl
    exact e _ _ (by omega)
theorem wix_lt {k h : Nat} : wix k h < 10 := by
  unfold wix
  split
  · omega
  · split
    · split <;> omega
    · omega
theorem WB_len {i : Nat} (h : i < 13) : (WB i).length ≤ 6 := by
  obtain ⟨a, b⟩ := len_b i h
  omega
theorem nod_6 {d n : Nat} {w : Wy} : nod s d w n 6 = w.1 := rfl
theorem spl_next (hs : Sh s) {A : mS} : ∀ R d m L i, pl s R d m = some L → AtL A i L → (spl A R i).2 = i + L.length ∧ (spl A R i).1.length ≤ 12 * L.length := by
  intro R
  induction R with
  | zero => intro d m L i h; cases h
  | succ R ih =>
    intro d m L i h hA
    obtain ⟨w, L1, L2, hc, hsh, h1, h2, rfl⟩ := pl_some hs h
    obtain ⟨a0, a1, a2⟩ := hA.tl
    have a6 : A 6 i = w.1 := a0 6 (by decide) (by decide)
    have oL : ∀ o m L, o ≠ none → plo s R o m = some L → ∃ d, pl s R d m = some L := by
      intro o m L h0 h
      cases o with
      | none => exact absurd rfl h0
      | some d => exact ⟨d, h⟩
    have eL : (nod s d w (1 + L1.length + L2.length) :: (L1 ++ L2)).length = 1 + L1.length + L2.length := by rw [List.length_cons, List.length_append]; omega
    have nil2 : w.2.2.2.1 = none → L2 = [] := fun z => by rw [z] at h2; cases h2; rfl
    have nil1 : w.2.2.1 = none → L1 = [] := fun z => by rw [z] at h1; cases h1; rfl
    have e5 : (WB 5).length = 5 := rfl
    have e10 : (WB 10).length = 1 := rfl
    have e11 : (WB 11).length = 1 := rfl
    have e12 : (WB 12).length = 1 := rfl
    have ew := WB_len (i := wix (A 6 i) (A 13 i)) (by have := @wix_lt (A 6 i) (A 13 i); omega)
    rw [eL]
    show (if 10 ≤ A 6 i then spl A R (i + 1) else if A 6 i = 1 then _ else if 4 ≤ A 6 i ∧ A 6 i ≤ 6 then _ else _).2 = _ ∧ (if 10 ≤ A 6 i then spl A R (i + 1) else if A 6 i = 1 then _ else if 4 ≤ A 6 i ∧ A 6 i ≤ 6 then _ else _).1.length ≤ _
    by_cases k10 : 10 ≤ A 6 i
    · rw [if_pos k10]
      have hh : w.2.2.1 ≠ none ∧ w.2.2.2.1 = none := by
        rcases hsh with z | z | z | z | z | z
        · exact z.2.2.2
        · exact z.2.2.2
        · omega
        · omega
        · omega
        · omega
      obtain ⟨d1, p1⟩ := oL _ _ _ hh.1 h1
      obtain ⟨i1, i2⟩ := ih d1 _ L1 (i + 1) p1 a1
      rw [nil2 hh.2]
      simp only [List.length_nil]
      omega
    rw [if_neg k10]
    by_cases k1 : A 6 i = 1
    · rw [if_pos k1]
      have hh : w.2.2.1 = none ∧ w.2.2.2.1 = none := by
        rcases hsh with z | z | z | z | z | z
        · omega
        · omega
        · exact z.2.2
        · omega
        · omega
        · omega
      rw [nil1 hh.1, nil2 hh.2]
      dsimp only
      refine ⟨rfl, ?_⟩
      rw [List.length_append, e5]
      show 5 + 1 ≤ 12 * (1 + 0 + 0)
      omega
    rw [if_neg k1]
    by_cases k46 : 4 ≤ A 6 i ∧ A 6 i ≤ 6
    · rw [if_pos k46]
      have hh : w.2.2.1 ≠ none ∧ w.2.2.2.1 ≠ none := by
        rcases hsh with z | z | z | z | z | z
        · omega
        · omega
        · omega
        · omega
        · omega
        · exact z.2.2
      obtain ⟨d1, p1⟩ := oL _ _ _ hh.1 h1
      obtain ⟨d2, p2⟩ := oL _ _ _ hh.2 h2
      obtain ⟨i1, i2⟩ := ih d1 _ L1 (i + 1) p1 a1
      obtain ⟨j1, j2⟩ := ih d2 _ L2 (i + 1 + L1.length) p2 a2
      dsimp only
      rw [i1]
      simp only [List.length_append, List.length_cons, List.length_nil]
      omega
    · rw [if_neg k46]
      have hh : w.2.2.1 ≠ none ∧ w.2.2.2.1 = none := by
        rcases hsh with z | z | z | z | z | z
        · exact z.2.2.2
        · exact z.2.2.2
        · omega
        · exact z.2.2
        · exact z.2.2
        · omega
      obtain ⟨d1, p1⟩ := oL _ _ _ hh.1 h1
      obtain ⟨i1, i2⟩ := ih d1 _ L1 (i + 1) p1 a1
      rw [nil2 hh.2]
      dsimp only
      simp only [List.length_append, List.length_cons, List.length_nil]
      omega
def TPs (σ : wS) (t : Nat) (A : mS) (n : Nat) : Prop := ∀ i, i < n → aI σ 2542 t i = nI (A 6 i) ∧ aI σ 2543 t i = nI (A 7 i) ∧ aI σ 2549 t i = nI (A 13 i)
theorem TPs.tw {G : List Nat} {A : mS} {n : Nat} (h : TPs σ t A n) (k : Tw G t σ τ) (d : ∀ g ∈ [2542, 2543, 2549], g ∉ G) : TPs τ t A n := fun i hi => by
  rw [k.A (d 2542 (by decide)), k.A (d 2543 (by decide)), k.A (d 2549 (by decide))]
  exact h i hi
theorem nod_13 {d n : Nat} {w : Wy} : nod s d w n 13 ≤ 1 := by
  show (match w.2.1 with | some e => if s 2 e = 6 then 1 else 0 | none => 0) ≤ 1
  cases w.2.1 with
  | none => exact Nat.zero_le 1
  | some e =>
    dsimp only
    split <;> omega
theorem t_spells (hs : Sh s) {A : mS} {N : Nat} (hN : N ≤ 120) (hF : 1000 ≤ F) : ∀ R d m L i σ l (Q : Int32 → wS → Prop), pl s R d m = some L → AtL A i L → i + L.length ≤ N → ok24 σ t → TPs σ t A N → TLt σ t l → l.length + 12 * L.length ≤ 3900 →
    (∀ τ, Tw [2563, 2564] t σ τ → TLt τ t (l ++ (spl A R i).1) → Q (nI (i + L.length)) τ) → w_X24_spells F R σ t (nI i) Q := by
  intro R
  induction R with
  | zero => intro d m L i σ l Q h; cases h
  | succ R ih =>
    intro d m L i σ l Q h hA hi ok hP hL hl hQ
    obtain ⟨w, L1, L2, hc, hsh, h1, h2, rfl⟩ := pl_some hs h
    obtain ⟨a0, a1, a2⟩ := hA.tl
    have a6 : A 6 i = w.1 := a0 6 (by decide) (by decide)
    have a13 : A 13 i ≤ 1 := by rw [a0 13 (by decide) (by decide)]; exact nod_13
    have oL : ∀ o m L, o ≠ none → plo s R o m = some L → ∃ d, pl s R d m = some L := by
      intro o m L h0 h
      cases o with
      | none => exact absurd rfl h0
      | some d => exact ⟨d, h⟩
    have eL : (nod s d w (1 + L1.length + L2.length) :: (L1 ++ L2)).length = 1 + L1.length + L2.length := by rw [List.length_cons, List.length_append]; omega
    have nil2 : w.2.2.2.1 = none → L2 = [] := fun z => by rw [z] at h2; cases h2; rfl
    have nil1 : w.2.2.1 = none → L1 = [] := fun z => by rw [z] at h1; cases h1; rfl
    rw [eL] at hi hl hQ
    obtain ⟨p1, p2, p3⟩ := hP i (by omega)
    have hw12 : w.1 < 12 := by
      rcases hsh with z | z | z | z | z | z <;> omega
    have ci : (nI i).toNatClampNeg = i := nI_clamp (by omega)
    have vi := vp_inN (show i < 121 by omega) (by decide)
    show wm_X24_spells F (w_X24_spells F R) σ t (nI i) Q
    unfold wm_X24_spells
    rw [ci, p1, p3]
    refine ⟨ok, vi, fun v hv => ?_⟩
    subst hv
    by_cases k10 : 10 ≤ A 6 i
    · rw [if_neg (show ¬ nI (A 6 i) < (10 : Int32) from nI_nlt (b := 10) k10 (by omega)), nIl_1, nI_add]
      have hh : w.2.2.1 ≠ none ∧ w.2.2.2.1 = none := by
        rcases hsh with z | z | z | z | z | z
        · exact z.2.2.2
        · exact z.2.2.2
        · omega
        · omega
        · omega
        · omega
      obtain ⟨d1, q1⟩ := oL _ _ _ hh.1 h1
      have e2 := nil2 hh.2
      subst e2
      have es : spl A (R + 1) i = spl A R (i + 1) := if_pos k10
      rw [es] at hQ
      simp only [List.length_nil] at hi hl hQ
      refine ih d1 _ L1 (i + 1) σ l _ q1 a1 (by omega) ok hP hL (by omega) (fun τ u hL' => ?_)
      have := hQ τ u hL'
      rw [show i + (1 + L1.length + 0) = i + 1 + L1.length by omega] at this
      exact this
    rw [if_pos (show nI (A 6 i) < (10 : Int32) from nI_lt (b := 10) (by omega) (by decide))]
    by_cases k1 : A 6 i = 1
    · rw [if_pos (by rw [k1]; rfl)]
      have hh : w.2.2.1 = none ∧ w.2.2.2.1 = none := by
        rcases hsh with z | z | z | z | z | z
        · omega
        · omega
        · exact z.2.2
        · omega
        · omega
        · omega
      have e1 := nil1 hh.1
      have e2 := nil2 hh.2
      subst e1
      subst e2
      have es : spl A (R + 1) i = (WB 5 ++ [48 + nI (A 7 i)], i + 1) := by
        show (if 10 ≤ A 6 i then _ else if A 6 i = 1 then _ else _) = _
        rw [if_neg k10, if_pos k1]
      rw [es] at hQ
      simp only [List.length_nil] at hi hl hQ
      refine t_writes (by decide) ok (by omega) hL (by omega) (fun σ1 w1 L1' => ⟨?_, ?_⟩)
      · rw [L1'.1, List.length_append, show (WB 5).length = 5 from rfl]; exact vp_inN (by omega) (by decide)
      · rw [(hP.tw w1 (by decide) i (by omega)).2.1]
        refine t_put1 L1' (by rw [List.length_append, show (WB 5).length = 5 from rfl]; omega) (fun σ2 w2 L2' => ?_)
        rw [nIl_1, nI_add]
        rw [List.append_assoc] at L2'
        exact hQ σ2 (w1.trans w2) L2'
    rw [if_neg (show ¬ nI (A 6 i) = (1 : Int32) from nI_eqf (b := 1) (by omega) (by decide) k1)]
    have hne1 : w.2.2.1 ≠ none := by
      rcases hsh with z | z | z | z | z | z
      · omega
      · omega
      · omega
      · exact z.2.2.1
      · exact z.2.2.1
      · exact z.2.2.1
    obtain ⟨d1, q1⟩ := oL _ _ _ hne1 h1
    obtain ⟨n1, n1'⟩ := spl_next hs R d1 _ L1 (i + 1) q1 a1
    have e10 : (WB 10).length = 1 := rfl
    have e11 : (WB 11).length = 1 := rfl
    have e12 : (WB 12).length = 1 := rfl
    have ewl := WB_len (i := wix (A 6 i) (A 13 i)) (by have := @wix_lt (A 6 i) (A 13 i); omega)
    have b108 : ∀ x, x = wix (A 6 i) (A 13 i) → b_X24_spells_108 F (w_X24_spells F R) t (nI i) Q σ (nI (A 6 i)) (some t) x := by
      intro x hx
      subst hx
      unfold b_X24_spells_108
      refine ⟨t, rfl, ok, t_writes (by have := @wix_lt (A 6 i) (A 13 i); omega) ok (by omega) hL (by omega) (fun σ1 w1 l1 => ⟨w1.ok ok, vi, ?_, ?_⟩)⟩
      · rw [l1.1, List.length_append]; exact vp_inN (by omega) (by decide)
      rw [ci, (hP.tw w1 (by decide) i (by omega)).2.1]
      refine t_put1 l1 (by rw [List.length_append]; omega) (fun σ2 w2 l2 => ?_)
      have W2 := w1.trans w2
      have len2 : (l ++ WB (wix (A 6 i) (A 13 i)) ++ [48 + nI (A 7 i)]).length ≤ l.length + 7 := by rw [List.length_append, List.length_append]; simp only [List.length_cons, List.length_nil]; omega
      refine t_writes (by decide) (W2.ok ok) (by omega) l2 (by omega) (fun σ3 w3 l3 => ?_)
      have W3 := W2.trans w3
      have len3 : (l ++ WB (wix (A 6 i) (A 13 i)) ++ [48 + nI (A 7 i)] ++ WB 10).length ≤ l.length + 8 := by rw [List.length_append]; omega
      rw [nIl_1, nI_add]
      refine ih d1 _ L1 (i + 1) σ3 _ _ q1 a1 (by omega) (W3.ok ok) (hP.tw W3 (by decide)) l3 (by omega) (fun σ4 w4 l4 => ?_)
      have W4 := W3.trans w4
      have len4 : (l ++ WB (wix (A 6 i) (A 13 i)) ++ [48 + nI (A 7 i)] ++ WB 10 ++ (spl A R (i + 1)).1).length ≤ l.length + 8 + 12 * L1.length := by rw [List.length_append]; omega
      have b178 : ∀ σ5 l' x, TLt σ5 t l' → l'.length + 6 < 4000 → Tw [2563, 2564] t σ σ5 → x = nI (i + (1 + L1.length + L2.length)) → l' ++ WB 12 = l ++ (spl A (R + 1) i).1 → b_X24_spells_178 F (w_X24_spells F R) t Q σ5 x := by
        intro σ5 l' x hl5 hlen W5 hx he
        unfold b_X24_spells_178
        refine ⟨W5.ok ok, t_writes (by decide) (W5.ok ok) (by omega) hl5 hlen (fun σ6 w6 l6 => ?_)⟩
        rw [he] at l6
        rw [hx]
        exact hQ σ6 (W5.trans w6) l6
      by_cases k46 : 4 ≤ A 6 i ∧ A 6 i ≤ 6
      · rw [if_neg (show ¬ nI (A 6 i) < (4 : Int32) from nI_nlt (b := 4) (by omega) (by omega)), if_neg (show ¬ (6 : Int32) < nI (A 6 i) from nI_nlt (a := 6) (by omega) (by decide))]
        have hne2 : w.2.2.2.1 ≠ none := by
          rcases hsh with z | z | z | z | z | z
          · omega
          · omega
          · omega
          · omega
          · omega
          · exact z.2.2.2
        obtain ⟨d2, q2⟩ := oL _ _ _ hne2 h2
        refine t_writes (by decide) (W4.ok ok) (by omega) l4 (by omega) (fun σ5 w5 l5 => ?_)
        have W5 := W4.trans w5
        have len5 : (l ++ WB (wix (A 6 i) (A 13 i)) ++ [48 + nI (A 7 i)] ++ WB 10 ++ (spl A R (i + 1)).1 ++ WB 11).length ≤ l.length + 9 + 12 * L1.length := by rw [List.length_append]; omega
        obtain ⟨n2, n2'⟩ := spl_next hs R d2 _ L2 (i + 1 + L1.length) q2 a2
        refine ih d2 _ L2 (i + 1 + L1.length) σ5 _ _ q2 a2 (by omega) (W5.ok ok) (hP.tw W5 (by decide)) l5 (by omega) (fun σ6 w6 l6 => ?_)
        refine b178 σ6 _ _ l6 (by rw [List.length_append]; omega) (W5.trans w6) (by congr 1; omega) ?_
        have es : spl A (R + 1) i = (WB (wix (A 6 i) (A 13 i)) ++ [48 + nI (A 7 i)] ++ WB 10 ++ (spl A R (i + 1)).1 ++ WB 11 ++ (spl A R (spl A R (i + 1)).2).1 ++ WB 12, (spl A R (spl A R (i + 1)).2).2) := by
          show (if 10 ≤ A 6 i then _ else if A 6 i = 1 then _ else if 4 ≤ A 6 i ∧ A 6 i ≤ 6 then _ else _) = _
          rw [if_neg k10, if_neg k1, if_pos k46]
        rw [es, n1]
        simp only [List.append_assoc]
      · have hn2 : w.2.2.2.1 = none := by
          rcases hsh with z | z | z | z | z | z
          · exact z.2.2.2.2
          · exact z.2.2.2.2
          · exact z.2.2.2
          · exact z.2.2.2
          · exact z.2.2.2
          · omega
        have e2 := nil2 hn2
        have es : spl A (R + 1) i = (WB (wix (A 6 i) (A 13 i)) ++ [48 + nI (A 7 i)] ++ WB 10 ++ (spl A R (i + 1)).1 ++ WB 12, (spl A R (i + 1)).2) := by
          show (if 10 ≤ A 6 i then _ else if A 6 i = 1 then _ else if 4 ≤ A 6 i ∧ A 6 i ≤ 6 then _ else _) = _
          rw [if_neg k10, if_neg k1, if_neg k46]
        have b := b178 σ4 _ (nI (i + 1 + L1.length)) l4 (by omega) W4 (by rw [e2]; simp only [List.length_nil]; congr 1; omega) (by rw [es]; simp only [List.append_assoc])
        by_cases k4 : A 6 i < 4
        · rw [if_pos (show nI (A 6 i) < (4 : Int32) from nI_lt (b := 4) k4 (by decide))]
          exact b
        · rw [if_neg (show ¬ nI (A 6 i) < (4 : Int32) from nI_nlt (b := 4) (by omega) (by omega)), if_pos (show (6 : Int32) < nI (A 6 i) from nI_lt (a := 6) (by omega) (by omega))]
          exact b
    by_cases k2 : A 6 i = 2
    · rw [if_pos (by rw [k2]; rfl)]
      exact b108 6 (by unfold wix; rw [if_pos k2])
    rw [if_neg (show ¬ nI (A 6 i) = (2 : Int32) from nI_eqf (b := 2) (by omega) (by decide) k2)]
    by_cases k8 : A 6 i < 8
    · rw [if_pos (show nI (A 6 i) < (8 : Int32) from nI_lt (b := 8) k8 (by decide))]
      by_cases kh : A 13 i = 1
      · rw [if_pos (by rw [kh]; rfl)]
        exact b108 8 (by unfold wix; rw [if_neg k2, if_pos k8, if_pos kh])
      · rw [if_neg (show ¬ nI (A 13 i) = (1 : Int32) from nI_eqf (b := 1) (by omega) (by decide) kh)]
        exact b108 9 (by unfold wix; rw [if_neg k2, if_pos k8, if_neg kh])
    · rw [if_neg (show ¬ nI (A 6 i) < (8 : Int32) from nI_nlt (b := 8) (by omega) (by omega))]
      exact b108 7 (by unfold wix; rw [if_neg k2, if_neg k8])
/-- a plan that is there is one that has grown -/
def PV (S : gS) : Prop := S.2.1 5 1 ≤ 120 ∧ (S.2.1 5 1 ≠ 0 → ∃ s d L, (MV s ∧ Dm s d ∧ cst s d ≤ MCH) ∧ pl s 122 d 0 = some L ∧ L.length = S.2.1 5 1 ∧ AtL S.2.1 0 L)
theorem t_sp94 {Q : Int32 → wS → Prop} {k m p : Nat} {l : List Int32} {σ0 : wS} (ok : ok24 σ0 t) (hk : k < 8) (hm : l.length ≤ m) (hm2 : m ≤ 160) (hp : p < 4) (e : aI σ0 2525 t k = nI p) (hL : TLt σ0 t l) (hQ : ∀ τ, Tw [12528] t σ0 τ → (∀ j, j < 1280 → aJ τ 12528 t j = spc (aJ σ0 12528 t) k p l.length l j) → Q (nI l.length) τ) : ∀ n i σ, i ≤ l.length → l.length - i < n → Tw [12528] t σ0 σ → (∀ j, j < 1280 → aJ σ 12528 t j = spc (aJ σ0 12528 t) k p i l j) → l_X24_spell_94 F t (nI k) Q n σ (nI i) := by
  intro n
  induction n with
  | zero => intro i σ h1 h2; omega
  | succ n ih =>
    intro i σ h1 h2 w hc
    unfold l_X24_spell_94
    rw [w.I (by decide), hL.1]
    refine ⟨w.ok ok, ?_⟩
    by_cases q : i = l.length
    · rw [if_pos (nI_le (by omega) (by omega))]
      rw [q] at hc
      exact hQ σ w hc
    · have hi : i < l.length := by omega
      rw [if_neg (nI_ge hi (by omega)), nI_clamp (by omega), w.A (by decide), hL.2 i hi]
      refine ⟨vp_inN (by omega) (by decide), t_puts (w.ok ok) hk (by omega) hp (by rw [w.A (by decide)]; exact e) (fun τ w1 v1 => ?_)⟩
      rw [nIl_1, nI_add]
      refine ih (i + 1) τ (by omega) (by omega) (w.trans w1) (fun j hj => ?_)
      rw [v1]
      unfold spc
      by_cases z : j = 160 * k + i
      · subst z
        rw [updL_s, if_pos (by omega), show 160 * k + i - 160 * k = i by omega]
        simp [List.getD, hi]
      · rw [updL_n z, hc j hj]
        unfold spc
        by_cases y : 160 * k ≤ j ∧ j < 160 * k + i
        · rw [if_pos y, if_pos (by omega)]
        · rw [if_neg y, if_neg (by omega)]
theorem t_spell {Q : Int32 → wS → Prop} {a : Int32} (hT : TT σ t S) (hA : AV S) (hP : PV S) (hF : 1000 ≤ F) (hQ : ∀ τ, Tu t σ τ → TT τ t (o_spell S a).2 → Q (o_spell S a).1 τ) : w_X24_spell F σ t a Q := by
  unfold w_X24_spell
  refine ⟨hT.ok, t_isShelf (fun e => ?_) (fun k hk ha e => ?_)⟩
  · rw [if_pos rfl]
    have e2 : o_spell S a = noA S 1 := by unfold o_spell; rw [e]
    rw [e2] at hQ
    exact t_no 1 (by decide) rfl hT hQ
  have eo : o_spell S a = if S.2.1 1 k = 2 then noA S 2 else if S.2.1 1 k = 0 then noA S 3 else if S.2.1 5 1 = 0 then noA S 5
    else if S.2.1 3 k < (spl S.2.1 122 0).1.length then noA S 7
    else (nI (spl S.2.1 122 0).1.length, sCl S (spc S.2.2.2.1 k (S.2.1 2 k) (spl S.2.1 122 0).1.length (spl S.2.1 122 0).1)) := by unfold o_spell; rw [e]
  rw [eo] at hQ
  obtain ⟨b1, b2, b3, b4⟩ := hA k hk
  obtain ⟨g1, g2, g3, g4⟩ := hT.2.1.2.1 k hk
  rw [if_neg (by decide), ha, nI_clamp (by omega), g1, hT.2.2.1.1]
  refine ⟨vp_inN hk (by decide), ?_⟩
  by_cases q2 : S.2.1 1 k = 2
  · rw [if_pos (by rw [q2]; rfl)]
    rw [if_pos q2] at hQ
    exact t_no 2 (by decide) rfl hT hQ
  rw [if_neg (show ¬ nI (S.2.1 1 k) = (2 : Int32) from nI_eqf (b := 2) (by omega) (by decide) q2)]
  rw [if_neg q2] at hQ
  by_cases q0 : S.2.1 1 k = 0
  · rw [if_pos (by rw [q0]; rfl)]
    rw [if_pos q0] at hQ
    exact t_no 3 (by decide) rfl hT hQ
  rw [if_neg (show ¬ nI (S.2.1 1 k) = (0 : Int32) from nI_eqf (b := 0) (by omega) (by decide) q0)]
  rw [if_neg q0] at hQ
  have hP1 := hP.1
  by_cases qn : S.2.1 5 1 = 0
  · rw [if_pos (by rw [qn]; rfl)]
    rw [if_pos qn] at hQ
    exact t_no 5 (by decide) rfl hT hQ
  rw [if_neg (show ¬ nI (S.2.1 5 1) = (0 : Int32) from nI_eqf (b := 0) (by omega) (by decide) qn)]
  rw [if_neg qn] at hQ
  obtain ⟨s0, d, L, ⟨hM, -⟩, hpl, hlen, hAt⟩ := hP.2 qn
  refine bnd_sI fun σ1 w1 v1 _ _ => ?_
  have hT1 := hT.tw w1 (by decide)
  have hps : TPs σ1 t S.2.1 (S.2.1 5 1) := fun i hi => by
    obtain ⟨⟨i1, i2, i3, i4⟩, ⟨i5, i6, i7, i8⟩, -⟩ := hT1.2.2.1.2 i hi
    exact ⟨i1, i2, i8⟩
  obtain ⟨sn1, sn2⟩ := spl_next hM.1.1 122 d 0 L 0 hpl hAt
  refine t_spells hM.1.1 hP1 hF 122 d 0 L 0 σ1 [] _ hpl hAt (by omega) hT1.ok hps ⟨v1, fun j h => absurd h (Nat.not_lt_zero j)⟩ (by simp only [List.length_nil]; omega) (fun τ w2 hL => ?_)
  rw [List.nil_append] at hL
  have hT2 := hT1.tw w2 (by decide)
  obtain ⟨-, y2, y3, -⟩ := hT2.2.1.2.1 k hk
  rw [hL.1, y3]
  by_cases z : S.2.1 3 k < (spl S.2.1 122 0).1.length
  · rw [if_neg (nI_ge z (by omega))]
    rw [if_pos z] at hQ
    exact t_no 7 (by decide) rfl hT2 (fun τ' k h => hQ τ' (w1.tuT (w2.tuT k)) h)
  · rw [if_pos (nI_le (by omega) (by omega))]
    rw [if_neg z] at hQ
    refine t_sp94 (m := S.2.1 3 k) (p := S.2.1 2 k) hT2.ok hk (by omega) b3 b2 y2 hL (fun τ3 w3 hc => ?_) F 0 τ (by omega) (by omega) Tw.refl (fun j _ => ?_)
    · refine hQ τ3 (w1.tuT (w2.tuT w3.tu)) (tt_cells hT2 w3 (by decide) (fun j hj => ?_))
      rw [hc j hj]
      unfold spc
      split
      · rfl
      · exact hT2.2.1.2.2.1 j hj
    · unfold spc
      rw [if_neg (by omega)]
end PT
