set_option linter.unusedVariables false
set_option maxRecDepth 10000
/-! ===== component: texts of plans ===== -/
section PC
variable {σ τ υ σ0 : wS} {x m F t : Nat} {s : mS} {S : gS} {K K' : Nat → Nat} {P P' : Nat → Nat → Prop} {a b c d : Nat}
def CLt (σ : wS) (t : Nat) (l : List Int32) : Prop := oI σ 4901 t = nI l.length ∧ ∀ j (h : j < l.length), aI σ 44900 t j = l[j]
abbrev GSp : List Nat := [44900, 4901]
theorem c_put1 {Q : wS → Prop} {l : List Int32} {v : Int32} (hL : CLt σ t l) (hl : l.length < 1200) (hQ : ∀ τ, Wq GSp t σ τ → CLt τ t (l ++ [v]) → Q τ) : bnd (sI σ 4901 t ((oI σ 4901 t) + (1 : Int32))) fun σ2 => vp_in (oI σ 4901 t) 1200 ∧ bnd (sA σ2 44900 t (upd (aI σ2 44900 t) (oI σ 4901 t).toNatClampNeg v)) fun σ6 => Q σ6 := by
  refine bnd_I fun τ1 w1 v1 => ?_
  rw [hL.1]
  refine ⟨vp_inN hl (by decide), bnd_A fun τ2 w2 v2 => hQ τ2 ((w1.mono (by decide)).up w2 (by decide)) ⟨?_, fun j hj => ?_⟩⟩
  · rw [((w2.sam (by decide)) t).1.1, v1, hL.1, nIl_1, nI_add, List.length_append]; rfl
  · rw [v2, ((w1.sam (by decide)) t).1.2.2.2, nI_clamp (by omega)]
    by_cases z : j = l.length
    · subst z
      rw [upd_s, List.getElem_append_right (Nat.le_refl _)]
      simp
    · have hj' : j < l.length := by
        rw [List.length_append] at hj
        have : ([v] : List Int32).length = 1 := rfl
        omega
      rw [upd_n z, List.getElem_append_left hj']
      exact hL.2 j hj'
theorem nar_c : ∀ i, i < 13 → ∀ j, j < 6 → vp_nar .char ((WB i).getD j 0) = (WB i).getD j 0 := by decide
theorem dig_c : ∀ p, p < 16 → vp_nar .char ((((48 : Int32) + nI p).toUInt32 % 65536).toInt32) = 48 + nI p := by decide
theorem c_say2 {Q : wS → Prop} {i : Nat} {l : List Int32} (hi : i < 13) (ok : ok48 σ0 t) (hl : l.length + 6 ≤ 1200) (hQ : ∀ τ, Wq GSp t σ0 τ → CLt τ t (l ++ WB i) → Q τ) : ∀ n x σ, x ≤ wd_len.getD i 0 → wd_len.getD i 0 - x < n → Wq GSp t σ0 σ → CLt σ t (l ++ (WB i).take x) → l_X48_say_2 F t i Q n σ (nI x) := by
  obtain ⟨b1, b2⟩ := len_b i hi
  intro n
  induction n with
  | zero => intro x σ h1 h2; omega
  | succ n ih =>
    intro x σ h1 h2 w hL
    unfold l_X48_say_2
    refine ⟨by omega, t_len (by omega) ?_⟩
    by_cases q : x = wd_len.getD i 0
    · rw [if_pos (nI_le (by omega) (by omega))]
      rw [q, ← b2, List.take_length] at hL
      exact hQ σ w hL
    · have hx : x < (WB i).length := by omega
      rw [if_neg (nI_ge (by omega) (by omega))]
      have hlen : (l ++ (WB i).take x).length = l.length + x := by rw [List.length_append, List.length_take]; omega
      refine ⟨ok48.ext ok w.ext, bnd_I fun τ1 w1 v1 => t_chr hi (by omega) ?_⟩
      rw [hL.1, nar_c i hi x (by omega)]
      refine ⟨by rw [hlen]; exact vp_inN (by omega) (by decide), bnd_A fun τ2 w2 v2 => ?_⟩
      rw [nIl_1, nI_add]
      have e : l ++ (WB i).take (x + 1) = l ++ (WB i).take x ++ [(WB i).getD x 0] := by
        rw [List.append_assoc, List.take_succ_eq_append_getElem hx, gtD hx]
      refine ih (x + 1) τ2 (by omega) (by omega) ((w.up w1 (by decide)).up w2 (by decide)) ?_
      rw [e]
      refine ⟨?_, fun j hj => ?_⟩
      · rw [((w2.sam (by decide)) t).1.1, v1, hL.1, nIl_1, nI_add, List.length_append (bs := [(WB i).getD x 0])]; rfl
      · rw [v2, ((w1.sam (by decide)) t).1.2.2.2, nI_clamp (by omega)]
        by_cases z : j = (l ++ (WB i).take x).length
        · subst z
          rw [upd_s, List.getElem_append_right (Nat.le_refl _)]
          simp
        · have hj' : j < (l ++ (WB i).take x).length := by
            rw [List.length_append] at hj
            have : ([(WB i).getD x 0] : List Int32).length = 1 := rfl
            omega
          rw [upd_n z, List.getElem_append_left hj']
          exact hL.2 j hj'
theorem c_say {Q : wS → Prop} {i : Nat} {l : List Int32} (hi : i < 13) (ok : ok48 σ t) (hF : 100 ≤ F) (hL : CLt σ t l) (hl : l.length + 6 ≤ 1200) (hQ : ∀ τ, Wq GSp t σ τ → CLt τ t (l ++ WB i) → Q τ) : w_X48_say F σ t i Q := by
  unfold w_X48_say
  have := (len_b i hi).1
  exact c_say2 hi ok hl hQ F 0 σ (by omega) (by omega) Wq.refl (by rw [List.take_zero, List.append_nil]; exact hL)
theorem c_digit {Q : wS → Prop} {p : Nat} {l : List Int32} (ok : ok48 σ t) (hp : p < 16) (hL : CLt σ t l) (hl : l.length < 1200) (hQ : ∀ τ, Wq GSp t σ τ → CLt τ t (l ++ [48 + nI p]) → Q τ) : w_X48_digit σ t (nI p) Q := by
  unfold w_X48_digit
  rw [dig_c p hp]
  exact ⟨ok, c_put1 hL hl hQ⟩
theorem wb5 {k h : Nat} (hk : 4 ≤ k ∧ k ≤ 6) : (WB (wix k h)).length = 5 := by
  unfold wix
  rw [if_neg (by omega), if_pos (by omega)]
  split <;> rfl
theorem spl_9 (hs : Sh s) {A : mS} : ∀ R d m L i, pl s R d m = some L → AtL A i L → (spl A R i).1.length ≤ 9 * L.length := by
  intro R
  induction R with
  | zero => intro d m L i h; cases h
  | succ R ih =>
    intro d m L i h hA
    have hfull := spl_next hs (R + 1) d m L i h hA
    obtain ⟨w, L1, L2, hc, hsh, h1, h2, rfl⟩ := pl_some hs h
    obtain ⟨a0, a1, a2⟩ := hA.tl
    have a6 : A 6 i = w.1 := a0 6 (by decide) (by decide)
    have oL : ∀ o m L, o ≠ none → plo s R o m = some L → ∃ d, pl s R d m = some L := by
      intro o m L h0 h
      cases o with
      | none => exact absurd rfl h0
      | some d => exact ⟨d, h⟩
    have eL : (nod s d w (1 + L1.length + L2.length) :: (L1 ++ L2)).length = 1 + L1.length + L2.length := by rw [List.length_cons, List.length_append]; omega
    have nil2 : w.2.2.2.1 = none → L2 = [] := fun z => by rw [z] at h2; cases h2; rfl
    have nil1 : w.2.2.1 = none → L1 = [] := fun z => by rw [z] at h1; cases h1; rfl
    have e5 : (WB 5).length = 5 := rfl
    have e10 : (WB 10).length = 1 := rfl
    have e11 : (WB 11).length = 1 := rfl
    have e12 : (WB 12).length = 1 := rfl
    have ew := WB_len (i := wix (A 6 i) (A 13 i)) (by have := @wix_lt (A 6 i) (A 13 i); omega)
    rw [eL]
    show (if 10 ≤ A 6 i then spl A R (i + 1) else if A 6 i = 1 then _ else if 4 ≤ A 6 i ∧ A 6 i ≤ 6 then _ else _).1.length ≤ _
    by_cases k10 : 10 ≤ A 6 i
    · rw [if_pos k10]
      have hh : w.2.2.1 ≠ none ∧ w.2.2.2.1 = none := by
        rcases hsh with z | z | z | z | z | z
        · exact z.2.2.2
        · exact z.2.2.2
        · omega
        · omega
        · omega
        · omega
      obtain ⟨d1, p1⟩ := oL _ _ _ hh.1 h1
      have i2 := ih d1 _ L1 (i + 1) p1 a1
      omega
    rw [if_neg k10]
    by_cases k1 : A 6 i = 1
    · rw [if_pos k1]
      dsimp only
      rw [List.length_append, e5]
      show 5 + 1 ≤ _
      omega
    rw [if_neg k1]
    by_cases k46 : 4 ≤ A 6 i ∧ A 6 i ≤ 6
    · rw [if_pos k46]
      have hh : w.2.2.1 ≠ none ∧ w.2.2.2.1 ≠ none := by
        rcases hsh with z | z | z | z | z | z
        · omega
        · omega
        · omega
        · omega
        · omega
        · exact z.2.2
      obtain ⟨d1, p1⟩ := oL _ _ _ hh.1 h1
      obtain ⟨d2, p2⟩ := oL _ _ _ hh.2 h2
      have i1 := (spl_next hs R d1 _ L1 (i + 1) p1 a1).1
      have i2 := ih d1 _ L1 (i + 1) p1 a1
      have j2 := ih d2 _ L2 (i + 1 + L1.length) p2 a2
      have e := wb5 (h := A 13 i) k46
      dsimp only
      rw [i1]
      simp only [List.length_append, List.length_cons, List.length_nil]
      omega
    · rw [if_neg k46]
      have hh : w.2.2.1 ≠ none ∧ w.2.2.2.1 = none := by
        rcases hsh with z | z | z | z | z | z
        · exact z.2.2.2
        · exact z.2.2.2
        · omega
        · exact z.2.2
        · exact z.2.2
        · omega
      obtain ⟨d1, p1⟩ := oL _ _ _ hh.1 h1
      have i2 := ih d1 _ L1 (i + 1) p1 a1
      dsimp only
      simp only [List.length_append, List.length_cons, List.length_nil]
      omega
theorem pl_12 (hs : Sh s) {A : mS} {R d m i : Nat} {L : List (Nat → Nat)} (h : pl s R d m = some L) (hA : AtL A i L) : A 12 i = L.length := by
  cases R with
  | zero => cases h
  | succ R =>
    obtain ⟨w, L1, L2, hc, hsh, h1, h2, rfl⟩ := pl_some hs h
    rw [hA.tl.1 12 (by decide) (by decide), List.length_cons, List.length_append]
    show 1 + L1.length + L2.length = _
    omega
theorem chs_in {d : Nat} {w : Wy} (h : chs s d = some w) : w ∈ wys s d := List.mem_of_find?_eq_some h
theorem nod_7 {d n : Nat} {w : Wy} (hs : Sh s) (hw : ∀ e, w.2.1 = some e → e < mN s) : nod s d w n 7 < 16 := by
  show (if w.1 = 10 then d % 30 / 6 - 1 else if w.1 = 11 then d % 6 - 1 else match w.2.1 with
    | some e => s 3 e
    | none => 0) < 16
  split
  · omega
  split
  · omega
  cases h : w.2.1 with
  | none => show 0 < 16; decide
  | some e =>
    have := (sh_bnd hs (hw e h)).2.1
    show s 3 e < 16
    omega
/-- the nodes stand -/
def PN (σ : wS) (p : Nat) (A : mS) : Prop := ∀ i, i < A 5 1 → ∃ o, aR σ 114700 p i = some o ∧ ND σ o A i ∧ NDL σ p o A i
theorem PN.wq {G : List Nat} {p q : Nat} {A : mS} (h : PN σ p A) (w : Wq G q σ τ) (d : ∀ g ∈ [4800, 4801, 4803, 4804, 4806, 4807, 4812, 4810, 4811, 114700], g ∉ G) : PN τ p A := fun i hi => by
  obtain ⟨o, o1, ⟨h1, h2, h3, h4, h5⟩, h6⟩ := h i hi
  refine ⟨o, by rw [((w.sam (d 114700 (by decide))) p).2.2]; exact o1, ⟨by rw [w.1.1]; exact h1, ?_, ?_, ?_, ?_⟩, ?_⟩
  · rw [((w.sam (d 4803 (by decide))) o).1.1, ((w.sam (d 4804 (by decide))) o).1.1, ((w.sam (d 4800 (by decide))) o).1.1, ((w.sam (d 4806 (by decide))) o).1.1]; exact h2
  · rw [((w.sam (d 4807 (by decide))) o).1.1]; exact h3
  · rw [((w.sam (d 4812 (by decide))) o).1.1]; exact h4
  · rw [((w.sam (d 4801 (by decide))) o).1.2.1]; exact h5
  · unfold NDL
    rw [((w.sam (d 4810 (by decide))) o).1.2.2.1, ((w.sam (d 4811 (by decide))) o).1.2.2.1, ((w.sam (d 114700 (by decide))) p).2.2]
    exact h6
theorem c_wordOf {Q : Nat → wS → Prop} {o i : Nat} {A : mS} (h : ND σ o A i) (hk : 1 ≤ A 6 i ∧ A 6 i < 10) (h13 : A 13 i ≤ 1) (hQ : Q (if A 6 i = 1 then 5 else wix (A 6 i) (A 13 i)) σ) : w_X48_wordOf σ (some o) Q := by
  obtain ⟨h1, ⟨h2, h3, -, h4⟩, h5, h6, h7⟩ := h
  refine ⟨o, rfl, h1, ?_⟩
  rw [h2, h6]
  generalize A 6 i = k at hk hQ ⊢
  generalize A 13 i = h at h13 hQ ⊢
  rcases (show h = 0 ∨ h = 1 by omega) with rfl | rfl <;> rcases (show k = 1 ∨ k = 2 ∨ k = 3 ∨ k = 4 ∨ k = 5 ∨ k = 6 ∨ k = 7 ∨ k = 8 ∨ k = 9 by omega) with rfl | rfl | rfl | rfl | rfl | rfl | rfl | rfl | rfl <;> exact hQ
theorem c_spellR (hs : Sh s) (l0 : Lo s) (hb : Tb s) {A : mS} {p : Nat} (hN : A 5 1 ≤ 120) (hF : 1000 ≤ F) : ∀ R d m L i σ l (Q : wS → Prop), Dm s d → pl s R d m = some L → AtL A i L → i + L.length ≤ A 5 1 → ok48 σ t → PN σ p A → CLt σ t l → l.length + 9 * L.length + 6 ≤ 1200 →
    (∀ τ, Wq GSp t σ τ → CLt τ t (l ++ (spl A R i).1) → Q τ) → w_X48_spell F R σ t (aR σ 114700 p i) Q := by
  intro R
  induction R with
  | zero => intro d m L i σ l Q _ h; cases h
  | succ R ih =>
    intro d m L i σ l Q hd h hA hi ok hP hL hl hQ
    obtain ⟨w, L1, L2, hc, hsh, h1, h2, rfl⟩ := pl_some hs h
    obtain ⟨a0, a1, a2⟩ := hA.tl
    have okw := wys_in hs l0 hb hd (chs_in hc)
    have a6 : A 6 i = w.1 := a0 6 (by decide) (by decide)
    have a13 : A 13 i ≤ 1 := by rw [a0 13 (by decide) (by decide)]; exact nod_13
    have a7 : A 7 i < 16 := by rw [a0 7 (by decide) (by decide)]; exact nod_7 hs okw.2.2.2.2
    have oL : ∀ o m L, (∀ d, o = some d → Dm s d) → o ≠ none → plo s R o m = some L → ∃ d, Dm s d ∧ pl s R d m = some L := by
      intro o m L hdm h0 h
      cases o with
      | none => exact absurd rfl h0
      | some d => exact ⟨d, hdm d rfl, h⟩
    have eL : (nod s d w (1 + L1.length + L2.length) :: (L1 ++ L2)).length = 1 + L1.length + L2.length := by rw [List.length_cons, List.length_append]; omega
    have nil2 : w.2.2.2.1 = none → L2 = [] := fun z => by rw [z] at h2; cases h2; rfl
    have nil1 : w.2.2.1 = none → L1 = [] := fun z => by rw [z] at h1; cases h1; rfl
    rw [eL] at hi hl
    obtain ⟨o, o1, nd, n1, n2, n3, n4⟩ := hP i (by omega)
    have hw12 : w.1 < 12 := okw.1
    have hw1 : 1 ≤ w.1 := by rcases hsh with z | z | z | z | z | z <;> omega
    have c6 := nd.2.1.1
    rw [o1]
    show wm_X48_spell F (w_X48_spell F R) σ t (some o) Q
    unfold wm_X48_spell
    refine ⟨o, rfl, nd.1, ?_⟩
    rw [c6]
    by_cases k10 : 10 ≤ A 6 i
    · have hh : w.2.2.1 ≠ none ∧ w.2.2.2.1 = none := by
        rcases hsh with z | z | z | z | z | z
        · exact z.2.2.2
        · exact z.2.2.2
        · omega
        · omega
        · omega
        · omega
      have b18 : b_X48_spell_18 F (w_X48_spell F R) t (some o) Q σ := by
        unfold b_X48_spell_18
        refine ⟨o, rfl, nd.1, ok, ?_⟩
        obtain ⟨x1, x2⟩ := n2 (by omega)
        rw [x1]
        obtain ⟨d1, q0, q1⟩ := oL _ _ _ okw.2.2.1 hh.1 h1
        have e2 := nil2 hh.2
        subst e2
        have es : spl A (R + 1) i = spl A R (i + 1) := if_pos k10
        rw [es] at hQ
        simp only [List.length_nil] at hi hl
        exact ih d1 _ L1 (i + 1) σ l _ q0 q1 a1 (by omega) ok hP hL (by omega) hQ
      rcases (show A 6 i = 10 ∨ A 6 i = 11 by omega) with z | z
      · rw [z, if_pos (show nI 10 = (10 : Int32) from rfl)]; exact b18
      · rw [z, if_neg (show ¬ nI 11 = (10 : Int32) by decide), if_pos (show nI 11 = (11 : Int32) from rfl)]; exact b18
    rw [if_neg (show ¬ nI (A 6 i) = (10 : Int32) from nI_eqf (b := 10) (by omega) (by decide) (by omega)), if_neg (show ¬ nI (A 6 i) = (11 : Int32) from nI_eqf (b := 11) (by omega) (by decide) (by omega))]
    refine c_wordOf nd (by omega) a13 ⟨ok, ?_⟩
    have c7 := nd.2.1.2.1
    by_cases k1 : A 6 i = 1
    · rw [if_pos k1]
      have es : spl A (R + 1) i = (WB 5 ++ [48 + nI (A 7 i)], i + 1) := by
        show (if 10 ≤ A 6 i then _ else if A 6 i = 1 then _ else _) = _
        rw [if_neg k10, if_pos k1]
      refine c_say (by decide) ok (by omega) hL (by omega) (fun σ1 w1 l1 => ?_)
      have e5 : (WB 5).length = 5 := rfl
      rw [((w1.sam (by decide)) o).1.1, c7]
      refine c_digit (ok48.ext ok w1.ext) a7 l1 (by rw [List.length_append, e5]; omega) (fun σ2 w2 l2 => ?_)
      rw [((w2.sam (by decide)) o).1.2.2.1, ((w1.sam (by decide)) o).1.2.2.1, n1 k1]
      unfold mt
      refine hQ σ2 (w1.trans w2) ?_
      rw [es, ← List.append_assoc]
      exact l2
    rw [if_neg k1]
    have hx : wix (A 6 i) (A 13 i) < 10 := wix_lt
    have ewl := WB_len (i := wix (A 6 i) (A 13 i)) (by omega)
    obtain ⟨x1, x2⟩ := n2 k1
    have hh1 : w.2.2.1 ≠ none := by
      rcases hsh with z | z | z | z | z | z
      · exact z.2.2.2.1
      · exact z.2.2.2.1
      · omega
      · exact z.2.2.1
      · exact z.2.2.1
      · exact z.2.2.1
    obtain ⟨d1, q0, q1⟩ := oL _ _ _ okw.2.2.1 hh1 h1
    refine c_say (by omega) ok (by omega) hL (by omega) (fun σ1 w1 l1 => ?_)
    have len1 : (l ++ WB (wix (A 6 i) (A 13 i))).length = l.length + (WB (wix (A 6 i) (A 13 i))).length := List.length_append
    rw [((w1.sam (by decide)) o).1.1, c7]
    refine c_digit (ok48.ext ok w1.ext) a7 l1 (by omega) (fun σ2 w2 l2 => ?_)
    have W2 := w1.trans w2
    have len2 : (l ++ WB (wix (A 6 i) (A 13 i)) ++ [48 + nI (A 7 i)]).length = l.length + (WB (wix (A 6 i) (A 13 i))).length + 1 := by rw [List.length_append, List.length_append]; rfl
    have x1' : oR σ2 4810 o = aR σ 114700 p (i + 1) := by rw [((W2.sam (by decide)) o).1.2.2.1]; exact x1
    obtain ⟨o', o1', -⟩ := hP (i + 1) x2
    rw [x1', o1']
    unfold mt
    refine c_say (by decide) (ok48.ext ok W2.ext) (by omega) l2 (by omega) (fun σ3 w3 l3 => ?_)
    have W3 := W2.trans w3
    have len3 : (l ++ WB (wix (A 6 i) (A 13 i)) ++ [48 + nI (A 7 i)] ++ WB 10).length = l.length + (WB (wix (A 6 i) (A 13 i))).length + 2 := by rw [List.length_append, len2]; rfl
    have P3 := hP.wq W3 (by decide)
    have x13 : oR σ3 4810 o = aR σ3 114700 p (i + 1) := by rw [((w3.sam (by decide)) o).1.2.2.1, x1', ((W3.sam (by decide)) p).2.2]
    rw [x13]
    have sp1 := spl_9 hs R d1 _ L1 (i + 1) q1 a1
    refine ih d1 _ L1 (i + 1) σ3 _ _ q0 q1 a1 (by omega) (ok48.ext ok W3.ext) P3 l3 (by omega) (fun σ4 w4 l4 => ?_)
    have W4 := W3.trans w4
    have len4 : (l ++ WB (wix (A 6 i) (A 13 i)) ++ [48 + nI (A 7 i)] ++ WB 10 ++ (spl A R (i + 1)).1).length ≤ l.length + (WB (wix (A 6 i) (A 13 i))).length + 2 + 9 * L1.length := by rw [List.length_append, len3]; omega
    have b85 : ∀ σ5 l', CLt σ5 t l' → l'.length + 6 ≤ 1200 → Wq GSp t σ σ5 → l' ++ WB 12 = l ++ (spl A (R + 1) i).1 → b_X48_spell_85 F (w_X48_spell F R) t Q σ5 := by
      intro σ5 l' hl5 hlen W5 he
      unfold b_X48_spell_85
      refine ⟨ok48.ext ok W5.ext, c_say (by decide) (ok48.ext ok W5.ext) (by omega) hl5 hlen (fun σ6 w6 l6 => ?_)⟩
      rw [he] at l6
      exact hQ σ6 (W5.trans w6) l6
    by_cases k46 : 4 ≤ A 6 i ∧ A 6 i ≤ 6
    · obtain ⟨y1, y2⟩ := n3 k46
      have hne2 : w.2.2.2.1 ≠ none := by
        rcases hsh with z | z | z | z | z | z
        · omega
        · omega
        · omega
        · omega
        · omega
        · exact z.2.2.2
      obtain ⟨d2, q0', q2⟩ := oL _ _ _ okw.2.2.2.1 hne2 h2
      have e12 := pl_12 hs q1 a1
      rw [e12] at y1 y2
      have y4 : oR σ4 4811 o = aR σ 114700 p (i + 1 + L1.length) := by rw [((W4.sam (by decide)) o).1.2.2.1]; exact y1
      obtain ⟨o2, o2', -⟩ := hP (i + 1 + L1.length) y2
      rw [y4, o2']
      dsimp only
      have e5 := wb5 (h := A 13 i) k46
      refine c_say (by decide) (ok48.ext ok W4.ext) (by omega) l4 (by omega) (fun σ5 w5 l5 => ?_)
      have W5 := W4.trans w5
      have len5 : (l ++ WB (wix (A 6 i) (A 13 i)) ++ [48 + nI (A 7 i)] ++ WB 10 ++ (spl A R (i + 1)).1 ++ WB 11).length ≤ l.length + 8 + 9 * L1.length := by
        rw [List.length_append]
        show _ + 1 ≤ _
        omega
      have P5 := hP.wq W5 (by decide)
      have y5 : oR σ5 4811 o = aR σ5 114700 p (i + 1 + L1.length) := by rw [((W5.sam (by decide)) o).1.2.2.1, y1, ((W5.sam (by decide)) p).2.2]
      rw [y5]
      have sp2 := spl_9 hs R d2 _ L2 (i + 1 + L1.length) q2 a2
      have i1 := (spl_next hs R d1 _ L1 (i + 1) q1 a1).1
      refine ih d2 _ L2 (i + 1 + L1.length) σ5 _ _ q0' q2 a2 (by omega) (ok48.ext ok W5.ext) P5 l5 (by omega) (fun σ6 w6 l6 => ?_)
      refine b85 σ6 _ l6 (by rw [List.length_append]; omega) (W5.trans w6) ?_
      have es : spl A (R + 1) i = (WB (wix (A 6 i) (A 13 i)) ++ [48 + nI (A 7 i)] ++ WB 10 ++ (spl A R (i + 1)).1 ++ WB 11 ++ (spl A R (spl A R (i + 1)).2).1 ++ WB 12, (spl A R (spl A R (i + 1)).2).2) := by
        show (if 10 ≤ A 6 i then _ else if A 6 i = 1 then _ else if 4 ≤ A 6 i ∧ A 6 i ≤ 6 then _ else _) = _
        rw [if_neg k10, if_neg k1, if_pos k46]
      rw [es, i1]
      simp only [List.append_assoc]
    · have y4 : oR σ4 4811 o = none := by rw [((W4.sam (by decide)) o).1.2.2.1]; exact n4 k46
      rw [y4]
      dsimp only
      have es : spl A (R + 1) i = (WB (wix (A 6 i) (A 13 i)) ++ [48 + nI (A 7 i)] ++ WB 10 ++ (spl A R (i + 1)).1 ++ WB 12, (spl A R (i + 1)).2) := by
        show (if 10 ≤ A 6 i then _ else if A 6 i = 1 then _ else if 4 ≤ A 6 i ∧ A 6 i ≤ 6 then _ else _) = _
        rw [if_neg k10, if_neg k1, if_neg k46]
      exact b85 σ4 _ l4 (by omega) W4 (by rw [es]; simp only [List.append_assoc])
end PC
