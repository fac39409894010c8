set_option linter.unusedVariables false
set_option maxRecDepth 10000
/-! ===== component: reading, letter by letter ===== -/
section PC
variable {σ τ υ σ0 : wS} {x m F t ro k n i : Nat} {s : mS} {S : gS} {K K' : Nat → Nat} {P P' : Nat → Nat → Prop} {a b c d : Nat} {f : Nat → Int64}
def Rd (σ : wS) (t ro m k n : Nat) (f : Nat → Int64) (s : mS) (i : Nat) : Prop := (ok39 σ t ∧ oR σ 4000 t = some ro ∧ oR σ 4001 t = some m ∧ oI σ 4002 t = nI i) ∧ (RW σ ro k n f ∧ k < 4 ∧ n ≤ 160) ∧ CM σ m s
def P4 (t g o : Nat) : Prop := o = t ∧ g = 4002
theorem Rd.mv {j : Nat} (h : Rd σ t ro m k n f s i) (fr : Fr (P4 t) a b σ τ) (e : oI τ 4002 t = nI j) : Rd τ t ro m k n f s j := by
  obtain ⟨⟨h1, h2, h3, h4⟩, ⟨h5, h6, h7⟩, h8⟩ := h
  have no : ∀ g, g ≠ 4002 → ∀ o, ¬ P4 t g o := fun g hg o z => hg z.2
  refine ⟨⟨(fr.1.1 _ (by rw [show oC σ t = 40 from h1]; decide)).trans h1, ?_, ?_, e⟩, ⟨h5.fr h6 fr (fun g hg => no g (by revert g; decide) _), h6, h7⟩, h8.fr fr (fun g hg => no g (by revert g; decide) _) (fun g hg => no g (by revert g; decide))⟩
  · rw [fr.R (c := 39) h1 (no _ (by decide) _)]; exact h2
  · rw [fr.R (c := 39) h1 (no _ (by decide) _)]; exact h3
theorem c_asInt {Q : Int32 → wS → Prop} {Xh : Nat → Nat → wS → Prop} (hR : RW σ ro k n f) (hk : k < 4) (hn : n ≤ 160) (hi : i < n) (hQ : Q (f i).toInt32 σ) : v_X26v_asInt σ ro (nI i) Q Xh := by
  have go : w_X26_asInt σ ro (nI i) Q Xh := by
    refine c_get hR hk hn (fun j hj e1 e2 => ?_) (fun e => ?_)
    · have : i = j := (nI_eq (by omega) (by omega)).mp e2
      subst this
      exact hQ
    · rw [num_some (by omega) hi] at e; cases e
  unfold v_X26v_asInt
  rw [hR.1]
  rcases (show k = 0 ∨ k = 1 ∨ k = 2 ∨ k = 3 by omega) with rfl | rfl | rfl | rfl
  · exact vT go
  · exact vI (by decide) (vT go)
  · exact vI (by decide) (vI (by decide) (vT go))
  · exact vI (by decide) (vI (by decide) (vI (by decide) (vT go)))
theorem c_ends {Q : Int32 → wS → Prop} (h : Rd σ t ro m k n f s i) (hi : i ≤ n) (hQ : Q (if i = n then 1 else 0) σ) : w_X39_ends σ t Q := by
  obtain ⟨⟨h1, h2, h3, h4⟩, ⟨h5, h6, h7⟩, h8⟩ := h
  refine ⟨h1, ?_⟩
  rw [h2]
  refine ⟨ro, rfl, c_length h5 h6 ?_⟩
  rw [h4]
  by_cases z : i = n
  · rw [if_pos (by rw [z])]
    rw [if_pos z] at hQ; exact hQ
  · rw [if_neg (nI_eqf (by omega) (by omega) z)]
    rw [if_neg z] at hQ; exact hQ
theorem c_faulty {kk : wS → Prop} {q z : Nat} (h0 : Fr P a b σ0 σ) (hc : oC σ q = 41) (hq : oC σ0 q = 0) (hk : ∀ τ, Fr P a b σ0 τ → oC τ q = 41 → oI τ 4106 q = nI z → kk τ) : w_X40_init σ q (nI z) kk := by
  have o9 : oS9 σ q := by unfold oS9; rw [hc]; decide
  unfold w_X40_init w_J2_init_2 w_J1_init_3
  refine ⟨o9, bnd_R fun τ1 w1 _ z9 => bnd_R fun τ2 w2 _ z17 => bnd_R fun τ3 w3 _ => ?_⟩
  rw [if_pos rfl]
  refine bnd_R fun τ4 w4 _ => ?_
  unfold b_J1_init_3_41
  have W4 : Wq [9000, 9001, 9002] q σ τ4 := ((((w1.mono (by decide)).up w2 (by decide)).up w3 (by decide)).up w4 (by decide))
  refine ⟨by unfold oS9; rw [W4.1.1, hc]; decide, bnd_R fun τ5 w5 _ => bnd_R fun τ6 w6 _ => ?_⟩
  rw [if_pos rfl]
  refine bnd_R fun τ7 w7 _ => ?_
  have W7 : Wq [9000, 9001, 9002, 9003] q σ τ7 := (((W4.mono (by decide)).up w5 (by decide)).up w6 (by decide)).up w7 (by decide)
  refine ⟨by rw [W7.1.1]; exact hc, bnd_I fun τ8 w8 v8 => ?_⟩
  have W8 : Wq [9000, 9001, 9002, 9003, 4106] q σ τ8 := (W7.mono (by decide)).up w8 (by decide)
  exact hk τ8 (h0.w W8 (Or.inl hq)) (by rw [W8.1.1]; exact hc) v8
def XF (Xh : Nat → Nat → wS → Prop) (t A B : Nat) (σ : wS) (z : Nat) : Prop := ∀ q τ, Fr (P4 t) A B σ τ → oC τ q = 41 → oI τ 4106 q = nI z → Xh 40 q τ
theorem c_flt {Xh : Nat → Nat → wS → Prop} (h : Rd σ t ro m k n f s i) (hr : 1 ≤ rC σ ∧ 7 ≤ rS σ) (hX : XF Xh t 1 7 σ i) : nwo σ 7 (bnd (mkO σ 40 7) fun σ9 => ok39 σ9 t ∧ w_X40_init σ9 (nx σ) (oI σ9 4002 t) (fun σ15 => Xh 40 (nx σ) σ15)) := by
  refine c_nwo hr (fun τ f2 no _ => ?_)
  have f3 := f2.mono (P' := P4 t) (fun _ _ z => z.elim) (Nat.le_refl _) (Nat.le_refl _)
  have e : oI τ 4002 t = nI i := by rw [f2.I (c := 39) h.1.1 (fun z => z)]; exact h.1.2.2.2
  refine ⟨(h.mv f3 e).1.1, ?_⟩
  rw [e]
  exact c_faulty (P := P4 t) f3 no.1 no.2.1 (fun υ f4 c4 v4 => hX _ υ f4 c4 v4)
theorem c_hlds {Q : wS → Prop} {Xh : Nat → Nat → wS → Prop} {v : Int32} {z : Nat} (h : Rd σ t ro m k n f s i) (hr : 1 ≤ rC σ ∧ 7 ≤ rS σ) (h1 : v ≠ 0 → Q σ) (hX : v = 0 → XF Xh t 1 7 σ z) : w_X39_holds σ t v (nI z) Q Xh := by
  unfold w_X39_holds
  by_cases y : v = 0
  · rw [if_pos y]
    refine c_nwo hr (fun τ f2 no _ => ?_)
    have f3 := f2.mono (P' := P4 t) (fun _ _ z => z.elim) (Nat.le_refl _) (Nat.le_refl _)
    exact c_faulty (P := P4 t) f3 no.1 no.2.1 (fun υ f4 c4 v4 => hX y _ υ f4 c4 v4)
  · rw [if_neg y]; exact h1 y
abbrev Lf (f : Nat → Int64) (i : Nat) : Int32 := (f i).toInt32
theorem c_must {Q : wS → Prop} {Xh : Nat → Nat → wS → Prop} {v : Int32} (h : Rd σ t ro m k n f s i) (hi : i ≤ n) (hr : 1 ≤ rC σ ∧ 7 ≤ rS σ) (h1 : i < n → Lf f i = v → ∀ τ, Fr (P4 t) 0 0 σ τ → Rd τ t ro m k n f s (i + 1) → Q τ) (hX : ¬ (i < n ∧ Lf f i = v) → XF Xh t 1 7 σ i) : w_X39_must σ t v Q Xh := by
  refine ⟨h.1.1, c_ends h hi ?_⟩
  by_cases z : i = n
  · rw [if_pos z, if_neg (by decide)]
    exact c_flt h hr (hX (fun y => by omega))
  rw [if_neg z, if_pos rfl, h.1.2.1]
  refine ⟨ro, rfl, ?_⟩
  rw [h.1.2.2.2]
  refine c_asInt h.2.1.1 h.2.1.2.1 h.2.1.2.2 (by omega) ?_
  by_cases y : Lf f i = v
  · rw [if_pos y]
    refine bnd_I fun τ w e => ?_
    rw [h.1.2.2.2, nIl_1, nI_add] at e
    have fr : Fr (P4 t) 0 0 σ τ := w.fr (fun g hg => ⟨rfl, List.mem_singleton.mp hg⟩)
    exact h1 (by omega) y τ fr (h.mv fr e)
  · rw [if_neg y]
    exact c_flt h hr (hX (fun u => y u.2))
theorem mst_app {L : Nat → Int32} {n : Nat} : ∀ (w w' : List Int32) (i : Nat), mst L n (w ++ w') i = match mst L n w i with
    | Sum.inl z => Sum.inl z
    | Sum.inr j => mst L n w' j := by
  intro w
  induction w with
  | nil => intro w' i; rfl
  | cons c w ih =>
    intro w' i
    show (if i < n ∧ L i = c then mst L n (w ++ w') (i + 1) else Sum.inl i) = (match (if i < n ∧ L i = c then mst L n w (i + 1) else Sum.inl i) with
      | Sum.inl z => Sum.inl z
      | Sum.inr j => mst L n w' j)
    by_cases q : i < n ∧ L i = c
    · rw [if_pos q, if_pos q]; exact ih w' (i + 1)
    · rw [if_neg q, if_neg q]
theorem c_wordL {Q : Nat → wS → Prop} {Xh : Nat → Nat → wS → Prop} {r : Nat} {res : Nat ⊕ Nat} (hr5 : r < 13) (hr : 1 ≤ rC σ0 ∧ 7 ≤ rS σ0) (h1 : ∀ j, res = Sum.inr j → ∀ τ, Fr (P4 t) 0 0 σ0 τ → Rd τ t ro m k n f s j → Q r τ) (hX : ∀ z, res = Sum.inl z → XF Xh t 1 7 σ0 z) : ∀ nf y i σ, y ≤ (WB r).length → (WB r).length - y < nf → i ≤ n → Fr (P4 t) 0 0 σ0 σ → Rd σ t ro m k n f s i → mst (Lf f) n ((WB r).drop y) i = res → l_X39_word_7 F t Q Xh nf σ r (nI y) := by
  obtain ⟨b1, b2⟩ := len_b r hr5
  intro nf
  induction nf with
  | zero => intro y i σ h1 h2; omega
  | succ nf ih =>
    intro y i σ hy hn hi fr hd hm
    unfold l_X39_word_7
    refine ⟨by omega, t_len (by omega) ?_⟩
    by_cases q : y = (WB r).length
    · rw [if_pos (nI_le (by omega) (by omega))]
      rw [q, List.drop_length] at hm
      exact h1 i hm.symm σ fr hd
    rw [if_neg (nI_ge (by omega) (by omega))]
    have hlt : y < (WB r).length := by omega
    refine t_chr hr5 (by omega) ⟨hd.1.1, ?_⟩
    rw [gtD hlt]
    have e : (WB r).drop y = (WB r)[y] :: (WB r).drop (y + 1) := List.drop_eq_getElem_cons hlt
    rw [e] at hm
    have hm2 : (if i < n ∧ Lf f i = (WB r)[y] then mst (Lf f) n ((WB r).drop (y + 1)) (i + 1) else Sum.inl i) = res := hm
    obtain ⟨g1, g2⟩ := fr.2.2.1
    refine c_must hd hi (by omega) (fun hin he τ f2 hd2 => ?_) (fun z q τ f2 => ?_)
    · rw [if_pos ⟨hin, he⟩] at hm2
      rw [nIl_1, nI_add]
      exact ih (y + 1) (i + 1) τ (by omega) (by omega) (by omega) (fr.trans f2) hd2 hm2
    · rw [if_neg z] at hm2
      exact hX i hm2.symm q τ ((fr.trans f2).mono (fun _ _ z => z) (by decide) (by decide))
def wdx (k : Nat) : Nat := if k = 1 then 0 else if k = 3 then 1 else if k = 4 then 2 else if k = 5 then 3 else 4
theorem wdx_b : ∀ k, k = 1 ∨ k = 3 ∨ k = 4 ∨ k = 5 ∨ k = 6 → WB (lix k) = WB (wdx k) ++ [32] ∧ wdx k < 5 := by
  intro k hk
  rcases hk with rfl | rfl | rfl | rfl | rfl <;> exact ⟨rfl, by decide⟩
theorem c_begun {Q : Nat → wS → Prop} {Xh : Nat → Nat → wS → Prop} (h : Rd σ t ro m k n f s i) (hi : i ≤ n) (hr : 1 ≤ rC σ ∧ 7 ≤ rS σ) (h1 : kdl (ltr (Lf f) n i) ≠ 0 → Q (wdx (kdl (ltr (Lf f) n i))) σ) (hX : kdl (ltr (Lf f) n i) = 0 → XF Xh t 1 7 σ i) : w_X39_begun σ t Q Xh := by
  have b22 : ∀ v, ltr (Lf f) n i = v → b_X39_begun_22 t Q Xh σ v := fun v hv => by
    rw [hv] at h1 hX
    unfold kdl at h1 hX
    have flt := c_flt (Xh := Xh) h hr
    unfold b_X39_begun_22
    by_cases v1 : v = 104
    · subst v1; rw [if_pos rfl]; exact h1 (by decide)
    rw [if_neg v1]
    by_cases v2 : v = 105
    · subst v2; rw [if_pos rfl]; exact flt (hX (by decide))
    rw [if_neg v2]
    by_cases v3 : v = 106
    · subst v3; rw [if_pos rfl]; exact h1 (by decide)
    rw [if_neg v3]
    by_cases v4 : v = 107
    · subst v4; rw [if_pos rfl]; exact h1 (by decide)
    rw [if_neg v4]
    by_cases v5 : v = 108
    · subst v5; rw [if_pos rfl]; exact flt (hX (by decide))
    rw [if_neg v5]
    by_cases v6 : v = 109
    · subst v6; rw [if_pos rfl]; exact flt (hX (by decide))
    rw [if_neg v6]
    by_cases v7 : v = 110
    · subst v7; rw [if_pos rfl]; exact flt (hX (by decide))
    rw [if_neg v7]
    by_cases v8 : v = 111
    · subst v8; rw [if_pos rfl]; exact flt (hX (by decide))
    rw [if_neg v8]
    by_cases v9 : v = 112
    · subst v9; rw [if_pos rfl]; exact flt (hX (by decide))
    rw [if_neg v9]
    by_cases v10 : v = 113
    · subst v10; rw [if_pos rfl]; exact flt (hX (by decide))
    rw [if_neg v10]
    by_cases v11 : v = 114
    · subst v11; rw [if_pos rfl]; exact flt (hX (by decide))
    rw [if_neg v11]
    by_cases v12 : v = 115
    · subst v12; rw [if_pos rfl]; exact h1 (by decide)
    rw [if_neg v12]
    by_cases v13 : v = 116
    · subst v13; rw [if_pos rfl]; exact h1 (by decide)
    rw [if_neg v13]
    exact flt (hX (by rw [if_neg v12, if_neg v4, if_neg v13, if_neg v3, if_neg v1]))
  refine ⟨h.1.1, c_ends h hi ?_⟩
  by_cases z : i = n
  · rw [if_pos z, if_neg (by decide)]
    exact b22 0 (by unfold ltr; rw [if_neg (by omega)])
  · rw [if_neg z, if_pos rfl, h.1.2.1]
    refine ⟨ro, rfl, ?_⟩
    rw [h.1.2.2.2]
    exact c_asInt h.2.1.1 h.2.1.2.1 h.2.1.2.2 (by omega) (b22 _ (by unfold ltr; rw [if_pos (by omega)]))
theorem c_word {Q : Nat → wS → Prop} {Xh : Nat → Nat → wS → Prop} (h : Rd σ t ro m k n f s i) (hi : i ≤ n) (hF : 100 ≤ F) (hr : 1 ≤ rC σ ∧ 7 ≤ rS σ) (h1 : kdl (ltr (Lf f) n i) ≠ 0 → ∀ j, mst (Lf f) n (WB (wdx (kdl (ltr (Lf f) n i)))) i = Sum.inr j → ∀ τ, Fr (P4 t) 0 0 σ τ → Rd τ t ro m k n f s j → Q (wdx (kdl (ltr (Lf f) n i))) τ) (hX : ∀ z, (kdl (ltr (Lf f) n i) = 0 ∧ z = i ∨ kdl (ltr (Lf f) n i) ≠ 0 ∧ mst (Lf f) n (WB (wdx (kdl (ltr (Lf f) n i)))) i = Sum.inl z) → XF Xh t 1 7 σ z) : w_X39_word F σ t Q Xh := by
  have kc := kdl_c (ltr (Lf f) n i)
  refine ⟨h.1.1, c_begun h hi hr (fun k0 => ?_) (fun k0 => hX i (Or.inl ⟨k0, rfl⟩))⟩
  have hw := (wdx_b (kdl (ltr (Lf f) n i)) (by omega)).2
  have b1 := (len_b (wdx (kdl (ltr (Lf f) n i))) (by omega)).1
  have b2 := (len_b (wdx (kdl (ltr (Lf f) n i))) (by omega)).2
  exact c_wordL (by omega) hr (fun j e τ f2 hd2 => h1 k0 j e τ f2 hd2) (fun z e => hX z (Or.inr ⟨k0, e⟩)) F 0 i σ (Nat.zero_le _) (by omega) hi (fr0.mono (fun _ _ z => z.elim) (by decide) (by decide)) h rfl
theorem inD {v : Int32} {u : Nat} (hu : u ≤ 8) : (if v.toInt64 - (48 : Int64) < 0 then (0 : Int32) else if (nI u - (1 : Int32)).toInt64 < v.toInt64 - (48 : Int64) then (0 : Int32) else 1) = if ¬ v < 48 ∧ v < 48 + nI u then 1 else 0 := by
  have hv1 := Int32.toInt_lt v
  have hv2 := Int32.le_toInt v
  have e1 : (v.toInt64 - (48 : Int64)).toInt = v.toInt - 48 := by
    rw [Int64.toInt_sub, Int32.toInt_toInt64, show (48 : Int64).toInt = 48 from rfl, Int.bmod_eq_of_le (by omega) (by omega)]
  have e2 := tI8 u hu
  have e3 : (48 + nI u : Int32).toInt = 48 + u := by rw [nIl_48, nI_add, nI_toInt (by omega)]; omega
  have l1 : v.toInt64 - (48 : Int64) < 0 ↔ v < 48 := by
    rw [Int64.lt_iff_toInt_lt, Int32.lt_iff_toInt_lt, e1, show (0 : Int64).toInt = 0 from rfl, show (48 : Int32).toInt = 48 from rfl]
    omega
  have l2 : (nI u - (1 : Int32)).toInt64 < v.toInt64 - (48 : Int64) ↔ ¬ v < 48 + nI u := by
    rw [Int64.lt_iff_toInt_lt, Int32.lt_iff_toInt_lt, e1, e2, e3]
    omega
  by_cases a : v < 48
  · rw [if_pos (l1.mpr a), if_neg (fun z => z.1 a)]
  · rw [if_neg (fun z => a (l1.mp z))]
    by_cases b : v < 48 + nI u
    · rw [if_neg (fun z => (l2.mp z) b), if_pos ⟨a, b⟩]
    · rw [if_pos (l2.mpr b), if_neg (fun z => b z.2)]
theorem c_dig46 {Q : Int32 → wS → Prop} {Xh : Nat → Nat → wS → Prop} {u : Nat} {v : Int32} (hu : u ≤ 8) (h : Rd σ t ro m k n f s i) (hi : i ≤ n) (hr : 1 ≤ rC σ ∧ 7 ≤ rS σ) (hv0 : v = 0 → XF Xh t 1 7 σ i) (hv1 : v ≠ 0 → ∃ p, dgt (Lf f) n u i = some p ∧ ∀ τ, Fr (P4 t) 0 0 σ τ → Rd τ t ro m k n f s (i + 1) → Q (nI p) τ) : b_X39_digit_46 t Q Xh σ (some t) v := by
  refine ⟨h.1.1, t, rfl, h.1.1, ?_⟩
  rw [h.1.2.2.2]
  refine c_hlds h hr (fun y => ?_) hv0
  obtain ⟨p, hp, hq⟩ := hv1 y
  obtain ⟨p1, p2, p3, p4, -⟩ := dgt_some (by omega) hp
  refine bnd_I fun τ3 w3 v3 => ?_
  rw [h.1.2.2.2, nIl_1, nI_add] at v3
  have f3 : Fr (P4 t) 0 0 σ τ3 := w3.fr (fun g hg => ⟨rfl, List.mem_singleton.mp hg⟩)
  have hd3 := h.mv f3 v3
  refine ⟨ro, h.1.2.1, ?_⟩
  rw [h.1.2.2.2]
  refine c_asInt hd3.2.1.1 hd3.2.1.2.1 hd3.2.1.2.2 p1 ?_
  rw [show (f i).toInt32 - (48 : Int32) = nI p from p4]
  exact hq τ3 f3 hd3
theorem dgt_no {L : Nat → Int32} {u i : Nat} (h : ¬ (i < n ∧ ¬ L i < 48 ∧ L i < 48 + nI u)) : dgt L n u i = none := if_neg h
theorem dgt_yes {L : Nat → Int32} {u i : Nat} (h : i < n ∧ ¬ L i < 48 ∧ L i < 48 + nI u) : ∃ p, dgt L n u i = some p := ⟨_, if_pos h⟩
theorem c_digitR {Q : Int32 → wS → Prop} {Xh : Nat → Nat → wS → Prop} {u : Nat} (hu : u ≤ 8) (h : Rd σ t ro m k n f s i) (hi : i ≤ n) (hr : 1 ≤ rC σ ∧ 7 ≤ rS σ) (h1 : ∀ p, i < n → Lf f i = 32 → dgt (Lf f) n u (i + 1) = some p → ∀ τ, Fr (P4 t) 0 0 σ τ → Rd τ t ro m k n f s (i + 2) → Q (nI p) τ) (hX1 : ¬ (i < n ∧ Lf f i = 32) → XF Xh t 1 7 σ i) (hX2 : i < n → Lf f i = 32 → dgt (Lf f) n u (i + 1) = none → XF Xh t 1 7 σ (i + 1)) : w_X39_digit σ t (nI u) Q Xh := by
  unfold w_X39_digit
  refine ⟨h.1.1, c_must h hi hr (fun hin h32 τ f2 hd2 => ?_) hX1⟩
  obtain ⟨g1, g2⟩ := f2.2.2.1
  have b0 : dgt (Lf f) n u (i + 1) = none → b_X39_digit_46 t Q Xh τ (some t) 0 := fun e =>
    c_dig46 hu hd2 (by omega) (by omega) (fun _ q τ' f' => hX2 hin h32 e q τ' ((f2.trans f').mono (fun _ _ z => z) (by decide) (by decide))) (fun y => absurd rfl y)
  have b1 : (∃ p, dgt (Lf f) n u (i + 1) = some p) → b_X39_digit_46 t Q Xh τ (some t) 1 := fun ⟨p, hp⟩ =>
    c_dig46 hu hd2 (by omega) (by omega) (fun e => absurd e (by decide)) (fun _ => ⟨p, hp, fun τ' f' hd' => h1 p hin h32 hp τ' (f2.trans f') hd'⟩)
  clear hX1 hX2 h1
  refine c_ends hd2 (by omega) ?_
  by_cases z : i + 1 = n
  · rw [if_pos z]
    rw [if_neg (show ¬ (1 : Int32) = 0 by decide)]
    unfold b_X39_digit_45
    exact b0 (dgt_no (fun y => by have := y.1; omega))
  rw [if_neg z]
  rw [if_pos rfl, hd2.1.2.1]
  refine ⟨ro, rfl, ?_⟩
  rw [hd2.1.2.2.2]
  refine c_asInt hd2.2.1.1 hd2.2.1.2.1 hd2.2.1.2.2 (by omega) ?_
  unfold w_X0_in
  rw [inD hu]
  by_cases y : ¬ (f (i + 1)).toInt32 < 48 ∧ (f (i + 1)).toInt32 < 48 + nI u
  · rw [if_pos y]
    exact b1 (dgt_yes ⟨by omega, y⟩)
  · rw [if_neg y]
    exact b0 (dgt_no (fun e => y e.2))
end PC
