set_option linter.unusedVariables false
set_option maxRecDepth 10000
/-! ===== twin: plans ===== -/
section PT
variable {σ τ υ : wS} {t F : Nat} {s : mS} {S : gS}
abbrev GPl : List Nat := [2507, 2562, 2535, 2536, 2537, 2538, 2539, 2540, 12541, 2552, 2553, 2554, 2555, 2556, 2557, 2558, 2559, 2560, 12561]
/-- a node in the arrays that are filled -/
def TN0 (σ : wS) (t i : Nat) (f : Nat → Nat) : Prop := (aI σ 2553 t i = nI (f 6) ∧ aI σ 2554 t i = nI (f 7) ∧ aI σ 2555 t i = nI (f 8) ∧ aI σ 2556 t i = eI (f 9)) ∧ (aI σ 2557 t i = eI (f 10) ∧ aI σ 2558 t i = eI (f 11) ∧ aI σ 2560 t i = nI (f 13)) ∧ aJ σ 12561 t i = lN (f 14)
def TN (σ : wS) (t i : Nat) (f : Nat → Nat) : Prop := TN0 σ t i f ∧ aI σ 2559 t i = nI (f 12)
/-- below m all stays -/
def Low (t m : Nat) (σ τ : wS) : Prop := ∀ i, i < m → (aI τ 2553 t i = aI σ 2553 t i ∧ aI τ 2554 t i = aI σ 2554 t i ∧ aI τ 2555 t i = aI σ 2555 t i ∧ aI τ 2556 t i = aI σ 2556 t i) ∧ (aI τ 2557 t i = aI σ 2557 t i ∧ aI τ 2558 t i = aI σ 2558 t i ∧ aI τ 2560 t i = aI σ 2560 t i) ∧ aJ τ 12561 t i = aJ σ 12561 t i ∧ aI τ 2559 t i = aI σ 2559 t i
theorem Low.refl {m : Nat} : Low t m σ σ := fun i _ => ⟨⟨rfl, rfl, rfl, rfl⟩, ⟨rfl, rfl, rfl⟩, rfl, rfl⟩
theorem Low.trans {m : Nat} (h : Low t m σ τ) (k : Low t m τ υ) : Low t m σ υ := fun i hi => by
  obtain ⟨⟨a1, a2, a3, a4⟩, ⟨a5, a6, a7⟩, a8, a9⟩ := h i hi
  obtain ⟨⟨b1, b2, b3, b4⟩, ⟨b5, b6, b7⟩, b8, b9⟩ := k i hi
  exact ⟨⟨b1.trans a1, b2.trans a2, b3.trans a3, b4.trans a4⟩, ⟨b5.trans a5, b6.trans a6, b7.trans a7⟩, b8.trans a8, b9.trans a9⟩
theorem Low.mono {m m' : Nat} (h : Low t m σ τ) (k : m' ≤ m) : Low t m' σ τ := fun i hi => h i (by omega)
theorem TN0.low {i m : Nat} {f : Nat → Nat} (h : TN0 σ t i f) (k : Low t m σ τ) (hi : i < m) : TN0 τ t i f := by
  obtain ⟨⟨a1, a2, a3, a4⟩, ⟨a5, a6, a7⟩, a8, a9⟩ := k i hi
  unfold TN0
  rw [a1, a2, a3, a4, a5, a6, a7, a8]; exact h
theorem TN.low {i m : Nat} {f : Nat → Nat} (h : TN σ t i f) (k : Low t m σ τ) (hi : i < m) : TN τ t i f := ⟨h.1.low k hi, by rw [(k i hi).2.2.2]; exact h.2⟩
/-- what a growing call finds: ways, costs, how many are made -/
def Gr (σ : wS) (t : Nat) (s : mS) (m : Nat) : Prop := Wx σ t s ∧ CW σ t (cst s) ∧ oI σ 2552 t = nI m
theorem chs_some {d : Nat} (hG : mG s ≤ 64) (hd : Dm s d) (hc : cst s d ≤ MCH) : ∃ w i, ∃ h : i < (wys s d).length, chs s d = some w ∧ (wys s d)[i] = w ∧ sm (cst s) w = cst s d ∧ ∀ j (hj : j < i), sm (cst s) ((wys s d)[j]'(by omega)) ≠ cst s d := by
  have mo := MO
  obtain ⟨f1, f2, f3⟩ := cst_fix hG
  rcases (f2 d hd).1 with q | ⟨w, hw, e⟩
  · omega
  · unfold chs
    cases h : (wys s d).find? (fun w => decide (sm (cst s) w = cst s d)) with
    | none =>
      have := List.find?_eq_none.mp h w hw
      simp [e] at this
    | some w' =>
      obtain ⟨h1, i, hi, h2, h3⟩ := List.find?_eq_some_iff_getElem.mp h
      refine ⟨w', i, hi, rfl, h2, by simpa using h1, fun j hj => ?_⟩
      have := h3 j hj
      simpa using this
theorem sm_le {c : Nat → Nat} {w : Wy} (h : sm c w ≤ MCH) : (∀ d, w.2.2.1 = some d → c d ≤ MCH) ∧ (∀ d, w.2.2.2.1 = some d → c d ≤ MCH) := by
  have mo := MO
  rcases sm_cases (c := c) (w := w) with ⟨h1, h2⟩ | h1
  · refine ⟨fun d hd => ?_, fun d hd => ?_⟩
    · have : oc c w.2.2.1 = c d := by rw [hd]; rfl
      omega
    · have : oc c w.2.2.2.1 = c d := by rw [hd]; rfl
      omega
  · omega
theorem t_p33 {Q : Int32 → wS → Prop} {rc : wS → Nat → Int32 → (Int32 → wS → Prop) → Prop} {kk : wS → Int32 → Int32 → Prop} {L : List Wy} {c : Nat → Nat} {d i : Nat} {x2 : Int32} (ok : ok24 σ t) (hW : WL σ t L) (hC : CW σ t c) (hc : ∀ d, c d ≤ OVR) (hn : L.length < 400) (hin : ∀ w, w ∈ L → okW s w) (hG : mG s ≤ 64) (hd : d < 1920) (hi : i < L.length) (he : sm c L[i] = c d) (hb : ∀ j (hj : j < i), sm c (L[j]'(by omega)) ≠ c d) (hQ : kk σ x2 (nI i)) : ∀ n j, j ≤ i → i - j < n → l_X24_plans_33 F rc t (nI d) Q kk n σ x2 (nI j) := by
  have mo := MO
  intro n
  induction n with
  | zero => intro j h1 h2; omega
  | succ n ih =>
    intro j h1 h2
    unfold l_X24_plans_33
    have hj : j < L.length := by omega
    refine ⟨ok, t_sum ok hW hC hc hn hj (hin _ (List.getElem_mem hj)) hG ?_⟩
    have es : sm c L[j] ≤ OVR := cap_le (x := L[j].2.2.2.2.2 + oc c L[j].2.2.1 + oc c L[j].2.2.2.1)
    have hcd := hc d
    rw [nI_clamp (by omega), hC d hd]
    refine ⟨vp_inN hd (by decide), ?_⟩
    by_cases q : j = i
    · subst q
      rw [if_pos (by rw [he])]
      exact hQ
    · rw [if_neg (fun z => hb j (by omega) ((pk_lEQ (by omega) (by omega)).mp z)), nIl_1, nI_add]
      exact ih (j + 1) (by omega) (by omega)
theorem div_I {a b : Nat} (ha : a < 2 ^ 31) (hb0 : 0 < b) (hb : b < 2 ^ 31) : nI a / nI b = nI (a / b) := pk_div ha hb0 hb
theorem eI_sb1 (a : Nat) : nI a - nI 1 = eI a := eI_sub a
theorem sub_I {a b : Nat} (h : b ≤ a) : nI a - nI b = nI (a - b) := by
  have : nI a = nI (a - b) + nI b := by rw [nI_add]; congr 1; omega
  rw [this, Int32.add_sub_cancel]
theorem mod_I {a b : Nat} (ha : a < 2 ^ 31) (hb0 : 0 < b) (hb : b < 2 ^ 31) : nI a - nI a / nI b * nI b = nI (a % b) := by
  rw [div_I ha hb0 hb, nI_mul, sub_I (Nat.div_mul_le_self a b)]
  congr 1
  have := Nat.div_add_mod a b
  rw [Nat.mul_comm] at this
  omega
theorem Gr.tw {G : List Nat} {m : Nat} (h : Gr σ t s m) (k : Tw G t σ τ) (d : ∀ g ∈ [2500, 2501, 2502, 2510, 2511, 2512, 2515, 2516, 2517, 2518, 2519, 2520, 22521, 2530, 2531, 2532, 2504, 2513, 2514, 12533, 2552], g ∉ G) : Gr τ t s m :=
  ⟨⟨h.1.1.tw k (fun g hg => d g (by revert g; decide)), h.1.2.1.tw k (fun g hg => d g (by revert g; decide)), h.1.2.2.tw k (fun g hg => d g (by revert g; decide))⟩, h.2.1.tw k (d _ (by decide)), by rw [k.I (d _ (by decide))]; exact h.2.2⟩
def aiO : Option Nat → Nat
  | none => 0
  | some p => p + 1
theorem oN_eI (o : Option Nat) : oN o = eI (aiO o) := by cases o <;> rfl
/-- contract of a call that grows -/
def GrC (rc : wS → Nat → Int32 → (Int32 → wS → Prop) → Prop) (t : Nat) (s : mS) (R : Nat) : Prop := ∀ (σ : wS) (d m : Nat) (Q : Int32 → wS → Prop), Gr σ t s m → Dm s d → cst s d ≤ MCH → m ≤ 120 → 121 ≤ R + m →
  (pl s R d m = none → ∀ τ, Tv GPl t σ τ → Q 0 τ) → (∀ L, pl s R d m = some L → ∀ τ, Tv GPl t σ τ → Low t m σ τ → m + L.length ≤ 120 → Gr τ t s (m + L.length) → (∀ j (h : j < L.length), TN τ t (m + j) L[j]) → Q 1 τ) → rc σ t (nI d) Q
noncomputable def plo (s : mS) (R : Nat) (o : Option Nat) (m : Nat) : Option (List (Nat → Nat)) := match o with
  | none => some []
  | some d => pl s R d m
theorem pl_eq {R d m : Nat} {w : Wy} (hm : m ≠ 120) (hc : chs s d = some w) : pl s (R + 1) d m = match plo s R w.2.2.1 (m + 1) with
    | none => none
    | some L1 => match plo s R w.2.2.2.1 (m + 1 + L1.length) with
      | none => none
      | some L2 => some (nod s d w (1 + L1.length + L2.length) :: (L1 ++ L2)) := by
  show (if m = 120 then none else match chs s d with | none => none | some w => _) = _
  rw [if_neg hm, hc]
  obtain ⟨k, e, one, two, at', pr⟩ := w
  cases one <;> cases two <;> rfl
/-- what a way has, by its kind -/
def shp (s : mS) (d : Nat) (w : Wy) : Prop := (w.1 = 10 ∧ w.2.1 = none ∧ d % 30 / 6 ≠ 0 ∧ w.2.2.1 ≠ none ∧ w.2.2.2.1 = none) ∨ (w.1 = 11 ∧ w.2.1 = none ∧ d % 6 ≠ 0 ∧ w.2.2.1 ≠ none ∧ w.2.2.2.1 = none) ∨
  (w.1 = 1 ∧ (∃ e, w.2.1 = some e ∧ e < mN s ∧ s 2 e = 1) ∧ w.2.2.1 = none ∧ w.2.2.2.1 = none) ∨
  (w.1 = 2 ∧ (∃ e, w.2.1 = some e ∧ e < mN s ∧ s 2 e = 3) ∧ w.2.2.1 ≠ none ∧ w.2.2.2.1 = none) ∨
  ((w.1 = 8 ∨ w.1 = 9) ∧ (∃ e, w.2.1 = some e ∧ e < mN s ∧ s 2 e = 4) ∧ w.2.2.1 ≠ none ∧ w.2.2.2.1 = none) ∨
  ((w.1 = 4 ∨ w.1 = 5 ∨ w.1 = 6) ∧ (∃ e, w.2.1 = some e ∧ e < mN s ∧ 5 ≤ s 2 e) ∧ w.2.2.1 ≠ none ∧ w.2.2.2.1 ≠ none)
theorem wyX_sh {e o p k place : Nat} {w : Wy} (h : w ∈ wyX s e o p k place) : w.1 = k ∧ w.2.1 = some e ∧ w.2.2.1 ≠ none ∧ (5 ≤ s 2 e → w.2.2.2.1 ≠ none) ∧ (¬ 5 ≤ s 2 e → w.2.2.2.1 = none) := by
  unfold wyX at h
  split at h
  · have := wyk_in h
    subst this
    refine ⟨rfl, rfl, fun z => (nomatch z), fun q => ?_, fun q => if_neg q⟩
    show (if 5 ≤ s 2 e then some _ else none) ≠ none
    rw [if_pos q]
    exact fun z => (nomatch z)
  · exact absurd h (by simp)
theorem wyY_sh {e o p k : Nat} {w : Wy} (h : w ∈ wyY s e o p k) : w.1 = k ∧ w.2.1 = some e ∧ w.2.2.1 ≠ none ∧ (5 ≤ s 2 e → w.2.2.2.1 ≠ none) ∧ (¬ 5 ≤ s 2 e → w.2.2.2.1 = none) := by
  unfold wyY at h
  rcases List.mem_append.mp h with h | h
  · exact wyX_sh h
  · exact wyX_sh h
theorem wyE_sh {d e o p : Nat} {w : Wy} (hs : Sh s) (he : e < mN s) (h : w ∈ wyE s e o p) : shp s d w := by
  have hk := sx_2 hs he
  unfold wyE at h
  by_cases k1 : s 2 e = 1
  · rw [if_pos k1] at h
    split at h
    · have := wyk_in h
      subst this
      exact Or.inr (Or.inr (Or.inl ⟨rfl, ⟨e, rfl, he, k1⟩, rfl, rfl⟩))
    · exact absurd h (by simp)
  rw [if_neg k1] at h
  by_cases k3 : s 2 e = 3
  · rw [if_pos k3] at h
    have := wyk_in h
    subst this
    exact Or.inr (Or.inr (Or.inr (Or.inl ⟨rfl, ⟨e, rfl, he, k3⟩, fun z => (nomatch z), rfl⟩)))
  rw [if_neg k3] at h
  by_cases k4 : s 2 e = 4
  · rw [if_pos k4] at h
    rcases List.mem_append.mp h with h | h
    · obtain ⟨a1, a2, a3, a4, a5⟩ := wyY_sh h
      exact Or.inr (Or.inr (Or.inr (Or.inr (Or.inl ⟨Or.inl a1, ⟨e, a2, he, k4⟩, a3, a5 (by omega)⟩))))
    · obtain ⟨a1, a2, a3, a4, a5⟩ := wyY_sh h
      exact Or.inr (Or.inr (Or.inr (Or.inr (Or.inl ⟨Or.inr a1, ⟨e, a2, he, k4⟩, a3, a5 (by omega)⟩))))
  rw [if_neg k4] at h
  rcases List.mem_append.mp h with h | h
  · rcases List.mem_append.mp h with h | h
    · obtain ⟨a1, a2, a3, a4, a5⟩ := wyY_sh h
      exact Or.inr (Or.inr (Or.inr (Or.inr (Or.inr ⟨Or.inl a1, ⟨e, a2, he, by omega⟩, a3, a4 (by omega)⟩))))
    · obtain ⟨a1, a2, a3, a4, a5⟩ := wyY_sh h
      exact Or.inr (Or.inr (Or.inr (Or.inr (Or.inr ⟨Or.inr (Or.inl a1), ⟨e, a2, he, by omega⟩, a3, a4 (by omega)⟩))))
  · obtain ⟨a1, a2, a3, a4, a5⟩ := wyY_sh h
    exact Or.inr (Or.inr (Or.inr (Or.inr (Or.inr ⟨Or.inr (Or.inr a1), ⟨e, a2, he, by omega⟩, a3, a4 (by omega)⟩))))
theorem wys_sh {d : Nat} {w : Wy} (hs : Sh s) (h : w ∈ wys s d) : shp s d w := by
  unfold wys at h
  rcases List.mem_append.mp h with h | h
  · have : ∀ n, n ≤ mN s → w ∈ wyU s d n → shp s d w := by
      intro n
      induction n with
      | zero => intro _ h; exact absurd h (by simp [wyU])
      | succ n ih =>
        intro hn h
        unfold wyU at h
        rcases List.mem_append.mp h with h | h
        · exact ih (by omega) h
        · split at h
          · exact wyE_sh hs (by omega) h
          · exact absurd h (by simp)
    exact this _ (Nat.le_refl _) h
  · rcases List.mem_append.mp h with h | h
    · unfold wyN1 at h
      split at h
      · rename_i q
        have := wyk_in h
        subst this
        exact Or.inl ⟨rfl, rfl, q.1, fun z => (nomatch z), rfl⟩
      · exact absurd h (by simp)
    · unfold wyN2 at h
      split at h
      · rename_i q
        have := wyk_in h
        subst this
        exact Or.inr (Or.inl ⟨rfl, rfl, q.2.1, fun z => (nomatch z), rfl⟩)
      · exact absurd h (by simp)
theorem nod_12 {d n n' k : Nat} {w : Wy} (h : k ≠ 12) : nod s d w n k = nod s d w n' k := by
  unfold nod
  rw [if_neg h, if_neg h]
theorem TN0.n {d n n' i : Nat} {w : Wy} (h : TN0 σ t i (nod s d w n)) : TN0 σ t i (nod s d w n') := by
  unfold TN0 at h ⊢
  rw [nod_12 (k := 6) (n' := n) (by decide), nod_12 (k := 7) (n' := n) (by decide), nod_12 (k := 8) (n' := n) (by decide), nod_12 (k := 9) (n' := n) (by decide), nod_12 (k := 10) (n' := n) (by decide), nod_12 (k := 11) (n' := n) (by decide), nod_12 (k := 13) (n' := n) (by decide), nod_12 (k := 14) (n' := n) (by decide)]
  exact h
abbrev GPw : List Nat := [2553, 2554, 2555, 2556, 2557, 2558, 2560, 12561]
theorem eI_n1 {o : Nat} (h : o ≠ 0) : eI o = nI (o - 1) := by
  cases o with
  | zero => exact absurd rfl h
  | succ n => rfl
/-- a node is written but for how many it has -/
theorem t_p175 {Q : Int32 → wS → Prop} {rc : wS → Nat → Int32 → (Int32 → wS → Prop) → Prop} {d m i : Nat} {w : Wy} {x3 s2 : Int32} (hg : Gr σ t s (m + 1)) (hs : Sh s) (hG : mG s ≤ 64) (hN : mN s ≤ 144) (hd : Dm s d) (hm : m < 120) (hw : shp s d w) (hi : i < 400) (e3 : x3 = nI i) (e40 : aI σ 2540 t i = oN w.2.2.2.2.1)
    (e53 : aI σ 2553 t m = nI w.1) (e55 : aI σ 2555 t m = nI (d / 30)) (e56 : aI σ 2556 t m = eI (d % 30 / 6)) (e57 : aI σ 2557 t m = eI (d % 6)) (es : s2 = nI (nod s d w 0 7))
    (hQ : ∀ τ, Tw [2554, 2558, 2560, 12561] t σ τ → Low t m σ τ → TN0 τ t m (nod s d w 0) → (if oN w.2.2.1 = (-1 : Int32) then b_X24_plans_244 F rc t Q τ (nI m) (oN w.2.2.2.1) else rc τ t (oN w.2.2.1) (fun r83 σ84 => (if r83 = 0 then Q (0 : Int32) σ84 else b_X24_plans_244 F rc t Q σ84 (nI m) (oN w.2.2.2.1))))) : b_X24_plans_175 F rc t (nI d) Q σ (nI m) x3 (oN w.2.1) (oN w.2.2.1) (oN w.2.2.2.1) (nI m) s2 := by
  have ok := hg.1.1.1.1
  have cm : (nI m).toNatClampNeg = m := nI_clamp (by omega)
  have vm := vp_inN (show m < 121 by omega) (by decide)
  have hd2 := dm_lt hG hd
  have upl : ∀ {f : Nat → Int32} {v : Int32} {j : Nat}, j < m → upd f m v j = f j := fun h => upd_n (by omega)
  unfold b_X24_plans_175
  rw [cm, e3, nI_clamp (by omega)]
  refine ⟨ok, vm, bnd_sA fun σ1 w1 v1 _ _ => ⟨vp_inN hi (by decide), vm, bnd_sA fun σ2 w2 v2 _ _ => ?_⟩⟩
  have W2 : Tw [2554, 2558, 2560, 12561] t σ σ2 := (w1.mono (by decide)).up w2 (by decide)
  have b216 : ∀ h, (h = nI (nod s d w 0 13)) → b_X24_plans_216 F rc t (nI d) Q σ2 (nI m) (oN w.2.2.1) (oN w.2.2.2.1) (nI m) h := fun h eh => by
    unfold b_X24_plans_216
    rw [cm, nI_clamp (by omega)]
    refine ⟨W2.ok ok, vm, bnd_sA fun σ3 w3 v3 _ _ => ⟨vp_inN hd2 (by decide), vm, bnd_sAJ fun σ4 w4 v4 _ _ => ?_⟩⟩
    have W3 : Tw [2554, 2558, 2560] t σ σ3 := ((w1.mono (by decide)).up w2 (by decide)).up w3 (by decide)
    have W4 : Tw [2554, 2558, 2560, 12561] t σ σ4 := (W3.mono (by decide)).up w4 (by decide)
    have f54 : aI σ4 2554 t = upd (aI σ 2554 t) m s2 := by rw [w4.A (by decide), w3.A (by decide), w2.A (by decide), v1]
    have f58 : aI σ4 2558 t = upd (aI σ 2558 t) m (oN w.2.2.2.2.1) := by rw [w4.A (by decide), w3.A (by decide), v2, w1.A (by decide), w1.A (by decide), e40]
    have f60 : aI σ4 2560 t = upd (aI σ 2560 t) m h := by rw [w4.A (by decide), v3, w2.A (by decide), w1.A (by decide)]
    have f61 : aJ σ4 12561 t = vp_updL (aJ σ 12561 t) m (lN (cst s d)) := by rw [v4, W3.AJ (by decide), W3.AJ (by decide), hg.2.1 d hd2]
    refine hQ σ4 W4 (fun j hj => ?_) ?_
    · rw [f54, f58, f60, f61, upl hj, upl hj, upl hj, updL_n (by omega), W4.A (by decide), W4.A (by decide), W4.A (by decide), W4.A (by decide), W4.A (by decide)]
      exact ⟨⟨rfl, rfl, rfl, rfl⟩, ⟨rfl, rfl, rfl⟩, rfl, rfl⟩
    · unfold TN0
      rw [f54, f58, f60, f61, upd_s, upd_s, upd_s, updL_s, W4.A (by decide), W4.A (by decide), W4.A (by decide), W4.A (by decide), e53, e55, e56, e57, es, eh]
      refine ⟨⟨rfl, rfl, rfl, rfl⟩, ⟨rfl, ?_, rfl⟩, rfl⟩
      rw [oN_eI]
      have : nod s d w 0 11 = aiO w.2.2.2.2.1 := by
        show (match w.2.2.2.2.1 with | some p => p + 1 | none => 0) = _
        cases w.2.2.2.2.1 <;> rfl
      rw [this]
  have e13 : nod s d w 0 13 = (match w.2.1 with | some e => if s 2 e = 6 then 1 else 0 | none => 0) := rfl
  cases q : w.2.1 with
  | none =>
    rw [if_pos (show oN none = (-1 : Int32) from rfl)]
    unfold b_X24_plans_215
    refine ⟨W2.ok ok, b216 0 ?_⟩
    rw [e13, q]; rfl
  | some e =>
    have he : e < mN s := by
      rcases hw with h | h | h | h | h | h
      · rw [h.2.1] at q; cases q
      · rw [h.2.1] at q; cases q
      all_goals
        obtain ⟨e', h1, h2, -⟩ := h.2.1
        rw [h1] at q
        cases q
        exact h2
    rw [show oN (some e) = nI e from rfl, if_neg (nI_m1 (by omega)), nI_clamp (n := e) (by omega), W2.A (by decide), (hg.1.1.2.1 e he).1]
    refine ⟨vp_inN (by omega) (by decide), b216 _ ?_⟩
    rw [e13, q]
    have hk := (sh_bnd hs he).1
    show _ = nI (if s 2 e = 6 then 1 else 0)
    by_cases k6 : s 2 e = 6
    · rw [if_pos (by rw [k6]; rfl), if_pos k6]; rfl
    · rw [if_neg (show ¬ nI (s 2 e) = (6 : Int32) from nI_eqf (b := 6) (by omega) (by decide) k6), if_neg k6]; rfl
theorem t_plans (hs : Sh s) (l : Lo s) (hb : Tb s) (hX : Xo s) (hN : mN s ≤ 64) (hF : 1000 ≤ F) : ∀ R, GrC (w_X24_plans F R) t s R := by
  have hG := hs.2.1
  intro R
  induction R with
  | zero => intro σ d m Q _ _ _ h1 h2; omega
  | succ R ih =>
    intro σ d m Q hg hd hc hm hR h0 h1
    show wm_X24_plans F (w_X24_plans F R) σ t (nI d) Q
    unfold wm_X24_plans
    have ok := hg.1.1.1.1
    have hd2 := dm_lt (show mG s ≤ 64 by omega) hd
    rw [hg.2.2]
    refine ⟨ok, ?_⟩
    by_cases q : m = 120
    · rw [if_pos (by rw [q]; rfl)]
      exact h0 (by show (if m = 120 then none else _) = _; rw [if_pos q]) σ Tv.refl
    rw [if_neg (show ¬ nI m = (120 : Int32) from nI_eqf (b := 120) (by omega) (by decide) q), nIl_1, nI_add]
    refine bnd_sI fun σ1 w1 v1 _ _ => ?_
    have hw1 : Wx σ1 t s := ⟨hg.1.1.tw w1 (by decide), hg.1.2.1.tw w1 (by decide), hg.1.2.2.tw w1 (by decide)⟩
    refine t_waysOf hw1 hs l hb hX hN hd (by omega) (fun σ2 w2 hL => ?_)
    have V2 : Tv GPl t σ σ2 := ⟨(w1.mono (by decide)).trans (w2.1.mono (by decide)), by rw [w2.2.1, w1.I (by decide)], by rw [w2.2.2, w1.A (by decide)]⟩
    have g2 : Gr σ2 t s (m + 1) := ⟨hw1.tv w2, (hg.2.1.tw w1 (by decide)).tw w2.1 (by decide), by rw [w2.1.I (by decide), v1]⟩
    have low2 : Low t m σ σ2 := fun i hi => by
      rw [w2.1.A (by decide), w2.1.A (by decide), w2.1.A (by decide), w2.1.A (by decide), w2.1.A (by decide), w2.1.A (by decide), w2.1.A (by decide), w2.1.A (by decide), w2.1.AJ (by decide), w1.A (by decide), w1.A (by decide), w1.A (by decide), w1.A (by decide), w1.A (by decide), w1.A (by decide), w1.A (by decide), w1.A (by decide), w1.AJ (by decide)]
      exact ⟨⟨rfl, rfl, rfl, rfl⟩, ⟨rfl, rfl, rfl⟩, rfl, rfl⟩
    obtain ⟨w, i, hi, hch, ew, esm, hbef⟩ := chs_some (show mG s ≤ 64 by omega) hd hc
    have hlen := wys_len (d := d) hN
    have hin : ∀ w, w ∈ wys s d → okW s w := fun w hw => wys_in hs l hb hd hw
    have hwin : w ∈ wys s d := by rw [← ew]; exact List.getElem_mem hi
    have hsh := wys_sh hs hwin
    have hok := hin w hwin
    have epl := pl_eq (s := s) (R := R) q hch
    refine t_p33 (L := wys s d) (i := i) g2.1.1.1.1 hL g2.2.1 (cst_le (by omega)) (by omega) hin (by omega) hd2 hi (by rw [ew]; exact esm) hbef ?_ F 0 (by omega) (by omega)
    obtain ⟨f36, f37, f38, f39, f40, f41⟩ := hL.2 i hi
    rw [ew] at f36 f37 f38 f39 f40
    have cm : (nI m).toNatClampNeg = m := nI_clamp (by omega)
    have ci : (nI i).toNatClampNeg = i := nI_clamp (by omega)
    have vm := vp_inN (show m < 121 by omega) (by decide)
    rw [ci, cm, f36, f37, f38, f39]
    refine ⟨g2.1.1.1.1, vp_inN (by omega) (by decide), fun v20 h20 v22 h22 v24 h24 v26 h26 => ?_⟩
    rw [h20, h22, h24, h26]
    rw [show nI d / (30 : Int32) = nI (d / 30) from div_I (b := 30) (by omega) (by decide) (by decide), nIl_30, nI_mul, sub_I (Nat.div_mul_le_self d 30),
      show nI (d - d / 30 * 30) / (6 : Int32) = nI ((d - d / 30 * 30) / 6) from div_I (b := 6) (by omega) (by decide) (by decide), eI_sb1, show nI d / (6 : Int32) = nI (d / 6) from div_I (b := 6) (by omega) (by decide) (by decide), nIl_6, nI_mul, sub_I (Nat.div_mul_le_self d 6), eI_sb1,
      show d - d / 30 * 30 = d % 30 by omega, show d - d / 6 * 6 = d % 6 by omega]
    refine ⟨vm, bnd_sA fun σ3 w3 v3 _ _ => bnd_sA fun σ4 w4 v4 _ _ => bnd_sA fun σ5 w5 v5 _ _ => bnd_sA fun σ6 w6 v6 _ _ => ?_⟩
    have W6 : Tw GPw t σ2 σ6 := (((w3.mono (by decide)).up w4 (by decide)).up w5 (by decide)).up w6 (by decide)
    have f53 : aI σ6 2553 t = upd (aI σ2 2553 t) m (nI w.1) := by rw [w6.A (by decide), w5.A (by decide), w4.A (by decide), v3]
    have f55 : aI σ6 2555 t = upd (aI σ2 2555 t) m (nI (d / 30)) := by rw [w6.A (by decide), w5.A (by decide), v4, w3.A (by decide)]
    have f56 : aI σ6 2556 t = upd (aI σ2 2556 t) m (eI (d % 30 / 6)) := by rw [w6.A (by decide), v5, w4.A (by decide), w3.A (by decide)]
    have f57 : aI σ6 2557 t = upd (aI σ2 2557 t) m (eI (d % 6)) := by rw [v6, w5.A (by decide), w4.A (by decide), w3.A (by decide)]
    have upl : ∀ {f : Nat → Int32} {v : Int32} {j : Nat}, j < m → upd f m v j = f j := fun h => upd_n (by omega)
    have low6 : Low t m σ2 σ6 := fun j hj => by
      rw [f53, f55, f56, f57, upl hj, upl hj, upl hj, upl hj, w6.A (by decide), w5.A (by decide), w4.A (by decide), w3.A (by decide), w6.A (by decide), w5.A (by decide), w4.A (by decide), w3.A (by decide), w6.A (by decide), w5.A (by decide), w4.A (by decide), w3.A (by decide), w6.A (by decide), w5.A (by decide), w4.A (by decide), w3.A (by decide), w6.AJ (by decide), w5.AJ (by decide), w4.AJ (by decide), w3.AJ (by decide)]
      exact ⟨⟨rfl, rfl, rfl, rfl⟩, ⟨rfl, rfl, rfl⟩, rfl, rfl⟩
    have g6 : Gr σ6 t s (m + 1) := g2.tw W6 (by decide)
    have e40 : aI σ6 2540 t i = oN w.2.2.2.2.1 := by rw [w6.A (by decide), w5.A (by decide), w4.A (by decide), w3.A (by decide)]; exact f40
    have fin : ∀ τ L1 L2, plo s R w.2.2.1 (m + 1) = some L1 → plo s R w.2.2.2.1 (m + 1 + L1.length) = some L2 → Tv GPl t σ τ → Low t m σ τ → Gr τ t s (m + 1 + L1.length + L2.length) → TN0 τ t m (nod s d w 0) → (∀ j (h : j < L1.length), TN τ t (m + 1 + j) L1[j]) → (∀ j (h : j < L2.length), TN τ t (m + 1 + L1.length + j) L2[j]) → m + 1 + L1.length + L2.length ≤ 120 → b_X24_plans_261 F (w_X24_plans F R) t Q τ (nI m) := by
      intro τ L1 L2 e1 e2 V lw g n0 n1 n2 hle
      have ep : pl s (R + 1) d m = some (nod s d w (1 + L1.length + L2.length) :: (L1 ++ L2)) := by rw [epl, e1]; dsimp only; rw [e2]
      unfold b_X24_plans_261
      rw [cm, g.2.2, sub_I (by omega)]
      refine ⟨g.1.1.1.1, vm, bnd_sA fun τ2 u2 z2 _ _ => ?_⟩
      have eL : (nod s d w (1 + L1.length + L2.length) :: (L1 ++ L2)).length = 1 + L1.length + L2.length := by rw [List.length_cons, List.length_append]; omega
      have h59 : ∀ j, j ≠ m → aI τ2 2559 t j = aI τ 2559 t j := fun j hj => by rw [z2, upd_n hj]
      have n0' : ∀ j f, TN0 τ t j f → TN0 τ2 t j f := fun j f h => by
        unfold TN0
        rw [u2.A (by decide), u2.A (by decide), u2.A (by decide), u2.A (by decide), u2.A (by decide), u2.A (by decide), u2.A (by decide), u2.AJ (by decide)]
        exact h
      refine h1 _ ep τ2 (V.trans ⟨u2.mono (by decide), by rw [u2.I (by decide)], by rw [u2.A (by decide)]⟩) ?_ (by rw [eL]; omega) ?_ (fun j hj => ?_)
      · intro j hj
        obtain ⟨⟨a1, a2, a3, a4⟩, ⟨a5, a6, a7⟩, a8, a9⟩ := lw j hj
        rw [u2.A (by decide), u2.A (by decide), u2.A (by decide), u2.A (by decide), u2.A (by decide), u2.A (by decide), u2.A (by decide), u2.AJ (by decide), h59 j (by omega)]
        exact ⟨⟨a1, a2, a3, a4⟩, ⟨a5, a6, a7⟩, a8, a9⟩
      · rw [eL, show m + (1 + L1.length + L2.length) = m + 1 + L1.length + L2.length by omega]
        exact g.tw u2 (by decide)
      · cases j with
        | zero =>
          refine ⟨n0' _ _ n0.n, ?_⟩
          show aI τ2 2559 t m = nI (1 + L1.length + L2.length)
          rw [z2, upd_s]
          congr 1
          omega
        | succ j =>
          have hj' : j < (L1 ++ L2).length := by rw [List.length_cons] at hj; omega
          show TN τ2 t (m + (j + 1)) (L1 ++ L2)[j]
          by_cases z : j < L1.length
          · rw [List.getElem_append_left z]
            have := n1 j z
            rw [show m + 1 + j = m + (j + 1) by omega] at this
            exact ⟨n0' _ _ this.1, by rw [h59 _ (by omega)]; exact this.2⟩
          · rw [List.length_append] at hj'
            rw [List.getElem_append_right (by omega)]
            have := n2 (j - L1.length) (by omega)
            rw [show m + 1 + L1.length + (j - L1.length) = m + (j + 1) by omega] at this
            exact ⟨n0' _ _ this.1, by rw [h59 _ (by omega)]; exact this.2⟩
    have sml := sm_le (c := cst s) (w := w) (by rw [esm]; exact hc)
    have sec : ∀ τ L1, plo s R w.2.2.1 (m + 1) = some L1 → Tv GPl t σ τ → Low t m σ τ → Gr τ t s (m + 1 + L1.length) → TN0 τ t m (nod s d w 0) → (∀ j (h : j < L1.length), TN τ t (m + 1 + j) L1[j]) → m + 1 + L1.length ≤ 120 → b_X24_plans_244 F (w_X24_plans F R) t Q τ (nI m) (oN w.2.2.2.1) := by
      intro τ L1 e1 V lw g n0 n1 hle
      unfold b_X24_plans_244
      cases q2 : w.2.2.2.1 with
      | none =>
        rw [if_pos (show oN none = (-1 : Int32) from rfl)]
        exact fin τ L1 [] e1 (by rw [q2]; rfl) V lw g n0 n1 (fun j h => absurd h (Nat.not_lt_zero j)) hle
      | some d2 =>
        have hd22 := hok.2.2.2.1 d2 q2
        have := dm_lt (show mG s ≤ 64 by omega) hd22
        rw [show oN (some d2) = nI d2 from rfl, if_neg (nI_m1 (by omega))]
        refine ⟨g.1.1.1.1, ih τ d2 (m + 1 + L1.length) _ g hd22 (sml.2 d2 q2) hle (by omega) (fun e2 τ2 V2' => ?_) (fun L2 e2 τ2 V2' lw2 hle2 g2' n2 => ?_)⟩
        · rw [if_pos rfl]
          refine h0 ?_ τ2 (V.trans V2')
          rw [epl, e1]
          dsimp only
          rw [q2, show plo s R (some d2) (m + 1 + L1.length) = none from e2]
        · rw [if_neg (by decide)]
          exact fin τ2 L1 L2 e1 (by rw [q2]; exact e2) (V.trans V2') (lw.trans (lw2.mono (by omega))) g2' (n0.low lw2 (by omega)) (fun j h => (n1 j h).low lw2 (by omega)) n2 hle2
    have first : ∀ τ, Tv GPl t σ τ → Low t m σ τ → Gr τ t s (m + 1) → TN0 τ t m (nod s d w 0) → (if oN w.2.2.1 = (-1 : Int32) then b_X24_plans_244 F (w_X24_plans F R) t Q τ (nI m) (oN w.2.2.2.1) else w_X24_plans F R τ t (oN w.2.2.1) (fun r83 σ84 => (if r83 = 0 then Q (0 : Int32) σ84 else b_X24_plans_244 F (w_X24_plans F R) t Q σ84 (nI m) (oN w.2.2.2.1)))) := by
      intro τ V lw g n0
      cases q1 : w.2.2.1 with
      | none =>
        rw [if_pos (show oN none = (-1 : Int32) from rfl)]
        exact sec τ [] (by rw [q1]; rfl) V lw g n0 (fun j h => absurd h (Nat.not_lt_zero j)) (by simp; omega)
      | some d1 =>
        have hd11 := hok.2.2.1 d1 q1
        have := dm_lt (show mG s ≤ 64 by omega) hd11
        rw [show oN (some d1) = nI d1 from rfl, if_neg (nI_m1 (by omega))]
        refine ih τ d1 (m + 1) _ g hd11 (sml.1 d1 q1) (by omega) (by omega) (fun e2 τ2 V2' => ?_) (fun L1 e1 τ2 V2' lw2 hle2 g2' n2 => ?_)
        · rw [if_pos rfl]
          refine h0 ?_ τ2 (V.trans V2')
          rw [epl, q1, show plo s R (some d1) (m + 1) = none from e2]
        · rw [if_neg (by decide)]
          exact sec τ2 L1 (by rw [q1]; exact e1) (V.trans V2') (lw.trans (lw2.mono (by omega))) g2' (n0.low lw2 (by omega)) n2 hle2
    have W6v : Tv GPl t σ2 σ6 := ⟨W6.mono (by decide), by rw [W6.I (by decide)], by rw [W6.A (by decide)]⟩
    have b175 : ∀ s2, s2 = nI (nod s d w 0 7) → b_X24_plans_175 F (w_X24_plans F R) t (nI d) Q σ6 (nI m) (nI i) (oN w.2.1) (oN w.2.2.1) (oN w.2.2.2.1) (nI m) s2 := by
      intro s2 es
      refine t_p175 g6 hs (by omega) (by omega) hd (by omega) hsh (by omega) rfl e40 (by rw [f53, upd_s]) (by rw [f55, upd_s]) (by rw [f56, upd_s]) (by rw [f57, upd_s]) es (fun τ u lw n0 => ?_)
      exact first τ ((V2.trans W6v).trans ⟨u.mono (by decide), by rw [u.I (by decide)], by rw [u.A (by decide)]⟩) ((low2.trans low6).trans lw) (g6.tw u (by decide)) n0
    have e7 : nod s d w 0 7 = (if w.1 = 10 then d % 30 / 6 - 1 else if w.1 = 11 then d % 6 - 1 else match w.2.1 with | some e => s 3 e | none => 0) := rfl
    by_cases k10 : w.1 = 10
    · rw [if_pos (by rw [k10]; rfl)]
      refine b175 _ ?_
      rw [f56, upd_s, e7, if_pos k10]
      refine eI_n1 ?_
      rcases hsh with h | h | h | h | h | h
      · exact h.2.2.1
      · omega
      · omega
      · omega
      · rcases h.1 with z | z <;> omega
      · rcases h.1 with z | z | z <;> omega
    rw [if_neg (show ¬ nI w.1 = (10 : Int32) from nI_eqf (b := 10) (by have := hok.1; omega) (by decide) k10)]
    by_cases k11 : w.1 = 11
    · rw [if_pos (by rw [k11]; rfl)]
      refine b175 _ ?_
      rw [f57, upd_s, e7, if_neg k10, if_pos k11]
      refine eI_n1 ?_
      rcases hsh with h | h | h | h | h | h
      · omega
      · exact h.2.2.1
      · omega
      · omega
      · rcases h.1 with z | z <;> omega
      · rcases h.1 with z | z | z <;> omega
    rw [if_neg (show ¬ nI w.1 = (11 : Int32) from nI_eqf (b := 11) (by have := hok.1; omega) (by decide) k11)]
    have hex : ∃ e, w.2.1 = some e ∧ e < mN s := by
      rcases hsh with h | h | h | h | h | h
      · exact absurd h.1 k10
      · exact absurd h.1 k11
      all_goals
        obtain ⟨e', y1, y2, -⟩ := h.2.1
        exact ⟨e', y1, y2⟩
    obtain ⟨e, y1, y2⟩ := hex
    have b1 : oN w.2.1 = nI e := by rw [y1]; rfl
    refine ⟨by rw [b1]; exact vp_inN (by omega) (by decide), b175 _ ?_⟩
    rw [b1, nI_clamp (by omega), (g6.1.1.2.1 e y2).2.1, e7, if_neg k10, if_neg k11, y1]
theorem getD_lt {L : List (Nat → Nat)} {i : Nat} (h : i < L.length) : L.getD i z9 = L[i] := by simp [List.getD, h]
theorem t_p99 {Q : Int32 → wS → Prop} {L : List (Nat → Nat)} {σ0 : wS} (ok : ok24 σ0 t) (e8 : oI σ0 2508 t = nI L.length) (hL : L.length ≤ 120) (hN : ∀ j (h : j < L.length), TN σ0 t j L[j]) (hQ : ∀ τ, Tw [2542, 2543, 2544, 2545, 2546, 2547, 2548, 2549, 12551] t σ0 τ → TP τ t (sPl S L).2.1 → Q (nI L.length) τ) : ∀ n i σ, i ≤ L.length → L.length - i < n → Tw [2542, 2543, 2544, 2545, 2546, 2547, 2548, 2549, 12551] t σ0 σ →
    (∀ j (h : j < L.length), j < i → (aI σ 2542 t j = nI (L[j] 6) ∧ aI σ 2543 t j = nI (L[j] 7) ∧ aI σ 2544 t j = nI (L[j] 8) ∧ aI σ 2545 t j = eI (L[j] 9)) ∧ (aI σ 2546 t j = eI (L[j] 10) ∧ aI σ 2547 t j = eI (L[j] 11) ∧ aI σ 2548 t j = nI (L[j] 12) ∧ aI σ 2549 t j = nI (L[j] 13)) ∧ aJ σ 12551 t j = lN (L[j] 14)) → l_X24_plan_99 F t Q n σ (nI i) := by
  intro n
  induction n with
  | zero => intro i σ h1 h2; omega
  | succ n ih =>
    intro i σ h1 h2 W hi
    unfold l_X24_plan_99
    rw [W.I (by decide), e8]
    refine ⟨W.ok ok, ?_⟩
    by_cases q : i = L.length
    · rw [if_pos (nI_le (by omega) (by omega))]
      refine hQ σ W ⟨?_, fun j hj => ?_⟩
      · rw [W.I (by decide), e8]
        show _ = nI (up (S.2.1 5) 1 L.length 1)
        rw [up_s]
      · have hj' : j < L.length := by
          have : j < up (S.2.1 5) 1 L.length 1 := hj
          rw [up_s] at this
          exact this
        have := hi j hj' (by omega)
        show (_ = nI (L.getD j z9 6) ∧ _ = nI (L.getD j z9 7) ∧ _ = nI (L.getD j z9 8) ∧ _ = eI (L.getD j z9 9)) ∧ (_ = eI (L.getD j z9 10) ∧ _ = eI (L.getD j z9 11) ∧ _ = nI (L.getD j z9 12) ∧ _ = nI (L.getD j z9 13)) ∧ _ = lN (L.getD j z9 14)
        rw [getD_lt hj']
        exact this
    · have hlt : i < L.length := by omega
      rw [if_neg (nI_ge hlt (by omega)), nI_clamp (by omega)]
      obtain ⟨⟨⟨t1, t2, t3, t4⟩, ⟨t5, t6, t7⟩, t8⟩, t9⟩ := hN i hlt
      refine ⟨vp_inN (by omega) (by decide), bnd_sA fun σ1 w1 v1 _ _ => bnd_sA fun σ2 w2 v2 _ _ => bnd_sA fun σ3 w3 v3 _ _ => bnd_sA fun σ4 w4 v4 _ _ => bnd_sA fun σ5 w5 v5 _ _ => bnd_sA fun σ6 w6 v6 _ _ => bnd_sA fun σ7 w7 v7 _ _ => bnd_sA fun σ8 w8 v8 _ _ => bnd_sAJ fun σ9 w9 v9 _ _ => ?_⟩
      have X : Tw [2542, 2543, 2544, 2545, 2546, 2547, 2548, 2549, 12551] t σ σ9 := ((((((((w1.mono (by decide)).up w2 (by decide)).up w3 (by decide)).up w4 (by decide)).up w5 (by decide)).up w6 (by decide)).up w7 (by decide)).up w8 (by decide)).up w9 (by decide)
      rw [nIl_1, nI_add]
      have f1 : aI σ9 2542 t = upd (aI σ 2542 t) i (nI (L[i] 6)) := by
        rw [w9.A (by decide), w8.A (by decide), w7.A (by decide), w6.A (by decide), w5.A (by decide), w4.A (by decide), w3.A (by decide), w2.A (by decide), v1, W.A (g := 2553) (by decide), t1]
      have f2 : aI σ9 2543 t = upd (aI σ 2543 t) i (nI (L[i] 7)) := by
        rw [w9.A (by decide), w8.A (by decide), w7.A (by decide), w6.A (by decide), w5.A (by decide), w4.A (by decide), w3.A (by decide), v2, w1.A (g := 2554) (by decide), W.A (g := 2554) (by decide), t2, w1.A (by decide)]
      have f3 : aI σ9 2544 t = upd (aI σ 2544 t) i (nI (L[i] 8)) := by
        rw [w9.A (by decide), w8.A (by decide), w7.A (by decide), w6.A (by decide), w5.A (by decide), w4.A (by decide), v3, w2.A (g := 2555) (by decide), w1.A (g := 2555) (by decide), W.A (g := 2555) (by decide), t3, w2.A (by decide), w1.A (by decide)]
      have f4 : aI σ9 2545 t = upd (aI σ 2545 t) i (eI (L[i] 9)) := by
        rw [w9.A (by decide), w8.A (by decide), w7.A (by decide), w6.A (by decide), w5.A (by decide), v4, w3.A (g := 2556) (by decide), w2.A (g := 2556) (by decide), w1.A (g := 2556) (by decide), W.A (g := 2556) (by decide), t4, w3.A (by decide), w2.A (by decide), w1.A (by decide)]
      have f5 : aI σ9 2546 t = upd (aI σ 2546 t) i (eI (L[i] 10)) := by
        rw [w9.A (by decide), w8.A (by decide), w7.A (by decide), w6.A (by decide), v5, w4.A (g := 2557) (by decide), w3.A (g := 2557) (by decide), w2.A (g := 2557) (by decide), w1.A (g := 2557) (by decide), W.A (g := 2557) (by decide), t5, w4.A (by decide), w3.A (by decide), w2.A (by decide), w1.A (by decide)]
      have f6 : aI σ9 2547 t = upd (aI σ 2547 t) i (eI (L[i] 11)) := by
        rw [w9.A (by decide), w8.A (by decide), w7.A (by decide), v6, w5.A (g := 2558) (by decide), w4.A (g := 2558) (by decide), w3.A (g := 2558) (by decide), w2.A (g := 2558) (by decide), w1.A (g := 2558) (by decide), W.A (g := 2558) (by decide), t6, w5.A (by decide), w4.A (by decide), w3.A (by decide), w2.A (by decide), w1.A (by decide)]
      have f7 : aI σ9 2548 t = upd (aI σ 2548 t) i (nI (L[i] 12)) := by
        rw [w9.A (by decide), w8.A (by decide), v7, w6.A (g := 2559) (by decide), w5.A (g := 2559) (by decide), w4.A (g := 2559) (by decide), w3.A (g := 2559) (by decide), w2.A (g := 2559) (by decide), w1.A (g := 2559) (by decide), W.A (g := 2559) (by decide), t9, w6.A (by decide), w5.A (by decide), w4.A (by decide), w3.A (by decide), w2.A (by decide), w1.A (by decide)]
      have f8 : aI σ9 2549 t = upd (aI σ 2549 t) i (nI (L[i] 13)) := by
        rw [w9.A (by decide), v8, w7.A (g := 2560) (by decide), w6.A (g := 2560) (by decide), w5.A (g := 2560) (by decide), w4.A (g := 2560) (by decide), w3.A (g := 2560) (by decide), w2.A (g := 2560) (by decide), w1.A (g := 2560) (by decide), W.A (g := 2560) (by decide), t7, w7.A (by decide), w6.A (by decide), w5.A (by decide), w4.A (by decide), w3.A (by decide), w2.A (by decide), w1.A (by decide)]
      have f9 : aJ σ9 12551 t = vp_updL (aJ σ 12551 t) i (lN (L[i] 14)) := by
        rw [v9, w8.AJ (g := 12561) (by decide), w7.AJ (g := 12561) (by decide), w6.AJ (g := 12561) (by decide), w5.AJ (g := 12561) (by decide), w4.AJ (g := 12561) (by decide), w3.AJ (g := 12561) (by decide), w2.AJ (g := 12561) (by decide), w1.AJ (g := 12561) (by decide), W.AJ (g := 12561) (by decide), t8, w8.AJ (by decide), w7.AJ (by decide), w6.AJ (by decide), w5.AJ (by decide), w4.AJ (by decide), w3.AJ (by decide), w2.AJ (by decide), w1.AJ (by decide)]
      refine ih (i + 1) σ9 (by omega) (by omega) (W.trans X) (fun j h hj => ?_)
      rw [f1, f2, f3, f4, f5, f6, f7, f8, f9]
      by_cases z : j = i
      · subst z
        rw [upd_s, upd_s, upd_s, upd_s, upd_s, upd_s, upd_s, upd_s, updL_s]
        exact ⟨⟨rfl, rfl, rfl, rfl⟩, ⟨rfl, rfl, rfl, rfl⟩, rfl⟩
      · rw [upd_n z, upd_n z, upd_n z, upd_n z, upd_n z, upd_n z, upd_n z, upd_n z, updL_n z]
        exact hi j h (by omega)
theorem t_plan {Q : Int32 → wS → Prop} {a b c : Int32} (hT : TT σ t S) (hM : MV S.1) (hF : 10000000000000000 ≤ F) (hQ : ∀ τ, Tu t σ τ → TT τ t (o_plan S a b c).2 → Q (o_plan S a b c).1 τ) : w_X24_plan F σ t a b c Q := by
  have mo := MO
  have hs := hM.1.1
  have hG := hs.2.1
  have hN := hM.2.2
  unfold w_X24_plan
  refine ⟨hT.ok, t_isGroup hT.1.1 (by omega) (fun ea => ?_) (fun g hg ha ea => ?_)⟩
  · have e2 : o_plan S a b c = noA S 1 := by unfold o_plan; rw [ea]
    rw [e2] at hQ
    rw [if_pos rfl]
    exact t_no 1 (by decide) rfl hT hQ
  rw [if_neg (by decide)]
  refine t_isDem hT.ok (fun e => ?_) (fun o p ho hp eo ep e1 e2 => ?_)
  · have e2 : o_plan S a b c = noA S 6 := by unfold o_plan; rw [ea]; rcases e with e | e <;> rw [e] <;> cases nm1 4 b <;> rfl
    rw [e2] at hQ
    rw [if_pos rfl]
    exact t_no 6 (by decide) rfl hT hQ
  have e3 : o_plan S a b c = if cst S.1 (dm (R S.1 g) o p) ≤ MCH then (match pl S.1 122 (dm (R S.1 g) o p) 0 with
      | some L => (nI L.length, sPl S L)
      | none => noA S 7) else noA S 5 := by unfold o_plan; rw [ea, e1, e2]; rfl
  rw [e3] at hQ
  rw [if_neg (by decide), ha, eo, ep]
  have hd := dm_in (o := o) (p := p) hs hg ho hp
  have hd2 := dm_lt (by omega) hd
  refine tt_costs hT hM hF (fun τ w hT' hw hc => t_root hw.1 hs hg (by omega) (t_demand ?_))
  have hcl := cst_le (s := S.1) (by omega) (dm (R S.1 g) o p)
  rw [nI_clamp (by omega), hc _ hd2, show (1000000000000 : Int64) = lN MCH from rfl]
  refine ⟨vp_inN hd2 (by decide), ?_⟩
  by_cases z : cst S.1 (dm (R S.1 g) o p) ≤ MCH
  · rw [if_pos ((pk_lLE (by omega) (by omega)).mpr z)]
    rw [if_pos z] at hQ
    refine bnd_sI fun σ1 w1 v1 _ _ => ?_
    have g1 : Gr σ1 t S.1 0 := ⟨⟨hw.1.tw w1 (by decide), hw.2.1.tw w1 (by decide), hw.2.2.tw w1 (by decide)⟩, hc.tw w1 (by decide), v1⟩
    have hT1 := hT'.tw w1 (by decide)
    refine t_plans hs hM.1.2.1 hM.2.1.1 hM.2.1.2.1 hN (by omega) 122 σ1 _ 0 _ g1 hd z (by decide) (by decide) (fun e τ2 V2 => ?_) (fun L e τ2 V2 _ hle g2 n2 => ?_)
    · rw [e] at hQ
      rw [if_pos rfl]
      exact t_no 7 (by decide) rfl (tt_tv hT1 V2 (by decide)) (fun τ' k h => hQ τ' (w.1.tuT (w1.tuT (V2.1.tuT k))) h)
    · rw [e] at hQ
      dsimp only at hQ
      rw [if_neg (by decide), g2.2.2, Nat.zero_add]
      rw [Nat.zero_add] at hle
      have hT2 := tt_tv hT1 V2 (by decide)
      refine bnd_sI fun σ3 w3 v3 _ _ => ?_
      refine t_p99 (S := S) (L := L) (w3.ok hT2.ok) v3 hle (fun j hj => ?_) (fun τ4 w4 hp => ?_) F 0 σ3 (by omega) (by omega) Tw.refl (fun j _ h => absurd h (by omega))
      · have := n2 j hj
        rw [Nat.zero_add] at this
        unfold TN TN0 at this ⊢
        rw [w3.A (by decide), w3.A (by decide), w3.A (by decide), w3.A (by decide), w3.A (by decide), w3.A (by decide), w3.A (by decide), w3.A (by decide), w3.AJ (by decide)]
        exact this
      · have W4 : Tw [2508, 2542, 2543, 2544, 2545, 2546, 2547, 2548, 2549, 12551] t τ2 τ4 := (w3.mono (by decide)).trans (w4.mono (by decide))
        have hz := hT2.2.1.2.2.2.tw W4 (by decide)
        refine hQ τ4 (w.1.tuT (w1.tuT (V2.1.tuT W4.tu))) ⟨⟨hT2.1.1.tw W4 (by decide), hT2.1.2.1.tw W4 (by decide), hT2.1.2.2.tw W4 (by decide)⟩, ⟨hT2.2.1.1.tw W4 (by decide), hT2.2.1.2.1.tw W4 (by decide), hT2.2.1.2.2.1.tw W4 (by decide), hz.1, ?_, hz.2.2⟩, hp, ?_⟩
        · show _ = eI (up (S.2.1 5) 1 L.length 0)
          rw [up_n (by decide)]; exact hz.2.1
        · have := hT2.2.2.2.tw W4 (by decide)
          unfold TI at this ⊢
          show (_ = nI (up (S.2.1 5) 1 L.length 2) ∧ up (S.2.1 5) 1 L.length 2 ≤ 1) ∧ (up (S.2.1 5) 1 L.length 2 = 0 → _) ∧ (up (S.2.1 5) 1 L.length 2 = 1 → _)
          rw [up_n (by decide)]
          exact this
  · rw [if_neg (fun y => z ((pk_lLE (by omega) (by omega)).mp y))]
    rw [if_neg z] at hQ
    exact t_no 5 (by decide) rfl hT' (fun τ' k h => hQ τ' (w.1.tuT k) h)
theorem t_planAt {Q : Int32 → wS → Prop} {a b : Int32} (hT : TT σ t S) (hP : S.2.1 5 1 ≤ 120) (hQ : ∀ τ, Tu t σ τ → TT τ t (o_planAt S a b).2 → Q (o_planAt S a b).1 τ) : w_X24_planAt σ t a b Q := by
  unfold w_X24_planAt
  have b23 : o_planAt S a b = noA S 5 → b_X24_planAt_23 t Q σ := fun e2 => by
    rw [e2] at hQ
    exact ⟨hT.ok, t_no 5 (by decide) rfl hT hQ⟩
  have n1 : num (S.2.1 5 1) a = none → o_planAt S a b = noA S 5 := fun e => by
    unfold o_planAt
    rw [e] <;> cases num 8 b <;> rfl
  have hp := hT.2.2.1
  rcases num_cs (N := S.2.1 5 1) (by omega) a with ⟨n, hn, ha, e⟩ | ⟨e, h | ⟨h, h'⟩⟩
  · rw [hp.1, ha, if_neg (nI_pos (by omega)), if_neg (nI_ge hn (by omega))]
    refine ⟨hT.ok, t_isFrom (N := 7) (by decide) rfl (fun eb => ?_) (fun k hk hkb eb => ?_)⟩
    · rw [if_pos rfl]
      exact b23 (by unfold o_planAt; rw [e, eb])
    · rw [if_neg (by decide), hkb, nI_clamp (by omega)]
      have eo : o_planAt S a b = (if k = 3 ∨ k = 4 ∨ k = 5 then eI (S.2.1 (6 + k) n) else nI (S.2.1 (6 + k) n), S) := by unfold o_planAt; rw [e, eb]
      rw [eo] at hQ
      have hq := hQ σ Tu.refl hT
      obtain ⟨⟨i1, i2, i3, i4⟩, ⟨i5, i6, i7, i8⟩, -⟩ := hp.2 n hn
      rw [i1, i2, i3, i4, i5, i6, i7, i8]
      have v := vp_inN (show n < 121 by omega) (by decide)
      have hk8 : k = 0 ∨ k = 1 ∨ k = 2 ∨ k = 3 ∨ k = 4 ∨ k = 5 ∨ k = 6 ∨ k = 7 := by omega
      rcases hk8 with rfl | rfl | rfl | rfl | rfl | rfl | rfl | rfl
      · exact ⟨v, hq⟩
      · exact ⟨v, hq⟩
      · exact ⟨v, hq⟩
      · exact ⟨v, hq⟩
      · exact ⟨v, hq⟩
      · exact ⟨v, hq⟩
      · exact ⟨v, hq⟩
      · exact ⟨v, hq⟩
  · rw [if_pos h]; exact b23 (n1 e)
  · rw [if_neg h, hp.1, if_pos h']; exact ⟨hT.ok, b23 (n1 e)⟩
theorem t_planCost {Q : Int64 → wS → Prop} {a : Int32} (hT : TT σ t S) (hP : S.2.1 5 1 ≤ 120) (hQ : ∀ τ, Tu t σ τ → TT τ t (o_planCost S a).2 → Q (o_planCost S a).1 τ) : w_X24_planCost σ t a Q := by
  unfold w_X24_planCost
  have b12 : num (S.2.1 5 1) a = none → b_X24_planCost_12 t Q σ := fun e => by
    have e2 : o_planCost S a = noL S 5 := by unfold o_planCost; rw [e]
    rw [e2] at hQ
    exact ⟨hT.ok, t_noL 5 (by decide) rfl hT hQ⟩
  have hp := hT.2.2.1
  rcases num_cs (N := S.2.1 5 1) (by omega) a with ⟨n, hn, ha, e⟩ | ⟨e, h | ⟨h, h'⟩⟩
  · have eo : o_planCost S a = (lN (S.2.1 14 n), S) := by unfold o_planCost; rw [e]
    rw [eo] at hQ
    rw [hp.1, ha, if_neg (nI_pos (by omega)), if_pos (nI_lt hn (by omega)), nI_clamp (by omega), (hp.2 n hn).2.2]
    exact ⟨hT.ok, vp_inN (by omega) (by decide), hQ σ Tu.refl hT⟩
  · rw [if_pos h]; exact b12 e
  · rw [if_neg h, hp.1, if_neg (Int32.not_lt.mpr h')]; exact ⟨hT.ok, b12 e⟩
end PT
