set_option linter.unusedVariables false
set_option maxRecDepth 10000
/-! ===== twin: costs, prices ===== -/
section PT
variable {σ τ υ : wS} {t F : Nat} {s : mS} {S : gS}
theorem t_allow {Q : Int32 → wS → Prop} {a b : Int32} (hT : TT σ t S) (hM : MV S.1) (hQ : ∀ τ, Tu t σ τ → TT τ t (o_allow S a b).2 → Q (o_allow S a b).1 τ) : w_X24_allow σ t a b Q := by
  unfold w_X24_allow
  refine ⟨hT.ok, t_isWay (fun e => ?_) (fun k hk _ _ _ ha e => ?_)⟩
  · have e2 : o_allow S a b = noA S 1 := by unfold o_allow; rw [e]
    rw [e2] at hQ
    rw [if_pos rfl]
    exact t_no 1 (by decide) rfl hT hQ
  · have e2 : o_allow S a b = (if (S.1 19 0).testBit k = true then 1 else 0, sM S (s19 S.1 (if b = 0 then clr (S.1 19 0) k else stb (S.1 19 0) k))) := by unfold o_allow; rw [e]
    rw [e2] at hQ
    have h4 := hM.2.1.2.1.1
    rw [if_neg (by decide), ha, hT.1.2.1.1, bitI (by omega) (by omega), clr_I hk, stb_I hk]
    intro v hv
    refine bnd_sI fun σ1 w1 v1 _ _ => ?_
    rw [hv]
    refine hQ σ1 w1.tu (tt_19 hT w1 ?_)
    rw [v1]
    split <;> rfl
theorem nm1_m1 {N : Nat} : nm1 N (-1) = some 0 := if_pos rfl
theorem lt0m {a : Int32} (h : a < 0) (q : ¬ a = -1) : a < -1 := by
  rw [Int32.lt_iff_toInt_lt] at h ⊢
  have e0 : (0 : Int32).toInt = 0 := by decide
  have e1 : (-1 : Int32).toInt = -1 := by decide
  have : a.toInt ≠ -1 := fun z => q (Int32.toInt_inj.mp (by rw [z, e1]))
  omega
theorem m1_lt {n : Nat} (h : n < 2 ^ 31) : (-1 : Int32) < nI n := Int32.lt_of_lt_of_le (show (-1 : Int32) < 0 by decide) (nI_pos' h)
theorem t_isFm1 {Q : Int32 → wS → Prop} {a c : Int32} {N : Nat} (hN : N < 1000) (hc : c = nI N) (h0 : nm1 (N + 1) a = none → Q 0 σ) (h1 : ∀ n, n < N + 2 → a = eI n → nm1 (N + 1) a = some n → Q 1 σ) : w_X24_isFrom σ t a (-1) c Q := by
  unfold w_X24_isFrom
  subst hc
  by_cases q : a = -1
  · have := h1 0 (by omega) q (by rw [q]; exact nm1_m1)
    rw [q, if_neg (by decide), if_neg (Int32.not_lt.mpr (Int32.le_of_lt (m1_lt (by omega))))]
    exact this
  · have en : nm1 (N + 1) a = match num (N + 1) a with | some n => some (n + 1) | none => none := if_neg q
    rw [en] at h0 h1
    rcases num_cs (N := N + 1) (by omega) a with ⟨n, hn, ha, e⟩ | ⟨e, h | ⟨h, h'⟩⟩
    · rw [e] at h1
      have := h1 (n + 1) (by omega) ha rfl
      rw [ha, if_neg (Int32.not_lt.mpr (Int32.le_of_lt (m1_lt (by omega)))), if_neg (nI_nlt (by omega) (by omega))]
      exact this
    · rw [e] at h0
      rw [if_pos (lt0m h q)]
      exact h0 rfl
    · rw [e] at h0
      rw [if_neg (fun z => h (Int32.lt_trans z (by decide))), if_pos (Int32.lt_of_lt_of_le (nI_lt (b := N + 1) (by omega) (by omega)) h')]
      exact h0 rfl
theorem t_isDem {Q : Int32 → wS → Prop} {o p : Int32} (ok : ok24 σ t) (h0 : (nm1 4 o = none ∨ nm1 5 p = none) → Q 0 σ) (h1 : ∀ o' p', o' < 5 → p' < 6 → o = eI o' → p = eI p' → nm1 4 o = some o' → nm1 5 p = some p' → Q 1 σ) : w_X24_isDemand σ t o p Q := by
  unfold w_X24_isDemand
  refine ⟨ok, t_isFm1 (N := 3) (by decide) rfl (fun e => ?_) (fun o' ho eo e => ?_)⟩
  · rw [if_pos rfl]; exact h0 (Or.inl e)
  rw [if_neg (by decide)]
  refine t_isFm1 (N := 4) (by decide) rfl (fun e' => ?_) (fun p' hp ep e' => ?_)
  · rw [if_pos rfl]; exact h0 (Or.inr e')
  rw [if_neg (by decide)]
  exact h1 o' p' ho hp eo ep e e'
abbrev GT2 : List Nat := [2500, 2501, 2502, 2510, 2511, 2512, 2515, 2516, 2517, 2518, 2519, 2520, 22521, 2504, 2513, 2514, 22522, 2523, 2503, 2509, 2524, 2525, 2526, 2527, 12528, 2505, 2506, 2508, 2542, 2543, 2544, 2545, 2546, 2547, 2548, 2549, 12551, 2571, 2572, 22573, 22574]
theorem tt_tv {G : List Nat} (h : TT σ t S) (k : Tv G t σ τ) (d : ∀ g ∈ GT2, g ∉ G) : TT τ t S := by
  have w := k.1
  have hz := h.2.1.2.2.2
  refine ⟨⟨h.1.1.tw w (fun g hg => d g (by revert g; decide)), h.1.2.1.tw w (fun g hg => d g (by revert g; decide)), h.1.2.2.tw w (fun g hg => d g (by revert g; decide))⟩,
   ⟨h.2.1.1.tw w (fun g hg => d g (by revert g; decide)), h.2.1.2.1.tw w (fun g hg => d g (by revert g; decide)), h.2.1.2.2.1.tw w (fun g hg => d g (by revert g; decide)), ?_, ?_, ?_⟩,
   h.2.2.1.tw w (fun g hg => d g (by revert g; decide)), h.2.2.2.tw w (fun g hg => d g (by revert g; decide))⟩
  · rw [w.I (d _ (by decide))]; exact hz.1
  · rw [w.I (d _ (by decide))]; exact hz.2.1
  · exact ⟨k.2.1.trans hz.2.2.1, k.2.2.trans hz.2.2.2⟩
theorem tt_costs {Q : wS → Prop} (hT : TT σ t S) (hM : MV S.1) (hF : 10000000000000000 ≤ F) (hQ : ∀ τ, Tv GC t σ τ → TT τ t S → Wx τ t S.1 → CW τ t (cst S.1) → Q τ) : w_X24_costs F σ t Q := by
  obtain ⟨⟨hs, l, no⟩, ⟨hb, hX, hB⟩, hN⟩ := hM
  exact t_costs hT.1.1 hT.1.2.1 hs l hb hX hN hF (fun τ w hw hc => hQ τ w (tt_tv hT w (by decide)) hw hc)
theorem cst_le (hG : mG s ≤ 64) (d : Nat) : cst s d ≤ OVR := (cst_fix hG).1 d
theorem t_orN {Q : Int64 → wS → Prop} {c : Nat} (hc : c ≤ OVR) (h : Q (orN c) σ) : w_X24_orNone σ (lN c) Q := by
  have mo := MO
  unfold w_X24_orNone
  unfold orN at h
  rw [show (1000000000000 : Int64) = lN MCH from rfl]
  by_cases q : c ≤ MCH
  · rw [if_pos ((pk_lLE (by omega) (by omega)).mpr q)]
    rw [if_pos q] at h; exact h
  · rw [if_neg (fun z => q ((pk_lLE (by omega) (by omega)).mp z))]
    rw [if_neg q] at h; exact h
theorem t_noT {Q : Int64 → wS → Prop} {a : Int32} (b : Nat) (hb : b < 8) (ha : a = -nI b) (h : TT σ t S) (hQ : ∀ τ, Tu t σ τ → TT τ t (noT S b).2 → Q (noT S b).1 τ) : w_X24_noTen σ t a (fun r τ => Q r.toInt64 τ) := t_noTen b hb ha h hQ
theorem t_cost {Q : Int64 → wS → Prop} {a b c : Int32} (hT : TT σ t S) (hM : MV S.1) (hF : 10000000000000000 ≤ F) (hQ : ∀ τ, Tu t σ τ → TT τ t (o_cost S a b c).2 → Q (o_cost S a b c).1 τ) : w_X24_cost F σ t a b c Q := by
  have hs := hM.1.1
  have hG := hs.2.1
  have hN := hM.2.2
  unfold w_X24_cost
  refine ⟨hT.ok, t_isGroup hT.1.1 (by omega) (fun ea => ?_) (fun g hg ha ea => ?_)⟩
  · have e2 : o_cost S a b c = noT S 1 := by unfold o_cost; rw [ea]
    rw [e2] at hQ
    rw [if_pos rfl]
    exact t_noT 1 (by decide) rfl hT hQ
  rw [if_neg (by decide)]
  refine t_isDem hT.ok (fun e => ?_) (fun o p ho hp eo ep e1 e2 => ?_)
  · have e2 : o_cost S a b c = noT S 6 := by unfold o_cost; rw [ea]; rcases e with e | e <;> rw [e] <;> cases nm1 4 b <;> rfl
    rw [e2] at hQ
    rw [if_pos rfl]
    exact t_noT 6 (by decide) rfl hT hQ
  have e3 : o_cost S a b c = (orN (cst S.1 (dm (R S.1 g) o p)), S) := by unfold o_cost; rw [ea, e1, e2]
  rw [e3] at hQ
  rw [if_neg (by decide), ha, eo, ep]
  refine tt_costs hT hM hF (fun τ w hT' hw hc => t_root hw.1 hs hg (by omega) (t_demand ?_))
  have hd := dm_lt (by omega) (dm_in hs hg ho hp)
  rw [nI_clamp (by omega), hc _ hd]
  exact ⟨vp_inN hd (by decide), t_orN (cst_le (by omega) _) (hQ τ w.1.tu hT')⟩
theorem t_cb65 {Q : Int64 → wS → Prop} {kk : wS → Int64 → Prop} {L : List Wy} {c : Nat → Nat} (ok : ok24 σ t) (hW : WL σ t L) (hC : CW σ t c) (hc : ∀ d, c d ≤ OVR) (hn : L.length < 400) (hin : ∀ w, w ∈ L → okW s w) (hG : mG s ≤ 64) (hQ : ∀ v, v = mnl (sm c) OVR L → kk σ (lN v)) : ∀ n i x, i ≤ L.length → L.length - i < n → x ≤ OVR → mnl (sm c) x (L.drop i) = mnl (sm c) OVR L → l_X24_costBy_65 F t Q kk n σ (lN x) (nI i) := by
  have mo := MO
  intro n
  induction n with
  | zero => intro i x h1 h2; omega
  | succ n ih =>
    intro i x h1 h2 hx e
    unfold l_X24_costBy_65
    rw [hW.1]
    refine ⟨ok, ?_⟩
    by_cases q : i = L.length
    · rw [if_pos (nI_le (by omega) (by omega))]
      refine hQ x ?_
      rw [q, List.drop_length] at e
      exact e
    · have hi : i < L.length := by omega
      rw [if_neg (nI_ge hi (by omega))]
      refine t_sum ok hW hC hc hn hi (hin _ (List.getElem_mem hi)) hG (fun v hv => ?_)
      have ec := cap_le (x := L[i].2.2.2.2.2 + oc c L[i].2.2.1 + oc c L[i].2.2.2.1)
      have es : sm c L[i] ≤ OVR := ec
      rw [List.drop_eq_getElem_cons hi] at e
      rw [hv, nIl_1, nI_add]
      have em : (if lN (sm c L[i]) < lN x then lN (sm c L[i]) else lN x) = lN (if sm c L[i] < x then sm c L[i] else x) := by
        by_cases z : sm c L[i] < x
        · rw [if_pos z, if_pos ((pk_lLT (by omega) (by omega)).mpr z)]
        · rw [if_neg z, if_neg (fun y => z ((pk_lLT (by omega) (by omega)).mp y))]
      rw [em]
      refine ih (i + 1) _ (by omega) (by omega) ?_ e
      split <;> omega
theorem t_costBy {Q : Int64 → wS → Prop} {a b c : Int32} (hT : TT σ t S) (hM : MV S.1) (hF : 10000000000000000 ≤ F) (hQ : ∀ τ, Tu t σ τ → TT τ t (o_costBy S a b c).2 → Q (o_costBy S a b c).1 τ) : w_X24_costBy F σ t a b c Q := by
  have hs := hM.1.1
  have hG := hs.2.1
  have hN := hM.2.2
  unfold w_X24_costBy
  refine ⟨hT.ok, t_isExpr hT.1.1 (by omega) (fun ea => ?_) (fun x hx ha ea => ?_)⟩
  · have e2 : o_costBy S a b c = noT S 1 := by unfold o_costBy; rw [ea]
    rw [e2] at hQ
    rw [if_pos rfl]
    exact ⟨hT.ok, t_noT 1 (by decide) rfl hT hQ⟩
  rw [if_neg (by decide), ha, nI_clamp (by omega), (hT.1.1.2.1 _ hx).2.2.2.2.2]
  refine ⟨vp_inN (by omega) (by decide), ?_⟩
  by_cases h8 : S.1 8 x = 0
  · rw [if_pos (by rw [h8]; rfl)]
    refine t_isDem hT.ok (fun e => ?_) (fun o p ho hp eo ep e1 e2 => ?_)
    · have e2 : o_costBy S a b c = noT S 6 := by unfold o_costBy; rw [ea]; dsimp only; rw [if_pos h8]; rcases e with e | e <;> rw [e] <;> cases nm1 4 b <;> rfl
      rw [e2] at hQ
      rw [if_pos rfl]
      exact t_noT 6 (by decide) rfl hT hQ
    have e3 : o_costBy S a b c = (orN (mnl (sm (cst S.1)) OVR (wyE S.1 x o p)), S) := by unfold o_costBy; rw [ea]; dsimp only; rw [if_pos h8, e1, e2]
    rw [e3] at hQ
    rw [if_neg (by decide), eo, ep]
    refine tt_costs hT hM hF (fun τ w hT' hw hc => bnd_sI fun σ1 w1 v1 _ _ => ?_)
    have w1v : Tv GW t τ σ1 := ⟨w1.mono (by decide), by rw [w1.I (by decide)], by rw [w1.A (by decide)]⟩
    have hw1 := hw.tv w1v
    have L0 : WL σ1 t [] := ⟨v1, fun i h => absurd h (Nat.not_lt_zero i)⟩
    refine t_waysBy hw1 hs hM.1.2.1 hM.2.1.1 hM.2.1.2.1 L0 (by decide) hx ho hp (by omega) (fun τ2 w2 hL => ?_)
    rw [List.nil_append] at hL
    have hlen := wyE_len (s := S.1) (e := x) (o := o) (p := p)
    have W : Tv GC t σ τ2 := (w.trans (w1v.mono (by decide))).trans (w2.mono (by decide))
    have hc2 : CW τ2 t (cst S.1) := (hc.tw w1 (by decide)).tw w2.1 (by decide)
    refine t_cb65 (s := S.1) (F := F) (L := wyE S.1 x o p) (hw1.tv w2).1.1.1 hL hc2 (cst_le (by omega)) (by omega) (fun w hw => wyE_in hs hM.1.2.1 hM.2.1.1 hx ho hp hw) (by omega) (fun v hv => ?_) F 0 OVR (by omega) (by omega) (Nat.le_refl _) rfl
    have hv2 : v ≤ OVR := by
      rw [hv]
      have : ∀ (l : List Wy) (y : Nat), y ≤ OVR → mnl (sm (cst S.1)) y l ≤ OVR := by
        intro l
        induction l with
        | nil => intro y hy; exact hy
        | cons w l ih =>
          intro y hy
          refine ih _ ?_
          have := cap_le (x := w.2.2.2.2.2 + oc (cst S.1) w.2.2.1 + oc (cst S.1) w.2.2.2.1)
          have es : sm (cst S.1) w ≤ OVR := this
          dsimp only
          split <;> omega
      exact this _ _ (Nat.le_refl _)
    refine t_orN hv2 ?_
    rw [hv]
    exact hQ τ2 W.1.tu (tt_tv hT W (by decide))
  · have e2 : o_costBy S a b c = noT S 1 := by unfold o_costBy; rw [ea]; exact if_neg h8
    rw [e2] at hQ
    have := (sh_bnd hs hx).2.2.2
    rw [if_neg (show ¬ nI (S.1 8 x) = (0 : Int32) from nI_eqf (b := 0) (by omega) (by decide) h8)]
    exact ⟨hT.ok, t_noT 1 (by decide) rfl hT hQ⟩
abbrev GQ : List Nat := [2507, 2562, 2535, 2536, 2537, 2538, 2539, 2540, 12541, 2530, 2531, 2532, 12533, 22576]
theorem t_demands {Q : Int32 → wS → Prop} {a b c : Int32} (hT : TT σ t S) (hM : MV S.1) (hF : 10000000000000000 ≤ F) (hQ : ∀ τ, Tu t σ τ → TT τ t (o_demands S a b c).2 → Q (o_demands S a b c).1 τ) : w_X24_demands F σ t a b c Q := by
  have hs := hM.1.1
  have hG := hs.2.1
  have hN := hM.2.2
  unfold w_X24_demands
  refine ⟨hT.ok, t_isGroup hT.1.1 (by omega) (fun ea => ?_) (fun g hg ha ea => ?_)⟩
  · have e2 : o_demands S a b c = noA S 1 := by unfold o_demands; rw [ea]
    rw [e2] at hQ
    rw [if_pos rfl]
    exact t_no 1 (by decide) rfl hT hQ
  rw [if_neg (by decide)]
  refine t_isDem hT.ok (fun e => ?_) (fun o p ho hp eo ep e1 e2 => ?_)
  · have e2 : o_demands S a b c = noA S 6 := by unfold o_demands; rw [ea]; rcases e with e | e <;> rw [e] <;> cases nm1 4 b <;> rfl
    rw [e2] at hQ
    rw [if_pos rfl]
    exact t_no 6 (by decide) rfl hT hQ
  have e3 : o_demands S a b c = (nI (cnp (clo S.1 (dm (R S.1 g) o p)) 1920), S) := by unfold o_demands; rw [ea, e1, e2]
  rw [e3] at hQ
  rw [if_neg (by decide), ha, eo, ep]
  refine t_tells hT.1.1 hs hM.1.2.1 hM.2.1.1 (by omega) (fun τ w hL => ?_)
  have hT' := hT.tw w (by decide)
  have hw : Wx τ t S.1 := ⟨hT'.1.1, hL, hT'.1.2.1⟩
  refine t_root hw.1 hs hg (by omega) (t_demand (t_closes hw hs hM.1.2.1 hM.2.1.1 hM.2.1.2.1 hN (dm_in hs hg ho hp) (by omega) (fun τ2 K w2 hw2 _ _ => ?_)))
  exact hQ τ2 (w.tuT w2.1.tu) (tt_tv hT' w2 (by decide))
theorem cnp_s {P : Nat → Prop} {d : Nat} (h : P d) : cnp P (d + 1) = cnp P d + 1 := by
  show cnp P d + @ite _ (P d) (Classical.propDecidable _) 1 0 = _
  rw [if_pos h]
theorem cnp_n {P : Nat → Prop} {d : Nat} (h : ¬ P d) : cnp P (d + 1) = cnp P d + 0 := by
  show cnp P d + @ite _ (P d) (Classical.propDecidable _) 1 0 = _
  rw [if_neg h]
theorem t_w59 {Q : Int32 → wS → Prop} {a : Nat} {c K : Nat → Nat} {P : Nat → Prop} (ok : ok24 σ t) (hC : CW σ t c) (hc : ∀ d, c d ≤ OVR) (hK : KW σ t K) (hK1 : ∀ d, K d ≤ 1) (ha : a < 1920) (hle : c a ≤ MCH) (hP : ∀ d, P d ↔ K d = 1 ∧ c d ≤ c a) (hQ : Q (nI (cnp P 1920)) σ) : ∀ n d, d ≤ 1920 → 1920 - d < n → l_X24_within_59 F t Q n σ (nI a) (nI (cnp P d)) (nI d) := by
  have mo := MO
  intro n
  induction n with
  | zero => intro d h1 h2; omega
  | succ n ih =>
    intro d h1 h2
    unfold l_X24_within_59
    refine ⟨ok, ?_⟩
    by_cases q : d = 1920
    · rw [q, if_pos (by decide)]
      exact hQ
    · have hd : d < 1920 := by omega
      have hca := hc a
      have hcd := hc d
      rw [if_neg (show ¬ (1920 : Int32) ≤ nI d from nI_ge (b := 1920) hd (by decide)), nI_clamp (by omega), nI_clamp (by omega), hC a ha, hC d hd, hK d hd]
      refine ⟨vp_inN ha (by decide), ?_⟩
      rw [if_neg (show ¬ (1000000000000 : Int64) < lN (c a) from fun z => absurd ((pk_lLT (a := MCH) (by omega) (by omega)).mp z) (by omega))]
      refine ⟨vp_inN hd (by decide), fun v hv => ?_⟩
      have nx := ih (d + 1) (by omega) (by omega)
      rw [nIl_1, nI_add, hv]
      have hk := hK1 d
      by_cases hp : P d
      · obtain ⟨y1, y2⟩ := (hP d).mp hp
        have ev : (if nI (K d) = 0 then (0 : Int32) else if lN (c a) < lN (c d) then (0 : Int32) else (1 : Int32)) = nI 1 := by
          rw [y1, if_neg (by decide), if_neg (fun y => absurd ((pk_lLT (by omega) (by omega)).mp y) (by omega))]; rfl
        rw [ev, nI_add]
        rw [cnp_s hp] at nx
        exact nx
      · have ev : (if nI (K d) = 0 then (0 : Int32) else if lN (c a) < lN (c d) then (0 : Int32) else (1 : Int32)) = nI 0 := by
          by_cases k0 : K d = 0
          · rw [if_pos (by rw [k0]; rfl)]; rfl
          · rw [if_neg (show ¬ nI (K d) = (0 : Int32) from nI_eqf (b := 0) (by omega) (by decide) k0)]
            by_cases z : c a < c d
            · rw [if_pos ((pk_lLT (by omega) (by omega)).mpr z)]; rfl
            · exact absurd ((hP d).mpr ⟨by omega, by omega⟩) hp
        rw [ev, nI_add]
        rw [cnp_n hp] at nx
        exact nx
theorem t_within {Q : Int32 → wS → Prop} {a b c : Int32} (hT : TT σ t S) (hM : MV S.1) (hF : 10000000000000000 ≤ F) (hQ : ∀ τ, Tu t σ τ → TT τ t (o_within S a b c).2 → Q (o_within S a b c).1 τ) : w_X24_within F σ t a b c Q := by
  have mo := MO
  have hs := hM.1.1
  have hG := hs.2.1
  have hN := hM.2.2
  unfold w_X24_within
  refine ⟨hT.ok, t_isGroup hT.1.1 (by omega) (fun ea => ?_) (fun g hg ha ea => ?_)⟩
  · have e2 : o_within S a b c = noA S 1 := by unfold o_within; rw [ea]
    rw [e2] at hQ
    rw [if_pos rfl]
    exact t_no 1 (by decide) rfl hT hQ
  rw [if_neg (by decide)]
  refine t_isDem hT.ok (fun e => ?_) (fun o p ho hp eo ep e1 e2 => ?_)
  · have e2 : o_within S a b c = noA S 6 := by unfold o_within; rw [ea]; rcases e with e | e <;> rw [e] <;> cases nm1 4 b <;> rfl
    rw [e2] at hQ
    rw [if_pos rfl]
    exact t_no 6 (by decide) rfl hT hQ
  have e3 : o_within S a b c = (if cst S.1 (dm (R S.1 g) o p) ≤ MCH then nI (cnp (fun d => clo S.1 (dm (R S.1 g) o p) d ∧ cst S.1 d ≤ cst S.1 (dm (R S.1 g) o p)) 1920) else 0, S) := by unfold o_within; rw [ea, e1, e2]
  rw [e3] at hQ
  rw [if_neg (by decide), ha, eo, ep]
  have hd := dm_in (o := o) (p := p) hs hg ho hp
  have hd2 := dm_lt (by omega) hd
  refine tt_costs hT hM hF (fun τ w hT' hw hc => t_root hw.1 hs hg (by omega) (t_demand (t_closes hw hs hM.1.2.1 hM.2.1.1 hM.2.1.2.1 hN hd (by omega) (fun τ2 K w2 hw2 hK hK1 => ?_))))
  have hq := hQ τ2 (w.1.tuT w2.1.tu) (tt_tv hT' w2 (by decide))
  have hc2 : CW τ2 t (cst S.1) := hc.tw w2.1 (by decide)
  have hcl := cst_le (s := S.1) (by omega)
  by_cases z : cst S.1 (dm (R S.1 g) o p) ≤ MCH
  · rw [if_pos z] at hq
    exact t_w59 hw2.1.1.1 hc2 hcl hK (fun d => (hK1 d).1) hd2 z (fun d => ⟨fun y => ⟨(hK1 d).2.mpr y.1, y.2⟩, fun y => ⟨(hK1 d).2.mp y.1, y.2⟩⟩) hq F 0 (by omega) (by omega)
  · rw [if_neg z] at hq
    obtain ⟨n, rfl⟩ : ∃ n, F = n + 1 := ⟨F - 1, by omega⟩
    have := hcl (dm (R S.1 g) o p)
    show l_X24_within_59 _ _ _ (n + 1) _ _ _ _
    unfold l_X24_within_59
    rw [if_neg (by decide), nI_clamp (by omega), hc2 _ hd2]
    refine ⟨hw2.1.1.1, vp_inN hd2 (by decide), ?_⟩
    rw [if_pos (show (1000000000000 : Int64) < lN (cst S.1 (dm (R S.1 g) o p)) from (pk_lLT (a := MCH) (by omega) (by omega)).mpr (by omega))]
    exact hq
theorem t_wh45 {Q : Int32 → wS → Prop} {g o : Nat} {c : Nat → Nat} (hw : TM σ t s) (hs : Sh s) (hg : g < mG s) (hG : mG s ≤ 64) (ho : o < 5) (hC : CW σ t c) (hc : ∀ d, c d ≤ OVR) (hF : 200 ≤ F) (hQ : Q (wfn (fun p => c (dm (R s g) o (p + 1))) 5).1 σ) : ∀ n p, p ≤ 5 → 5 - p < n → l_X24_where_45 F t (nI g) (eI o) Q n σ (wfn (fun p => c (dm (R s g) o (p + 1))) p).1 (lN (wfn (fun p => c (dm (R s g) o (p + 1))) p).2) (nI p) := by
  have mo := MO
  have wl : ∀ p, (wfn (fun p => c (dm (R s g) o (p + 1))) p).2 ≤ OVR := by
    intro p
    induction p with
    | zero => show MCH + 1 ≤ OVR; omega
    | succ p ih =>
      unfold wfn
      split
      · exact hc _
      · exact ih
  intro n
  induction n with
  | zero => intro p h1 h2; omega
  | succ n ih =>
    intro p h1 h2
    unfold l_X24_where_45
    by_cases q : p = 5
    · rw [q, if_pos (by decide)]
      exact hQ
    · rw [if_neg (show ¬ (5 : Int32) ≤ nI p from nI_ge (b := 5) (by omega) (by decide))]
      have hd2 := dm_lt hG (dm_in (o := o) (p := p + 1) hs hg ho (by omega))
      refine ⟨hw.1.1, t_root hw hs hg (by omega) (t_demand (p := p + 1) ⟨?_, fun v hv => ?_⟩)⟩
      · exact vp_inN hd2 (by decide)
      · rw [nI_clamp (by omega), hC _ hd2] at hv
        have h3 := wl p
        have h4 := hc (dm (R s g) o (p + 1))
        have nx := ih (p + 1) (by omega) (by omega)
        have ew : wfn (fun p => c (dm (R s g) o (p + 1))) (p + 1) = if c (dm (R s g) o (p + 1)) < (wfn (fun p => c (dm (R s g) o (p + 1))) p).2 then (nI p, c (dm (R s g) o (p + 1))) else wfn (fun p => c (dm (R s g) o (p + 1))) p := rfl
        rw [hv, nIl_1, nI_add]
        rw [ew] at nx
        by_cases z : c (dm (R s g) o (p + 1)) < (wfn (fun p => c (dm (R s g) o (p + 1))) p).2
        · rw [if_neg (fun y => absurd ((pk_lLE (by omega) (by omega)).mp y) (by omega))]
          rw [if_pos z] at nx
          exact nx
        · rw [if_pos ((pk_lLE (by omega) (by omega)).mpr (by omega))]
          rw [if_neg z] at nx
          exact nx
theorem t_where {Q : Int32 → wS → Prop} {a b : Int32} (hT : TT σ t S) (hM : MV S.1) (hF : 10000000000000000 ≤ F) (hQ : ∀ τ, Tu t σ τ → TT τ t (o_where S a b).2 → Q (o_where S a b).1 τ) : w_X24_where F σ t a b Q := by
  have hs := hM.1.1
  have hG := hs.2.1
  have hN := hM.2.2
  unfold w_X24_where
  refine ⟨hT.ok, t_isGroup hT.1.1 (by omega) (fun ea => ?_) (fun g hg ha ea => ?_)⟩
  · have e2 : o_where S a b = noI S 1 := by unfold o_where; rw [ea]
    rw [e2] at hQ
    rw [if_pos rfl]
    exact t_noTen 1 (by decide) rfl hT hQ
  rw [if_neg (by decide)]
  refine t_isFm1 (N := 3) (by decide) rfl (fun e => ?_) (fun o ho eo e => ?_)
  · have e2 : o_where S a b = noI S 6 := by unfold o_where; rw [ea]; dsimp only; rw [e]
    rw [e2] at hQ
    rw [if_pos rfl]
    exact t_noTen 6 (by decide) rfl hT hQ
  have e2 : o_where S a b = ((wfn (fun p => cst S.1 (dm (R S.1 g) o (p + 1))) 5).1, S) := by unfold o_where; rw [ea]; dsimp only; rw [e]
  rw [e2] at hQ
  rw [if_neg (by decide), ha, eo]
  refine tt_costs hT hM hF (fun τ w hT' hw hc => ?_)
  exact t_wh45 hw.1 hs hg (by omega) ho hc (cst_le (by omega)) (by omega) (hQ τ w.1.tu hT') F 0 (by omega) (by omega)
theorem s19_mv {v : Nat} (h : MV s) (hv : v < 4096) : MV (s19 s v) := by
  obtain ⟨a, ⟨b, ⟨c1, c2⟩, d⟩, e⟩ := h
  exact ⟨a, ⟨b, ⟨show up (s 19) 0 v 0 < 4096 by rw [up_s]; exact hv, c2⟩, d⟩, e⟩
theorem s19_id {v : Nat} : s19 (s19 s v) (s 19 0) = s := by
  funext k
  unfold s19
  by_cases q : k = 19
  · rw [q, st_s, st_s]
    funext i
    by_cases z : i = 0
    · rw [z, up_s]
    · rw [up_n z, up_n z]
  · rw [st_n q, st_n q]
theorem t_worth {Q : Int64 → wS → Prop} {a b c k : Int32} (hT : TT σ t S) (hM : MV S.1) (hF : 10000000000000000 ≤ F) (hQ : ∀ τ, Tu t σ τ → TT τ t (o_worth S a b c k).2 → Q (o_worth S a b c k).1 τ) : w_X24_worth F σ t a b c k Q := by
  have mo := MO
  have hs := hM.1.1
  have hG := hs.2.1
  have hN := hM.2.2
  unfold w_X24_worth
  have b17 : o_worth S a b c k = noT S 1 → b_X24_worth_17 F t Q σ := fun e2 => by
    rw [e2] at hQ
    exact ⟨hT.ok, t_noT 1 (by decide) rfl hT hQ⟩
  refine ⟨hT.ok, t_isGroup hT.1.1 (by omega) (fun ea => ?_) (fun g hg ha ea => ?_)⟩
  · rw [if_pos rfl]
    exact b17 (by unfold o_worth; rw [ea] <;> cases wayN k <;> rfl)
  rw [if_neg (by decide)]
  refine t_isWay (fun ek => ?_) (fun w hw _ _ _ hk ek => ?_)
  · rw [if_pos rfl]
    exact b17 (by unfold o_worth; rw [ea, ek])
  rw [if_neg (by decide)]
  refine t_isDem hT.ok (fun e => ?_) (fun o p ho hp eo ep e1 e2 => ?_)
  · have e2 : o_worth S a b c k = noT S 6 := by unfold o_worth; rw [ea, ek]; rcases e with e | e <;> rw [e] <;> cases nm1 4 b <;> rfl
    rw [e2] at hQ
    rw [if_pos rfl]
    exact t_noT 6 (by decide) rfl hT hQ
  have e3 : o_worth S a b c k = (if cst S.1 (dm (R S.1 g) o p) ≤ MCH ∧ cst (s19 S.1 (clr (S.1 19 0) w)) (dm (R S.1 g) o p) ≤ MCH then lN (cst (s19 S.1 (clr (S.1 19 0) w)) (dm (R S.1 g) o p)) - lN (cst S.1 (dm (R S.1 g) o p)) else -1, S) := by unfold o_worth; rw [ea, ek, e1, e2]
  rw [e3] at hQ
  rw [if_neg (by decide), ha, eo, ep, hk]
  have hd := dm_lt (by omega) (dm_in (o := o) (p := p) hs hg ho hp)
  have h4 := hM.2.1.2.1.1
  refine t_root hT.1.1 hs hg (by omega) (t_demand (tt_costs hT hM hF (fun τ w1 hT1 hw1 hc1 => ?_)))
  rw [nI_clamp (by omega), hc1 _ hd]
  refine ⟨vp_inN hd (by decide), fun v28 hv => ?_⟩
  rw [hT1.1.2.1.1, clr_I hw]
  refine bnd_sI fun σ2 w2 v2 _ _ => ?_
  have hT2 := tt_19 hT1 w2 v2
  refine tt_costs (S := sM S (s19 S.1 (clr (S.1 19 0) w))) hT2 (s19_mv hM (clr_lt h4)) hF (fun τ3 w3 hT3 hw3 hc3 => ?_)
  have c3 : aJ τ3 12533 t (dm (R S.1 g) o p) = lN (cst (s19 S.1 (clr (S.1 19 0) w)) (dm (R S.1 g) o p)) := hc3 _ hd
  rw [c3, hT.1.2.1.1]
  intro v36 hv36
  refine bnd_sI fun σ4 w4 v4 _ _ => ?_
  have hT4 := tt_19 hT3 w4 v4
  have e5 : sM (sM S (s19 S.1 (clr (S.1 19 0) w))) (s19 (sM S (s19 S.1 (clr (S.1 19 0) w))).1 (S.1 19 0)) = S := by
    show (s19 (s19 S.1 (clr (S.1 19 0) w)) (S.1 19 0), S.2) = S
    rw [s19_id]
  rw [e5] at hT4
  have hq := hQ σ4 (w1.1.tuT (w2.tuT (w3.1.tuT w4.tu))) hT4
  have l1 := cst_le (s := S.1) (by omega) (dm (R S.1 g) o p)
  have l2 := cst_le (s := s19 S.1 (clr (S.1 19 0) w)) (show mG S.1 ≤ 64 by omega) (dm (R S.1 g) o p)
  rw [hv, hv36, show (1000000000000 : Int64) = lN MCH from rfl]
  generalize cst S.1 (dm (R S.1 g) o p) = x at hq l1 ⊢
  generalize cst (s19 S.1 (clr (S.1 19 0) w)) (dm (R S.1 g) o p) = y at hq l2 ⊢
  by_cases z : x ≤ MCH
  · rw [if_neg (fun q => absurd ((pk_lLT (by omega) (by omega)).mp q) (by omega))]
    by_cases z2 : y ≤ MCH
    · rw [if_pos ((pk_lLE (by omega) (by omega)).mpr z2)]
      rw [if_pos ⟨z, z2⟩] at hq
      exact hq
    · rw [if_neg (fun q => z2 ((pk_lLE (by omega) (by omega)).mp q))]
      rw [if_neg (fun q => z2 q.2)] at hq
      exact hq
  · rw [if_pos ((pk_lLT (by omega) (by omega)).mpr (by omega))]
    rw [if_neg (fun q => z q.1)] at hq
    exact hq
/-! prices -/
theorem t_noL {Q : Int64 → wS → Prop} {a : Int32} (b : Nat) (hb : b < 8) (ha : a = -nI b) (h : TT σ t S) (hQ : ∀ τ, Tu t σ τ → TT τ t (noL S b).2 → Q (noL S b).1 τ) : w_X24_no σ t a (fun r τ => Q r.toInt64 τ) := t_no b hb ha h hQ
theorem t_price {Q : Int64 → wS → Prop} {k a b r : Int32} (hT : TT σ t S) (hF : 1000 ≤ F) (hQ : ∀ τ, Tu t σ τ → TT τ t (o_price S k a b r).2 → Q (o_price S k a b r).1 τ) : w_X24_price F σ t k a b r Q := by
  unfold w_X24_price
  refine ⟨hT.ok, t_isFrom (N := 11) (by decide) rfl (fun ek => ?_) (fun k' hk' ek' ek => ?_)⟩
  · have e2 : o_price S k a b r = noL S 1 := by unfold o_price; rw [ek]
    rw [e2] at hQ
    rw [if_pos rfl]
    exact t_noL 1 (by decide) rfl hT hQ
  rw [if_neg (by decide)]
  have b52 : (num 1000001 a = none ∨ num 1000001 b = none ∨ num 1000001 r = none) → b_X24_price_52 F t Q σ := fun e => by
    have e2 : o_price S k a b r = noL S 6 := by unfold o_price; rw [ek]; rcases e with e | e | e <;> rw [e] <;> cases num 1000001 a <;> cases num 1000001 b <;> rfl
    rw [e2] at hQ
    exact ⟨hT.ok, t_noL 6 (by decide) rfl hT hQ⟩
  refine t_isFrom (N := 1000000) (by decide) rfl (fun e => ?_) (fun a' ha' ea e1 => ?_)
  · rw [if_pos rfl]; exact b52 (Or.inl e)
  rw [if_neg (by decide)]
  refine t_isFrom (N := 1000000) (by decide) rfl (fun e => ?_) (fun b' hb' eb e2 => ?_)
  · rw [if_pos rfl]; exact b52 (Or.inr (Or.inl e))
  rw [if_neg (by decide)]
  refine t_isFrom (N := 1000000) (by decide) rfl (fun e => ?_) (fun r' hr' er e3 => ?_)
  · rw [if_pos rfl]; exact b52 (Or.inr (Or.inr e))
  rw [if_neg (by decide)]
  have eo : o_price S k a b r = (lN (prc k' a' b' r'), sTr S (rnl (0, S.2.2.2.2.2) (prl k'))) := by unfold o_price; rw [ek, e1, e2, e3]
  rw [eo] at hQ
  refine bnd_sI fun σ1 w1 v1 _ _ => ?_
  rw [ek', ea, eb, er, nI_l (by omega), nI_l (by omega), nI_l (by omega)]
  have hz := hT.2.1.2.2.2
  refine t_priceOf (x := (0, S.2.2.2.2.2)) (w1.ok hT.ok) ⟨v1, by rw [w1.A (by decide)]; exact hz.2.2.2⟩ (show 0 < 900 by decide) hk' (by omega) (by omega) (fun τ w h => ?_)
  have W : Tw GR t σ τ := (w1.mono (by decide)).trans w
  refine hQ τ W.tu ⟨⟨hT.1.1.tw W (by decide), hT.1.2.1.tw W (by decide), hT.1.2.2.tw W (by decide)⟩, ⟨hT.2.1.1.tw W (by decide), hT.2.1.2.1.tw W (by decide), hT.2.1.2.2.1.tw W (by decide), ?_, ?_, h⟩, hT.2.2.1.tw W (by decide), hT.2.2.2.tw W (by decide)⟩
  · rw [W.I (by decide)]; exact hz.1
  · rw [W.I (by decide)]; exact hz.2.1
theorem t_trace {Q : Int32 → wS → Prop} {a : Int32} (hT : TT σ t S) (hB : S.2.2.2.2.1 < 1000) (hQ : ∀ τ, Tu t σ τ → TT τ t (o_trace S a).2 → Q (o_trace S a).1 τ) : w_X24_trace σ t a Q := by
  unfold w_X24_trace
  have hz := hT.2.1.2.2.2.2.2
  have em : (if nI S.2.2.2.2.1 < (20 : Int32) then nI S.2.2.2.2.1 else (20 : Int32)) = nI (min 20 S.2.2.2.2.1) := by
    by_cases q : S.2.2.2.2.1 < 20
    · rw [if_pos (show nI S.2.2.2.2.1 < (20 : Int32) from nI_lt (b := 20) q (by decide)), Nat.min_eq_right (by omega)]
    · rw [if_neg (show ¬ nI S.2.2.2.2.1 < (20 : Int32) from nI_nlt (b := 20) (by omega) (by omega)), Nat.min_eq_left (by omega)]; rfl
  have b0 : num (min 20 S.2.2.2.2.1) a = none → Q (-1) σ := fun e => by
    have e2 : o_trace S a = (-1, S) := by unfold o_trace; rw [e]
    rw [e2] at hQ
    exact hQ σ Tu.refl hT
  rw [hz.1, em]
  rcases num_cs (N := min 20 S.2.2.2.2.1) (by omega) a with ⟨n, hn, ha, e⟩ | ⟨e, h | ⟨h, h'⟩⟩
  · have e2 : o_trace S a = (S.2.2.2.2.2 n, S) := by unfold o_trace; rw [e]
    rw [e2] at hQ
    rw [ha, if_neg (nI_pos (by omega)), if_neg (nI_ge hn (by omega)), nI_clamp (by omega), hz.2]
    exact ⟨hT.ok, vp_inN (by omega) (by decide), hQ σ Tu.refl hT⟩
  · rw [if_pos h]; exact b0 e
  · rw [if_neg h, if_pos h']; exact ⟨hT.ok, b0 e⟩
end PT
