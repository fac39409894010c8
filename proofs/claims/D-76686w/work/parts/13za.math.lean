set_option linter.unusedVariables false
set_option maxRecDepth 10000
/-! ===== what holds all the time ===== -/
section PM
variable {s : mS} {S : gS}
def MW (s : mS) : Prop := MV s ∧ s 19 0 ||| 137 = s 19 0 ∧ ∀ e r f, mN s ≤ e → r < 7 → f ≤ 64 → s 16 (wi e r f) = 0
def IV (S : gS) : Prop := (MW S.1 ∧ AV S) ∧ (PV S ∧ S.2.1 5 2 ≤ 1 ∧ (S.2.1 5 2 = 1 → MW S.2.2.1)) ∧ S.2.2.2.2.1 < 900
theorem wi_inj {e r f e' r' f' : Nat} (h1 : r < 7) (h2 : f ≤ 64) (h3 : r' < 7) (h4 : f' ≤ 64) (h : wi e r f = wi e' r' f') : e = e' ∧ r = r' ∧ f = f' := by
  unfold wi at h
  have a : (e * 7 + r) * 65 + f = (e' * 7 + r') * 65 + f' := h
  have b : e * 7 + r = e' * 7 + r' := by omega
  have c : f = f' := by omega
  refine ⟨by omega, by omega, c⟩
theorem mw_k {s' : mS} (h : MW s) (a : Sh s' ∧ Lo s' ∧ No s') (b : ∀ k, 10 ≤ k → s' k = s k) (c : mN s ≤ mN s') (d : mN s' ≤ 64) : MW s' := by
  obtain ⟨h1, h2, h3⟩ := h
  refine ⟨mv_k h1 a (fun k hk _ _ _ => b k hk) (fun i => by rw [b 16 (by decide)]; exact h1.2.1.2.2 i) d, by rw [b 19 (by decide)]; exact h2, fun e r f he hr hf => by rw [b 16 (by decide)]; exact h3 e r f (by omega) hr hf⟩
theorem fir_mw {e r f : Nat} (h : MW s) (hk : NK s e r f) (hn : mN s + nws s e r f ≤ 64) : MW (fir s e r f) ∧ mN s ≤ mN (fir s e r f) := by
  obtain ⟨h1, h2, h3⟩ := h
  have h1' := h1
  obtain ⟨⟨hs, l, n⟩, -, hN⟩ := h1'
  obtain ⟨k1, k2, k3, k4, k5⟩ := fir_ok hs l n hN hk
  have hle : mN s ≤ mN (fir s e r f) := by
    unfold fir
    by_cases r4 : r = 4
    · subst r4
      rw [if_pos rfl]
      have hf := (hk.2.2.2.2 (by decide)).1
      obtain ⟨m1, m2, m3, m4⟩ := mrg_ok (s := s0f s e 4 f) hs l (sx_6 hs hk.1) (sx_6 hs hf) (once_col l hk)
      show _ ≤ mrg (s0f s e 4 f) (s 6 e) (s 6 f) 0 0
      rw [m4 0 (by decide) (by decide)]
      exact Nat.le_refl _
    · rw [if_neg r4]
      by_cases r0 : r = 0
      · rw [if_pos r0]
        obtain ⟨m1, m2, m3, m4, m5⟩ := fin2_ok (s := s0f s e r f) (y := (s0f s e r f, 0)) (s0_sh hs) (s0_lo l) (s0_nk hk) r4 Old.refl (s0_sh hs) (s0_lo l) (s0_no n) (show mN s < 144 by omega) (fun z => by omega)
        rw [m5]
        show mN s ≤ mN s + _
        omega
      · rw [if_neg r0]
        obtain ⟨t1, t2, t3, t4, t5, t6, t7, t8⟩ := tel_ok (s := s0f s e r f) (x := brk (s0f s e r f) e r f) (s0_sh hs) (s0_lo l) (s0_no n) (show mN s < 144 by omega) (brk_okx (s0_sh hs) (s0_lo l) (s0_nk hk) (by omega) r4)
        have hm : mN (tel (s0f s e r f) (brk (s0f s e r f) e r f)).1 ≤ mN s + 1 := by
          rw [t8]
          show mN s + _ ≤ mN s + 1
          split <;> omega
        obtain ⟨m1, m2, m3, m4, m5⟩ := fin2_ok (s := s0f s e r f) (s0_sh hs) (s0_lo l) (s0_nk hk) r4 t7 t1 t2 t3 (by omega) (fun _ => ⟨t4, t5, t6⟩)
        rw [m5]
        have : mN s ≤ mN (tel (s0f s e r f) (brk (s0f s e r f) e r f)).1 := t7.1.1
        omega
  refine ⟨⟨fir_mv h1 hk hn, ?_, fun e' r' f' he hr hf => ?_⟩, hle⟩
  · rw [k4 19 (by decide)]; exact h2
  · rw [k4 16 (by decide)]
    show up (s 16) (wi e r f) 1 (wi e' r' f') = 0
    have hf64 : f ≤ 64 := by
      by_cases r0 : r = 0
      · exact Nat.le_of_eq (hk.2.2.2.1 r0).2
      · have := (hk.2.2.2.2 (by omega)).1
        omega
    rw [up_n (fun z => by
      have := (wi_inj hr hf hk.2.2.1 hf64 z).1
      have := hk.1
      omega)]
    exact h3 e' r' f' (by omega) hr hf
theorem exl_mw : ∀ n (s : mS) k, MW s → MW (exl n s k).2 ∧ mN s ≤ mN (exl n s k).2 := by
  intro n
  induction n with
  | zero => intro s k h; exact ⟨h, Nat.le_refl _⟩
  | succ n ih =>
    intro s k h
    unfold exl
    split
    · exact ⟨h, Nat.le_refl _⟩
    · rename_i e r f hf
      by_cases q : 64 < mN s + nws s e r f
      · rw [if_pos q]; exact ⟨h, Nat.le_refl _⟩
      · rw [if_neg q]
        obtain ⟨a, b⟩ := fir_mw h (nk_of hf) (by omega)
        obtain ⟨c, d⟩ := ih (fir s e r f) (k + 1) a
        exact ⟨c, Nat.le_trans b d⟩
theorem nwx_mw {k p x y : Nat} (h : MW s) (hN : mN s ≠ 64) (ho : okx s k p x y) (hl : lik s k p x y = none) : MW (nwx s k p x y) ∧ mN s ≤ mN (nwx s k p x y) := by
  obtain ⟨⟨hs, l, n⟩, -, hN2⟩ := h.1
  obtain ⟨o1, o2, o3, o4, o5⟩ := nwx_old (s := s) (k := k) (p := p) (x := x) (y := y) hs
  exact ⟨mw_k h (nwx_ok hs l n (by omega) ho hl) o1.2.2.2 o1.1.1 (by rw [o4]; omega), o1.1.1⟩
theorem s20_mw {v : Nat} (h : MW s) : MW (s20 s v) := h
theorem dl1_mw (h : MW s) (hG : 0 < mG s) : MW (dl1 s).1 ∧ mN s ≤ mN (dl1 s).1 ∧ 0 < mG (dl1 s).1 := by
  have hm := dl1_mv h.1 hG
  refine ⟨?_, ?_, hm.2⟩
  · unfold dl1
    split
    · exact s20_mw h
    · rename_i q
      have c4 : drw (dsd (s 20 0)) 4 < 4 := drw_lt (by decide)
      have x4 : drw (dsd (dsd (s 20 0))) (mG s) < mG s := drw_lt hG
      have y4 : drw (dsd (dsd (dsd (s 20 0)))) (mG s) < mG s := drw_lt hG
      generalize drw (dsd (s 20 0)) 4 = c at q c4 ⊢
      generalize drw (dsd (dsd (s 20 0))) (mG s) = x at q x4 ⊢
      generalize drw (dsd (dsd (dsd (s 20 0)))) (mG s) = y at q y4 ⊢
      generalize dsd (dsd (dsd (s 20 0))) = v
      have hl : lik s 5 c x y = none := by
        cases hh : lik s 5 c x y with
        | none => rfl
        | some e => exact absurd (Or.inr (Or.inr (by rw [hh]; exact fun z => (nomatch z)))) q
      exact (nwx_mw (s := s20 s v) (k := 5) (s20_mw h) (fun z => q (Or.inl z)) ⟨by decide, fun z => absurd z (by decide), fun z => absurd z (by decide), fun _ => c4, fun _ => x4, fun _ => y4, fun z => absurd z (by decide)⟩ hl).1
  · unfold dl1
    split
    · exact Nat.le_refl _
    · exact (nwx_old (s := s20 s (dsd (dsd (dsd (s 20 0))))) h.1.1.1).1.1.1
theorem dll_mw : ∀ n (s : mS) k, MW s → 0 < mG s → MW (dll n s k).1 ∧ mN s ≤ mN (dll n s k).1 := by
  intro n
  induction n with
  | zero => intro s k h _; exact ⟨h, Nat.le_refl _⟩
  | succ n ih =>
    intro s k h hG
    obtain ⟨a, b, c⟩ := dl1_mw h hG
    obtain ⟨d, e⟩ := ih (dl1 s).1 (k + (dl1 s).2) a c
    exact ⟨d, Nat.le_trans b e⟩
/-! the whole state -/
theorem iv_sh {A : mS} (h : IV S) (hA : ∀ k, 5 ≤ k → A k = S.2.1 k) (hv : AV (S.1, A, S.2.2)) : IV (S.1, A, S.2.2) := by
  obtain ⟨⟨h1, h2⟩, ⟨h3, h4, h5⟩, h6⟩ := h
  refine ⟨⟨h1, hv⟩, ⟨?_, ?_, ?_⟩, h6⟩
  · show A 5 1 ≤ 120 ∧ (A 5 1 ≠ 0 → ∃ s d L, (MV s ∧ Dm s d ∧ cst s d ≤ MCH) ∧ pl s 122 d 0 = some L ∧ L.length = A 5 1 ∧ AtL A 0 L)
    rw [hA 5 (by decide)]
    refine ⟨h3.1, fun z => ?_⟩
    obtain ⟨s, d, L, a, b, c, e⟩ := h3.2 z
    exact ⟨s, d, L, a, b, c, fun j hj k k1 k2 => by rw [hA k (by omega)]; exact e j hj k k1 k2⟩
  · show A 5 2 ≤ 1
    rw [hA 5 (by decide)]; exact h4
  · show A 5 2 = 1 → _
    rw [hA 5 (by decide)]; exact h5
theorem iv_rfu {b : Nat} (h : IV S) : IV (rfu S b) := iv_sh (S := S) (A := st S.2.1 0 (up (S.2.1 0) b (S.2.1 0 b + 1))) h (fun k hk => st_n (by omega)) h.1.2
theorem iv_sM {s' : mS} (h : IV S) (a : MW s') (b : mN S.1 ≤ mN s') : IV (sM S s') := by
  obtain ⟨⟨h1, h2⟩, ⟨h3, h4, h5⟩, h6⟩ := h
  refine ⟨⟨a, fun i hi => ?_⟩, ⟨h3, h4, h5⟩, h6⟩
  obtain ⟨p1, p2, p3, p4⟩ := h2 i hi
  exact ⟨p1, p2, p3, fun z => Nat.lt_of_lt_of_le (p4 z) b⟩
theorem iv_sCl {c : Nat → Int64} (h : IV S) : IV (sCl S c) := h
theorem iv_sTr {x : trS} (h : IV S) (hx : x.1 < 900) : IV (sTr S x) := ⟨h.1, h.2.1, hx⟩
theorem iv_sF {v : Nat} (h : IV S) : IV (sF S v) := by
  obtain ⟨⟨h1, h2⟩, ⟨h3, h4, h5⟩, h6⟩ := h
  refine ⟨⟨h1, h2⟩, ⟨?_, ?_, ?_⟩, h6⟩
  · show up (S.2.1 5) 0 v 1 ≤ 120 ∧ (up (S.2.1 5) 0 v 1 ≠ 0 → ∃ s d L, (MV s ∧ Dm s d ∧ cst s d ≤ MCH) ∧ pl s 122 d 0 = some L ∧ L.length = up (S.2.1 5) 0 v 1 ∧ AtL (sF S v).2.1 0 L)
    rw [up_n (by decide)]
    refine ⟨h3.1, fun z => ?_⟩
    obtain ⟨s, d, L, a, b, c, e⟩ := h3.2 z
    refine ⟨s, d, L, a, b, c, fun j hj k k1 k2 => ?_⟩
    show st S.2.1 5 (up (S.2.1 5) 0 v) k _ = _
    rw [st_n (by omega)]
    exact e j hj k k1 k2
  · show up (S.2.1 5) 0 v 2 ≤ 1
    rw [up_n (by decide)]; exact h4
  · show up (S.2.1 5) 0 v 2 = 1 → _
    rw [up_n (by decide)]; exact h5
theorem iv_row {a o n : Int32} (h : IV S) : IV (o_row S a o n).2 := by
  unfold o_row
  rcases num_cs (N := 8) (by decide) a with ⟨k, hk, -, e⟩ | ⟨e, -⟩
  · rw [e]
    dsimp only
    split
    · exact iv_rfu h
    · rcases num_cs (N := 4) (by decide) o with ⟨p, hp, -, e2⟩ | ⟨e2, -⟩
      · rw [e2]
        dsimp only
        rcases num_cs (N := 161) (by decide) n with ⟨m, hm, -, e3⟩ | ⟨e3, -⟩
        · rw [e3]
          dsimp only
          refine iv_sCl (iv_sh (S := S) (A := st (st (st S.2.1 1 (up (S.2.1 1) k 1)) 2 (up (S.2.1 2) k p)) 3 (up (S.2.1 3) k m)) h (fun x hx => by rw [st_n (by omega), st_n (by omega), st_n (by omega)]) (fun i hi => ?_))
          obtain ⟨p1, p2, p3, p4⟩ := h.1.2 i hi
          show up (S.2.1 1) k 1 i < 3 ∧ up (S.2.1 2) k p i < 4 ∧ up (S.2.1 3) k m i ≤ 160 ∧ (up (S.2.1 1) k 1 i = 2 → S.2.1 4 i < mN S.1)
          by_cases z : i = k
          · rw [z, up_s, up_s, up_s]
            exact ⟨by decide, hp, by omega, fun y => absurd y (by decide)⟩
          · rw [up_n z, up_n z, up_n z]
            exact ⟨p1, p2, p3, p4⟩
        · rw [e3]; exact iv_rfu h
      · rw [e2]; exact iv_rfu h
  · rw [e]; exact iv_rfu h
theorem iv_set {a i : Int32} {v : Int64} (h : IV S) : IV (o_set S a i v).2 := by
  unfold o_set
  split
  · exact iv_rfu h
  · split
    · exact iv_rfu h
    · split
      · exact iv_rfu h
      · split
        · exact iv_rfu h
        · exact iv_sCl h
theorem iv_copy {a b i j n : Int32} (h : IV S) : IV (o_copy S a b i j n).2 := by
  unfold o_copy
  split
  · split
    · exact iv_rfu h
    · split
      · exact iv_rfu h
      · split
        · exact iv_rfu h
        · split
          · exact iv_rfu h
          · exact iv_sCl h
  · exact iv_rfu h
theorem iv_element {a i : Int32} (h : IV S) : IV (o_element S a i).2 := by
  unfold o_element
  split
  · exact h
  · split
    · split <;> exact h
    · exact h
theorem iv_show {a e : Int32} (h : IV S) : IV (o_show S a e).2 := by
  unfold o_show
  rcases num_cs (N := 8) (by decide) a with ⟨k, hk, -, e1⟩ | ⟨e1, -⟩
  · rw [e1]
    dsimp only
    split
    · refine iv_sh (S := S) (A := st S.2.1 1 (up (S.2.1 1) k 0)) h (fun x hx => st_n (by omega)) (fun i hi => ?_)
      obtain ⟨p1, p2, p3, p4⟩ := h.1.2 i hi
      show up (S.2.1 1) k 0 i < 3 ∧ S.2.1 2 i < 4 ∧ S.2.1 3 i ≤ 160 ∧ (up (S.2.1 1) k 0 i = 2 → S.2.1 4 i < mN S.1)
      by_cases z : i = k
      · rw [z, up_s]
        rw [z] at p2 p3
        exact ⟨by decide, p2, p3, fun y => absurd y (by decide)⟩
      · rw [up_n z]; exact ⟨p1, p2, p3, p4⟩
    · have hN := h.1.1.1.2.2
      rcases num_cs (N := mN S.1) (by omega) e with ⟨x, hx, -, e2⟩ | ⟨e2, -⟩
      · rw [e2]
        dsimp only
        refine iv_sh (S := S) (A := st (st S.2.1 1 (up (S.2.1 1) k 2)) 4 (up (S.2.1 4) k x)) h (fun x hx => by rw [st_n (by omega), st_n (by omega)]) (fun i hi => ?_)
        obtain ⟨p1, p2, p3, p4⟩ := h.1.2 i hi
        show up (S.2.1 1) k 2 i < 3 ∧ S.2.1 2 i < 4 ∧ S.2.1 3 i ≤ 160 ∧ (up (S.2.1 1) k 2 i = 2 → up (S.2.1 4) k x i < mN S.1)
        by_cases z : i = k
        · rw [z, up_s, up_s]
          rw [z] at p2 p3
          exact ⟨by decide, p2, p3, fun _ => hx⟩
        · rw [up_n z, up_n z]; exact ⟨p1, p2, p3, p4⟩
      · rw [e2]; exact iv_rfu h
  · rw [e1]; exact iv_rfu h
theorem iv_holds {a : Int32} (h : IV S) : IV (o_holds S a).2 := by
  unfold o_holds
  split
  · exact h
  · split
    · exact h
    · split <;> exact h
theorem iv_says {a b : Int32} (h : IV S) : IV (o_says S a b).2 := by
  unfold o_says
  split
  · split
    · exact iv_rfu h
    · split
      · exact iv_rfu h
      · exact h
  · exact iv_rfu h
theorem iv_table {r c o p : Int32} (h : IV S) : IV (o_table S r c o p).2 := by
  unfold o_table
  split
  · exact iv_rfu h
  · rename_i q0
    rcases num_cs (N := 1000001) (by decide) r with ⟨r', hr, er, e1⟩ | ⟨e1, -⟩
    · rw [e1]
      rcases num_cs (N := 16) (by decide) c with ⟨c', hc, ec, e2⟩ | ⟨e2, -⟩
      · rw [e2]
        dsimp only
        have r1 : 1 ≤ r' := by
          rcases Nat.lt_or_ge r' 1 with z | z
          · exact absurd (Or.inl (by rw [er, show r' = 0 by omega]; rfl)) q0
          · exact z
        have c1 : 1 ≤ c' := by
          rcases Nat.lt_or_ge c' 1 with z | z
          · exact absurd (Or.inr (by rw [ec, show c' = 0 by omega]; rfl)) q0
          · exact z
        cases e3 : ord c' o with
        | none => exact iv_rfu h
        | some o' =>
          cases e4 : plc c' p with
          | none => exact iv_rfu h
          | some p' =>
            dsimp only
            split
            · exact iv_rfu h
            · rename_i q8
              have ho5 : o' < 5 := by
                unfold ord at e3
                split at e3
                · cases e3; decide
                · rcases num_cs (N := 4) (by decide) o with ⟨x, hx, -, e⟩ | ⟨e, -⟩
                  · rw [e] at e3
                    dsimp only at e3
                    split at e3
                    · cases e3; omega
                    · cases e3
                  · rw [e] at e3; cases e3
              have hp5 : p' < 5 := by
                unfold plc at e4
                rcases num_cs (N := 5) (by decide) p with ⟨x, hx, -, e⟩ | ⟨e, -⟩
                · rw [e] at e4
                  dsimp only at e4
                  split at e4
                  · cases e4; exact hx
                  · cases e4
                · rw [e] at e4; cases e4
              obtain ⟨⟨⟨hs, l, n⟩, ⟨⟨hb1, hb2⟩, ⟨hx1, hx2⟩, hB⟩, hN⟩, hw1, hw2⟩ := h.1.1
              obtain ⟨s1, s2, s3, s4, s5⟩ := hs
              have hlt : ∀ i, i < up (S.1 10) 0 (S.1 10 0 + 1) 0 → i ≠ S.1 10 0 → i < S.1 10 0 := fun i hi hne => by rw [up_s] at hi; omega
              have e12 : ∀ p, p < S.1 10 0 → up (S.1 12) (S.1 10 0) c' p = S.1 12 p := fun p hp => up_n (by omega)
              refine iv_sM h ⟨⟨⟨⟨s1, s2, s3, ?_, fun e he => ?_⟩, ⟨l.1, l.2.1, fun e he h8 => ?_, l.2.2.2⟩, n⟩, ⟨⟨fun i hi => ?_, hb2⟩, ⟨hx1, fun i hi => ?_⟩, hB⟩, hN⟩, hw1, hw2⟩ (Nat.le_refl _)
              · show up (S.1 10) 0 (S.1 10 0 + 1) 0 ≤ 8
                rw [up_s]; omega
              · obtain ⟨t1, t2, t3, t4, t5, t6, t7, t8⟩ := s5 e he
                exact ⟨t1, t2, t3, fun z => by
                  show S.1 3 e < up (S.1 10) 0 (S.1 10 0 + 1) 0
                  rw [up_s]
                  have := t4 z
                  omega, t5, t6, t7, t8⟩
              · obtain ⟨l1, l2⟩ := l.2.2.1 e he h8
                refine ⟨?_, l2⟩
                have h8' : S.1 8 e = 0 := h8
                have : xc (adt S.1 r' c' o' p') (S.1 9) e = xc S.1 (S.1 9) e := by
                  unfold xc
                  show (if S.1 2 e = 1 then up (S.1 12) (S.1 10 0) c' (S.1 3 e) else _) = _
                  by_cases k1 : S.1 2 e = 1
                  · rw [if_pos k1, if_pos k1, e12 _ ((s5 e he).2.2.2.1 k1)]
                  · rw [if_neg k1, if_neg k1]
                    rfl
                show S.1 9 (R S.1 (S.1 6 e)) = xc (adt S.1 r' c' o' p') (S.1 9) e
                rw [this]; exact l1
              · show (1 ≤ up (S.1 11) (S.1 10 0) r' i ∧ up (S.1 11) (S.1 10 0) r' i ≤ 1000000) ∧ 1 ≤ up (S.1 12) (S.1 10 0) c' i ∧ up (S.1 12) (S.1 10 0) c' i < 16
                by_cases z : i = S.1 10 0
                · rw [z, up_s, up_s]; exact ⟨⟨r1, by omega⟩, c1, hc⟩
                · rw [up_n z, up_n z]; exact hb1 i (hlt i hi z)
              · show up (S.1 13) (S.1 10 0) o' i < 5 ∧ up (S.1 14) (S.1 10 0) p' i < 5
                by_cases z : i = S.1 10 0
                · rw [z, up_s, up_s]; exact ⟨ho5, hp5⟩
                · rw [up_n z, up_n z]; exact hx2 i (hlt i hi z)
      · rw [e2]; exact iv_rfu h
    · rw [e1]; exact iv_rfu h
theorem iv_tableOf {a b : Int32} (h : IV S) : IV (o_tableOf S a b).2 := by
  unfold o_tableOf
  split
  · exact h
  · exact iv_rfu h
theorem iv_distinct {a v : Int32} (h : IV S) : IV (o_distinct S a v).2 := by
  unfold o_distinct
  rcases num_cs (N := 4) (by decide) a with ⟨k, hk, -, e1⟩ | ⟨e1, -⟩
  · rw [e1]
    dsimp only
    split
    · exact iv_rfu h
    · rename_i q0
      rcases num_cs (N := 1000001) (by decide) v with ⟨n, hn, ev, e2⟩ | ⟨e2, -⟩
      · rw [e2]
        dsimp only
        have r1 : 1 ≤ n := by
          rcases Nat.lt_or_ge n 1 with z | z
          · exact absurd (by rw [ev, show n = 0 by omega]; rfl) q0
          · exact z
        obtain ⟨⟨a1, ⟨⟨hb1, hb2⟩, hx, hB⟩, hN⟩, hw1, hw2⟩ := h.1.1
        refine iv_sM h ⟨⟨a1, ⟨⟨hb1, fun i hi => ?_⟩, hx, hB⟩, hN⟩, hw1, hw2⟩ (Nat.le_refl _)
        show 1 ≤ up (S.1 15) k n i ∧ up (S.1 15) k n i ≤ 1000000
        by_cases z : i = k
        · rw [z, up_s]; omega
        · rw [up_n z]; exact hb2 i hi
      · rw [e2]; exact iv_rfu h
  · rw [e1]; exact iv_rfu h
theorem iv_tlo {k p x y : Nat} (h : IV S) (ho : okx S.1 k p x y) : IV (tlo S k p x y).2 := by
  unfold tlo
  split
  · exact h
  · rename_i hl
    split
    · exact iv_rfu h
    · rename_i q
      obtain ⟨a, b⟩ := nwx_mw h.1.1 q ho hl
      exact iv_sM h a b
theorem mayK_x {k p x y : Nat} (h : mayK s k p x y = true) : (s 9 (R s x)).testBit (if k = 3 then p / 2 else p) = true := by
  unfold mayK at h
  exact (Bool.and_eq_true _ _ ▸ h).1
theorem iv_scan {a : Int32} (h : IV S) : IV (o_scan S a).2 := by
  unfold o_scan
  have h8 := h.1.1.1.1.1.2.2.2.1
  rcases num_cs (N := S.1 10 0) (by omega) a with ⟨i, hi, -, e⟩ | ⟨e, -⟩
  · rw [e]
    exact iv_tlo h ⟨Or.inl rfl, fun _ => ⟨hi, (h.1.1.1.2.1.1.1 i hi).2.2⟩, fun z => absurd z (by decide), fun z => absurd z (by decide), fun z => absurd rfl z, fun z => absurd z (by decide), fun z => absurd z (by decide)⟩
  · rw [e]; exact iv_rfu h
theorem iv_keep {p x : Int32} (h : IV S) : IV (o_keep S p x).2 := by
  unfold o_keep
  have hG := h.1.1.1.1.1.2.1
  have hN := h.1.1.1.2.2
  rcases num_cs (N := mG S.1) (by omega) x with ⟨g, hg, -, e⟩ | ⟨e, -⟩
  · rw [e]
    dsimp only
    rcases num_cs (N := 8) (by decide) p with ⟨q, hq, -, e2⟩ | ⟨e2, -⟩
    · rw [e2]
      dsimp only
      split
      · exact iv_tlo h ⟨Or.inr (Or.inl rfl), fun z => absurd z (by decide), fun _ => hq, fun z => absurd z (by decide), fun _ => hg, fun _ => hg, fun z => absurd z (by decide)⟩
      · exact iv_rfu h
    · rw [e2]; exact iv_rfu h
  · rw [e]; exact iv_rfu h
theorem iv_tally {c x : Int32} (h : IV S) : IV (o_tally S c x).2 := by
  unfold o_tally
  have hG := h.1.1.1.1.1.2.1
  have hN := h.1.1.1.2.2
  rcases num_cs (N := 4) (by decide) c with ⟨q, hq, -, e2⟩ | ⟨e2, -⟩
  · rw [e2]
    rcases num_cs (N := mG S.1) (by omega) x with ⟨g, hg, -, e⟩ | ⟨e, -⟩
    · rw [e]
      dsimp only
      split
      · rename_i hm
        exact iv_tlo h ⟨Or.inr (Or.inr (Or.inl rfl)), fun z => absurd z (by decide), fun z => absurd z (by decide), fun _ => hq, fun _ => hg, fun _ => hg, fun _ => mayK_x hm⟩
      · exact iv_rfu h
    · rw [e]; exact iv_rfu h
  · rw [e2]; exact iv_rfu h
theorem iv_two {k : Nat} {c x y : Int32} (hk : k = 5 ∨ k = 6) (h : IV S) : IV (o_two S k c x y).2 := by
  unfold o_two
  have hG := h.1.1.1.1.1.2.1
  have hN := h.1.1.1.2.2
  rcases num_cs (N := 4) (by decide) c with ⟨q, hq, -, e2⟩ | ⟨e2, -⟩
  · rw [e2]
    rcases num_cs (N := mG S.1) (by omega) x with ⟨g, hg, -, e⟩ | ⟨e, -⟩
    · rw [e]
      rcases num_cs (N := mG S.1) (by omega) y with ⟨g', hg', -, e'⟩ | ⟨e', -⟩
      · rw [e']
        dsimp only
        split
        · exact iv_tlo h ⟨by omega, fun z => by omega, fun z => by omega, fun _ => hq, fun _ => hg, fun _ => hg', fun z => by omega⟩
        · exact iv_rfu h
      · rw [e']; exact iv_rfu h
    · rw [e]; exact iv_rfu h
  · rw [e2]; exact iv_rfu h
theorem iv_same {a b : Int32} (h : IV S) : IV (o_same S a b).2 := by
  unfold o_same
  have hG := h.1.1.1.1.1.2.1
  have hN := h.1.1.1.2.2
  rcases num_cs (N := mG S.1) (by omega) a with ⟨g, hg, -, e⟩ | ⟨e, -⟩
  · rw [e]
    rcases num_cs (N := mG S.1) (by omega) b with ⟨g', hg', -, e'⟩ | ⟨e', -⟩
    · rw [e']
      dsimp only
      split
      · rename_i hc
        obtain ⟨m1, m2, m3, m4⟩ := mrg_ok h.1.1.1.1.1 h.1.1.1.1.2.1 hg hg' hc
        have eN : mN (mrg S.1 g g') = mN S.1 := congrFun (m4 0 (by decide) (by decide)) 0
        exact iv_sM h (mw_k h.1.1 ⟨m1, m2, m3⟩ (fun k hk => m4 k (by omega) (by omega)) (by omega) (by omega)) (by omega)
      · exact iv_rfu h
    · rw [e']; exact iv_rfu h
  · rw [e]; exact iv_rfu h
theorem iv_groupOf {a : Int32} (h : IV S) : IV (o_groupOf S a).2 := by
  unfold o_groupOf
  split
  · exact iv_rfu h
  · exact h
theorem iv_group {a b : Int32} (h : IV S) : IV (o_group S a b).2 := by
  unfold o_group
  split
  · exact h
  · exact iv_rfu h
theorem iv_expr {a b : Int32} (h : IV S) : IV (o_expr S a b).2 := by
  unfold o_expr
  split
  · exact h
  · exact iv_rfu h
theorem iv_explore {a : Int32} (h : IV S) : IV (o_explore S a).2 := by
  unfold o_explore
  split
  · exact iv_rfu h
  · split
    · exact iv_rfu h
    · exact iv_sM h (exl_mw _ _ _ h.1.1).1 (exl_mw _ _ _ h.1.1).2
theorem iv_next {a : Int32} (h : IV S) : IV (o_next S a).2 := by
  unfold o_next
  split
  · exact iv_rfu h
  · split <;> exact h
theorem iv_fired {a : Int32} (h : IV S) : IV (o_fired S a).2 := by
  unfold o_fired
  split
  · exact iv_rfu h
  · exact h
theorem bit_137 : ∀ k, k < 12 → k ≠ 0 → k ≠ 3 → k ≠ 7 → 137 &&& (4294967295 - 2 ^ k) = 137 := by decide
theorem iv_allow {a b : Int32} (h : IV S) : IV (o_allow S a b).2 := by
  unfold o_allow
  cases e : wayN a with
  | none => exact iv_rfu h
  | some k =>
    dsimp only
    have hk : k < 12 ∧ k ≠ 0 ∧ k ≠ 3 ∧ k ≠ 7 := by
      unfold wayN at e
      rcases num_cs (N := 12) (by decide) a with ⟨x, hx, -, e2⟩ | ⟨e2, -⟩
      · rw [e2] at e
        dsimp only at e
        split at e
        · cases e
        · rename_i q
          cases e
          exact ⟨hx, fun z => q (Or.inl z), fun z => q (Or.inr (Or.inl z)), fun z => q (Or.inr (Or.inr z))⟩
      · rw [e2] at e; cases e
    obtain ⟨hv, hw1, hw2⟩ := h.1.1
    have h4 := hv.2.1.2.1.1
    have b1 : (if b = 0 then clr (S.1 19 0) k else stb (S.1 19 0) k) < 4096 := by
      split
      · exact clr_lt h4
      · exact stb_lt h4 hk.1
    refine iv_sM h ⟨s19_mv hv b1, ?_, hw2⟩ (Nat.le_refl _)
    have e0 : ∀ v, s19 S.1 v 19 0 = v := fun v => show up (S.1 19) 0 v 0 = v from up_s
    show s19 S.1 (if b = 0 then clr (S.1 19 0) k else stb (S.1 19 0) k) 19 0 ||| 137 = s19 S.1 (if b = 0 then clr (S.1 19 0) k else stb (S.1 19 0) k) 19 0
    rw [e0]
    split
    · unfold clr
      have e1 : S.1 19 0 &&& (4294967295 - 2 ^ k) ||| 137 = (S.1 19 0 ||| 137) &&& (4294967295 - 2 ^ k) := by
        rw [Nat.and_or_distrib_right, bit_137 k hk.1 hk.2.1 hk.2.2.1 hk.2.2.2]
      rw [e1, hw1]
    · unfold stb
      rw [Nat.or_assoc, Nat.or_comm (2 ^ k) 137, ← Nat.or_assoc, hw1]
theorem iv_cost {a b c : Int32} (h : IV S) : IV (o_cost S a b c).2 := by
  unfold o_cost
  split
  · exact iv_rfu h
  · split
    · exact h
    · exact iv_rfu h
theorem iv_costBy {a b c : Int32} (h : IV S) : IV (o_costBy S a b c).2 := by
  unfold o_costBy
  split
  · exact iv_rfu h
  · split
    · split
      · exact h
      · exact iv_rfu h
    · exact iv_rfu h
theorem iv_demands {a b c : Int32} (h : IV S) : IV (o_demands S a b c).2 := by
  unfold o_demands
  split
  · exact iv_rfu h
  · split
    · exact h
    · exact iv_rfu h
theorem iv_within {a b c : Int32} (h : IV S) : IV (o_within S a b c).2 := by
  unfold o_within
  split
  · exact iv_rfu h
  · split
    · exact h
    · exact iv_rfu h
theorem iv_where {a b : Int32} (h : IV S) : IV (o_where S a b).2 := by
  unfold o_where
  split
  · exact iv_rfu h
  · split
    · exact h
    · exact iv_rfu h
theorem iv_worth {a b c k : Int32} (h : IV S) : IV (o_worth S a b c k).2 := by
  unfold o_worth
  split
  · split
    · exact h
    · exact iv_rfu h
  · exact iv_rfu h
theorem iv_price {k a b r : Int32} (h : IV S) : IV (o_price S k a b r).2 := by
  unfold o_price
  rcases num_cs (N := 12) (by decide) k with ⟨k', hk, -, e⟩ | ⟨e, -⟩
  · rw [e]
    dsimp only
    split
    · refine iv_sTr h ?_
      rw [rnl_1]
      have : ∀ k, k < 12 → (prl k).length ≤ 10 := by decide
      have := this k' hk
      show 0 + (prl k').length < 900
      omega
    · exact iv_rfu h
  · rw [e]; exact iv_rfu h
theorem iv_trace {a : Int32} (h : IV S) : IV (o_trace S a).2 := by
  unfold o_trace
  split <;> exact h
theorem iv_plan {a b c : Int32} (h : IV S) : IV (o_plan S a b c).2 := by
  unfold o_plan
  have hG := h.1.1.1.1.1.2.1
  have hN := h.1.1.1.2.2
  rcases num_cs (N := mG S.1) (by omega) a with ⟨g, hg, -, e⟩ | ⟨e, -⟩
  · rw [e]
    dsimp only
    split
    · rename_i o p e1 e2
      split
      · rename_i hc
        split
        · rename_i L hL
          have ho : o < 5 := by
            unfold nm1 at e1
            split at e1
            · cases e1; decide
            · rcases num_cs (N := 4) (by decide) b with ⟨x, hx, -, e3⟩ | ⟨e3, -⟩
              · rw [e3] at e1; cases e1; omega
              · rw [e3] at e1; cases e1
          have hp : p < 6 := by
            unfold nm1 at e2
            split at e2
            · cases e2; decide
            · rcases num_cs (N := 5) (by decide) c with ⟨x, hx, -, e3⟩ | ⟨e3, -⟩
              · rw [e3] at e2; cases e2; omega
              · rw [e3] at e2; cases e2
          obtain ⟨⟨h1, h2⟩, ⟨h3, h4, h5⟩, h6⟩ := h
          have hl := (pl_len h1.1.1.1 122 _ 0 L (by decide) hL).1
          refine ⟨⟨h1, h2⟩, ⟨⟨?_, fun _ => ⟨S.1, _, L, ⟨h1.1, dm_in h1.1.1.1 hg ho hp, hc⟩, hL, ?_, fun j hj k k1 k2 => ?_⟩⟩, ?_, ?_⟩, h6⟩
          · show up (S.2.1 5) 1 L.length 1 ≤ 120
            rw [up_s]; omega
          · show L.length = up (S.2.1 5) 1 L.length 1
            rw [up_s]
          · show (if 6 ≤ k ∧ k ≤ 14 then (fun i => (L.getD i z9) k) else _) (0 + j) = _
            rw [if_pos ⟨k1, k2⟩, Nat.zero_add, getD_lt hj]
          · show up (S.2.1 5) 1 L.length 2 ≤ 1
            rw [up_n (by decide)]; exact h4
          · show up (S.2.1 5) 1 L.length 2 = 1 → _
            rw [up_n (by decide)]; exact h5
        · exact iv_rfu h
      · exact iv_rfu h
    · exact iv_rfu h
  · rw [e]; exact iv_rfu h
theorem iv_planAt {a b : Int32} (h : IV S) : IV (o_planAt S a b).2 := by
  unfold o_planAt
  split
  · exact h
  · exact iv_rfu h
theorem iv_planCost {a : Int32} (h : IV S) : IV (o_planCost S a).2 := by
  unfold o_planCost
  split
  · exact h
  · exact iv_rfu h
theorem iv_spell {a : Int32} (h : IV S) : IV (o_spell S a).2 := by
  unfold o_spell
  split
  · exact iv_rfu h
  · split
    · exact iv_rfu h
    · split
      · exact iv_rfu h
      · split
        · exact iv_rfu h
        · split
          · exact iv_rfu h
          · exact iv_sCl h
theorem iv_trees {a b : Int32} (h : IV S) : IV (o_trees S a b).2 := by
  unfold o_trees
  split
  · exact iv_rfu h
  · split
    · exact iv_rfu h
    · exact h
theorem iv_deal {a : Int32} (h : IV S) : IV (o_deal S a).2 := by
  unfold o_deal
  split
  · exact iv_rfu h
  · split
    · exact iv_rfu h
    · split
      · exact iv_rfu h
      · exact iv_sM h (dll_mw _ _ _ h.1.1 (by omega)).1 (dll_mw _ _ _ h.1.1 (by omega)).2
theorem iv_seed {v : Int32} (h : IV S) : IV (o_seed S v).2 := iv_sM h (s20_mw h.1.1) (Nat.le_refl _)
theorem iv_status {a : Int32} (h : IV S) : IV (o_status S a).2 := by
  unfold o_status
  split <;> exact h
theorem iv_image (h : IV S) : IV (o_image S).2 := by
  obtain ⟨⟨h1, h2⟩, ⟨h3, h4, h5⟩, h6⟩ := h
  refine ⟨⟨h1, h2⟩, ⟨?_, ?_, fun _ => h1⟩, h6⟩
  · show up (S.2.1 5) 2 1 1 ≤ 120 ∧ (up (S.2.1 5) 2 1 1 ≠ 0 → ∃ s d L, (MV s ∧ Dm s d ∧ cst s d ≤ MCH) ∧ pl s 122 d 0 = some L ∧ L.length = up (S.2.1 5) 2 1 1 ∧ AtL (sKp S).2.1 0 L)
    rw [up_n (by decide)]
    refine ⟨h3.1, fun z => ?_⟩
    obtain ⟨s, d, L, a, b, c, e⟩ := h3.2 z
    refine ⟨s, d, L, a, b, c, fun j hj k k1 k2 => ?_⟩
    show st S.2.1 5 (up (S.2.1 5) 2 1) k _ = _
    rw [st_n (by omega)]
    exact e j hj k k1 k2
  · show up (S.2.1 5) 2 1 2 ≤ 1
    rw [up_s]; decide
theorem iv_restore (h : IV S) : IV (o_restore S).2 := by
  unfold o_restore
  split
  · exact iv_rfu h
  · rename_i q
    obtain ⟨⟨h1, h2⟩, ⟨h3, h4, h5⟩, h6⟩ := h
    have q1 : S.2.1 5 2 = 1 := by omega
    refine ⟨⟨h5 q1, fun i hi => ?_⟩, ⟨⟨h3.1, fun z => ?_⟩, h4, h5⟩, h6⟩
    rotate_left
    · obtain ⟨s, d, L, a, b, c, e⟩ := h3.2 z
      exact ⟨s, d, L, a, b, c, fun j hj k k1 k2 => (congrFun (st_n (by omega)) _).trans (e j hj k k1 k2)⟩
    obtain ⟨p1, p2, p3, p4⟩ := h2 i hi
    show (if S.2.1 1 i = 2 ∧ mN S.2.2.1 ≤ S.2.1 4 i then 0 else S.2.1 1 i) < 3 ∧ S.2.1 2 i < 4 ∧ S.2.1 3 i ≤ 160 ∧ ((if S.2.1 1 i = 2 ∧ mN S.2.2.1 ≤ S.2.1 4 i then 0 else S.2.1 1 i) = 2 → S.2.1 4 i < mN S.2.2.1)
    by_cases z : S.2.1 1 i = 2 ∧ mN S.2.2.1 ≤ S.2.1 4 i
    · rw [if_pos z]
      exact ⟨by decide, p2, p3, fun y => absurd y (by decide)⟩
    · rw [if_neg z]
      exact ⟨p1, p2, p3, fun y => Nat.lt_of_not_le fun w => z ⟨y, w⟩⟩
theorem iv_fault (h : IV S) : IV (o_fault S).2 := h
theorem iv_read {a : Int32} (h : IV S) : IV (o_read S a).2 := by
  unfold o_read
  rcases num_cs (N := 8) (by decide) a with ⟨k, hk, -, e⟩ | ⟨e, -⟩
  · rw [e]
    dsimp only
    split
    · exact iv_rfu h
    · split
      · exact iv_rfu h
      · split
        · exact iv_rfu (iv_sF h)
        · rename_i x hx
          split
          · exact iv_rfu (iv_sF h)
          · split
            · exact iv_rfu (iv_sF h)
            · rename_i q
              obtain ⟨⟨hs, l, n⟩, ⟨hb, -⟩, hN⟩ := h.1.1.1
              obtain ⟨x1, x2⟩ := x
              obtain ⟨⟨A1, A2, A3⟩, AO, -⟩ := tlr_ok (h.1.2 k hk).2.2.1 (fun p hp => (hb.1 p hp).2.2) hs.2.2.2.1 30 0 S.1 x1 x2 hs l n (fun _ _ => rfl) (by omega) (by omega) hx
              exact iv_sM (iv_sF h) (mw_k h.1.1 ⟨A1, A2, A3⟩ AO.1.2.2.2 AO.1.1.1 (by omega)) AO.1.1.1
  · rw [e]; exact iv_rfu h
theorem iv_00 : IV S00 := by
  refine ⟨⟨⟨mv_00, by decide, fun e r f _ _ _ => rfl⟩, fun i _ => ⟨show 0 < 3 by decide, show 0 < 4 by decide, show 0 ≤ 160 by decide, fun z => absurd z (show ¬ 0 = 2 by decide)⟩⟩, ⟨⟨show 0 ≤ 120 by decide, fun z => absurd rfl z⟩, show 0 ≤ 1 by decide, fun z => absurd z (show ¬ 0 = 1 by decide)⟩, show 0 < 900 by decide⟩
end PM
