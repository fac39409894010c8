set_option linter.unusedVariables false
set_option maxRecDepth 10000
/-! ===== component: fire, explore, next ===== -/
section PC
variable {σ τ υ σ0 : wS} {x m F : Nat} {s s1 : mS} {S : gS} {K K' : Nat → Nat} {P P' : Nat → Nat → Prop} {a b c d r : Nat}
theorem s0_mw {e r f : Nat} (h : MW s) (hk : NK s e r f) : MW (s0f s e r f) := by
  obtain ⟨⟨h0, ⟨hb, hX, hB⟩, hN⟩, h2, h3⟩ := h
  refine ⟨⟨h0, ⟨hb, hX, fun i => ?_⟩, hN⟩, h2, fun e' r' f' he hr hf => ?_⟩
  · show up (s 16) (wi e r f) 1 i ≤ 1
    by_cases z : i = wi e r f
    · rw [z, up_s]; exact Nat.le_refl _
    · rw [up_n z]; exact hB i
  · show up (s 16) (wi e r f) 1 (wi e' r' f') = 0
    have hf64 : f ≤ 64 := by
      by_cases r0 : r = 0
      · exact Nat.le_of_eq (hk.2.2.2.1 r0).2
      · have := (hk.2.2.2.2 (by omega)).1
        omega
    have he' : mN s ≤ e' := he
    rw [up_n (fun z => by
      have := (wi_inj hr hf hk.2.2.1 hf64 z).1
      have := hk.1
      omega)]
    exact h3 e' r' f' he' hr hf
def FW (σ : wS) (K : Nat → Nat) (s : mS) (e r f : Nat) : Prop := (ok2 σ (K 2) ∧ ok3 σ (K 4) ∧ ok3 σ (K 5) ∧ oC σ (K (20 + r)) = 5 + r) ∧ (oR σ 301 (K 2) = some (K 4) ∧ oR σ 302 (K 2) = some (K 5)) ∧ FS σ K e r f ∧ DI σ (K 4) s e r f ∧ DO σ (K 5) s e r f
theorem FW.fr {G : List Nat} {e r f : Nat} (h : FW σ K s e r f) (w : Fr (fun g o => o = m ∧ g ∈ G) a b σ τ) (d : ∀ g ∈ [303, 304, 305, 306, 400, 401, 402, 403, 301, 302], g ∉ G) : FW τ K s e r f := by
  obtain ⟨⟨k2, k4, k5, kr⟩, ⟨c1, c2⟩, ⟨s1, s2, s3, s4⟩, di, do'⟩ := h
  have no : ∀ g ∈ [303, 304, 305, 306, 400, 401, 402, 403, 301, 302], ∀ o, ¬ (o = m ∧ g ∈ G) := fun g hg o z => d g hg z.2
  have I4 : ∀ g ∈ [400, 401, 402, 403], oI τ g (K 4) = oI σ g (K 4) := fun g hg => w.I (c := 3) k4 (no g ((by decide : ∀ g ∈ [400, 401, 402, 403], g ∈ [303, 304, 305, 306, 400, 401, 402, 403, 301, 302]) g hg) _)
  have I5 : ∀ g ∈ [400, 401, 402, 403], oI τ g (K 5) = oI σ g (K 5) := fun g hg => w.I (c := 3) k5 (no g ((by decide : ∀ g ∈ [400, 401, 402, 403], g ∈ [303, 304, 305, 306, 400, 401, 402, 403, 301, 302]) g hg) _)
  refine ⟨⟨ok2.ext k2 w.1, ok3.ext k4 w.1, ok3.ext k5 w.1, by rw [w.C (c := 4 + r) (by omega)]; omega⟩, ⟨?_, ?_⟩, ⟨?_, ?_, ?_, ?_⟩, ?_, ?_⟩
  · rw [w.R k2.1 (no _ (by decide) _)]; exact c1
  · rw [w.R k2.1 (no _ (by decide) _)]; exact c2
  · rw [w.R k2.1 (no _ (by decide) _)]; exact s1
  · rw [w.I k2.1 (no _ (by decide) _)]; exact s2
  · rw [w.I k2.1 (no _ (by decide) _)]; exact s3
  · rw [w.I k2.1 (no _ (by decide) _)]; exact s4
  · unfold DI
    rw [I4 400 (by decide), I4 401 (by decide), I4 402 (by decide), I4 403 (by decide)]
    exact di
  · unfold DO
    rw [I5 400 (by decide), I5 401 (by decide), I5 402 (by decide), I5 403 (by decide)]
    exact do'
theorem tel_mw {y : X4} (h : MW s) (hx : ok4x s y) (hN : lk4 s y = none → mN s ≠ 64) : MW (tel s y).1 := by
  unfold tel
  cases q : lk4 s y with
  | some i => exact h
  | none => exact (nwx_mw h (hN q) hx q).1
theorem c_fire44 {Q : wS → Prop} {Xh : Nat → Nat → wS → Prop} {e r f : Nat} (hC : CM σ (K 0) s) (hf : CFd σ (K 0) s) (hW : MW s) (nk : NK s e r f) (fw : FW σ K s e r f) (hroom : mN s + nws s e r f ≤ 64) (hr : 2 ≤ rC σ ∧ 9 ≤ rS σ) (hF : 1000 ≤ F) {bt : Nat} (hbt : (r = 0 → bt = 1) ∧ (1 ≤ r → bt = 2 ^ f)) (hQ : ∀ τ, Fr (fun g o => o = K 0 ∧ g ∈ GFw) 2 9 σ τ → CM τ (K 0) (fir s e r f) → CFd τ (K 0) (fir s e r f) → oI τ 2318 (K 0) = 0 → (∀ i, i < mN s → fir s e r f 2 i = s 2 i ∧ fir s e r f 3 i = s 3 i) → Q τ) : b_X2_fire_44 F (K 2) Q Xh σ (some (K (20 + r))) (K 0) (nI (e * 7 + r)) (aJ σ 12313 (K 0) (e * 7 + r)) (lN bt) := by
  obtain ⟨⟨⟨hs, l, no⟩, ⟨hb, hX, hB⟩, hN⟩, hw1, hw2⟩ := id hW
  have hG := hs.2.1
  have he := nk.1
  have h7 := nk.2.2.1
  have h22 := hC.1.1
  have hm : oC σ (K 0) ≠ 0 := by rw [h22.1]; decide
  have hf64 : f ≤ 64 ∧ (1 ≤ r → f < 64) := by
    refine ⟨?_, fun z => ?_⟩
    · by_cases r0 : r = 0
      · exact Nat.le_of_eq (nk.2.2.2.1 r0).2
      · have := (nk.2.2.2.2 (by omega)).1
        omega
    · have := (nk.2.2.2.2 z).1
      omega
  have nG : ∀ {τ τ' : wS} {g : Nat} {o : Nat}, Wq [g] (K 0) τ τ' → ∀ h ∈ [303, 304, 305, 306, 301, 302], g ∉ [303, 304, 305, 306, 301, 302] → oI τ' h o = oI τ h o ∧ oR τ' h o = oR τ h o := fun {τ τ' g o} w h hh hg => by
    have : h ∉ [g] := fun z => hg (by rw [← List.mem_singleton.mp z]; exact hh)
    exact ⟨((w.sam this) o).1.1, ((w.sam this) o).1.2.2.1⟩
  obtain ⟨⟨k2, k4, k5, kr⟩, ⟨c1, c2⟩, ⟨s1, s2, s3, s4⟩, di, do'⟩ := id fw
  unfold b_X2_fire_44
  rw [nI_clamp (by omega)]
  refine ⟨h22, vp_inN (by omega) (by decide), bnd_AJ fun τ1 w1 v1 => ?_⟩
  rw [(nG (o := K 2) w1 303 (by decide) (by decide)).2, (nG (o := K 2) w1 305 (by decide) (by decide)).1, s1, s3, nI_clamp (by omega)]
  refine ⟨ok2.ext k2 w1.ext, K 0, rfl, ok22.ext h22 w1.ext, vp_inN h7 (by decide), bnd_A fun τ2 w2 v2 => ?_⟩
  rw [(nG (o := K 2) w2 303 (by decide) (by decide)).2, (nG (o := K 2) w1 303 (by decide) (by decide)).2, s1]
  intro v25 hv25
  refine ⟨K 0, hv25, ok22.ext (ok22.ext h22 w1.ext) w2.ext, bnd_I fun τ3 w3 v3 => ?_⟩
  have W : Wq [12313, 2314, 2303] (K 0) σ τ3 := ((w1.mono (by decide)).up w2 (by decide)).up w3 (by decide)
  have f3 : Fr (fun g o => o = K 0 ∧ g ∈ [12313, 2314, 2303]) 0 0 σ τ3 := W.fr (fun g hg => ⟨rfl, hg⟩)
  have F3 : Fr (fun g o => o = K 0 ∧ g ∈ GFw) 0 0 σ τ3 := f3.mono (fun g o z => ⟨z.1, (by decide : ∀ g ∈ [12313, 2314, 2303], g ∈ GFw) g z.2⟩) (by decide) (by decide)
  have n3 : ∀ g, g ∉ [12313, 2314, 2303] → ∀ o, ¬ (o = K 0 ∧ g ∈ [12313, 2314, 2303]) := fun g hg o z => hg z.2
  have C3 : CM τ3 (K 0) (s0f s e r f) := hC.fr f3 (fun g hg => n3 g (by revert g; decide) _) (fun g hg => n3 g (by revert g; decide))
  have fw3 : FW τ3 K s e r f := fw.fr f3 (by decide)
  obtain ⟨g1, g2, g3, g4, g5⟩ := hf
  have D3 : CFd τ3 (K 0) (s0f s e r f) := by
    refine ⟨fun e' he' r' hr' => ?_, fun i hi => ?_, ?_, ?_, ?_⟩
    · obtain ⟨n, n1, n2, n3, n4⟩ := g1 e' he' r' hr'
      have ej : aJ τ3 12313 (K 0) = vp_updL (aJ σ 12313 (K 0)) (e * 7 + r) (aJ σ 12313 (K 0) (e * 7 + r) ||| lN bt) := by
        rw [((w3.sam (by decide)) _).2.1, ((w2.sam (by decide)) _).2.1, v1]
      rw [ej]
      by_cases z : e' * 7 + r' = e * 7 + r
      · have ee : e' = e := by omega
        have er : r' = r := by omega
        subst ee er
        rw [updL_s, n2, orL]
        have hp : bt < 2 ^ 64 := by
          by_cases r0 : r' = 0
          · rw [hbt.1 r0]; decide
          · rw [hbt.2 (by omega)]; exact Nat.pow_lt_pow_right (by decide) (hf64.2 (by omega))
        refine ⟨n ||| bt, Nat.or_lt_two_pow n1 hp, rfl, fun r0 => ?_, fun r0 j hj => ?_⟩
        · show n ||| bt = up (s 16) (wi e' r' f) 1 (wi e' 0 64)
          have hf' : f = 64 := (nk.2.2.2.1 r0).2
          rw [r0, hf', up_s, hbt.1 r0]
          have := n3 r0
          have := hB (wi e' 0 64)
          have : n = 0 ∨ n = 1 := by omega
          rcases this with y | y <;> rw [y] <;> rfl
        · show (n ||| bt).testBit j = decide (up (s 16) (wi e' r' f) 1 (wi e' r' j) = 1)
          rw [Nat.testBit_or, n4 r0 j hj, hbt.2 (by omega), Nat.testBit_two_pow]
          by_cases y : f = j
          · rw [y, up_s]; simp
          · rw [up_n (fun q => y ((wi_inj hr' (by omega) hr' hf64.1 q).2.2).symm), decide_eq_false y, Bool.or_false]
      · rw [updL_n z]
        refine ⟨n, n1, n2, fun r0 => ?_, fun r0 j hj => ?_⟩
        · show n = up (s 16) (wi e r f) 1 (wi e' 0 64)
          rw [up_n (fun q => z (by obtain ⟨q1, q2, q3⟩ := wi_inj (by decide) (by decide) h7 hf64.1 q; omega))]
          exact n3 r0
        · show n.testBit j = decide (up (s 16) (wi e r f) 1 (wi e' r' j) = 1)
          rw [up_n (fun q => z (by obtain ⟨q1, q2, q3⟩ := wi_inj hr' (by omega) h7 hf64.1 q; omega))]
          exact n4 r0 j hj
    · rw [((w3.sam (by decide)) _).1.2.2.2, v2, ((w1.sam (by decide)) _).1.2.2.2]
      show _ = nI (up (s 17) r (s 17 r + 1) i)
      by_cases z : i = r
      · rw [z, upd_s, up_s, g2 r h7, nIl_1, nI_add]
      · rw [upd_n z, up_n z]; exact g2 i hi
    · rw [v3, ((w2.sam (by decide)) _).1.1, ((w1.sam (by decide)) _).1.1, g3, nIl_1, nI_add]
      show _ = nI (up (s 18) 0 (s 18 0 + 1) 0)
      rw [up_s]
    · rw [((W.sam (by decide)) _).1.1]; exact g4
    · rw [((W.sam (by decide)) _).1.1]; exact g5
  have W3 : MW (s0f s e r f) := s0_mw hW nk
  have rC3 : rC τ3 = rC σ ∧ rS τ3 = rS σ := ⟨W.1.2.2.2.2.1, W.1.2.2.2.2.2⟩
  obtain ⟨⟨q2, q4, q5, qr⟩, ⟨p1, p2⟩, ⟨t1, t2, t3, t4⟩, di3, do3⟩ := fw3
  refine ⟨K (20 + r), rfl, c_mergesV h7 qr ?_⟩
  by_cases r4 : r = 4
  · subst r4
    have hff := (nk.2.2.2.2 (by decide)).1
    rw [if_pos rfl, if_neg (by decide), t1, t2]
    have ccl := once_col l nk
    refine ⟨K 0, rfl, C3.1.1, c_home C3 hs hN he (by omega) ⟨K 0, t1, C3.1.1, ?_⟩⟩
    rw [t4, show fN 4 f = nI f from rfl]
    refine c_home C3 hs hN hff (by omega) ?_
    have R6 := sx_6 hs he
    have R6' := sx_6 hs hff
    refine c_merge C3 hs l no hN (sh_lt hs R6) (sh_lt hs R6') (by
      show s 9 (R s (R s (s 6 e))) = s 9 (R s (R s (s 6 f)))
      rw [sh_RR hs R6, sh_RR hs R6']; exact ccl) (by omega) (fun τ w C1 n0 => ?_)
    obtain ⟨m1, m2, m3, m4⟩ := mrg_ok (s := s0f s e 4 f) hs l R6 R6' ccl
    have ef : fir s e 4 f = mrg (s0f s e 4 f) (s 6 e) (s 6 f) := by unfold fir; rw [if_pos rfl]
    have C2 : CM τ (K 0) (mrg (s0f s e 4 f) (s 6 e) (s 6 f)) := by
      rw [← mrg_RR (s := s0f s e 4 f) hs R6 R6']; exact C1
    have D2 : CFd τ (K 0) (mrg (s0f s e 4 f) (s 6 e) (s 6 f)) := (D3.tw w (by decide)).k (fun k hk' => m4 k (by omega) (by omega)) (congrFun (m4 0 (by decide) (by decide)) 0)
    rw [← ef] at C2 D2
    refine hQ τ ((F3.trans (w.wq.fr (fun g hg => ⟨rfl, (by decide : ∀ g ∈ [2316, 22311, 2318], g ∈ GFw) g hg⟩))).mono (fun _ _ z => z) (by decide) (by decide)) C2 D2 n0 (fun i hi => ?_)
    rw [ef]
    exact ⟨congrFun (m4 2 (by decide) (by decide)) i, congrFun (m4 3 (by decide) (by decide)) i⟩
  rw [if_neg r4, if_pos rfl]
  refine ⟨K 4, p1, q4, ?_⟩
  have ef : fir s e r f = fin2 (if r = 0 then (s0f s e r f, 0) else tel (s0f s e r f) (brk (s0f s e r f) e r f)) e r f := by unfold fir; rw [if_neg r4]
  by_cases r0 : r = 0
  · rw [if_pos (di3.1 r0)]
    rw [if_pos r0] at ef
    refine c_fin (s := s0f s e r f) (y := (s0f s e r f, 0)) C3 D3 W3 hs l nk r4 Old.refl (fun z => by omega) (fun z => ?_) (Or.inl r0) q2 p2 t1 q5 t2 do3 (by omega) hF (fun τ fr C1 D1 n0 k23 => ?_)
    · have : nws s e r f = 1 := by
        unfold nws
        rw [if_neg r4, if_pos r0]
        subst r0
        exact if_pos z
      show mN s < 64
      omega
    · rw [← ef] at C1 D1 k23
      exact hQ τ ((F3.trans fr).mono (fun _ _ z => z) (by decide) (by decide)) C1 D1 n0 k23
  rw [if_neg r0] at ef
  obtain ⟨⟨i1, i2⟩, i3, i4⟩ := di3.2 (by omega) r4
  have bk := brk_ok hs nk (by omega) r4
  rw [if_neg (show ¬ oI τ3 400 (K 4) = 0 by
    rw [i1]
    have := bk.1
    exact nI_eqf (b := 0) (by omega) (by decide) (by omega)), t1, i1, i2]
  refine ⟨K 0, rfl, C3.1.1, ?_⟩
  have bx : ok4x (s0f s e r f) (brk s e r f) := brk_okx hs l nk (by omega) r4
  obtain ⟨T1, T2, T3, T4, T5, T6, T7, T8⟩ := tel_ok (s := s0f s e r f) (x := brk (s0f s e r f) e r f) hs l no (show mN s < 144 by omega) bx
  have en : nws s e r f = (match lk4 s (brk s e r f) with
    | none => 2
    | some i => if lk4 s (cms s e r f (R s (s 6 i))) = none then 1 else 0) := by unfold nws; rw [if_neg r4, if_neg r0]; cases lk4 s (brk s e r f) <;> rfl
  have et : tel (s0f s e r f) (brk (s0f s e r f) e r f) = (match lk4 s (brk s e r f) with
    | some i => (s0f s e r f, R s (s 6 i))
    | none => (nwx (s0f s e r f) (brk s e r f).1 (brk s e r f).2.1 (brk s e r f).2.2.1 (brk s e r f).2.2.2, mG s)) := by
    show tel (s0f s e r f) (brk s e r f) = _
    unfold tel
    rw [show lk4 (s0f s e r f) (brk s e r f) = lk4 s (brk s e r f) from rfl]
    cases lk4 s (brk s e r f) <;> rfl
  have hn64 : lk4 s (brk s e r f) = none → mN s + 2 ≤ 64 := fun z => by rw [z] at en; rw [en] at hroom; exact hroom
  have TW : MW (tel (s0f s e r f) (brk (s0f s e r f) e r f)).1 := tel_mw W3 bx (fun z => by have := hn64 z; show mN s ≠ 64; omega)
  refine c_tell (s := s0f s e r f) (x := (brk s e r f).2.2.1) (y := (brk s e r f).2.2.2) C3 D3 W3 bx (fun _ => i3) i4 (by omega) (by omega) (fun i hl => ?_) (fun hl h64 => ?_) (fun hl h64 τ4 f4 C4 D4 n4 => ?_)
  · have hl' : lk4 s (brk s e r f) = some i := hl
    rw [hl'] at et en
    dsimp only at et en
    rw [et] at ef T4 T5 T6 T7
    refine c_fin (s := s0f s e r f) (y := (s0f s e r f, R s (s 6 i))) C3 D3 W3 hs l nk r4 T7 (fun _ => ⟨T4, T5, T6⟩) (fun z => ?_) (Or.inr rfl) q2 p2 t1 q5 t2 do3 (by omega) hF (fun τ fr C1 D1 n0 k23 => ?_)
    · have z' : lk4 s (cms s e r f (R s (s 6 i))) = none := z
      rw [if_pos z'] at en
      show mN s < 64
      omega
    · rw [← ef] at C1 D1 k23
      exact hQ τ ((F3.trans fr).mono (fun _ _ z => z) (by decide) (by decide)) C1 D1 n0 k23
  · have := hn64 hl
    have h64' : mN s = 64 := h64
    omega
  · have hl' : lk4 s (brk s e r f) = none := hl
    have := hn64 hl'
    rw [hl'] at et
    dsimp only at et
    rw [et] at ef T4 T5 T6 T7 T8 TW
    have f4' : Fr (fun g o => o = K 0 ∧ g ∈ GFw) 1 7 τ3 τ4 := f4.mono (fun g o z => ⟨z.1, (by decide : ∀ g ∈ GTe, g ∈ GFw) g z.2⟩) (by decide) (by decide)
    obtain ⟨x1, x2⟩ := f4.2.2.1
    have fw4 : FW τ4 K s e r f := FW.fr ⟨⟨q2, q4, q5, qr⟩, ⟨p1, p2⟩, ⟨t1, t2, t3, t4⟩, di3, do3⟩ f4 (by decide)
    obtain ⟨⟨y2, y4, y5, yr⟩, ⟨z1, z2⟩, ⟨w1', w2', w3', w4'⟩, di4, do4⟩ := fw4
    refine c_fin (s := s0f s e r f) (y := (nwx (s0f s e r f) (brk s e r f).1 (brk s e r f).2.1 (brk s e r f).2.2.1 (brk s e r f).2.2.2, mG s)) C4 D4 TW hs l nk r4 T7 (fun _ => ⟨T4, T5, T6⟩) (fun z => ?_) (Or.inr rfl) y2 z2 w1' y5 w2' do4 (by omega) hF (fun τ fr C1 D1 n0 k23 => ?_)
    · show mN (nwx (s0f s e r f) (brk s e r f).1 (brk s e r f).2.1 (brk s e r f).2.2.1 (brk s e r f).2.2.2) < 64
      have T8' : mN (nwx (s0f s e r f) (brk s e r f).1 (brk s e r f).2.1 (brk s e r f).2.2.1 (brk s e r f).2.2.2) = mN s + (if lk4 (s0f s e r f) (brk (s0f s e r f) e r f) = none then 1 else 0) := T8
      rw [T8']
      split <;> omega
    · rw [← ef] at C1 D1 k23
      refine hQ τ (((F3.trans f4').trans fr).mono (fun _ _ z => z) (by decide) (by decide)) C1 D1 n0 (fun i hi => ?_)
      have k := k23 i (Nat.lt_of_lt_of_le hi T7.1.1)
      have o := T7.2.1 i hi
      exact ⟨k.1.trans o.1, k.2.trans o.2.1⟩
def PFf (K : Nat → Nat) (g o : Nat) : Prop := PFi K g o ∨ (o = K 0 ∧ g ∈ GMem)
theorem pff_P (h : CK σ x K S) : ∀ g o, PFf K g o → oC σ o ≠ 25 := fun g o z => by
  rcases z with z | z
  · exact pfi_P h g o z
  · exact ck_P h g o z
theorem c_fire {Q : wS → Prop} {Xh : Nat → Nat → wS → Prop} {e r f : Nat} (hK : CK σ x K S) (hI : IV S) (nk : NK S.1 e r f) (fs : FS σ K e r f) (hroom : mN S.1 + nws S.1 e r f ≤ 64) (hr : 2 ≤ rC σ ∧ 9 ≤ rS σ) (hF : 1000 ≤ F) (hQ : ∀ τ, Fr (PFf K) 2 9 σ τ → CK τ x K (sM S (fir S.1 e r f)) → Q τ) : w_X2_fire F σ (K 2) Q Xh := by
  have hs := hI.1.1.1.1.1
  have hA := hI.1.2
  have hG := hs.2.1
  have hN := hI.1.1.1.2.2
  have he := nk.1
  have h7 := nk.2.2.1
  unfold w_X2_fire
  refine ⟨hK.1.1.2.1.2.1, c_drafted hK hI nk fs (fun τ fr fs2 di do' => ?_)⟩
  have hk := ck_fi hK hA fr
  obtain ⟨C, D, -⟩ := hk.1.2.1
  obtain ⟨c1, c2, c3, c4⟩ := hk.1.1.2.2.2.1
  have fw : FW τ K S.1 e r f := ⟨⟨hk.1.1.2.1.2.1, hk.1.1.2.1.2.2.2.1, hk.1.1.2.1.2.2.2.2.1, (hk.1.1.2.2.2.2.1 r h7).2⟩, ⟨c1, c2⟩, fs2, di, do'⟩
  obtain ⟨x1, x2⟩ := fr.2.2.1
  have go : ∀ bt, (r = 0 → bt = 1) ∧ (1 ≤ r → bt = 2 ^ f) → b_X2_fire_44 F (K 2) Q Xh τ (some (K (20 + r))) (K 0) (nI (e * 7 + r)) (aJ τ 12313 (K 0) (e * 7 + r)) (lN bt) := fun bt hbt => by
    refine c_fire44 C D hI.1.1 nk fw hroom (by omega) hF hbt (fun υ f2 C2 D2 n0 k23 => ?_)
    refine hQ υ ((fr.mono (fun _ _ z => Or.inl z) (Nat.le_refl _) (Nat.le_refl _)).trans (f2.mono (fun g o z => Or.inr ⟨z.1, (by decide : ∀ g ∈ GFw, g ∈ GMem) g z.2⟩) (Nat.le_refl _) (Nat.le_refl _)) |>.mono (fun _ _ z => z) (by decide) (by decide)) ?_
    exact ck_memo hk hA f2 (by decide) ⟨C2, D2, Or.inl n0⟩ (fun i hi z => k23 _ ((hA i hi).2.2.2 z))
  rw [fs2.1, fs2.2.1, fs2.2.2.1, fs2.2.2.2]
  refine ⟨K 0, rfl, C.1.1, ?_⟩
  rw [nIl_7, nI_mul, nI_add]
  intro v8 hv8
  rw [hv8, nI_clamp (by omega)]
  refine ⟨vp_inN (by omega) (by decide), ?_⟩
  by_cases r0 : r = 0
  · rw [if_pos (show fN r f = (-1 : Int32) by unfold fN; rw [if_pos r0])]
    exact go 1 ⟨fun _ => rfl, fun z => by omega⟩
  · have hf := (nk.2.2.2.2 (by omega)).1
    have ef : fN r f = nI f := if_neg r0
    rw [ef, if_neg (nI_m1 (by omega)), shlL f (by omega)]
    exact go (2 ^ f) ⟨fun z => absurd z r0, fun _ => rfl⟩
theorem c_explore {Q : Int32 → wS → Prop} {v : Int32} (hK : CK σ x K S) (hI : IV S) (hr : RM σ) (hF : 1000 ≤ F) (hQ : ∀ τ, Cf σ τ → CC τ x (o_explore S v).2 → Q (o_explore S v).1 τ) : w_X0_explore F σ x v Q := by
  have hA := hI.1.2
  have hN := hI.1.1.1.2.2
  unfold w_X0_explore
  refine c_in1 (N := 201) (by decide) (by decide) (fun e => ?_) (fun n n1 n2 hv e => ?_)
  · have eo : o_explore S v = noA S 6 := by
      unfold o_explore
      rcases e with e | e
      · rw [e, show num 201 0 = some 0 from num_some (N := 201) (n := 0) (by decide) (by decide)]; rfl
      · rw [e]
    rw [eo] at hQ
    exact c_needX (n := 6) (Q := Q) hK hA (by decide) (fr0 (σ := σ)) noP hr (by decide) (by decide) (fun _ _ => rfl) (fun z => absurd rfl z) (fun _ => hQ)
  refine c_needX (n := 6) (Q := Q) hK hA (by decide) (fr0 (σ := σ)) noP hr (by decide) (by decide) (fun _ _ => rfl) (fun _ => ?_) (fun z => absurd z (by decide))
  have eo : o_explore S v = (nI (exl n S.1 0).1, sM S (exl n S.1 0).2) := by
    unfold o_explore
    rw [e]
    exact if_neg (by omega)
  rw [eo] at hQ
  obtain ⟨r1, r2⟩ := hr
  rw [hv]
  have key : ∀ j i τ s', i ≤ n → n - i < j → MW s' → mN S.1 ≤ mN s' → Fr (PFf K) (2 * i) (9 * i) σ τ → CK τ x K (sM S s') → exl (n - i) s' i = exl n S.1 0 → l_X0_explore_16 F x (nI n) Q j τ (nI i) := by
    intro j
    induction j with
    | zero => intro i _ _ _ h; omega
    | succ j ih =>
      intro i τ s' hi hj hM hle fr ck ed
      have hI' : IV (sM S s') := iv_sM hI hM hle
      have out : ∀ τ', Fr (PFi K) 0 0 τ τ' → exl (n - i) s' i = (i, s') → Q (nI i) τ' := fun τ' f' z => by
        rw [← ed, z] at hQ
        refine hQ τ' (((fr.trans (f'.mono (fun _ _ z => Or.inl z) (Nat.le_refl _) (Nat.le_refl _))).cf (pff_P hK) (by omega) (by omega))) ⟨K, ck_fi ck hI'.1.2 f'⟩
      unfold l_X0_explore_16
      by_cases q : n ≤ i
      · rw [if_pos (nI_le q (by omega))]
        exact out τ (fr0.mono (fun _ _ z => z.elim) (by decide) (by decide)) (by rw [show n - i = 0 by omega]; rfl)
      · rw [if_neg (nI_ge (by omega) (by omega))]
        have em : n - i = (n - (i + 1)) + 1 := by omega
        refine ⟨ck.1.1.1.1, K 2, ck.1.1.1.2.2.2.1, ck.1.1.2.1.2.1, ?_⟩
        rw [(ck_m ck).1]
        refine c_finds ck hI' hF (fun hz τ2 f2 => ?_) (fun e' r' f' hz τ2 f2 fs2 => ?_)
        · rw [if_pos rfl]
          refine out τ2 f2 ?_
          rw [em]
          unfold exl
          rw [show fnx s' (mN s') 0 = none from hz]
        · rw [if_neg (by decide)]
          have ck2 := ck_fi ck hI'.1.2 f2
          have nk : NK s' e' r' f' := nk_of hz
          have hz' : fnx s' (mN s') 0 = some (e', r', f') := hz
          refine ⟨K 2, ck2.1.1.1.2.2.2.1, ck2.1.1.2.1.2.1, c_hasRoom ck2 hI' nk fs2 hF (fun τ3 f3 fs3 => ?_)⟩
          have ck3 := ck_fi ck2 hI'.1.2 f3
          have exs : exl (n - i) s' i = if 64 < mN s' + nws s' e' r' f' then (i, s') else exl (n - (i + 1)) (fir s' e' r' f') (i + 1) := by
            rw [em]
            show (match fnx s' (mN s') 0 with
              | none => (i, s')
              | some (e, r, f) => if 64 < mN s' + nws s' e r f then (i, s') else exl (n - (i + 1)) (fir s' e r f) (i + 1)) = _
            rw [hz']
          by_cases q2 : 64 < mN s' + nws s' e' r' f'
          · rw [if_pos (show 64 < mN (sM S s').1 + nws (sM S s').1 e' r' f' from q2), if_pos rfl]
            rw [if_pos q2] at exs
            exact out τ3 (f2.trans f3) exs
          · rw [if_neg (show ¬ 64 < mN (sM S s').1 + nws (sM S s').1 e' r' f' from q2), if_neg (by decide)]
            rw [if_neg q2] at exs
            obtain ⟨g1, g2⟩ := fr.2.2.1
            obtain ⟨g3, g4⟩ := (f2.trans f3).2.2.1
            refine ⟨K 2, ck3.1.1.1.2.2.2.1, ck3.1.1.2.1.2.1, c_fire ck3 hI' nk fs3 (show mN s' + nws s' e' r' f' ≤ 64 by omega) (by omega) hF (fun τ4 f4 ck4 => ?_)⟩
            obtain ⟨m1, m2⟩ := fir_mw hM nk (by omega)
            rw [nIl_1, nI_add]
            refine ih (i + 1) τ4 (fir s' e' r' f') (by omega) (by omega) m1 (Nat.le_trans hle m2) ?_ ck4 (by rw [← ed]; exact exs.symm)
            exact ((fr.trans ((f2.trans f3).mono (fun _ _ z => Or.inl z) (Nat.le_refl _) (Nat.le_refl _))).trans f4).mono (fun _ _ z => z) (by omega) (by omega)
  exact key F 0 σ S.1 (Nat.zero_le _) (by omega) hI.1.1 (Nat.le_refl _) (fr0.mono (fun _ _ z => z.elim) (by decide) (by decide)) hK rfl
theorem c_next {Q : Int32 → wS → Prop} {v : Int32} (hK : CK σ x K S) (hI : IV S) (hr : RM σ) (hF : 1000 ≤ F) (hQ : ∀ τ, Cf σ τ → CC τ x (o_next S v).2 → Q (o_next S v).1 τ) : w_X0_next F σ x v Q := by
  have hA := hI.1.2
  have hN := hI.1.1.1.2.2
  unfold w_X0_next
  refine c_in0 (N := 4) (by decide) (by decide) (fun e => ?_) (fun w hw hv e => ?_)
  · have eo : o_next S v = noA S 5 := by unfold o_next; rw [e]
    rw [eo] at hQ
    exact c_needX (n := 5) (Q := Q) hK hA (by decide) (fr0 (σ := σ)) noP hr (by decide) (by decide) (fun _ _ => rfl) (fun z => absurd rfl z) (fun _ => hQ)
  refine c_needX (n := 5) (Q := Q) hK hA (by decide) (fr0 (σ := σ)) noP hr (by decide) (by decide) (fun _ _ => rfl) (fun _ => ?_) (fun z => absurd z (by decide))
  refine ⟨hK.1.1.1.1, K 2, hK.1.1.1.2.2.2.1, hK.1.1.2.1.2.1, ?_⟩
  rw [(ck_m hK).1]
  refine c_finds hK hI hF (fun hz τ2 f2 => ?_) (fun e' r' f' hz τ2 f2 fs2 => ?_)
  · rw [if_pos rfl]
    have eo : o_next S v = (-1, S) := by unfold o_next; rw [e]; dsimp only; rw [hz]
    rw [eo] at hQ
    exact hQ τ2 (f2.cf (pfi_P hK) (by decide) (by decide)) ⟨K, ck_fi hK hA f2⟩
  rw [if_neg (by decide)]
  have eo : o_next S v = (if w = 0 then nI e' else if w = 1 then nI r' else if w = 2 then (if r' = 0 then -1 else nI f') else if 64 < mN S.1 + nws S.1 e' r' f' then 0 else 1, S) := by unfold o_next; rw [e]; dsimp only; rw [hz]
  rw [eo] at hQ
  have ck2 := ck_fi hK hA f2
  have hq := hQ τ2 (f2.cf (pfi_P hK) (by decide) (by decide)) ⟨K, ck2⟩
  have k2 := ck2.1.1.2.1.2.1
  have o3 := ck2.1.1.1.2.2.2.1
  by_cases w0 : w = 0
  · rw [if_pos (show v = 0 by rw [hv, w0]; rfl)]
    rw [if_pos w0] at hq
    refine ⟨K 2, o3, k2, ?_⟩
    rw [fs2.2.1]; exact hq
  rw [if_neg (show ¬ v = (0 : Int32) by rw [hv]; exact nI_eqf (b := 0) (by omega) (by decide) w0)]
  rw [if_neg w0] at hq
  by_cases w1 : w = 1
  · rw [if_pos (show v = 1 by rw [hv, w1]; rfl)]
    rw [if_pos w1] at hq
    refine ⟨K 2, o3, k2, ?_⟩
    rw [fs2.2.2.1]; exact hq
  rw [if_neg (show ¬ v = (1 : Int32) by rw [hv]; exact nI_eqf (b := 1) (by omega) (by decide) w1)]
  rw [if_neg w1] at hq
  by_cases w2 : w = 2
  · rw [if_pos (show v = 2 by rw [hv, w2]; rfl)]
    rw [if_pos w2] at hq
    refine ⟨K 2, o3, k2, ?_⟩
    rw [fs2.2.2.2]; exact hq
  rw [if_neg (show ¬ v = (2 : Int32) by rw [hv]; exact nI_eqf (b := 2) (by omega) (by decide) w2)]
  refine ⟨K 2, o3, k2, c_hasRoom ck2 hI (nk_of hz) fs2 hF (fun τ3 f3 fs3 => ?_)⟩
  have hq3 := hQ τ3 ((f2.trans f3).cf (pfi_P hK) (by decide) (by decide)) ⟨K, ck_fi ck2 hA f3⟩
  rw [if_neg w0, if_neg w1, if_neg w2] at hq3
  by_cases z : 64 < mN S.1 + nws S.1 e' r' f'
  · rw [if_pos z] at hq3 ⊢
    rw [if_pos rfl]; exact hq3
  · rw [if_neg z] at hq3 ⊢
    rw [if_neg (by decide)]; exact hq3
end PC
