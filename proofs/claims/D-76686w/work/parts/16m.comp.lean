set_option linter.unusedVariables false
set_option maxRecDepth 10000
/-! ===== component: reading, two inputs ===== -/
section PC
variable {σ τ υ σ0 : wS} {x m F t ro k n i : Nat} {s : mS} {S : gS} {K K' : Nat → Nat} {P P' : Nat → Nat → Prop} {a b c d : Nat} {f : Nat → Int64}
theorem c_pairR {R kd p i0 : Nat} {Q : Option Nat → wS → Prop} {Xh : Nat → Nat → wS → Prop} {res : Nat ⊕ (Nat × Nat)} (rc : RdX F t ro m k n f s R) (hb : ∀ p, p < s 10 0 → s 12 p < 16) (h8 : s 10 0 ≤ 8) (hk : kd = 5 ∨ kd = 6) (hp : p < 8) (h : Rd σ t ro m k n f s i) (hi : i ≤ n) (hR : 210 ≤ i + 1 + 7 * R) (hr : n - i + 3 ≤ rC σ ∧ 5 * (n - i) + 20 ≤ rS σ)
    (hres : (match mst (Lf f) n [40] i with
      | Sum.inl z => Sum.inl z
      | Sum.inr j1 => match psr s (Lf f) n R j1 with
        | Sum.inl z => Sum.inl z
        | Sum.inr y => match mst (Lf f) n [44] y.1 with
          | Sum.inl z => Sum.inl z
          | Sum.inr j3 => match psr s (Lf f) n R j3 with
            | Sum.inl z => Sum.inl z
            | Sum.inr w => match mst (Lf f) n [41] w.1 with
              | Sum.inl z => Sum.inl z
              | Sum.inr j5 => if (y.2.testBit p && w.2.testBit p) = true then Sum.inr (j5, if kd = 5 then y.2 ||| w.2 else y.2) else Sum.inl i0) = res)
    (ok : ∀ j c, res = Sum.inr (j, c) → ∀ τ o, Fr (P4 t) (j - i) (5 * (j - i)) σ τ → Rd τ t ro m k n f s j → oC σ o = 0 → (oC τ o = 45 ∧ oI τ 4502 o = nI kd ∧ oI τ 4200 o = nI p ∧ ∃ o1 o2, oR τ 4503 o = some o1 ∧ oR τ 4504 o = some o2 ∧ SD (fun o => oC σ o = 0) τ s (Lf f) n R (i + 1) o1 ∧ SD (fun o => oC σ o = 0) τ s (Lf f) n R (pse s (Lf f) n R (i + 1) + 1) o2) → oI τ 4201 o = nI c → Q (some o) τ)
    (hX : ∀ z, res = Sum.inl z → XF Xh t (n - i + 3) (5 * (n - i) + 20) σ z) : w_X39_pair F (w_X39_expression F R) σ t (nI kd) (nI p) (nI i0) Q Xh := by
  have n160 := h.2.1.2.2
  have nG : ∀ g ∈ GSd, g ≠ 4002 := by decide
  unfold w_X39_pair
  refine ⟨h.1.1, c_must h hi (by omega) (fun hin h40 τ1 f1 hd1 => ?_) (fun z q τ f' => ?_)⟩
  rotate_left
  · rw [mst1, if_neg z] at hres
    exact hX i hres.symm q τ (f'.mono (fun _ _ z => z) (by omega) (by omega))
  rw [mst1, if_pos ⟨hin, h40⟩] at hres
  dsimp only at hres
  obtain ⟨x1, y1⟩ := f1.2.2.1
  refine rc (i + 1) τ1 _ _ hd1 (by omega) (by omega) (by omega) (fun j c he τ3 o1 f3 hd3 sd3 c3 => ?_) (fun z he q τ f' => ?_)
  rotate_left
  · rw [he] at hres
    exact hX z hres.symm q τ ((f1.trans f').mono (fun _ _ z => z) (by omega) (by omega))
  rw [he] at hres
  dsimp only at hres
  have epse : pse s (Lf f) n R (i + 1) = j := by unfold pse; rw [he]
  obtain ⟨c16, j6, jn⟩ := psr_b hb h8 n160 R (i + 1) j c (by omega) he
  have F3 := f1.trans f3
  obtain ⟨x3, y3⟩ := F3.2.2.1
  refine c_must hd3 jn (by omega) (fun hjn h44 τ4 f4 hd4 => ?_) (fun z q τ f' => ?_)
  rotate_left
  · rw [mst1, if_neg z] at hres
    exact hX j hres.symm q τ ((F3.trans f').mono (fun _ _ z => z) (by omega) (by omega))
  rw [mst1, if_pos ⟨hjn, h44⟩] at hres
  dsimp only at hres
  have F4 := F3.trans f4
  obtain ⟨x4, y4⟩ := F4.2.2.1
  have o1c : ∃ c', oC τ3 o1 = c' + 1 := by
    have := sd3.oS
    unfold oS41 at this
    exact ⟨oC τ3 o1 - 1, by omega⟩
  obtain ⟨c', hc'⟩ := o1c
  have c4 : oI τ4 4201 o1 = nI c := by rw [f4.I hc' (fun z => absurd z.2 (by decide))]; exact c3
  have h4c : oC τ4 o1 = c' + 1 := f4.C hc'
  have sd4 := SD.str _ _ _ (sd3.fr (fun o h => h) f4 (fun g hg o ho z => absurd z.2 (nG g hg)) _ _ _)
  refine c_nwo (by omega) (fun τ5 f5 no _ => ?_)
  have f5' : Fr (P4 t) 1 5 τ4 τ5 := f5.mono (fun _ _ z => z.elim) (Nat.le_refl _) (Nat.le_refl _)
  have hd5 := hd4.mv f5' (by rw [f5.I (c := 39) hd4.1.1 (fun z => z)]; exact hd4.1.2.2.2)
  have F5 := F4.trans f5'
  obtain ⟨x5, y5⟩ := F5.2.2.1
  have hq0 : oC σ (nx τ4) = 0 := oC0 F4.1 no.2.1
  have qt : nx τ4 ≠ t := fun z => by have := no.2.1; rw [z, show oC τ4 t = 40 from hd4.1.1] at this; cases this
  have q1 : o1 ≠ nx τ4 := fun z => by have := no.2.1; rw [← z, h4c] at this; cases this
  have sd5 := sd4.fr (fun o h => h) f5 (fun _ _ _ _ z => z) _ _ _
  have c5 : oI τ5 4201 o1 = nI c := by rw [f5.I h4c (fun z => z)]; exact c4
  have h5c : oC τ5 o1 = c' + 1 := f5.C h4c
  refine rc (j + 1) τ5 _ _ hd5 (by omega) (by omega) (by omega) (fun j2 c2 he2 τ6 o2 f6 hd6 sd6' c6' => ?_) (fun z he2 q τ f' => ?_)
  rotate_left
  · rw [he2] at hres
    exact hX z hres.symm q τ ((F5.trans f').mono (fun _ _ z => z) (by omega) (by omega))
  rw [he2] at hres
  dsimp only at hres
  obtain ⟨c16', j6', jn'⟩ := psr_b hb h8 n160 R (j + 1) j2 c2 (by omega) he2
  have F6 := F5.trans f6
  obtain ⟨x6, y6⟩ := F6.2.2.1
  have q6 : oC τ6 (nx τ4) = 45 := f6.C (c := 44) no.1
  have q2 : o2 ≠ nx τ4 := fun z => by have := sd6'.D; rw [z, no.1] at this; cases this
  have sd6 := sd5.fr (fun o h => h) f6 (fun g hg o ho z => absurd z.2 (nG g hg)) _ _ _
  have c6 : oI τ6 4201 o1 = nI c := by rw [f6.I h5c (fun z => absurd z.2 (by decide))]; exact c5
  have s41 : oS41 τ6 (nx τ4) := Or.inr (Or.inr q6)
  have b25 : ∀ v, v = nI (if kd = 5 then c ||| c2 else c) → b_X44_init_25 (nx τ4) (nI kd) (some o1) (some o2) (fun σ22 => w_X39_must σ22 t (41 : Int32) (fun σ25 => w_X44_mayBe σ25 (nx τ4) (fun r27 σ28 => w_X39_holds σ28 t r27 (nI i0) (fun σ31 => Q (some (nx τ4)) σ31) Xh)) Xh) τ6 (some (nx τ4)) (nI p) v := fun v hv => by
    refine ⟨nx τ4, rfl, c_sd41 s41 (fun τ7 w7 v7 u7 => ⟨by rw [w7.1.1]; exact q6, bnd_I fun τ8 w8 v8 => bnd_R fun τ9 w9 v9 => bnd_R fun τ10 w10 v10 => ?_⟩)⟩
    have W : Wq [4200, 4201, 4502, 4503, 4504] (nx τ4) τ6 τ10 := (((w7.mono (by decide)).up w8 (by decide)).up w9 (by decide)).up w10 (by decide)
    have hd10 := hd6.wq W qt (by decide)
    have e42 : oI τ10 4200 (nx τ4) = nI p := by rw [((w10.sam (by decide)) _).1.1, ((w9.sam (by decide)) _).1.1, ((w8.sam (by decide)) _).1.1]; exact v7
    have e41 : oI τ10 4201 (nx τ4) = v := by rw [((w10.sam (by decide)) _).1.1, ((w9.sam (by decide)) _).1.1, ((w8.sam (by decide)) _).1.1]; exact u7
    have e45 : oI τ10 4502 (nx τ4) = nI kd := by rw [((w10.sam (by decide)) _).1.1, ((w9.sam (by decide)) _).1.1]; exact v8
    have e43 : oR τ10 4503 (nx τ4) = some o1 := by rw [((w10.sam (by decide)) _).1.2.2.1]; exact v9
    have Wf : Fr (fun _ o => o = nx τ4) 0 0 τ6 τ10 := W.fr (fun _ _ => rfl)
    have sd10 := sd6.fr (fun o h => h) Wf (fun g hg o ho z => ho.2 (by rw [z]; exact no.2.1)) _ _ _
    have sd10' := sd6'.fr (fun o h => h) Wf (fun g hg o ho z => by rw [z, no.1] at ho; cases ho) _ _ _
    have d1 : oI τ10 4201 o1 = nI c := by rw [(W.2 _ _ (fun e => absurd e q1)).1.1]; exact c6
    have d2 : oI τ10 4201 o2 = nI c2 := by rw [(W.2 _ _ (fun e => absurd e q2)).1.1]; exact c6'
    have F10 := F6.w W (Or.inl hq0)
    obtain ⟨x10, y10⟩ := F10.2.2.1
    refine c_must hd10 jn' (by omega) (fun hjn2 h41 τ11 f11 hd11 => ?_) (fun z q τ f' => ?_)
    rotate_left
    · rw [mst1, if_neg z] at hres
      exact hX j2 hres.symm q τ ((F10.trans f').mono (fun _ _ z => z) (by omega) (by omega))
    rw [mst1, if_pos ⟨hjn2, h41⟩] at hres
    dsimp only at hres
    have nq : ∀ g, ¬ P4 t g (nx τ4) := fun g z => qt z.1
    have q10 : oC τ10 (nx τ4) = 44 + 1 := by rw [W.1.1]; exact q6
    have q11 : oC τ11 (nx τ4) = 44 + 1 := f11.C q10
    have sd11 := sd10.fr (fun o h => h) f11 (fun g hg o ho z => absurd z.2 (nG g hg)) _ _ _
    have sd11' := sd10'.fr (fun o h => h) f11 (fun g hg o ho z => absurd z.2 (nG g hg)) _ _ _
    have cc : ∀ o, oS41 τ10 o → ∃ c', oC τ10 o = c' + 1 := fun o ho => by
      unfold oS41 at ho
      exact ⟨oC τ10 o - 1, by omega⟩
    obtain ⟨ca, hca⟩ := cc _ sd10.oS
    obtain ⟨cb, hcb⟩ := cc _ sd10'.oS
    have d1' : oI τ11 4201 o1 = nI c := by rw [f11.I hca (fun z => absurd z.2 (by decide))]; exact d1
    have d2' : oI τ11 4201 o2 = nI c2 := by rw [f11.I hcb (fun z => absurd z.2 (by decide))]; exact d2
    have r1 : oR τ11 4503 (nx τ4) = some o1 := by rw [f11.R q10 (nq _)]; exact e43
    have r2 : oR τ11 4504 (nx τ4) = some o2 := by rw [f11.R q10 (nq _)]; exact v10
    have k11 : oI τ11 4502 (nx τ4) = nI kd := by rw [f11.I q10 (nq _)]; exact e45
    have p11 : oI τ11 4200 (nx τ4) = nI p := by rw [f11.I q10 (nq _)]; exact e42
    have u11 : oI τ11 4201 (nx τ4) = v := by rw [f11.I q10 (nq _)]; exact e41
    have F11 := F10.trans f11
    obtain ⟨x11, y11⟩ := F11.2.2.1
    have bad : ¬ (c.testBit p && c2.testBit p) = true → ∀ v', v' = (0 : Int32) → w_X39_holds τ11 t v' (nI i0) (fun σ31 => Q (some (nx τ4)) σ31) Xh := fun z v' hv' => by
      refine c_hlds hd11 (by omega) (fun y => absurd hv' y) (fun y q τ f' => ?_)
      rw [if_neg z] at hres
      exact hX i0 hres.symm q τ ((F11.trans f').mono (fun _ _ z => z) (by omega) (by omega))
    refine ⟨q11, o1, r1, sd11.oS, ?_⟩
    rw [d1', p11]
    refine c_has (by omega) (by omega) ?_
    by_cases z1 : c.testBit p = true
    rotate_left
    · rw [if_neg z1, if_pos rfl]
      exact bad (fun z => z1 (by revert z; cases c.testBit p <;> simp)) 0 rfl
    rw [if_pos z1, if_neg (by decide)]
    refine ⟨o2, r2, sd11'.oS, ?_⟩
    rw [d2', p11]
    refine c_has (by omega) (by omega) ?_
    by_cases z2 : c2.testBit p = true
    rotate_left
    · rw [if_neg z2, if_pos rfl]
      exact bad (fun z => z2 (by revert z; cases c2.testBit p <;> simp)) 0 rfl
    rw [if_pos z2, if_neg (by decide)]
    refine c_hlds hd11 (by omega) (fun _ => ?_) (fun y => absurd y (by decide))
    rw [if_pos (by rw [z1, z2]; rfl)] at hres
    refine ok (j2 + 1) _ hres.symm τ11 (nx τ4) (F11.mono (fun _ _ z => z) (by omega) (by omega)) hd11 hq0 ⟨q11, k11, p11, o1, o2, r1, r2, ?_, ?_⟩ (by rw [u11]; exact hv)
    · exact sd11.fr (fun o h => oC0 f1.1 h.1) (Fr.refl (P := fun _ _ => False)) (fun _ _ _ _ z => z) _ _ _
    · rw [epse]
      exact sd11'.fr (fun o h => oC0 F5.1 h) (Fr.refl (P := fun _ _ => False)) (fun _ _ _ _ z => z) _ _ _
  unfold w_X44_init
  rcases hk with rfl | rfl
  · rw [if_neg (show ¬ nI 5 = (6 : Int32) by decide)]
    have sdo : oS41 τ6 o1 := sd6.oS
    refine ⟨o1, rfl, sdo, o2, rfl, sd6'.oS, ?_⟩
    rw [c6, c6', or_nI]
    exact b25 _ (by rw [if_pos rfl])
  · rw [if_pos (show nI 6 = (6 : Int32) from rfl)]
    refine ⟨o1, rfl, sd6.oS, ?_⟩
    rw [c6]
    exact b25 _ (by rw [if_neg (by decide)])
end PC
