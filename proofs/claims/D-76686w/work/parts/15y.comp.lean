set_option linter.unusedVariables false
set_option maxRecDepth 10000
/-! ===== component: drafts, room ===== -/
section PC
variable {σ τ υ σ0 : wS} {x m F : Nat} {s s1 : mS} {S : gS} {K K' : Nat → Nat} {P P' : Nat → Nat → Prop} {a b c d r : Nat}
/-- a value that points at a group -/
def Po (s : mS) (v : Int32) (g : Nat) : Prop := ∃ g', v = nI g' ∧ g' < mG s ∧ R s g' = R s g
/-- a value that points at a group, or at the one that is to come -/
def Px (s : mS) (v : Int32) (h : Nat → Nat) : Prop := (v = -2 ∧ ∀ g, h g = g) ∨ (Po s v (h 0) ∧ h 0 < mG s ∧ ∀ g, h g = h 0)
theorem nI_m2 {n : Nat} (h : n < 2 ^ 31) : nI n ≠ (-2 : Int32) := fun z => by
  have e := congrArg Int32.toInt z
  rw [nI_toInt h, show (-2 : Int32).toInt = -2 from rfl] at e
  omega
theorem px_po {v w : Int32} {h : Nat → Nat} {g : Nat} (hp : Px s v h) (hG : mG s ≤ mG s1) (hG2 : mG s1 < 1000) (hR : ∀ g, g < mG s → R s1 g = R s g) (hg : (∀ g, h g = h 0) ∨ w = nI g ∧ g < mG s1) : Po s1 (if v = (-2 : Int32) then w else v) (h g) := by
  rcases hp with ⟨z, e⟩ | ⟨⟨g', p1, p2, p3⟩, z, e⟩
  · rw [if_pos z, e g]
    rcases hg with y | ⟨y1, y2⟩
    · have a := y 1
      rw [e 1, e 0] at a
      omega
    · exact ⟨g, y1, y2, rfl⟩
  · rw [if_neg (by rw [p1]; exact nI_m2 (by omega)), e g]
    exact ⟨g', p1, by omega, by rw [hR g' p2, hR _ z]; exact p3⟩
def DI (σ : wS) (o : Nat) (s : mS) (e r f : Nat) : Prop := (r = 0 → oI σ 400 o = 0) ∧ (1 ≤ r → r ≠ 4 → (oI σ 400 o = nI (brk s e r f).1 ∧ oI σ 401 o = nI (brk s e r f).2.1) ∧ Po s (oI σ 402 o) (brk s e r f).2.2.1 ∧ Im (5 ≤ (brk s e r f).1) (Po s (oI σ 403 o) (brk s e r f).2.2.2))
def DO (σ : wS) (o : Nat) (s : mS) (e r f : Nat) : Prop := r ≠ 4 → (oI σ 400 o = nI (cms s e r f 0).1 ∧ oI σ 401 o = nI (cms s e r f 0).2.1) ∧ Px s (oI σ 402 o) (fun g => (cms s e r f g).2.2.1) ∧ Im (5 ≤ (cms s e r f 0).1) (Px s (oI σ 403 o) (fun g => (cms s e r f g).2.2.2))
theorem c_is {Q : wS → Prop} {o : Nat} {v1 v2 v3 v4 : Int32} (ok : ok3 σ o) (hQ : ∀ τ, Wq [400, 401, 402, 403] o σ τ → oI τ 400 o = v1 ∧ oI τ 401 o = v2 ∧ oI τ 402 o = v3 ∧ oI τ 403 o = v4 → Q τ) : w_X3_is σ o v1 v2 v3 v4 Q := by
  refine ⟨ok, bnd_I fun τ1 w1 e1 => bnd_I fun τ2 w2 e2 => bnd_I fun τ3 w3 e3 => bnd_I fun τ4 w4 e4 => ?_⟩
  refine hQ τ4 ((((w1.mono (by decide)).up w2 (by decide)).up w3 (by decide)).up w4 (by decide)) ⟨?_, ?_, ?_, e4⟩
  · rw [((w4.sam (by decide)) _).1.1, ((w3.sam (by decide)) _).1.1, ((w2.sam (by decide)) _).1.1, e1]
  · rw [((w4.sam (by decide)) _).1.1, ((w3.sam (by decide)) _).1.1, e2]
  · rw [((w4.sam (by decide)) _).1.1, e3]
theorem Wq.xo {G : List Nat} {q o e k p : Nat} (w : Wq G q σ τ) (h : XO σ o e k p) (d : ∀ g ∈ [3300, 3301], g ∉ G) : XO τ o e k p := by
  unfold XO
  rw [w.1.1, ((w.sam (d 3300 (by decide))) o).1.1, ((w.sam (d 3301 (by decide))) o).1.1]
  exact h
theorem Fr.fd {G : List Nat} {q : Nat} (h : Fr (PFi K) a b σ0 σ) (k : Wq G q σ τ) (hq : q = K 4 ∨ q = K 5) (hG : ∀ g ∈ G, g ∈ GFi) : Fr (PFi K) a b σ0 τ := h.w k (Or.inr (fun g hg => ⟨hG g hg, Or.inr hq⟩))
theorem n34 : ∀ g ∈ [303, 304, 305, 306], g ∉ [400, 401, 402, 403] := by decide
theorem c_drafts {Q : wS → Prop} {e r f : Nat} {oe : Nat} {vf : Option Nat} (hK : CK σ x K S) (hI : IV S) (nk : NK S.1 e r f) (z4 : oI σ 400 (K 4) = 0) (xe : XO σ oe e (S.1 2 e) (S.1 3 e)) (hxf : 1 ≤ r → ∃ of, vf = some of ∧ XO σ of f (S.1 2 f) (S.1 3 f)) (hQ : ∀ τ, Fr (PFi K) 0 0 σ τ → (∀ g ∈ [303, 304, 305, 306], Sam σ τ g (K 2)) → DI τ (K 4) S.1 e r f → DO τ (K 5) S.1 e r f → Q τ) : v_X50v_drafts σ (K (20 + r)) (some (K 0)) (some oe) vf (some (K 4)) (some (K 5)) Q := by
  have hs := hI.1.1.1.1.1
  have l := hI.1.1.1.1.2.1
  have hG := hs.2.1
  have hN := hI.1.1.1.2.2
  obtain ⟨he, h8, h7, k0, k1⟩ := nk
  have nk : NK S.1 e r f := ⟨he, h8, h7, k0, k1⟩
  have r16 : ¬ r = 0 → r = 1 ∨ r = 2 ∨ r = 3 ∨ r = 4 ∨ r = 5 ∨ r = 6 := fun _ => by omega
  have C := hK.1.2.1.1
  have ok4 := hK.1.1.2.1.2.2.2.1
  have ok5 := hK.1.1.2.1.2.2.2.2.1
  have n45 := hK.1.1.2.2.1.1
  have ke := sx_2 hs he
  have oe2 := xe.oS ke
  have ve := vp_inN (show e < 64 by omega) (by decide)
  have ce : (nI e).toNatClampNeg = e := nI_clamp (by omega)
  obtain ⟨-, A4, A5, -, -⟩ := C.2.1 e he
  have f00 : Fr (PFi K) 0 0 σ σ := fr0.mono (fun _ _ z => z.elim) (by decide) (by decide)
  have rc := (hK.1.1.2.2.2.2.1 r h7).2
  have po : ∀ (v : Int32) (g : Nat), (∃ g', v = nI g' ∧ g' < mG S.1 ∧ R S.1 g' = R S.1 g) → Po S.1 v g := fun _ _ h => h
  unfold v_X50v_drafts
  rw [rc]
  by_cases r0 : r = 0
  · subst r0
    have k5 := (k0 rfl).1
    refine vT ⟨oe, rfl, oe2, K 0, rfl, C.1.1, ?_⟩
    rw [xe.2.1, xe.2.2, ce]
    refine ⟨ve, K 5, rfl, ok5, c_is ok5 (fun τ w ⟨q1, q2, q3, q4⟩ => ?_)⟩
    refine hQ τ (f00.fd w (Or.inr rfl) (by decide)) (fun g hg => w.2 g _ (fun _ => n34 g hg)) ⟨fun _ => ?_, fun z => absurd z (by decide)⟩ (fun _ => ⟨⟨q1, q2⟩, ?_, fun _ => ?_⟩)
    · rw [(w.2 400 (K 4) (fun y => absurd y n45)).1.1]; exact z4
    · rw [q3]
      exact Or.inr ⟨A5 (by omega), sx_5 hs he (by omega), fun _ => rfl⟩
    · rw [q4]
      exact Or.inr ⟨A4 (by omega), sx_4 hs he (by omega), fun _ => rfl⟩
  obtain ⟨hf, f8, hR, hk1, hfit⟩ := k1 (by omega)
  obtain ⟨of, ef, xf⟩ := hxf (by omega)
  subst ef
  have kf := sx_2 hs hf
  have of2 := xf.oS kf
  have vf := vp_inN (show f < 64 by omega) (by decide)
  have cf : (nI f).toNatClampNeg = f := nI_clamp (by omega)
  obtain ⟨-, B4, B5, -, -⟩ := C.2.1 f hf
  obtain ⟨f1, f2, f3, f4, f5, f6⟩ := fit_k (Nat.one_le_iff_ne_zero.mpr r0) h7 hfit
  have fin : ∀ τ τ', Wq [400, 401, 402, 403] (K 4) σ τ → Wq [400, 401, 402, 403] (K 5) τ τ' → (oI τ 400 (K 4) = nI (brk S.1 e r f).1 ∧ oI τ 401 (K 4) = nI (brk S.1 e r f).2.1) → Po S.1 (oI τ 402 (K 4)) (brk S.1 e r f).2.2.1 → Im (5 ≤ (brk S.1 e r f).1) (Po S.1 (oI τ 403 (K 4)) (brk S.1 e r f).2.2.2) → DO τ' (K 5) S.1 e r f → Q τ' := fun τ τ' w w' p1 p2 p3 p4 => by
    refine hQ τ' ((f00.fd w (Or.inl rfl) (by decide)).fd w' (Or.inr rfl) (by decide)) ?_ ⟨fun z => absurd z r0, fun _ _ => ?_⟩ p4
    · exact fun g hg => (w.2 g _ (fun _ => n34 g hg)).trans (w'.2 g _ (fun _ => n34 g hg))
    · have e1 := fun g => (w'.2 g (K 4) (fun y => absurd y n45)).1.1
      rw [e1 400, e1 401, e1 402, e1 403]
      exact ⟨p1, p2, p3⟩
  rcases r16 r0 with rfl | rfl | rfl | rfl | rfl | rfl
  · have q := f1 rfl
    refine vI (by decide) (vT ⟨oe, rfl, oe2, K 0, rfl, C.1.1, of, rfl, of2, ?_⟩)
    rw [xe.2.1, xe.2.2, xf.2.1, ce, cf]
    refine ⟨vf, ve, K 4, rfl, ok4, c_is ok4 (fun τ w ⟨q1, q2, q3, q4⟩ => ?_)⟩
    have xf2 := w.xo xf (by decide)
    rw [xf2.2.1, xf2.2.2, cf, ((w.sam (by decide)) (K 0)).1.2.2.2]
    refine ⟨vf, K 5, rfl, ok3.ext ok5 w.ext, c_is (ok3.ext ok5 w.ext) (fun τ' w' ⟨u1, u2, u3, u4⟩ => ?_)⟩
    refine fin τ τ' w w' ⟨q1, q2⟩ (by rw [q3]; exact B5 (by omega)) (fun _ => by rw [q4]; exact A5 (by omega)) (fun _ => ⟨⟨u1, u2⟩, ?_, fun _ => ?_⟩)
    · rw [u3]; exact Or.inr ⟨B4 (by omega), sx_4 hs hf (by omega), fun _ => rfl⟩
    · rw [u4]; exact Or.inl ⟨rfl, fun _ => rfl⟩
  · have q := f2 rfl
    refine vI (by decide) (vI (by decide) (vT ⟨oe, rfl, oe2, K 0, rfl, C.1.1, of, rfl, of2, ?_⟩))
    rw [xe.2.2, xf.2.1, cf]
    refine ⟨vf, K 4, rfl, ok4, c_is ok4 (fun τ w ⟨q1, q2, q3, q4⟩ => ?_)⟩
    have xf2 := w.xo xf (by decide)
    refine v_kind xf2 kf ?_
    rw [xf2.2.1, xf2.2.2, cf, ((w.sam (by decide)) (K 0)).1.2.2.2]
    refine ⟨vf, K 5, rfl, ok3.ext ok5 w.ext, c_is (ok3.ext ok5 w.ext) (fun τ' w' ⟨u1, u2, u3, u4⟩ => ?_)⟩
    refine fin τ τ' w w' ⟨q1, q2⟩ (by rw [q3]; exact B4 (by omega)) (fun z => absurd z (show ¬ 5 ≤ 3 by decide)) (fun _ => ⟨⟨u1, u2⟩, ?_, fun _ => ?_⟩)
    · rw [u3]; exact Or.inl ⟨rfl, fun _ => rfl⟩
    · rw [u4]; exact Or.inr ⟨B5 (by omega), sx_5 hs hf (by omega), fun _ => rfl⟩
  · have q := f3 rfl
    refine vI (by decide) (vI (by decide) (vI (by decide) (vT ⟨oe, rfl, oe2, K 0, rfl, C.1.1, of, rfl, of2, ?_⟩)))
    rw [xe.2.2, xf.2.1, cf]
    refine ⟨vf, K 4, rfl, ok4, c_is ok4 (fun τ w ⟨q1, q2, q3, q4⟩ => ?_)⟩
    have xf2 := w.xo xf (by decide)
    rw [xf2.2.2]
    refine ⟨K 5, rfl, ok3.ext ok5 w.ext, c_is (ok3.ext ok5 w.ext) (fun τ' w' ⟨u1, u2, u3, u4⟩ => ?_)⟩
    refine fin τ τ' w w' ⟨q1, q2⟩ (by rw [q3]; exact B4 (by omega)) (fun z => absurd z (show ¬ 5 ≤ 3 by decide)) (fun _ => ⟨⟨u1, u2⟩, ?_, fun z => absurd z (show ¬ 5 ≤ 3 by decide)⟩)
    rw [u3]; exact Or.inl ⟨rfl, fun _ => rfl⟩
  · refine vI (by decide) (vI (by decide) (vI (by decide) (vI (by decide) (vT ?_))))
    exact hQ σ f00 (fun _ _ => ⟨⟨rfl, rfl, rfl, rfl⟩, rfl, rfl⟩) ⟨fun z => absurd z (by decide), fun _ z => absurd rfl z⟩ (fun z => absurd rfl z)
  · have q := f5 rfl
    refine vI (by decide) (vI (by decide) (vI (by decide) (vI (by decide) (vI (by decide) (vT ⟨oe, rfl, oe2, K 0, rfl, C.1.1, of, rfl, of2, ?_⟩)))))
    rw [xe.2.2, xf.2.1, cf]
    refine ⟨vf, K 4, rfl, ok4, c_is ok4 (fun τ w ⟨q1, q2, q3, q4⟩ => ?_)⟩
    have xf2 := w.xo xf (by decide)
    rw [xf2.2.2]
    refine ⟨K 5, rfl, ok3.ext ok5 w.ext, c_is (ok3.ext ok5 w.ext) (fun τ' w' ⟨u1, u2, u3, u4⟩ => ?_)⟩
    refine fin τ τ' w w' ⟨q1, q2⟩ (by rw [q3]; exact B4 (by omega)) (fun z => absurd z (show ¬ 5 ≤ 4 by decide)) (fun _ => ⟨⟨u1, u2⟩, ?_, fun z => absurd z (show ¬ 5 ≤ 3 by decide)⟩)
    rw [u3]; exact Or.inl ⟨rfl, fun _ => rfl⟩
  · have q := f6 rfl
    refine vI (by decide) (vI (by decide) (vI (by decide) (vI (by decide) (vI (by decide) (vI (by decide) (vT ⟨oe, rfl, oe2, K 0, rfl, C.1.1, of, rfl, of2, ?_⟩))))))
    rw [xe.2.1, xe.2.2, xf.2.1, ce, cf]
    refine ⟨vf, ve, K 4, rfl, ok4, c_is ok4 (fun τ w ⟨q1, q2, q3, q4⟩ => ?_)⟩
    have xf2 := w.xo xf (by decide)
    rw [xf2.2.1, xf2.2.2, cf, ((w.sam (by decide)) (K 0)).1.2.2.2]
    refine ⟨vf, K 5, rfl, ok3.ext ok5 w.ext, c_is (ok3.ext ok5 w.ext) (fun τ' w' ⟨u1, u2, u3, u4⟩ => ?_)⟩
    refine fin τ τ' w w' ⟨q1, q2⟩ (by rw [q3]; exact B4 (by omega)) (fun _ => by rw [q4]; exact A5 (by omega)) (fun _ => ⟨⟨u1, u2⟩, ?_, fun _ => ?_⟩)
    · rw [u3]; exact Or.inl ⟨rfl, fun _ => rfl⟩
    · rw [u4]; exact Or.inr ⟨B5 (by omega), sx_5 hs hf (by omega), fun _ => rfl⟩
theorem FS.sam {e r f : Nat} (h : FS σ K e r f) (w : ∀ g ∈ [303, 304, 305, 306], Sam σ τ g (K 2)) : FS τ K e r f := by
  unfold FS
  rw [(w 303 (by decide)).1.2.2.1, (w 304 (by decide)).1.1, (w 305 (by decide)).1.1, (w 306 (by decide)).1.1]
  exact h
theorem c_drafted {Q : Option Nat → wS → Prop} {e r f : Nat} (hK : CK σ x K S) (hI : IV S) (nk : NK S.1 e r f) (fs : FS σ K e r f) (hQ : ∀ τ, Fr (PFi K) 0 0 σ τ → FS τ K e r f → DI τ (K 4) S.1 e r f → DO τ (K 5) S.1 e r f → Q (some (K (20 + r))) τ) : w_X2_drafted σ (K 2) Q := by
  have hs := hI.1.1.1.1.1
  have hA := hI.1.2
  have hG := hs.2.1
  have hN := hI.1.1.1.2.2
  have he := nk.1
  have h7 := nk.2.2.1
  have k2 := hK.1.1.2.1.2.1
  have ok4 := hK.1.1.2.1.2.2.2.1
  have ok5 := hK.1.1.2.1.2.2.2.2.1
  have n45 := hK.1.1.2.2.1.1
  obtain ⟨c1, c2, c3, c4⟩ := hK.1.1.2.2.2.1
  obtain ⟨rr, rc⟩ := hK.1.1.2.2.2.2.1 r h7
  have f00 : Fr (PFi K) 0 0 σ σ := fr0.mono (fun _ _ z => z.elim) (by decide) (by decide)
  unfold w_X2_drafted
  rw [fs.2.2.1, nI_clamp (by omega), rr, c1]
  refine ⟨k2, vp_inN h7 (by decide), ?_⟩
  intro v3 hv3
  refine ⟨K 4, rfl, ok4, bnd_I fun τ1 w1 v1 => ?_⟩
  refine ⟨K 5, by rw [((w1.sam (by decide)) _).1.2.2.1]; exact c2, ok3.ext ok5 w1.ext, bnd_I fun τ2 w2 v2 => ?_⟩
  have fr : Fr (PFi K) 0 0 σ τ2 := (f00.fd w1 (Or.inl rfl) (by decide)).fd w2 (Or.inr rfl) (by decide)
  have hk := ck_fi hK hA fr
  have C := hk.1.2.1.1
  have s12 : ∀ g ∈ [303, 304, 305, 306], Sam σ τ2 g (K 2) := fun g hg => (w1.2 g _ (fun _ => (by decide : ∀ g ∈ [303, 304, 305, 306], g ∉ [400]) g hg)).trans (w2.2 g _ (fun _ => (by decide : ∀ g ∈ [303, 304, 305, 306], g ∉ [400]) g hg))
  have fs2 := fs.sam s12
  obtain ⟨c1', c2', c3', c4'⟩ := hk.1.1.2.2.2.1
  obtain ⟨oe, e1, xe⟩ := (C.2.1 e he).1
  have z4 : oI τ2 400 (K 4) = 0 := by rw [(w2.2 400 (K 4) (fun y => absurd y n45)).1.1]; exact v1
  have ve := vp_inN (show e < 64 by omega) (by decide)
  refine ⟨K 0, fs2.1, C.1.1, ?_⟩
  rw [fs2.2.1, fs2.2.2.2, nI_clamp (n := e) (by omega), e1]
  refine ⟨ve, ?_⟩
  have go : ∀ vf, (1 ≤ r → ∃ of, vf = some of ∧ XO τ2 of f (S.1 2 f) (S.1 3 f)) → b_X2_drafted_67 (K 2) Q τ2 v3 v3 (oR τ2 303 (K 2)) (some oe) vf := fun vf hvf => by
    unfold b_X2_drafted_67
    rw [hv3, fs2.1, c1', c2']
    refine ⟨hk.1.1.2.1.2.1, K (20 + r), rfl, c_drafts hk hI nk z4 xe hvf (fun τ3 f3 s3 di do' => ?_)⟩
    exact hQ τ3 (fr.trans f3) (fs2.sam s3) di do'
  by_cases r0 : r = 0
  · subst r0
    rw [if_pos (show fN 0 f = (-1 : Int32) from rfl)]
    exact go none (fun z => absurd z (by decide))
  · have hf := (nk.2.2.2.2 (by omega)).1
    obtain ⟨of, e2, xf⟩ := (C.2.1 f hf).1
    have ef : fN r f = nI f := if_neg r0
    rw [ef, if_neg (nI_m1 (by omega)), nI_clamp (by omega), e2]
    exact ⟨vp_inN (by omega) (by decide), go _ (fun _ => ⟨of, rfl, xf⟩)⟩
theorem c_mergesV {Q : Int32 → wS → Prop} {o r : Nat} (hr : r < 7) (ho : oC σ o = 5 + r) (hQ : Q (if r = 4 then 1 else 0) σ) : v_X50v_merges σ o Q := by
  unfold v_X50v_merges
  rw [ho]
  rcases (show r = 0 ∨ r = 1 ∨ r = 2 ∨ r = 3 ∨ r = 4 ∨ r = 5 ∨ r = 6 by omega) with rfl | rfl | rfl | rfl | rfl | rfl | rfl <;> exact hQ
theorem c_alk3 {Q : Int32 → wS → Prop} {o : Nat} {v : Int32} {y : X4} (hC : CM σ m s) (hs : Sh s) (hN : mN s ≤ 64) (ok : ok3 σ o) (h4 : k4ok s y) (e1 : oI σ 400 o = nI y.1) (e2 : oI σ 401 o = nI y.2.1) (hx : Po s (if oI σ 402 o = (-2 : Int32) then v else oI σ 402 o) y.2.2.1) (hy : Im (5 ≤ y.1) (Po s (if oI σ 403 o = (-2 : Int32) then v else oI σ 403 o) y.2.2.2)) (hF : 1000 ≤ F) (hQ : Q (oN (lk4 s y)) σ) : w_X3_alike F σ o (some m) v Q := by
  refine ⟨ok, m, rfl, hC.1.1, ?_⟩
  rw [e1, e2]
  exact c_alike hC hs hN h4.1.2 (by have := h4.2.1; omega) (fun _ => hx) hy (by omega) hQ
theorem po_if {v w : Int32} {g : Nat} (h : Po s v g) (hG : mG s < 1000) : Po s (if v = (-2 : Int32) then w else v) g := by
  obtain ⟨g', p1, p2, p3⟩ := h
  rw [if_neg (by rw [p1]; exact nI_m2 (by omega))]
  exact ⟨g', p1, p2, p3⟩
theorem cms_k {e r f g : Nat} : (cms s e r f g).1 = (cms s e r f 0).1 ∧ (cms s e r f g).2.1 = (cms s e r f 0).2.1 := by
  unfold cms
  split
  · exact ⟨rfl, rfl⟩
  split
  · exact ⟨rfl, rfl⟩
  split
  · exact ⟨rfl, rfl⟩
  split <;> exact ⟨rfl, rfl⟩
theorem cms_0 {e f g : Nat} : cms s e 0 f g = cms s e 0 f 0 := rfl
theorem c_hasRoom {Q : Int32 → wS → Prop} {e r f : Nat} (hK : CK σ x K S) (hI : IV S) (nk : NK S.1 e r f) (fs : FS σ K e r f) (hF : 1000 ≤ F) (hQ : ∀ τ, Fr (PFi K) 0 0 σ τ → FS τ K e r f → Q (if 64 < mN S.1 + nws S.1 e r f then 0 else 1) τ) : w_X2_hasRoom F σ (K 2) Q := by
  have hs := hI.1.1.1.1.1
  have hA := hI.1.2
  have hG := hs.2.1
  have hN := hI.1.1.1.2.2
  have h7 := nk.2.2.1
  unfold w_X2_hasRoom
  refine ⟨hK.1.1.2.1.2.1, c_drafted hK hI nk fs (fun τ fr fs2 di do' => ?_)⟩
  have hk := ck_fi hK hA fr
  have C := hk.1.2.1.1
  have k2 := hk.1.1.2.1.2.1
  have ok4 := hk.1.1.2.1.2.2.2.1
  have ok5 := hk.1.1.2.1.2.2.2.2.1
  obtain ⟨c1, c2, c3, c4⟩ := hk.1.1.2.2.2.1
  have rc := (hk.1.1.2.2.2.2.1 r h7).2
  have hq := hQ τ fr fs2
  refine ⟨K (20 + r), rfl, c_mergesV h7 rc ?_⟩
  by_cases r4 : r = 4
  · rw [if_pos r4, if_neg (by decide)]
    have e0 : nws S.1 e r f = 0 := by unfold nws; rw [if_pos r4]
    rw [e0, if_neg (by omega)] at hq
    exact hq
  rw [if_neg r4, if_pos rfl]
  obtain ⟨⟨d1, d2⟩, d3, d4⟩ := do' r4
  have b111 : ∀ n, n < 3 → nws S.1 e r f = n → b_X2_hasRoom_111 F (K 2) Q τ (nI n) := fun n hn en => by
    rw [en] at hq
    unfold b_X2_hasRoom_111
    refine ⟨k2, K 0, fs2.1, C.1.1, ?_⟩
    rw [C.1.2.2.1, nI_add]
    by_cases q : 64 < mN S.1 + n
    · rw [if_pos (show (64 : Int32) < nI (mN S.1 + n) from nI_lt (a := 64) q (by omega))]
      rw [if_pos q] at hq; exact hq
    · rw [if_neg (show ¬ (64 : Int32) < nI (mN S.1 + n) from nI_nlt (a := 64) (b := mN S.1 + n) (by omega) (by decide))]
      rw [if_neg q] at hq; exact hq
  have b99 : ∀ v g, (r = 0 ∨ v = nI g ∧ g < mG S.1) → nws S.1 e r f = (if lk4 S.1 (cms S.1 e r f g) = none then 1 else 0) → b_X2_hasRoom_99 F (K 2) Q τ (oR τ 302 (K 2)) (oR τ 303 (K 2)) v := fun v g hv en => by
    have hv' : ∀ h : Nat → X4, (h = cms S.1 e r f) → ((∀ g, (h g) = (h 0)) ∨ v = nI g ∧ g < mG S.1) := fun h hh => by
      rcases hv with z | z
      · left; intro g; rw [hh, z]; rfl
      · exact Or.inr z
    unfold b_X2_hasRoom_99
    rw [c2, fs2.1]
    have kk := cms_k (s := S.1) (e := e) (r := r) (f := f) (g := g)
    refine ⟨K 5, rfl, ok5, c_alk3 (y := cms S.1 e r f g) C hs hN ok5 (cms_ok hs nk r4 (fun z => ?_)) (by rw [kk.1]; exact d1) (by rw [kk.2]; exact d2) ?_ ?_ hF ?_⟩
    · rcases hv with y | y
      · omega
      · exact y.2
    · refine px_po (h := fun g => (cms S.1 e r f g).2.2.1) d3 (Nat.le_refl _) (by omega) (fun _ _ => rfl) ?_
      rcases hv' _ rfl with z | z
      · exact Or.inl (fun g => by rw [z g])
      · exact Or.inr z
    · intro z
      rw [kk.1] at z
      refine px_po (h := fun g => (cms S.1 e r f g).2.2.2) (d4 z) (Nat.le_refl _) (by omega) (fun _ _ => rfl) ?_
      rcases hv' _ rfl with z | z
      · exact Or.inl (fun g => by rw [z g])
      · exact Or.inr z
    · cases q : lk4 S.1 (cms S.1 e r f g) with
      | none =>
        rw [q, if_pos rfl] at en
        rw [if_pos (show oN none = (-1 : Int32) from rfl)]
        exact b111 1 (by decide) en
      | some i =>
        rw [q, if_neg (fun z => nomatch z)] at en
        have hi := lk4_lt q
        rw [if_neg (show ¬ oN (some i) = (-1 : Int32) from nI_m1 (by omega))]
        exact b111 0 (by decide) en
  refine ⟨K 4, c1, ok4, ?_⟩
  by_cases r0 : r = 0
  · subst r0
    rw [if_pos (di.1 rfl)]
    unfold b_X2_hasRoom_40
    refine ⟨k2, K 4, c1, ok4, ?_⟩
    rw [if_pos (di.1 rfl)]
    intro v hv
    rw [hv, if_pos rfl, if_pos rfl, if_pos rfl]
    unfold b_X2_hasRoom_87
    exact b99 (-1) 0 (Or.inl rfl) (by unfold nws; rw [if_neg (by decide), if_pos rfl])
  obtain ⟨⟨i1, i2⟩, i3, i4⟩ := di.2 (by omega) r4
  have bk := brk_ok hs nk (by omega) r4
  have n0 : ¬ oI τ 400 (K 4) = 0 := by
    rw [i1]
    have := bk.1
    exact nI_eqf (b := 0) (by omega) (by decide) (by omega)
  rw [if_neg n0, fs2.1]
  refine c_alk3 C hs hN ok4 bk i1 i2 (po_if i3 (by omega)) (fun z => po_if (i4 z) (by omega)) hF ?_
  have en : nws S.1 e r f = (match lk4 S.1 (brk S.1 e r f) with
    | none => 2
    | some i => if lk4 S.1 (cms S.1 e r f (R S.1 (S.1 6 i))) = none then 1 else 0) := by unfold nws; rw [if_neg r4, if_neg r0]; cases lk4 S.1 (brk S.1 e r f) <;> rfl
  unfold b_X2_hasRoom_40
  refine ⟨k2, K 4, c1, ok4, ?_⟩
  rw [if_neg n0]
  cases q : lk4 S.1 (brk S.1 e r f) with
  | none =>
    rw [q] at en
    rw [if_pos (show oN none = (-1 : Int32) from rfl)]
    intro v hv
    rw [hv, if_neg (by decide)]
    exact b111 2 (by decide) en
  | some i =>
    rw [q] at en
    have hi := lk4_lt q
    have r6 := sh_lt hs (sx_6 hs hi)
    rw [if_neg (show ¬ oN (some i) = (-1 : Int32) from nI_m1 (by omega))]
    intro v hv
    rw [hv, if_pos rfl, if_pos rfl, if_neg (show ¬ oN (some i) = (-1 : Int32) from nI_m1 (by omega)), fs2.1]
    refine ⟨K 0, rfl, C.1.1, c_home C hs hN hi (by omega) ?_⟩
    rw [← fs2.1]
    exact b99 _ _ (Or.inr ⟨rfl, r6⟩) en
end PC
