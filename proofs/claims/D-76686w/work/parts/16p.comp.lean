set_option linter.unusedVariables false
set_option maxRecDepth 10000
/-! ===== component: read ===== -/
section PC
variable {σ τ υ σ0 : wS} {x m F t q : Nat} {s : mS} {S : gS} {K K' : Nat → Nat} {P P' : Nat → Nat → Prop} {a b c d : Nat}
def Px2 (x g o : Nat) : Prop := o = x ∧ (g = 107 ∨ g = 110)
theorem Sk.memo (h : Sk σ x K) (f : Fr (Px2 x) a b σ τ) (v : oR τ 107 x = some q) (K0 : K' 0 = q) (Kj : ∀ j, j ≠ 0 → K' j = K j) : Sk τ x K' := by
  obtain ⟨⟨a1, a2, a3, a4, a5⟩, ⟨b1, b2, b3, b4, b5, b6, b7⟩, h2, ⟨c1, c2, c3, c4⟩, r, w, sh, di⟩ := h
  have no : ∀ g, g ≠ 107 → g ≠ 110 → ∀ o, ¬ Px2 x g o := fun g h1 h2 o z => z.2.elim h1 h2
  have fR : ∀ g o c, oC σ o = c + 1 → g ≠ 107 → g ≠ 110 → oR τ g o = oR σ g o := fun g o c hc h1 h2 => f.R hc (no g h1 h2 _)
  have fAR : ∀ g o c, oC σ o = c + 1 → g ≠ 107 → g ≠ 110 → aR τ g o = aR σ g o := fun g o c hc h1 h2 => f.AR hc (no g h1 h2 _)
  unfold Sk
  rw [K0, Kj 1 (by decide), Kj 2 (by decide), Kj 3 (by decide), Kj 4 (by decide), Kj 5 (by decide), Kj 6 (by decide), Kj 7 (by decide)]
  refine ⟨⟨ok0.ext a1 f.1, v, ?_, ?_, ?_⟩, ⟨ok1.ext b1 f.1, ok2.ext b2 f.1, ok11.ext b3 f.1, ok3.ext b4 f.1, ok3.ext b5 f.1, ok12.ext b6 f.1, ok1.ext b7 f.1⟩, h2, ⟨?_, ?_, ?_, ?_⟩, fun i hi => ?_, fun i hi => ?_, fun i hi => ?_, fun i j hi hj hij => ?_⟩
  · rw [fR _ _ _ a1.1 (by decide) (by decide)]; exact a3
  · rw [fR _ _ _ a1.1 (by decide) (by decide)]; exact a4
  · rw [fR _ _ _ a1.1 (by decide) (by decide)]; exact a5
  · rw [fR _ _ _ b2.1 (by decide) (by decide)]; exact c1
  · rw [fR _ _ _ b2.1 (by decide) (by decide)]; exact c2
  · rw [fR _ _ _ b3.1 (by decide) (by decide)]; exact c3
  · rw [fR _ _ _ b6.1 (by decide) (by decide)]; exact c4
  · rw [Kj (20 + i) (by omega), fAR _ _ _ b2.1 (by decide) (by decide)]
    exact ⟨(r i hi).1, by rw [f.C (c := 4 + i) (by rw [(r i hi).2]; omega)]; omega⟩
  · rw [Kj (30 + i) (by omega), fAR _ _ _ b6.1 (by decide) (by decide)]
    have hw : 13 < wyT i := by
      have := wyT_S i hi
      omega
    obtain ⟨c, hc⟩ : ∃ c, wyT i = c + 1 := ⟨wyT i - 1, by omega⟩
    exact ⟨(w i hi).1, by rw [f.C (c := c) (by rw [(w i hi).2, hc]), hc]⟩
  · rw [Kj (10 + i) (by omega), fAR _ _ _ a1.1 (by decide) (by decide)]
    exact ⟨(sh i hi).1, f.C (sh i hi).2⟩
  · rw [Kj (10 + i) (by omega), Kj (10 + j) (by omega)]; exact di i j hi hj hij
theorem ck_110 {v : Nat} (h : CK σ x K S) (hA : AV S) (f : Fr (fun g o => o = x ∧ g = 110) a b σ τ) (e : oI τ 110 x = eI v) : CK τ x K (sF S v) := by
  obtain ⟨⟨k1, k2, k3⟩, ⟨k4, k5, k6⟩, k7, k8⟩ := h
  have hx := k1.1.1.1
  have h1 := k1.2.1.1.1
  have no : ∀ g, g ≠ 110 → ∀ o, ¬ (o = x ∧ g = 110) := fun g hg o z => hg z.2
  refine ⟨⟨k1.fr f (fun g hg => no g (by revert g; decide)), k2.fr f (fun g hg => no g (by revert g; decide) _) (fun g hg => no g (by revert g; decide)), fun i hi => ?_⟩, ⟨k4.fr k1 hA f (fun g hg => no g (by revert g; decide)), ⟨?_, ?_⟩, ?_⟩, k7.fr hx f (fun g hg o _ => no g (by revert g; decide) o) (fun g hg => no g (by revert g; decide)), k8.fr hx f (fun g hg => no g (by revert g; decide))⟩
  · rw [f.A hx (no _ (by decide) _)]; exact k3 i hi
  · rw [f.I h1 (no _ (by decide) _)]; exact k5.1
  · rw [f.A h1 (no _ (by decide) _)]; exact k5.2
  · rw [e]
    show eI v = eI (up (S.2.1 5) 0 v 0)
    rw [up_s]
theorem ck_read {s' : mS} (h : CK σ x K S) (hA : AV S) (f : Fr (Px2 x) a b σ τ) (hq : oC σ q = 0) (v : oR τ 107 x = some q) (e : oI τ 110 x = -1) (hC : CM τ q s') (hD : CFd τ q s') (n0 : oI τ 2318 q = 0) (h23 : ∀ i, i < mN S.1 → s' 2 i = S.1 2 i ∧ s' 3 i = S.1 3 i) : CC τ x (sM (sF S 0) s') := by
  obtain ⟨K2, hK2⟩ : ∃ K2 : Nat → Nat, K2 = fun j => if j = 0 then q else K j := ⟨_, rfl⟩
  have K0 : K2 0 = q := by rw [hK2]; rfl
  have Kj : ∀ j, j ≠ 0 → K2 j = K j := fun j hj => by rw [hK2]; exact if_neg hj
  have sk := h.1.1.memo f v K0 Kj
  obtain ⟨⟨k1, k2, k3⟩, ⟨k4, k5, k6⟩, ⟨k7, k7'⟩, k8⟩ := h
  have hx := k1.1.1.1
  have h1 := k1.2.1.1.1
  have no : ∀ g, g ≠ 107 → g ≠ 110 → ∀ o, ¬ Px2 x g o := fun g h1 h2 o z => z.2.elim h1 h2
  have nl : ∀ g ∈ GMf ++ [12313, 2314, 2303, 2304, 2305, 32800, 52900, 3000, 13100, 2400, 3300, 3301, 3200, 3201, 3202, 3203, 4800, 4801, 4803, 4804, 4806, 4807, 4812, 4810, 4811, 109, 4703, 114700], g ≠ 107 ∧ g ≠ 110 := by decide
  have nn' : ∀ g ∈ GMf ++ [12313, 2314, 2303, 2304, 2305, 32800, 52900, 3000, 13100, 2400, 3300, 3301, 3200, 3201, 3202, 3203, 4800, 4801, 4803, 4804, 4806, 4807, 4812, 4810, 4811, 109, 4703, 114700], ∀ o, ¬ Px2 x g o := fun g hg => no g (nl g hg).1 (nl g hg).2
  refine ⟨K2, ⟨sk, ⟨by rw [K0]; exact hC, by rw [K0]; exact hD, by rw [K0]; exact Or.inl n0⟩, fun i hi => ?_⟩, ⟨⟨fun i hi => ?_, fun i j hi hj hij => ?_⟩, ⟨?_, ?_⟩, ?_⟩, ⟨fun y => ?_, fun y => ?_⟩, k8.fr hx f (fun g hg => nn' g (by revert g; decide))⟩
  · rw [f.A hx (no _ (by decide) (by decide) _)]; exact k3 i hi
  · have sh := (k4.1 i hi).fr (k1.2.2.2.2.2.2.1 i hi).2 (hA i hi).2.1 f (fun g hg => nn' g (by revert g; decide))
    obtain ⟨x1, x2, x3⟩ := sh
    unfold SH
    rw [Kj (10 + i) (by omega), Kj (50 + i) (by omega)]
    refine ⟨x1, x2, fun z => ?_⟩
    obtain ⟨o, o1, o2⟩ := x3 z
    refine ⟨o, o1, ?_⟩
    obtain ⟨e1, e2⟩ := h23 (S.2.1 4 i) ((hA i hi).2.2.2 z)
    show XO τ o (S.2.1 4 i) (s' 2 (S.2.1 4 i)) (s' 3 (S.2.1 4 i))
    rw [e1, e2]
    exact o2
  · rw [Kj (50 + i) (by omega), Kj (50 + j) (by omega)]; exact k4.2 i j hi hj hij
  · rw [Kj 1 (by decide), f.I h1 (no _ (by decide) (by decide) _)]; exact k5.1
  · rw [Kj 1 (by decide), f.A h1 (no _ (by decide) (by decide) _)]; exact k5.2
  · rw [e]
    show (-1 : Int32) = eI (up (S.2.1 5) 0 0 0)
    rw [up_s]; rfl
  · rw [f.R hx (no _ (by decide) (by decide) _)]; exact k7 y
  · obtain ⟨m2, p1, p2, p3, p4⟩ := k7' y
    have hm : oC σ m2 ≠ 0 := by rw [p3.1.1.1]; decide
    refine ⟨m2, ?_, ?_, p3.fr f (fun g hg => nn' g (by revert g; decide) _) (fun g hg => nn' g (by revert g; decide)), p4.fr hm f (fun g hg => nn' g (by revert g; decide) _)⟩
    · rw [f.R hx (no _ (by decide) (by decide) _)]; exact p1
    · rw [K0]
      intro z
      rw [z, hq] at hm
      exact hm rfl
theorem c_read {Q : Int32 → wS → Prop} {Xh : Nat → Nat → wS → Prop} {v : Int32} (hK : CK σ x K S) (hI : IV S) (hr : RM σ) (hF : 1000 ≤ F) (hQ : ∀ τ, Cf σ τ → CC τ x (o_read S v).2 → Q (o_read S v).1 τ) : w_X0_read F σ x v Q Xh := by
  have hA := hI.1.2
  have hs := hI.1.1.1.1.1
  have hN := hI.1.1.1.2.2
  have hMW := hI.1.1
  have hb : ∀ p, p < S.1 10 0 → S.1 12 p < 16 := fun p hp => (hI.1.1.1.2.1.1.1 p hp).2.2
  have h8 : S.1 10 0 ≤ 8 := hs.2.2.2.1
  obtain ⟨r1, r2⟩ := id hr
  have hx : oC σ x = 0 + 1 := hK.1.1.1.1.1
  unfold w_X0_read
  refine ⟨hK.1.1.1.1, c_shelf hK hA hr (fun _ _ => rfl) (fun i hi ha ea => ?_) (fun ea => ?_)⟩
  rotate_left
  · have eo : o_read S v = noA S 1 := by unfold o_read; rw [ea]
    rw [eo] at hQ; exact hQ
  have eo : o_read S v = if S.2.1 1 i = 2 then noA S 2 else if S.2.1 1 i = 0 then noA S 3
    else match psr S.1 (txt S i) (S.2.1 3 i) 30 0 with
      | Sum.inl z => noA (sF S (z + 1)) 6
      | Sum.inr x => if x.1 < S.2.1 3 i then noA (sF S (x.1 + 1)) 6
        else if 64 < mN (tlr S.1 (txt S i) (S.2.1 3 i) 30 0 S.1).1 then noA (sF S 0) 7
        else (nI (tlr S.1 (txt S i) (S.2.1 3 i) 30 0 S.1).2, sM (sF S 0) (tlr S.1 (txt S i) (S.2.1 3 i) 30 0 S.1).1) := by
    unfold o_read
    rw [ea]
    dsimp only
    cases psr S.1 (txt S i) (S.2.1 3 i) 30 0 <;> rfl
  rw [eo] at hQ
  obtain ⟨n4, n160⟩ := iv_nl hA hi
  have ci := (hK.1.1.2.2.2.2.2.2.1 i hi).2
  refine ⟨K (10 + i), rfl, ci, c_rowX (Q := Q) hK hA hr hi (fun _ _ => rfl) (fun z => ?_) (fun z => ?_) (fun z => ?_)⟩
  rotate_left
  · rw [if_pos z] at hQ; exact hQ
  · rw [if_neg (by omega), if_pos z] at hQ; exact hQ
  rw [if_neg (by omega), if_neg (by omega)] at hQ
  refine bnd_I fun τ1 w1 v1 => ?_
  have f1 : Fr (fun g o => o = x ∧ g = 110) 0 0 σ τ1 := w1.fr (fun g hg => ⟨rfl, List.mem_singleton.mp hg⟩)
  have k1 := ck_110 (v := 0) hK hA f1 v1
  obtain ⟨g1, g1'⟩ := f1.2.2.1
  refine c_nwo (by omega) (fun τ2 f2 no _ => ?_)
  obtain ⟨g2, g2'⟩ := f2.2.2.1
  unfold w_X39_init
  have k2 := k1.no hA f2
  rw [(ck_m k2).1]
  refine ⟨no.1, bnd_R fun τ3 w3 v3 => bnd_R fun τ4 w4 v4 => ?_⟩
  have W4 : Wq [4000, 4001] (nx τ1) τ2 τ4 := (w3.mono (by decide)).up w4 (by decide)
  have f4 : Fr (fun _ _ => False) 1 3 τ1 τ4 := f2.w W4 (Or.inl no.2.1)
  have k4 := k1.no hA f4
  have hq0 : oC σ (nx τ1) = 0 := oC0 f1.1 no.2.1
  have F4 : Fr (fun g o => o = x ∧ g = 110) 1 3 σ τ4 := (f1.trans (f4.mono (fun _ _ z => z.elim) (Nat.le_refl _) (Nat.le_refl _))).mono (fun _ _ z => z) (by decide) (by decide)
  have R4 := ((k4.2.1.1.1 i hi).2.1 z).2
  have rd : Rd τ4 (nx τ1) (K (50 + i)) (K 0) (S.2.1 2 i) (S.2.1 3 i) (fun j => S.2.2.2.1 (160 * i + j)) S.1 0 :=
    ⟨⟨by show oC τ4 (nx τ1) = 40; rw [W4.1.1]; exact no.1, by rw [((w4.sam (by decide)) _).1.2.2.1]; exact v3, v4, by rw [((W4.sam (by decide)) _).1.1]; exact (no.2.2 _).1⟩, ⟨R4, n4, n160⟩, k4.1.2.1.1⟩
  obtain ⟨g4, g4'⟩ := F4.2.2.1
  -- the faults
  have flt : ∀ y a b, a ≤ 1900 → b ≤ 19000 → (∀ τ, Cf σ τ → CC τ x (noA (sF S (y + 1)) 6).2 → Q (noA (sF S (y + 1)) 6).1 τ) → ∀ q τ, Fr (P4 (nx τ1)) a b τ4 τ → oC τ q = 41 → oI τ 4106 q = nI y → b_X0_read_33 F x Q Xh τ q := fun y a b ha hb hq q τ f hc hv => by
    have FF : Fr (fun g o => o = x ∧ g = 110) (1 + a) (3 + b) σ τ := ((F4.mono (P' := fun g o => (o = x ∧ g = 110) ∨ o = nx τ1) (fun _ _ z => Or.inl z) (Nat.le_refl _) (Nat.le_refl _)).trans (f.mono (fun _ _ z => Or.inr z.1) (Nat.le_refl _) (Nat.le_refl _))).new (fun g o z => z.elim Or.inl (fun e => Or.inr (by rw [e]; exact hq0)))
    have hxt : ok0 τ x := ok0.ext hK.1.1.1.1 FF.1
    refine ⟨hc, hxt, bnd_I fun τ6 w6 v6 => ?_⟩
    rw [hv] at v6
    have F6 := FF.w w6 (Or.inr (fun g hg => ⟨rfl, List.mem_singleton.mp hg⟩))
    have k6 := ck_110 (v := y + 1) hK hA F6 v6
    obtain ⟨x6, y6⟩ := F6.2.2.1
    refine c_nwo (by omega) (fun τ7 f7 no7 _ => ?_)
    exact c_exc (b := 6) (σ0 := τ6) (q := nx τ6) f7 no7.1 no7.2.1 (fun τ8 f8 r8 => c_thr k6 hA (by decide) F6 (fun g o z => by rw [z.1, hx]; decide) (by omega) (by omega) f8 r8 hq)
  have ext0 : txt S i = Lf (fun j => S.2.2.2.1 (160 * i + j)) := rfl
  rw [ext0] at hQ
  generalize hf : (fun j => S.2.2.2.1 (160 * i + j)) = f at *
  unfold w_X39_whole
  refine ⟨rd.1.1, c_expr (by omega) hb h8 30 0 τ4 _ _ rd (Nat.zero_le _) (by decide) (by omega) (fun j cc he τ5 o f5 rd5 sd5 _ => ?_) (fun y he q τ f' hc hv => Or.inl ⟨rfl, ?_⟩)⟩
  rotate_left
  · rw [he] at hQ
    exact flt y _ _ (by omega) (by omega) hQ q τ f' hc hv
  rw [he] at hQ
  dsimp only at hQ
  obtain ⟨-, j6, jn⟩ := psr_b hb h8 n160 30 0 j cc (Nat.zero_le _) he
  refine c_ends rd5 jn ?_
  obtain ⟨g5, g5'⟩ := f5.2.2.1
  rw [rd5.1.2.2.2]
  by_cases jlt : j < S.2.1 3 i
  · rw [if_pos jlt] at hQ
    rw [if_neg (by omega)]
    exact c_hlds rd5 (by omega) (fun y => absurd rfl y) (fun _ q τ f' hc hv => Or.inl ⟨rfl, flt j _ _ (by omega) (by omega) hQ q τ (f5.trans f') hc hv⟩)
  rw [if_neg jlt] at hQ
  rw [if_pos (show j = S.2.1 3 i by omega)]
  refine c_hlds rd5 (by omega) (fun _ => ?_) (fun y => absurd y (by decide))
  have F5 : Fr (fun g o => o = x ∧ g = 110) (1 + (j - 0)) (3 + 5 * (j - 0)) σ τ5 := ((F4.mono (P' := fun g o => (o = x ∧ g = 110) ∨ o = nx τ1) (fun _ _ z => Or.inl z) (Nat.le_refl _) (Nat.le_refl _)).trans (f5.mono (fun _ _ z => Or.inr z.1) (Nat.le_refl _) (Nat.le_refl _))).new (fun g o z => z.elim Or.inl (fun e => Or.inr (by rw [e]; exact hq0)))
  refine c_nwo (by omega) (fun τ6 f6 no6 _ => ?_)
  obtain ⟨g6, g6'⟩ := f6.2.2.1
  refine c_nmemo (P := fun _ _ => False) f6 no6.2.1 no6.1 no6.2.2 (by omega) (fun τ7 f7 nm => ?_)
  have F7 : Fr (fun g o => o = x ∧ g = 110) (1 + (j - 0) + 13) (3 + 5 * (j - 0) + 998) σ τ7 := F5.trans (f7.mono (fun _ _ z => z.elim) (by decide) (by decide))
  have f10 : Fr (fun _ _ => False) 0 0 σ σ := fr0
  have e7 : oI τ7 110 x = eI 0 := by
    have x5 : oI τ5 110 x = oI τ4 110 x := f5.I (c := 0) (k4.1.1.1.1.1) (fun z => absurd z.2 (by decide))
    have hx5 : oC τ5 x = 0 + 1 := F5.C hx
    rw [f7.I hx5 (fun z => z), x5, f4.I (c := 0) k1.1.1.1.1.1 (fun z => z)]
    exact v1
  have k7 := ck_110 (v := 0) hK hA F7 e7
  rw [(ck_m k7).1]
  obtain ⟨C7, D7, -⟩ := k7.1.2.1
  have hqm : oC σ (nx τ5) = 0 := oC0 F5.1 no6.2.1
  have hne : K 0 ≠ nx τ5 := fun y => by
    have := (ck_m hK).2.1
    rw [y, hqm] at this
    cases this
  refine c_take (s := S.1) C7 D7 hs hN h8 nm.1 hne (fun τ8 w8 C8 D8 n8 => ?_)
  have oq : ∀ o', oC τ5 o' ≠ 0 → o' ≠ nx τ5 := fun o' h y => h (by rw [y]; exact no6.2.1)
  have sd7 := (SD.str _ _ _ sd5).fr (fun o h => h) f7 (fun _ _ _ _ z => z) _ _ _
  have sd8 := sd7.fr (fun o h => h) (w8.fr (P := fun _ o => o = nx τ5) (fun _ _ => rfl)) (fun g _ o h y => oq o h.2 y) _ _ _
  have F8 : Fr (fun g o => o = x ∧ g = 110) (1 + (j - 0) + 13) (3 + 5 * (j - 0) + 998) σ τ8 := F7.w w8 (Or.inl hqm)
  obtain ⟨g8, g8'⟩ := F8.2.2.1
  have e8 : oI τ8 110 x = eI 0 := by rw [((w8.sam (by decide)) _).1.1]; exact e7
  have T := tlr_ok n160 hb h8 30 0 S.1 j cc hs hI.1.1.1.1.2.1 hI.1.1.1.1.2.2 (fun _ _ => rfl) (by omega) (Nat.zero_le _) he
  refine ⟨o, rfl, c_tells (by omega) n160 hb h8 30 0 j cc 40 τ8 S.1 o _ _ _ (by decide) he sd8 C8 D8 hMW (fun _ _ => rfl) (Nat.zero_le _) n8 (by omega) (fun h64 τ9 f9 C9 D9 n9 => ?_) (fun h64 q σ1 τ f9 fx rx => ?_)⟩
  · rw [if_neg (by omega)] at hQ
    refine bnd_R fun τ10 w10 v10 => ?_
    have F9 : Fr (fun g o => o = x ∧ g = 110) (1 + (j - 0) + 13 + (j - 0)) (3 + 5 * (j - 0) + 998 + 7 * (j - 0)) σ τ9 := ((F8.mono (P' := fun g o => (o = x ∧ g = 110) ∨ o = nx τ5) (fun _ _ z => Or.inl z) (Nat.le_refl _) (Nat.le_refl _)).trans (f9.mono (fun _ _ z => Or.inr z.1) (Nat.le_refl _) (Nat.le_refl _))).new (fun g o z => z.elim Or.inl (fun e => Or.inr (by rw [e]; exact hqm)))
    have F10 : Fr (Px2 x) (1 + (j - 0) + 13 + (j - 0)) (3 + 5 * (j - 0) + 998 + 7 * (j - 0)) σ τ10 := (F9.mono (P' := Px2 x) (fun g o z => ⟨z.1, Or.inr z.2⟩) (Nat.le_refl _) (Nat.le_refl _)).w w10 (Or.inr (fun g hg => ⟨rfl, Or.inl (List.mem_singleton.mp hg)⟩))
    have hx8 : oC τ8 x = 0 + 1 := F8.C hx
    have xq : x ≠ nx τ5 := fun y => by rw [← y, hx] at hqm; cases hqm
    have e10 : oI τ10 110 x = -1 := by
      rw [((w10.sam (by decide)) _).1.1, f9.I hx8 (fun y => xq y.1)]
      exact e8
    have w10f : Fr (fun g o => o = x ∧ g = 107) 0 0 τ9 τ10 := w10.fr (fun g hg => ⟨rfl, List.mem_singleton.mp hg⟩)
    have n107 : ∀ g, g ≠ 107 → ∀ o, ¬ (o = x ∧ g = 107) := fun g hg o z => hg z.2
    refine hQ τ10 (F10.cf (fun g o y => by rw [y.1, hx]; decide) (by omega) (by omega)) (ck_read hK hA F10 hqm v10 e10 (C9.fr w10f (fun g hg => n107 g (by revert g; decide) _) (fun g hg => n107 g (by revert g; decide))) (D9.fr (by rw [C9.1.1.1]; decide) w10f (fun g hg => n107 g (by revert g; decide) _)) (by rw [((w10.sam (by decide)) _).1.1]; exact n9) (fun e' he' => ?_))
    have o' := T.2.1.1.2.1 e' he'
    exact ⟨o'.1, o'.2.1⟩
  · rw [if_pos h64] at hQ
    refine ⟨rfl, ?_⟩
    have F9 : Fr (fun g o => o = x ∧ g = 110) (1 + (j - 0) + 13 + (j - 0)) (3 + 5 * (j - 0) + 998 + 7 * (j - 0)) σ σ1 := ((F8.mono (P' := fun g o => (o = x ∧ g = 110) ∨ o = nx τ5) (fun _ _ z => Or.inl z) (Nat.le_refl _) (Nat.le_refl _)).trans (f9.mono (fun _ _ z => Or.inr z.1) (Nat.le_refl _) (Nat.le_refl _))).new (fun g o z => z.elim Or.inl (fun e => Or.inr (by rw [e]; exact hqm)))
    have hx8 : oC τ8 x = 0 + 1 := F8.C hx
    have xq : x ≠ nx τ5 := fun y => by rw [← y, hx] at hqm; cases hqm
    have e9 : oI σ1 110 x = eI 0 := by rw [f9.I hx8 (fun y => xq y.1)]; exact e8
    have k9 := ck_110 (v := 0) hK hA F9 e9
    unfold b_X0_read_87
    exact c_thr k9 hA (by decide) F9 (fun g o y => by rw [y.1, hx]; decide) (by omega) (by omega) fx rx hQ
end PC
