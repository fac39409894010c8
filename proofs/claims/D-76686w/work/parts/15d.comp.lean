set_option linter.unusedVariables false
set_option maxRecDepth 10000
/-! ===== component: frames with new things; refusals ===== -/
section PC
variable {σ τ υ σ0 : wS} {m F : Nat} {s : mS} {P P' : Nat → Nat → Prop} {a b c d : Nat}
def Sam (σ τ : wS) (g o : Nat) : Prop := (oI τ g o = oI σ g o ∧ oJ τ g o = oJ σ g o ∧ oR τ g o = oR σ g o ∧ aI τ g o = aI σ g o) ∧ aJ τ g o = aJ σ g o ∧ aR τ g o = aR σ g o
theorem Sam.trans {g o : Nat} (h : Sam σ τ g o) (k : Sam τ υ g o) : Sam σ υ g o := by
  obtain ⟨⟨a1, a2, a3, a4⟩, a5, a6⟩ := h
  obtain ⟨⟨b1, b2, b3, b4⟩, b5, b6⟩ := k
  exact ⟨⟨b1.trans a1, b2.trans a2, b3.trans a3, b4.trans a4⟩, b5.trans a5, b6.trans a6⟩
/-- fields of one object written -/
def Wq (G : List Nat) (q : Nat) (σ τ : wS) : Prop := (oC τ = oC σ ∧ aN τ = aN σ ∧ aD τ = aD σ ∧ nx τ = nx σ ∧ rC τ = rC σ ∧ rS τ = rS σ) ∧ ∀ g o, (o = q → g ∉ G) → Sam σ τ g o
theorem Wq.refl {G : List Nat} {q : Nat} : Wq G q σ σ := ⟨⟨rfl, rfl, rfl, rfl, rfl, rfl⟩, fun _ _ _ => ⟨⟨rfl, rfl, rfl, rfl⟩, rfl, rfl⟩⟩
theorem Wq.trans {G : List Nat} {q : Nat} (h : Wq G q σ τ) (k : Wq G q τ υ) : Wq G q σ υ := by
  obtain ⟨⟨a1, a2, a3, a4, a5, a6⟩, a7⟩ := h
  obtain ⟨⟨b1, b2, b3, b4, b5, b6⟩, b7⟩ := k
  exact ⟨⟨b1.trans a1, b2.trans a2, b3.trans a3, b4.trans a4, b5.trans a5, b6.trans a6⟩, fun g o z => (a7 g o z).trans (b7 g o z)⟩
theorem Wq.mono {G G' : List Nat} {q : Nat} (h : Wq G q σ τ) (k : ∀ g ∈ G, g ∈ G') : Wq G' q σ τ := ⟨h.1, fun g o z => h.2 g o (fun e y => z e (k g y))⟩
theorem Wq.up {G : List Nat} {g q : Nat} (k : Wq G q σ τ) (h : Wq [g] q τ υ) (hg : g ∈ G) : Wq G q σ υ := k.trans (h.mono (fun x hx => by rw [List.mem_singleton.mp hx]; exact hg))
theorem Tw.wq {G : List Nat} {q : Nat} (h : Tw G q σ τ) : Wq G q σ τ := by
  obtain ⟨⟨a1, a2, a3, a4, a5, a6, a7, a8⟩, a⟩ := h
  refine ⟨⟨a1, a4, a5, a6, a7, a8⟩, fun g o z => ?_⟩
  obtain ⟨c1, c2, c3, c4⟩ := a g o z
  exact ⟨⟨c1, c2, by rw [a2], c3⟩, c4, by rw [a3]⟩
theorem Wq.sam {G : List Nat} {q g : Nat} (h : Wq G q σ τ) (hg : g ∉ G) : ∀ o, Sam σ τ g o := fun o => h.2 g o (fun _ => hg)
theorem Wq.ext {G : List Nat} {q : Nat} (h : Wq G q σ τ) : Ext σ τ := ⟨fun x _ => by rw [h.1.1], fun g x n _ _ hn => ⟨by rw [h.1.2.1]; exact hn, by rw [h.1.2.2.1]⟩⟩
theorem bnd_I {g q : Nat} {v : Int32} {k : wS → Prop} (h : ∀ τ, Wq [g] q σ τ → oI τ g q = v → k τ) : bnd (sI σ g q v) k := by
  intro τ e
  subst e
  exact h _ (tw_sI (G := [g]) (by simp)).wq oI_sI_s
theorem bnd_J {g q : Nat} {v : Int64} {k : wS → Prop} (h : ∀ τ, Wq [g] q σ τ → oJ τ g q = v → k τ) : bnd (sJ σ g q v) k := by
  intro τ e
  subst e
  refine h _ ⟨⟨rfl, rfl, rfl, rfl, rfl, rfl⟩, fun g' o z => ⟨⟨rfl, ?_, rfl, rfl⟩, rfl, rfl⟩⟩ u2_s
  exact u2_ne (fun y => z y.2 (by rw [y.1]; exact List.mem_singleton.mpr rfl))
theorem bnd_R {g q : Nat} {v : Option Nat} {k : wS → Prop} (h : ∀ τ, Wq [g] q σ τ → oR τ g q = v → k τ) : bnd (sR σ g q v) k := by
  intro τ e
  subst e
  refine h _ ⟨⟨rfl, rfl, rfl, rfl, rfl, rfl⟩, fun g' o z => ⟨⟨rfl, rfl, ?_, rfl⟩, rfl, rfl⟩⟩ u2_s
  exact u2_ne (fun y => z y.2 (by rw [y.1]; exact List.mem_singleton.mpr rfl))
theorem bnd_A {g q : Nat} {v : Nat → Int32} {k : wS → Prop} (h : ∀ τ, Wq [g] q σ τ → aI τ g q = v → k τ) : bnd (sA σ g q v) k := by
  intro τ e
  subst e
  exact h _ (tw_sA (G := [g]) (by simp)).wq aI_sA_s
theorem bnd_AJ {g q : Nat} {v : Nat → Int64} {k : wS → Prop} (h : ∀ τ, Wq [g] q σ τ → aJ τ g q = v → k τ) : bnd (sAJ σ g q v) k := by
  intro τ e
  subst e
  exact h _ (tw_sAJ (G := [g]) (by simp)).wq aJ_sAJ_s
theorem bnd_AR {g q : Nat} {v : Nat → Option Nat} {k : wS → Prop} (h : ∀ τ, Wq [g] q σ τ → aR τ g q = v → k τ) : bnd (sAR σ g q v) k := by
  intro τ e
  subst e
  refine h _ ⟨⟨rfl, rfl, rfl, rfl, rfl, rfl⟩, fun g' o z => ⟨⟨rfl, rfl, rfl, rfl⟩, rfl, ?_⟩⟩ u2_s
  exact u2_ne (fun y => z y.2 (by rw [y.1]; exact List.mem_singleton.mpr rfl))
/-- what a call leaves: all but P stays; what it may use -/
def Fr (P : Nat → Nat → Prop) (a b : Nat) (σ τ : wS) : Prop := Ext σ τ ∧ (∀ g o, oC σ o ≠ 0 → ¬ P g o → Sam σ τ g o ∧ aN τ g o = aN σ g o ∧ aD τ g o = aD σ g o) ∧ (rC σ ≤ rC τ + a ∧ rS σ ≤ rS τ + b) ∧ nx σ ≤ nx τ
theorem Fr.refl : Fr P 0 0 σ σ := ⟨Ext.refl σ, fun _ _ _ _ => ⟨⟨⟨rfl, rfl, rfl, rfl⟩, rfl, rfl⟩, rfl, rfl⟩, ⟨Nat.le_refl _, Nat.le_refl _⟩, Nat.le_refl _⟩
theorem Fr.trans (h : Fr P a b σ τ) (k : Fr P c d τ υ) : Fr P (a + c) (b + d) σ υ := by
  obtain ⟨h1, h2, ⟨h3, h4⟩, h5⟩ := h
  obtain ⟨k1, k2, ⟨k3, k4⟩, k5⟩ := k
  refine ⟨h1.trans k1, fun g o ho hp => ?_, ⟨by omega, by omega⟩, by omega⟩
  obtain ⟨x1, x2, x3⟩ := h2 g o ho hp
  have ho' : oC τ o ≠ 0 := by rw [h1.1 o ho]; exact ho
  obtain ⟨y1, y2, y3⟩ := k2 g o ho' hp
  exact ⟨x1.trans y1, y2.trans x2, y3.trans x3⟩
theorem Fr.mono (h : Fr P a b σ τ) (hp : ∀ g o, P g o → P' g o) (ha : a ≤ c) (hb : b ≤ d) : Fr P' c d σ τ := by
  obtain ⟨h1, h2, ⟨h3, h4⟩, h5⟩ := h
  exact ⟨h1, fun g o ho hq => h2 g o ho (fun z => hq (hp g o z)), ⟨by omega, by omega⟩, h5⟩
/-- fields of q, new since σ0 or allowed -/
theorem Fr.w {G : List Nat} {q : Nat} (h : Fr P a b σ0 σ) (k : Wq G q σ τ) (hq : oC σ0 q = 0 ∨ ∀ g ∈ G, P g q) : Fr P a b σ0 τ := by
  obtain ⟨h1, h2, ⟨h3, h4⟩, h5⟩ := h
  refine ⟨h1.trans k.ext, fun g o ho hp => ?_, ⟨by rw [k.1.2.2.2.2.1]; exact h3, by rw [k.1.2.2.2.2.2]; exact h4⟩, by rw [k.1.2.2.2.1]; exact h5⟩
  obtain ⟨x1, x2, x3⟩ := h2 g o ho hp
  refine ⟨x1.trans (k.2 g o (fun e z => ?_)), by rw [k.1.2.1]; exact x2, by rw [k.1.2.2.1]; exact x3⟩
  rcases hq with y | y
  · rw [e] at ho; exact ho y
  · rw [e] at hp; exact hp (y g z)
theorem Wq.fr {G : List Nat} {q : Nat} (k : Wq G q σ τ) (hq : ∀ g ∈ G, P g q) : Fr P 0 0 σ τ := Fr.refl.w k (Or.inr hq)
/-- a new object -/
def NO (c : Nat) (σ τ : wS) : Prop := oC τ (nx σ) = c + 1 ∧ oC σ (nx σ) = 0 ∧ (∀ g, oI τ g (nx σ) = 0 ∧ oJ τ g (nx σ) = 0 ∧ oR τ g (nx σ) = none ∧ aN τ g (nx σ) = none)
theorem fr_mkO {c N : Nat} (hc : oC σ (nx σ) = 0) (hr : 1 ≤ rC σ ∧ N ≤ rS σ) : Fr P 1 N σ (mkO σ c N) ∧ NO c σ (mkO σ c N) ∧ nx (mkO σ c N) = nx σ + 1 := by
  refine ⟨⟨Ext.mkO hc, fun g o ho _ => ?_, ⟨?_, ?_⟩, Nat.le_succ _⟩, ⟨mkO_C, hc, fun g => ⟨?_, ?_, ?_, ?_⟩⟩, rfl⟩
  · have hne : o ≠ nx σ := fun z => ho (by rw [z]; exact hc)
    exact ⟨⟨⟨if_neg hne, if_neg hne, if_neg hne, rfl⟩, rfl, rfl⟩, if_neg hne, rfl⟩
  · show rC σ ≤ rC σ - 1 + 1; omega
  · show rS σ ≤ rS σ - N + N; omega
  · exact if_pos rfl
  · exact if_pos rfl
  · exact if_pos rfl
  · exact if_pos rfl
theorem c_nwo {c N : Nat} {k : wS → Prop} (hr : 1 ≤ rC σ ∧ N ≤ rS σ) (h : ∀ τ, Fr (fun _ _ => False) 1 N σ τ → NO c σ τ → nx τ = nx σ + 1 → k τ) : nwo σ N (bnd (mkO σ c N) k) := by
  refine ⟨hr, fun hc _ τ e => ?_⟩
  subst e
  obtain ⟨x, y, z⟩ := fr_mkO (P := fun _ _ => False) (c := c) hc hr
  exact h _ x y z
theorem Fr.no (h : Fr (fun _ _ => False) a b σ τ) : Fr P a b σ τ := h.mono (fun _ _ z => z.elim) (Nat.le_refl _) (Nat.le_refl _)
/-- an exception object told of with -b -/
def RfX (b : Nat) (σ τ : wS) (q : Nat) : Prop := oC σ q = 0 ∧ oC τ q = 26 ∧ oI τ 2606 q = -nI b
theorem c_exc {b : Nat} {q : Nat} {k : wS → Prop} (h0 : Fr P 1 7 σ0 σ) (hc : oC σ q = 26) (hq : oC σ0 q = 0) (hk : ∀ τ, Fr P 1 7 σ0 τ → RfX b σ0 τ q → k τ) : w_X25_init σ q (-nI b) k := by
  have o9 : oS9 σ q := Or.inl hc
  unfold w_X25_init w_J2_init_2 w_J1_init_3
  refine ⟨o9, bnd_R fun τ1 w1 _ z9 => bnd_R fun τ2 w2 _ z17 => bnd_R fun τ3 w3 _ => ?_⟩
  rw [if_pos rfl]
  refine bnd_R fun τ4 w4 _ => ?_
  unfold b_J1_init_3_41
  have W4 : Wq [9000, 9001, 9002] q σ τ4 := ((((w1.mono (by decide)).up w2 (by decide)).up w3 (by decide)).up w4 (by decide))
  refine ⟨Or.inl (by rw [W4.1.1]; exact hc), bnd_R fun τ5 w5 _ => bnd_R fun τ6 w6 _ => ?_⟩
  rw [if_pos rfl]
  refine bnd_R fun τ7 w7 _ => ?_
  have W7 : Wq [9000, 9001, 9002, 9003] q σ τ7 := (((W4.mono (by decide)).up w5 (by decide)).up w6 (by decide)).up w7 (by decide)
  refine ⟨by rw [W7.1.1]; exact hc, bnd_I fun τ8 w8 v8 => ?_⟩
  have W8 : Wq [9000, 9001, 9002, 9003, 2606] q σ τ8 := (W7.mono (by decide)).up w8 (by decide)
  exact hk τ8 (h0.w W8 (Or.inl hq)) ⟨hq, by rw [W8.1.1]; exact hc, v8⟩
theorem c_need {Q : wS → Prop} {Xh : Nat → Nat → wS → Prop} {x : Int32} {b : Nat} (hr : 1 ≤ rC σ ∧ 7 ≤ rS σ) (h1 : x ≠ 0 → Q σ) (h0 : x = 0 → ∀ q τ, Fr (fun _ _ => False) 1 7 σ τ → RfX b σ τ q → Xh 25 q τ) : w_X0_need σ x (-nI b) Q Xh := by
  unfold w_X0_need
  by_cases q : x = 0
  · rw [if_pos q]
    refine c_nwo hr (fun τ f no _ => c_exc (b := b) (σ0 := σ) (q := nx σ) f no.1 no.2.1 (fun τ2 f2 r2 => h0 q _ τ2 f2 r2))
  · rw [if_neg q]; exact h1 q
abbrev GMf : List Nat := [2300, 2301, 2302, 2309, 2310, 22311, 2315, 2316, 2312, 2307, 102308, 92306]
theorem XO.fr {o e k p : Nat} (h : XO σ o e k p) (f : Fr P a b σ τ) (d : ∀ g ∈ [3300, 3301], ¬ P g o) : XO τ o e k p := by
  obtain ⟨h1, h2, h3⟩ := h
  have ho : oC σ o ≠ 0 := by
    rw [h1]; unfold tgK
    split
    · decide
    · split
      · decide
      · split
        · decide
        · split <;> decide
  refine ⟨(f.1.1 o ho).trans h1, ?_, ?_⟩
  · rw [(f.2.1 3300 o ho (d _ (by decide))).1.1.1]; exact h2
  · rw [(f.2.1 3301 o ho (d _ (by decide))).1.1.1]; exact h3
theorem TO.fr {o i : Nat} (h : TO σ o s i) (f : Fr P a b σ τ) (d : ∀ g ∈ [3200, 3201, 3202, 3203], ¬ P g o) : TO τ o s i := by
  obtain ⟨h1, h2, h3, h4, h5⟩ := h
  have ho : oC σ o ≠ 0 := by rw [h1]; decide
  refine ⟨(f.1.1 o ho).trans h1, ?_, ?_, ?_, ?_⟩
  · rw [(f.2.1 3200 o ho (d _ (by decide))).1.1.1]; exact h2
  · rw [(f.2.1 3201 o ho (d _ (by decide))).1.1.1]; exact h3
  · rw [(f.2.1 3202 o ho (d _ (by decide))).1.1.1]; exact h4
  · rw [(f.2.1 3203 o ho (d _ (by decide))).1.1.1]; exact h5
theorem CM.fr (h : CM σ m s) (f : Fr P a b σ τ) (d : ∀ g ∈ GMf, ¬ P g m) (d2 : ∀ g ∈ [3300, 3301, 3200, 3201, 3202, 3203], ∀ o, ¬ P g o) : CM τ m s := by
  obtain ⟨⟨a1, a2, a3, a4⟩, hb, hc, he, hf⟩ := h
  have hm : oC σ m ≠ 0 := by rw [a1.1]; decide
  have I : ∀ g ∈ GMf, oI τ g m = oI σ g m := fun g hg => (f.2.1 g m hm (d g hg)).1.1.1
  have A : ∀ g ∈ GMf, aI τ g m = aI σ g m := fun g hg => (f.2.1 g m hm (d g hg)).1.1.2.2.2
  have AR : ∀ g ∈ GMf, aR τ g m = aR σ g m := fun g hg => (f.2.1 g m hm (d g hg)).1.2.2
  refine ⟨⟨ok22.ext a1 f.1, ?_, ?_, ?_⟩, fun x hx => ?_, fun g hg => ?_, fun i hi => ?_, fun i hi => ?_⟩
  · rw [I _ (by decide)]; exact a2
  · rw [I _ (by decide)]; exact a3
  · rw [I _ (by decide)]; exact a4
  · obtain ⟨⟨o, h1, h2⟩, h3, h4, h5, h6⟩ := hb x hx
    refine ⟨⟨o, by rw [AR _ (by decide)]; exact h1, h2.fr f (fun g hg => d2 g (by revert g; decide) o)⟩, ?_, ?_, ?_, ?_⟩
    · rw [A 2309 (by decide)]; exact h3
    · rw [A 2310 (by decide)]; exact h4
    · rw [A 22311 (by decide)]; exact h5
    · rw [A 2315 (by decide)]; exact h6
  · rw [A 2316 (by decide), A 2312 (by decide)]; exact hc g hg
  · obtain ⟨o, h1, h2⟩ := he i hi
    exact ⟨o, by rw [AR _ (by decide)]; exact h1, h2.fr f (fun g hg => d2 g (by revert g; decide) o)⟩
  · rw [A 2307 (by decide)]; exact hf i hi
theorem CFd.fr (h : CFd σ m s) (hm : oC σ m ≠ 0) (f : Fr P a b σ τ) (d : ∀ g ∈ [12313, 2314, 2303, 2304, 2305], ¬ P g m) : CFd τ m s := by
  obtain ⟨h1, h2, h3, h4, h5⟩ := h
  refine ⟨?_, ?_, ?_, ?_, ?_⟩
  · rw [(f.2.1 12313 m hm (d _ (by decide))).1.2.1]; exact h1
  · rw [(f.2.1 2314 m hm (d _ (by decide))).1.1.2.2.2]; exact h2
  · rw [(f.2.1 2303 m hm (d _ (by decide))).1.1.1]; exact h3
  · rw [(f.2.1 2304 m hm (d _ (by decide))).1.1.1]; exact h4
  · rw [(f.2.1 2305 m hm (d _ (by decide))).1.1.1]; exact h5
theorem CN.fr (h : CN σ m s) (hm : oC σ m ≠ 0) (f : Fr P a b σ τ) (d : ∀ g ∈ [2317, 2318], ¬ P g m) : CN τ m s := by
  unfold CN
  rw [(f.2.1 2318 m hm (d _ (by decide))).1.1.1, (f.2.1 2317 m hm (d _ (by decide))).1.1.2.2.2]; exact h
end PC
