set_option linter.unusedVariables false
set_option maxRecDepth 100000
section JR5
variable {l : Launch} {d : wD} {X : jX} {D : Nat} {K : jK} {Kx : jKx} {M : jM} {pc : Nat} {σ : wS} {L L2 : List (Nat × Value)} {st : List Value}
theorem u2_u2 {α : Type} {f : Nat → Nat → α} {g a : Nat} {v w : α} : u2 (u2 f g a v) g a w = u2 f g a w := by
  funext g' a'
  by_cases h1 : g' = g
  · by_cases h2 : a' = a
    · simp [u2, h1, h2]
    · simp [u2, h1, h2]
  · simp [u2, h1]
theorem sA_sA {g a : Nat} {f f' : Nat → Int32} : sA (sA σ g a f) g a f' = sA σ g a f' := by
  show (_, _, _, _, u2 (u2 (aI σ) g a f) g a f', _) = _
  rw [u2_u2]; rfl
theorem sAJ_sAJ {g a : Nat} {f f' : Nat → Int64} : sAJ (sAJ σ g a f) g a f' = sAJ σ g a f' := by
  show (_, _, _, _, _, u2 (u2 (aJ σ) g a f) g a f', _) = _
  rw [u2_u2]; rfl
theorem u2_self {α : Type} {f : Nat → Nat → α} {g a : Nat} : u2 f g a (f g a) = f := by
  funext g' a'
  by_cases h1 : g' = g
  · by_cases h2 : a' = a
    · simp [u2, h1, h2]
    · simp [u2, h1, h2]
  · simp [u2, h1]
theorem sA_self {g a : Nat} : sA σ g a (aI σ g a) = σ := by
  show (_, _, _, _, u2 (aI σ) g a (aI σ g a), _) = _
  rw [u2_self]; rfl
theorem sAJ_self {g a : Nat} : sAJ σ g a (aJ σ g a) = σ := by
  show (_, _, _, _, _, u2 (aJ σ) g a (aJ σ g a), _) = _
  rw [u2_self]; rfl
/-- what a filling of an array has written so far -/
def fil {α : Type} (a b : Nat) (v : α) (f : Nat → α) : Nat → α := fun j => if a ≤ j ∧ j < b then v else f j
theorem fil_0 {α : Type} {a : Nat} {v : α} {f : Nat → α} : fil a a v f = f := by
  funext j; unfold fil; rw [if_neg (by omega)]
theorem fil_s {a b : Nat} {v : Int32} {f : Nat → Int32} (h : a ≤ b) : upd (fil a b v f) b v = fil a (b + 1) v f := by
  funext j
  by_cases hj : j = b
  · subst hj; simp [upd, fil, h]
  · simp only [upd, hj, if_false, fil]
    by_cases h2 : a ≤ j ∧ j < b
    · rw [if_pos h2, if_pos (by omega)]
    · rw [if_neg h2, if_neg (by omega)]
theorem fil_sL {a b : Nat} {v : Int64} {f : Nat → Int64} (h : a ≤ b) : vp_updL (fil a b v f) b v = fil a (b + 1) v f := by
  funext j
  by_cases hj : j = b
  · subst hj; simp [vp_updL, fil, h]
  · simp only [vp_updL, hj, if_false, fil]
    by_cases h2 : a ≤ j ∧ j < b
    · rw [if_pos h2, if_pos (by omega)]
    · rw [if_neg h2, if_neg (by omega)]
theorem ykJ0_fill : yok yJ0_fill 2 := ⟨by decide, by decide, by decide +kernel⟩
theorem sl_J0_fill {v : Int32} {g o n : Nat} (hg : g / 10000 = 0) (hN : aN σ g o = some n) (hn : n < 2 ^ 31) (Q : wS → Prop) (h : Q (sA σ g o (fil 0 n v (aI σ g o)))) : ∀ (k i : Nat), i + k = n → J l d X D (kV Q) noX (yJ0_fill, cJ0_fill, 4, none, []) 5 (sA σ g o (fil 0 i v (aI σ g o))) [(0, .ref (aD σ g o)), (1, .int v), (2, .int (nI i)), (3, .int (nI n))] [] := by
  intro k
  induction k with
  | zero =>
    intro i hi
    obtain rfl : i = n := by omega
    refine j_iload_n (pc := 5) dJ0_fill_5 rfl (kk := 2) rfl ?_
    refine j_iload_n (pc := 6) dJ0_fill_6 rfl (kk := 3) rfl ?_
    refine j_icmp_ge (pc := 7) dJ0_fill_7 (tgt := 20) rfl (fun _ => ?_) (fun q => absurd (nI_le (Nat.le_refl _) hn) q)
    exact j_vret (pc := 20) dJ0_fill_20 rfl ⟨rfl, h⟩
  | succ k ih =>
    intro i hi
    have hlt : i < n := by omega
    refine j_iload_n (pc := 5) dJ0_fill_5 rfl (kk := 2) rfl ?_
    refine j_iload_n (pc := 6) dJ0_fill_6 rfl (kk := 3) rfl ?_
    refine j_icmp_ge (pc := 7) dJ0_fill_7 (tgt := 20) rfl (fun q => absurd q (nI_ge hlt hn)) (fun _ => ?_)
    refine j_aload_n (pc := 10) dJ0_fill_10 rfl (kk := 0) rfl ?_
    refine j_iload_n (pc := 11) dJ0_fill_11 rfl (kk := 2) rfl ?_
    refine j_iload_n (pc := 12) dJ0_fill_12 rfl (kk := 1) rfl ?_
    have e1 : aI (sA σ g o (fil 0 i v (aI σ g o))) g o = fil 0 i v (aI σ g o) := u2_s
    refine j_iast (pc := 13) (g := g) (x := o) (σ := sA σ g o (fil 0 i v (aI σ g o))) dJ0_fill_13 (show aN (sA σ g o (fil 0 i v (aI σ g o))) g o = some n from hN) hg (vp_in_nI hlt hn) ?_
    rw [e1, nI_clamp (by omega), sA_sA, fil_s (Nat.zero_le _)]
    refine j_iinc (pc := 14) dJ0_fill_14 (kk := 2) rfl (v := nI (i + 1)) (nI_1 i) (by decide) (L2 := [(2, _), (0, _), (1, _), (3, _)]) rfl ?_
    refine j_goto (pc := 17) dJ0_fill_17 (tgt := 5) rfl ?_
    refine j_sub [1, 2, 0, 3] rfl ?_
    exact ih (i + 1) (by omega)
theorem s_J0_fill {g o n : Nat} (hg : g / 10000 = 0) (hN : aN σ g o = some n) (hn : n < 2 ^ 31) (v : Int32) (Q : wS → Prop) (h : Q (sA σ g o (fil 0 n v (aI σ g o)))) : WP l d (ws_ yJ0_fill cJ0_fill 4 (Option.none : Option Jvm.ClassFile.FieldType)) D yJ0_fill σ [.ref (aD σ g o), .int v] (kV Q) noX :=
  wp_of (L := [(0, .ref (aD σ g o)), (1, .int v)]) (by decide) (Nat.le_of_ble_eq_true rfl) rfl fun Xj => by
    show J l d Xj D (kV Q) noX (yJ0_fill, cJ0_fill, 4, none, []) 0 σ [(0, .ref (aD σ g o)), (1, .int v)] []
    refine j_iconst (pc := 0) dJ0_fill_0 (v := (0 : Int32)) rfl ?_
    refine j_istore_n (pc := 1) dJ0_fill_1 rfl (by decide) (L2 := [(2, _), (0, _), (1, _)]) rfl ?_
    refine j_aload_n (pc := 2) dJ0_fill_2 rfl (kk := 1) rfl ?_
    refine j_alen (pc := 3) dJ0_fill_3 hN (by omega) ?_
    refine j_istore_n (pc := 4) dJ0_fill_4 rfl (by decide) (L2 := [(3, _), (2, _), (0, _), (1, _)]) rfl ?_
    refine j_sub [2, 3, 1, 0] rfl ?_
    have h9 := sl_J0_fill (l := l) (d := d) (X := Xj) (D := D) hg hN hn Q h n 0 (by omega)
    rw [fil_0, sA_self] at h9
    exact h9
theorem ykJ0_fill_3 : yok yJ0_fill_3 2 := ⟨by decide, by decide, by decide +kernel⟩
theorem sl_J0_fill_3 {v : Int32} {g o n : Nat} (hg : g / 10000 = 2) (hN : aN σ g o = some n) (hn : n < 2 ^ 31) (Q : wS → Prop) (h : Q (sA σ g o (fil 0 n (vp_nar .boolean v) (aI σ g o)))) : ∀ (k i : Nat), i + k = n → J l d X D (kV Q) noX (yJ0_fill_3, cJ0_fill_3, 4, none, []) 5 (sA σ g o (fil 0 i (vp_nar .boolean v) (aI σ g o))) [(0, .ref (aD σ g o)), (1, .int v), (2, .int (nI i)), (3, .int (nI n))] [] := by
  intro k
  induction k with
  | zero =>
    intro i hi
    obtain rfl : i = n := by omega
    refine j_iload_n (pc := 5) dJ0_fill_3_5 rfl (kk := 2) rfl ?_
    refine j_iload_n (pc := 6) dJ0_fill_3_6 rfl (kk := 3) rfl ?_
    refine j_icmp_ge (pc := 7) dJ0_fill_3_7 (tgt := 20) rfl (fun _ => ?_) (fun q => absurd (nI_le (Nat.le_refl _) hn) q)
    exact j_vret (pc := 20) dJ0_fill_3_20 rfl ⟨rfl, h⟩
  | succ k ih =>
    intro i hi
    have hlt : i < n := by omega
    refine j_iload_n (pc := 5) dJ0_fill_3_5 rfl (kk := 2) rfl ?_
    refine j_iload_n (pc := 6) dJ0_fill_3_6 rfl (kk := 3) rfl ?_
    refine j_icmp_ge (pc := 7) dJ0_fill_3_7 (tgt := 20) rfl (fun q => absurd q (nI_ge hlt hn)) (fun _ => ?_)
    refine j_aload_n (pc := 10) dJ0_fill_3_10 rfl (kk := 0) rfl ?_
    refine j_iload_n (pc := 11) dJ0_fill_3_11 rfl (kk := 2) rfl ?_
    refine j_iload_n (pc := 12) dJ0_fill_3_12 rfl (kk := 1) rfl ?_
    have e1 : aI (sA σ g o (fil 0 i (vp_nar .boolean v) (aI σ g o))) g o = fil 0 i (vp_nar .boolean v) (aI σ g o) := u2_s
    refine j_zast (pc := 13) (g := g) (x := o) (σ := sA σ g o (fil 0 i (vp_nar .boolean v) (aI σ g o))) dJ0_fill_3_13 (show aN (sA σ g o (fil 0 i (vp_nar .boolean v) (aI σ g o))) g o = some n from hN) hg (vp_in_nI hlt hn) ?_
    rw [e1, nI_clamp (by omega), sA_sA, fil_s (Nat.zero_le _)]
    refine j_iinc (pc := 14) dJ0_fill_3_14 (kk := 2) rfl (v := nI (i + 1)) (nI_1 i) (by decide) (L2 := [(2, _), (0, _), (1, _), (3, _)]) rfl ?_
    refine j_goto (pc := 17) dJ0_fill_3_17 (tgt := 5) rfl ?_
    refine j_sub [1, 2, 0, 3] rfl ?_
    exact ih (i + 1) (by omega)
theorem s_J0_fill_3 {g o n : Nat} (hg : g / 10000 = 2) (hN : aN σ g o = some n) (hn : n < 2 ^ 31) (v : Int32) (Q : wS → Prop) (h : Q (sA σ g o (fil 0 n (vp_nar .boolean v) (aI σ g o)))) : WP l d (ws_ yJ0_fill_3 cJ0_fill_3 4 (Option.none : Option Jvm.ClassFile.FieldType)) D yJ0_fill_3 σ [.ref (aD σ g o), .int v] (kV Q) noX :=
  wp_of (L := [(0, .ref (aD σ g o)), (1, .int v)]) (by decide) (Nat.le_of_ble_eq_true rfl) rfl fun Xj => by
    show J l d Xj D (kV Q) noX (yJ0_fill_3, cJ0_fill_3, 4, none, []) 0 σ [(0, .ref (aD σ g o)), (1, .int v)] []
    refine j_iconst (pc := 0) dJ0_fill_3_0 (v := (0 : Int32)) rfl ?_
    refine j_istore_n (pc := 1) dJ0_fill_3_1 rfl (by decide) (L2 := [(2, _), (0, _), (1, _)]) rfl ?_
    refine j_aload_n (pc := 2) dJ0_fill_3_2 rfl (kk := 1) rfl ?_
    refine j_alen (pc := 3) dJ0_fill_3_3 hN (by omega) ?_
    refine j_istore_n (pc := 4) dJ0_fill_3_4 rfl (by decide) (L2 := [(3, _), (2, _), (0, _), (1, _)]) rfl ?_
    refine j_sub [2, 3, 1, 0] rfl ?_
    have h9 := sl_J0_fill_3 (l := l) (d := d) (X := Xj) (D := D) hg hN hn Q h n 0 (by omega)
    rw [fil_0, sA_self] at h9
    exact h9
theorem ykJ0_rangeCheck : yok yJ0_rangeCheck 3 := ⟨by decide, by decide, by decide +kernel⟩
theorem s_J0_rangeCheck {n a b : Nat} (hn : n < 2 ^ 31) (hab : a ≤ b) (hb : b ≤ n) (Q : wS → Prop) (h : Q σ) : WP l d (ws_ yJ0_rangeCheck cJ0_rangeCheck 3 (Option.none : Option Jvm.ClassFile.FieldType)) D yJ0_rangeCheck σ [.int (nI n), .int (nI a), .int (nI b)] (kV Q) noX :=
  wp_of (L := [(0, .int (nI n)), (1, .int (nI a)), (2, .int (nI b))]) (by decide) (Nat.le_of_ble_eq_true rfl) rfl fun Xj => by
    show J l d Xj D (kV Q) noX (yJ0_rangeCheck, cJ0_rangeCheck, 3, none, []) 0 σ [(0, .int (nI n)), (1, .int (nI a)), (2, .int (nI b))] []
    refine j_iload_n (pc := 0) dJ0_rangeCheck_0 rfl (kk := 1) rfl ?_
    refine j_iload_n (pc := 1) dJ0_rangeCheck_1 rfl (kk := 2) rfl ?_
    refine j_icmp_le (pc := 2) dJ0_rangeCheck_2 (tgt := 46) rfl (fun _ => ?_) (fun q => absurd (nI_le hab (by omega)) q)
    refine j_iload_n (pc := 46) dJ0_rangeCheck_46 rfl (kk := 1) rfl ?_
    refine j_if_ge (pc := 47) dJ0_rangeCheck_47 (tgt := 59) rfl (fun _ => ?_) (fun q => absurd (nI_pos' (by omega)) q)
    refine j_iload_n (pc := 59) dJ0_rangeCheck_59 rfl (kk := 2) rfl ?_
    refine j_iload_n (pc := 60) dJ0_rangeCheck_60 rfl (kk := 0) rfl ?_
    refine j_icmp_le (pc := 61) dJ0_rangeCheck_61 (tgt := 73) rfl (fun _ => ?_) (fun q => absurd (nI_le hb hn) q)
    exact j_vret (pc := 73) dJ0_rangeCheck_73 rfl ⟨rfl, h⟩
theorem ykJ0_fill_2 : yok yJ0_fill_2 4 := ⟨by decide, by decide, by decide +kernel⟩
theorem sl_J0_fill_2 {v : Int64} {g o n a b : Nat} (hg : g / 10000 = 1) (hN : aN σ g o = some n) (hn : n < 2 ^ 31) (hb : b ≤ n) (Q : wS → Prop) (h : Q (sAJ σ g o (fil a b v (aJ σ g o)))) : ∀ (k i : Nat), i + k = b → a ≤ i → J l d X D (kV Q) noX (yJ0_fill_2, cJ0_fill_2, 6, none, []) 10 (sAJ σ g o (fil a i v (aJ σ g o))) [(0, .ref (aD σ g o)), (2, .int (nI b)), (3, .long v), (5, .int (nI i))] [] := by
  intro k
  induction k with
  | zero =>
    intro i hi ha
    obtain rfl : i = b := by omega
    refine j_iload (pc := 10) dJ0_fill_2_10 (kk := 3) rfl ?_
    refine j_iload_n (pc := 12) dJ0_fill_2_12 rfl (kk := 1) rfl ?_
    refine j_icmp_ge (pc := 13) dJ0_fill_2_13 (tgt := 27) rfl (fun _ => ?_) (fun q => absurd (nI_le (Nat.le_refl _) (by omega)) q)
    exact j_vret (pc := 27) dJ0_fill_2_27 rfl ⟨rfl, h⟩
  | succ k ih =>
    intro i hi ha
    have hlt : i < b := by omega
    refine j_iload (pc := 10) dJ0_fill_2_10 (kk := 3) rfl ?_
    refine j_iload_n (pc := 12) dJ0_fill_2_12 rfl (kk := 1) rfl ?_
    refine j_icmp_ge (pc := 13) dJ0_fill_2_13 (tgt := 27) rfl (fun q => absurd q (nI_ge hlt (by omega))) (fun _ => ?_)
    refine j_aload_n (pc := 16) dJ0_fill_2_16 rfl (kk := 0) rfl ?_
    refine j_iload (pc := 17) dJ0_fill_2_17 (kk := 3) rfl ?_
    refine j_lload_n (pc := 19) dJ0_fill_2_19 rfl (kk := 2) rfl ?_
    have e1 : aJ (sAJ σ g o (fil a i v (aJ σ g o))) g o = fil a i v (aJ σ g o) := u2_s
    refine j_last (pc := 20) (g := g) (x := o) (σ := sAJ σ g o (fil a i v (aJ σ g o))) dJ0_fill_2_20 (show aN (sAJ σ g o (fil a i v (aJ σ g o))) g o = some n from hN) hg (vp_in_nI (by omega) hn) ?_
    rw [e1, nI_clamp (by omega), sAJ_sAJ, fil_sL ha]
    refine j_iinc (pc := 21) dJ0_fill_2_21 (kk := 3) rfl (v := nI (i + 1)) (nI_1 i) (by decide) (L2 := [(5, _), (0, _), (2, _), (3, _)]) rfl ?_
    refine j_goto (pc := 24) dJ0_fill_2_24 (tgt := 10) rfl ?_
    refine j_sub [1, 2, 3, 0] rfl ?_
    exact ih (i + 1) (by omega) (by omega)
theorem s_J0_fill_2 (hD : 1 ≤ D) {g o n a b : Nat} {x y : Int32} (hg : g / 10000 = 1) (hN : aN σ g o = some n) (hn : n < 2 ^ 31) (hx : x = nI a ∧ y = nI b ∧ a ≤ b ∧ b ≤ n) (v : Int64) (Q : wS → Prop) (h : Q (sAJ σ g o (fil a b v (aJ σ g o)))) : WP l d (ws_ yJ0_fill_2 cJ0_fill_2 6 (Option.none : Option Jvm.ClassFile.FieldType)) D yJ0_fill_2 σ [.ref (aD σ g o), .int x, .int y, .long v] (kV Q) noX := by
  obtain ⟨rfl, rfl, hab, hbn⟩ := hx
  refine wp_of (L := [(0, .ref (aD σ g o)), (1, .int (nI a)), (2, .int (nI b)), (3, .long v)]) (by decide) (Nat.le_of_ble_eq_true rfl) rfl fun Xj => ?_
  show J l d Xj D (kV Q) noX (yJ0_fill_2, cJ0_fill_2, 6, none, []) 0 σ [(0, .ref (aD σ g o)), (1, .int (nI a)), (2, .int (nI b)), (3, .long v)] []
  refine j_aload_n (pc := 0) dJ0_fill_2_0 rfl (kk := 0) rfl ?_
  refine j_alen (pc := 1) dJ0_fill_2_1 hN (by omega) ?_
  refine j_iload_n (pc := 2) dJ0_fill_2_2 rfl (kk := 1) rfl ?_
  refine j_iload_n (pc := 3) dJ0_fill_2_3 rfl (kk := 2) rfl ?_
  refine j_callS [.int (nI n), .int (nI a), .int (nI b)] [] (pc := 4) dJ0_fill_2_4 (lw_S q1196 q1197 q124 q1198) ykJ0_rangeCheck rfl (by decide) rfl (Nat.le_of_ble_eq_true rfl) (D' := D - 1) (by omega) (s_J0_rangeCheck hn hab hbn (fun τ => τ = σ) rfl) (kkV fun τ E hq => ?_) kx0
  subst hq
  refine j_iload_n (pc := 7) dJ0_fill_2_7 rfl (kk := 1) rfl ?_
  refine j_istore (pc := 8) dJ0_fill_2_8 (by decide) (L2 := [(5, _), (0, _), (1, _), (2, _), (3, _)]) rfl ?_
  refine j_sub [1, 3, 4, 0] rfl ?_
  have h9 := sl_J0_fill_2 (l := l) (d := d) (X := Xj) (D := D) hg hN hn hbn Q h (b - a) a (by omega) (Nat.le_refl _)
  rw [fil_0, sAJ_self] at h9
  exact h9

end JR5
