set_option linter.unusedVariables false
set_option maxRecDepth 10000
section PM
variable {s : mS}
/-! costs: the one fixpoint -/
abbrev OVR : Nat := 4000000000000
abbrev MCH : Nat := 1000000000000
theorem MO : MCH = 1000000000000 ∧ OVR = 4000000000000 := ⟨rfl, rfl⟩
def oc (c : Nat → Nat) : Option Nat → Nat
  | none => 0
  | some d => c d
def cap (x : Nat) : Nat := if x ≤ MCH then x else OVR
def sm (c : Nat → Nat) (w : Wy) : Nat := cap (w.2.2.2.2.2 + oc c w.2.2.1 + oc c w.2.2.2.1)
theorem cap_mono {x y : Nat} (h : x ≤ y) : cap x ≤ cap y := by
  have mo := MO
  unfold cap
  by_cases q : y ≤ MCH
  · rw [if_pos q, if_pos (Nat.le_trans h q)]; exact h
  · rw [if_neg q]
    by_cases q2 : x ≤ MCH
    · rw [if_pos q2]; omega
    · rw [if_neg q2]; exact Nat.le_refl _
theorem cap_le {x : Nat} : cap x ≤ OVR := by
  have mo := MO
  unfold cap
  by_cases q : x ≤ MCH
  · rw [if_pos q]; omega
  · rw [if_neg q]; exact Nat.le_refl _
theorem oc_mono {c c' : Nat → Nat} (h : ∀ d, c' d ≤ c d) (o : Option Nat) : oc c' o ≤ oc c o := by
  cases o with
  | none => exact Nat.le_refl _
  | some d => exact h d
theorem sm_mono {c c' : Nat → Nat} (h : ∀ d, c' d ≤ c d) (w : Wy) : sm c' w ≤ sm c w :=
  cap_mono (Nat.add_le_add (Nat.add_le_add (Nat.le_refl _) (oc_mono h _)) (oc_mono h _))
def Dm (s : mS) (d : Nat) : Prop := d / 30 < mG s ∧ R s (d / 30) = d / 30
theorem dm_div {g o p : Nat} (ho : o < 5) (hp : p < 6) : dm g o p / 30 = g ∧ dm g o p % 30 / 6 = o ∧ dm g o p % 6 = p := by
  unfold dm
  omega
theorem dm_in {g o p : Nat} (hs : Sh s) (hg : g < mG s) (ho : o < 5) (hp : p < 6) : Dm s (dm (R s g) o p) := by
  unfold Dm
  rw [(dm_div ho hp).1]
  exact ⟨sh_lt hs hg, sh_RR hs hg⟩
theorem bl_le : ∀ n v, bl n v ≤ n := by
  intro n
  induction n with
  | zero => intro v; exact Nat.le_refl _
  | succ n ih =>
    intro v
    unfold bl
    split
    · omega
    · have := ih (v / 2); omega
theorem prc_bd {k a b r : Nat} (hk : k < 12) (ha : 1 ≤ a) (ha2 : a ≤ 1000000) (hb : b ≤ 1000000) (hr : r ≤ 1000000) : 1 ≤ prc k a b r ∧ prc k a b r ≤ 2000000000000 := by
  have hm : a * b ≤ 1000000 * 1000000 := Nat.mul_le_mul ha2 hb
  have hm2 : a * bl 64 a ≤ 1000000 * 64 := Nat.mul_le_mul ha2 (bl_le 64 a)
  unfold prc rdp wkp
  generalize a * b = m at *
  generalize a * bl 64 a = m2 at *
  match k, hk with
  | 0, _ => simp; omega
  | 1, _ => simp; omega
  | 2, _ => simp; omega
  | 3, _ => simp; omega
  | 4, _ => simp; omega
  | 5, _ => simp; omega
  | 6, _ => simp; omega
  | 7, _ => simp; omega
  | 8, _ => simp; omega
  | 9, _ => simp; omega
  | 10, _ => simp; omega
  | 11, _ => simp; omega
def okW (s : mS) (w : Wy) : Prop := w.1 < 12 ∧ (1 ≤ w.2.2.2.2.2 ∧ w.2.2.2.2.2 ≤ 2000000000000) ∧ (∀ d, w.2.2.1 = some d → Dm s d) ∧ (∀ d, w.2.2.2.1 = some d → Dm s d) ∧ (∀ e, w.2.1 = some e → e < mN s)
theorem wyk_in {al k : Nat} {w v : Wy} (h : v ∈ wyk al k w) : v = w := by
  unfold wyk at h
  split at h
  · exact List.mem_singleton.mp h
  · cases h
theorem wyX_in {e o p k place : Nat} {w : Wy} (hs : Sh s) (l : Lo s) (hb : Tb s) (he : e < mN s) (h4 : 4 ≤ s 2 e) (ho : o < 5) (hk : k < 12) (hp : place < 5) (h : w ∈ wyX s e o p k place) : okW s w := by
  have h3 := sx_p4 hs he h4
  have B4 := sx_4 hs he (by omega)
  have B6 := sx_6 hs he
  have r4 := rw_le hs l hb B4
  have r6 := rw_le hs l hb B6
  have hor : orO k o (s 3 e) < 5 := by unfold orO; split <;> (try split) <;> omega
  unfold wyX at h
  split at h
  · rw [wyk_in h]
    refine ⟨hk, prc_bd hk r4.1 r4.2 ?_ r6.2, fun d hd => ?_, fun d hd => ?_, fun x hx => by cases hx; exact he⟩
    · by_cases c : 5 ≤ s 2 e
      · rw [if_pos c]; exact (rw_le hs l hb (sx_5 hs he c)).2
      · rw [if_neg c]; omega
    · cases hd; exact dm_in hs B4 hor (by omega)
    · by_cases c : 5 ≤ s 2 e
      · simp only [if_pos c] at hd
        cases hd
        exact dm_in hs (sx_5 hs he c) (by split <;> omega) (by omega)
      · simp only [if_neg c] at hd
        cases hd
  · cases h
theorem wyY_in {e o p k : Nat} {w : Wy} (hs : Sh s) (l : Lo s) (hb : Tb s) (he : e < mN s) (h4 : 4 ≤ s 2 e) (ho : o < 5) (hk : k < 12) (h : w ∈ wyY s e o p k) : okW s w := by
  have h3 := sx_p4 hs he h4
  rcases List.mem_append.mp h with h | h
  · exact wyX_in hs l hb he h4 ho hk (by omega) h
  · exact wyX_in hs l hb he h4 ho hk (by omega) h
theorem wyE_in {e o p : Nat} {w : Wy} (hs : Sh s) (l : Lo s) (hb : Tb s) (he : e < mN s) (ho : o < 5) (hp : p < 6) (h : w ∈ wyE s e o p) : okW s w := by
  have B6 := sx_6 hs he
  have r6 := rw_le hs l hb B6
  unfold wyE at h
  split at h
  · split at h
    · rw [wyk_in h]
      exact ⟨show 1 < 12 by decide, prc_bd (k := 1) (b := 0) (by decide) r6.1 r6.2 (by decide) r6.2, fun d hd => (nomatch hd), fun d hd => (nomatch hd), fun x hx => by cases hx; exact he⟩
    · cases h
  · rename_i q1
    have B4 := sx_4 hs he q1
    have r4 := rw_le hs l hb B4
    split at h
    · rw [wyk_in h]
      exact ⟨show 2 < 12 by decide, prc_bd (k := 2) (b := 0) (by decide) r4.1 r4.2 (by decide) r6.2, fun d hd => by cases hd; exact dm_in hs B4 ho hp, fun d hd => (nomatch hd), fun x hx => by cases hx; exact he⟩
    · rename_i q3
      have h4 : 4 ≤ s 2 e := by have := sx_2 hs he; omega
      split at h
      · rcases List.mem_append.mp h with h | h
        · exact wyY_in hs l hb he h4 ho (by decide) h
        · exact wyY_in hs l hb he h4 ho (by decide) h
      · rcases List.mem_append.mp h with h | h
        · rcases List.mem_append.mp h with h | h
          · exact wyY_in hs l hb he h4 ho (by decide) h
          · exact wyY_in hs l hb he h4 ho (by decide) h
        · exact wyY_in hs l hb he h4 ho (by decide) h
theorem wyU_in {d : Nat} {w : Wy} (hs : Sh s) (l : Lo s) (hb : Tb s) : ∀ n, n ≤ mN s → w ∈ wyU s d n → okW s w := by
  intro n
  induction n with
  | zero => intro _ h; cases h
  | succ n ih =>
    intro hn h
    rcases List.mem_append.mp h with h | h
    · exact ih (by omega) h
    · split at h
      · exact wyE_in hs l hb (by omega) (by omega) (by omega) h
      · cases h
theorem wys_in {d : Nat} {w : Wy} (hs : Sh s) (l : Lo s) (hb : Tb s) (hd : Dm s d) (h : w ∈ wys s d) : okW s w := by
  have r := rw_le hs l hb hd.1
  rw [hd.2] at r
  have e0 : ∀ p, p < 6 → Dm s (dm (d / 30) 0 p) := by
    intro p hp
    have := dm_in (o := 0) hs hd.1 (by decide) hp
    rw [hd.2] at this
    exact this
  rcases List.mem_append.mp h with h | h
  · exact wyU_in hs l hb (mN s) (Nat.le_refl _) h
  · rcases List.mem_append.mp h with h | h
    · unfold wyN1 at h
      split at h
      · rw [wyk_in h]
        exact ⟨show 10 < 12 by decide, prc_bd (k := 10) (b := 0) (by decide) r.1 r.2 (by decide) r.2, fun x hx => by cases hx; exact e0 _ (by omega), fun d hd => (nomatch hd), fun x hx => (nomatch hx)⟩
      · cases h
    · unfold wyN2 at h
      split at h
      · rw [wyk_in h]
        exact ⟨show 11 < 12 by decide, prc_bd (k := 11) (b := 0) (by decide) r.1 r.2 (by decide) r.2, fun x hx => by cases hx; exact e0 _ (by omega), fun d hd => (nomatch hd), fun x hx => (nomatch hx)⟩
      · cases h
theorem wys_len {d : Nat} (h : mN s ≤ 64) : (wys s d).length ≤ 386 := by
  unfold wys
  rw [List.length_append, List.length_append]
  have h1 := wyU_len (s := s) (d := d) (mN s)
  have h2 : (wyN1 s d).length ≤ 1 := by unfold wyN1; split; exact wyk_len; exact Nat.zero_le _
  have h3 : (wyN2 s d).length ≤ 1 := by unfold wyN2; split; exact wyk_len; exact Nat.zero_le _
  omega
/-- from above: what is there is reached -/
def Pf (s : mS) (c : Nat → Nat) : Prop := (∀ d, c d ≤ OVR) ∧ (∀ d, Dm s d → c d = OVR ∨ ∃ w, w ∈ wys s d ∧ sm c w ≤ c d) ∧ ∀ d, ¬ Dm s d → c d = OVR
def Fix (s : mS) (c : Nat → Nat) : Prop := (∀ d, c d ≤ OVR) ∧ (∀ d, Dm s d → (c d = OVR ∨ ∃ w, w ∈ wys s d ∧ sm c w = c d) ∧ ∀ w, w ∈ wys s d → c d ≤ sm c w) ∧ ∀ d, ¬ Dm s d → c d = OVR
theorem fix_of {c : Nat → Nat} (h : Pf s c) (k : ∀ d, Dm s d → ∀ w, w ∈ wys s d → c d ≤ sm c w) : Fix s c := by
  refine ⟨h.1, fun d hd => ⟨?_, k d hd⟩, h.2.2⟩
  rcases h.2.1 d hd with q | ⟨w, h1, h2⟩
  · exact Or.inl q
  · exact Or.inr ⟨w, h1, Nat.le_antisymm h2 (k d hd w h1)⟩
theorem up_le {c : Nat → Nat} {d v : Nat} (h : v ≤ c d) : ∀ x, up c d v x ≤ c x := by
  intro x
  by_cases q : x = d
  · rw [q, up_s]; exact h
  · rw [up_n q]; exact Nat.le_refl _
theorem pf_up {c : Nat → Nat} {d : Nat} {w : Wy} (h : Pf s c) (hd : Dm s d) (hw : w ∈ wys s d) (hl : sm c w < c d) : Pf s (up c d (sm c w)) := by
  have hm := up_le (c := c) (d := d) (v := sm c w) (Nat.le_of_lt hl)
  refine ⟨fun x => Nat.le_trans (hm x) (h.1 x), fun x hx => ?_, fun x hx => ?_⟩
  · by_cases q : x = d
    · rw [q, up_s]
      exact Or.inr ⟨w, hw, sm_mono hm w⟩
    · rw [up_n q]
      rcases h.2.1 x hx with z | ⟨v, h1, h2⟩
      · exact Or.inl z
      · exact Or.inr ⟨v, h1, Nat.le_trans (sm_mono hm v) h2⟩
  · have q : x ≠ d := fun z => hx (by rw [z]; exact hd)
    rw [up_n q]; exact h.2.2 x hx
def tot (c : Nat → Nat) : Nat → Nat
  | 0 => 0
  | n + 1 => tot c n + c n
theorem tot_up {c : Nat → Nat} {d v : Nat} : ∀ n, tot (up c d v) n + (if d < n then c d else 0) = tot c n + (if d < n then v else 0) := by
  intro n
  induction n with
  | zero => simp [tot]
  | succ n ih =>
    unfold tot
    by_cases q : n = d
    · subst q
      rw [up_s, if_pos (Nat.lt_succ_self _), if_pos (Nat.lt_succ_self _)]
      rw [if_neg (Nat.lt_irrefl _), if_neg (Nat.lt_irrefl _)] at ih
      omega
    · rw [up_n q]
      by_cases q2 : d < n
      · rw [if_pos q2, if_pos q2] at ih
        rw [if_pos (show d < n + 1 by omega), if_pos (show d < n + 1 by omega)]
        omega
      · rw [if_neg q2, if_neg q2] at ih
        rw [if_neg (show ¬ d < n + 1 by omega), if_neg (show ¬ d < n + 1 by omega)]
        omega
theorem tot_lt {c : Nat → Nat} {d v n : Nat} (hd : d < n) (h : v < c d) : tot (up c d v) n < tot c n := by
  have := tot_up (c := c) (d := d) (v := v) n
  rw [if_pos hd, if_pos hd] at this
  omega
theorem tot_le {c : Nat → Nat} (h : ∀ d, c d ≤ OVR) : ∀ n, tot c n ≤ n * OVR := by
  intro n
  induction n with
  | zero => exact Nat.zero_le _
  | succ n ih =>
    unfold tot
    have := h n
    rw [Nat.succ_mul]
    omega
theorem dm_lt {d : Nat} (h : mG s ≤ 64) (hd : Dm s d) : d < 1920 := by
  have := hd.1
  omega
theorem pf_0 : Pf s (fun _ => OVR) := ⟨fun _ => Nat.le_refl _, fun _ _ => Or.inl rfl, fun _ _ => rfl⟩
theorem fix_ex (h : mG s ≤ 64) : ∃ c, Fix s c := by
  have key : ∀ N c, tot c 1920 ≤ N → Pf s c → ∃ c, Fix s c := by
    intro N
    induction N with
    | zero =>
      intro c hc hp
      refine ⟨c, fix_of hp (fun d hd w hw => ?_)⟩
      apply Nat.le_of_not_lt
      intro q
      have := tot_lt (dm_lt h hd) q
      omega
    | succ N ih =>
      intro c hc hp
      by_cases q : ∀ d, Dm s d → ∀ w, w ∈ wys s d → c d ≤ sm c w
      · exact ⟨c, fix_of hp q⟩
      · have : ∃ d, Dm s d ∧ ∃ w, w ∈ wys s d ∧ sm c w < c d := by
          apply Classical.byContradiction
          intro z
          exact q (fun d hd w hw => Nat.le_of_not_lt (fun y => z ⟨d, hd, w, hw, y⟩))
        obtain ⟨d, hd, w, hw, hl⟩ := this
        have := tot_lt (dm_lt h hd) hl
        exact ih _ (by omega) (pf_up hp hd hw hl)
  exact key _ _ (Nat.le_refl _) pf_0
theorem sm_cases {c : Nat → Nat} {w : Wy} : (sm c w = w.2.2.2.2.2 + oc c w.2.2.1 + oc c w.2.2.2.1 ∧ sm c w ≤ MCH) ∨ sm c w = OVR := by
  unfold sm cap
  by_cases q : w.2.2.2.2.2 + oc c w.2.2.1 + oc c w.2.2.2.1 ≤ MCH
  · rw [if_pos q]; exact Or.inl ⟨rfl, q⟩
  · rw [if_neg q]; exact Or.inr rfl
theorem fix_le {c c' : Nat → Nat} (hs : Sh s) (l : Lo s) (hb : Tb s) (h : Fix s c) (h' : Fix s c') : ∀ v d, Dm s d → c d ≤ v → c d ≤ MCH → c' d ≤ c d := by
  have mo := MO
  intro v
  induction v with
  | zero =>
    intro d hd h1 h2
    rcases (h.2.1 d hd).1 with q | ⟨w, hw, q⟩
    · omega
    · have ok := (wys_in hs l hb hd hw).2.1.1
      rcases sm_cases (c := c) (w := w) with ⟨z, -⟩ | z <;> omega
  | succ v ih =>
    intro d hd h1 h2
    rcases (h.2.1 d hd).1 with q | ⟨w, hw, q⟩
    · omega
    · obtain ⟨-, ok, o1, o2, -⟩ := wys_in hs l hb hd hw
      rcases sm_cases (c := c) (w := w) with ⟨z, -⟩ | z
      · have le1 : ∀ o, (∀ x, o = some x → Dm s x) → oc c o < c d → oc c' o ≤ oc c o := by
          intro o ho hlt
          cases o with
          | none => exact Nat.le_refl _
          | some x =>
            have hlt' : c x < c d := hlt
            exact ih x (ho x rfl) (by omega) (by omega)
        have a1 := le1 _ o1 (by omega)
        have a2 := le1 _ o2 (by omega)
        have hsm : sm c' w ≤ sm c w := cap_mono (by omega)
        have := (h'.2.1 d hd).2 w hw
        omega
      · omega
theorem fix_one {c c' : Nat → Nat} (hs : Sh s) (l : Lo s) (hb : Tb s) (h : Fix s c) (h' : Fix s c') : c = c' := by
  have mo := MO
  have big : ∀ c : Nat → Nat, Fix s c → ∀ d, Dm s d → ¬ c d ≤ MCH → c d = OVR := by
    intro c h d hd q
    rcases (h.2.1 d hd).1 with z | ⟨w, hw, z⟩
    · exact z
    · rcases sm_cases (c := c) (w := w) with ⟨-, y⟩ | y
      · omega
      · omega
  funext d
  by_cases hd : Dm s d
  · by_cases q : c d ≤ MCH
    · have a := fix_le hs l hb h h' _ d hd (Nat.le_refl _) q
      have b := fix_le hs l hb h' h _ d hd (Nat.le_refl _) (by omega)
      omega
    · by_cases q' : c' d ≤ MCH
      · have b := fix_le hs l hb h' h _ d hd (Nat.le_refl _) q'
        omega
      · rw [big c h d hd q, big c' h' d hd q']
  · rw [h.2.2 d hd, h'.2.2 d hd]
/-- the costs of all demands -/
noncomputable def cst (s : mS) : Nat → Nat := Classical.epsilon (fun c => Fix s c)
theorem cst_fix (h : mG s ≤ 64) : Fix s (cst s) := Classical.epsilon_spec (fix_ex h)
end PM
