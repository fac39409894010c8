set_option linter.unusedVariables false
set_option maxRecDepth 100000
section JR4
variable {l : Launch} {d : wD} {X : jX} {D : Nat} {K : jK} {Kx : jKx} {M : jM} {pc : Nat} {σ : wS} {L L2 : List (Nat × Value)} {st : List Value}
/-! the words of the methods' pictures -/
def bnd {α : Type} (e : α) (k : α → Prop) : Prop := ∀ x, x = e → k x
theorem bnd_eq {α : Type} {e : α} {k : α → Prop} : bnd e k = k e := by simp [bnd]
def nn (r : Option Nat) (k : Nat → Prop) : Prop := ∃ b, r = some b ∧ k b
theorem nn_some {b : Nat} {k : Nat → Prop} : nn (some b) k = k b := by simp [nn]
def lenA (σ : wS) (g a : Nat) (k : Nat → Prop) : Prop := ∃ n, aN σ g a = some n ∧ k n
theorem iteT {c A B : Prop} [Decidable c] (h : if c then A else B) (hc : c) : A := by rwa [if_pos hc] at h
theorem iteF {c A B : Prop} [Decidable c] (h : if c then A else B) (hc : ¬ c) : B := by rwa [if_neg hc] at h
def mt (r : Option Nat) (A : Prop) (B : Nat → Prop) : Prop := match r with
  | none => A
  | some x => B x
def nwo (σ : wS) (N : Nat) (k : Prop) : Prop := (1 ≤ rC σ ∧ N ≤ rS σ) ∧ (oC σ (nx σ) = 0 → (∀ g x n, aN σ g x = some n → aD σ g x ≠ nx σ) → k)
def vmx (σ : wS) (a b : Nat) (P : Nat → wS → Prop) : Prop := (a ≤ rC σ ∧ b ≤ rS σ) ∧ ∀ q n c s : Nat, nx σ ≤ n → rC σ ≤ c + a → rS σ ≤ s + b → P q (bp σ n c s)
abbrev kI (Q : Int32 → wS → Prop) : jK := fun v τ => ∃ r, v = some (.int r) ∧ Q r τ
abbrev kJ (Q : Int64 → wS → Prop) : jK := fun v τ => ∃ r, v = some (.long r) ∧ Q r τ
abbrev kR (Q : Option Nat → wS → Prop) : jK := fun v τ => ∃ r, v = some (va_rf r) ∧ Q r τ
abbrev kS (d : wD) (Q : Nat → wS → Prop) : jK := fun v τ => ∃ r, v = some (.ref (d.2.2.1 r)) ∧ Q r τ
abbrev kV (Q : wS → Prop) : jK := fun v τ => v = none ∧ Q τ
def exS : Nat → String
  | 25 => "PlanMemo$Refused"
  | 40 => "PlanMemo$Faulty"
  | 101 => "java/lang/ArrayIndexOutOfBoundsException"
  | 102 => "java/lang/NullPointerException"
  | 103 => "java/lang/ClassCastException"
  | 104 => "java/lang/ArithmeticException"
  | _ => ""
abbrev kX (Xh : Nat → Nat → wS → Prop) : jKx := fun E q τ => ∃ c, E = exS c ∧ Xh c q τ
theorem kkI {Q : Int32 → wS → Prop} {p : Nat} {rest : List Value} (h : ∀ r τ, Ext σ τ → Q r τ → J l d X D K Kx M p τ L (.int r :: rest)) : ∀ (v : Option Value) (σ' : wS), Ext σ σ' → kI Q v σ' → J l d X D K Kx M p σ' L (v.toList ++ rest) := by
  rintro _ τ hx ⟨r, rfl, hq⟩
  exact h r τ hx hq
theorem kkJ {Q : Int64 → wS → Prop} {p : Nat} {rest : List Value} (h : ∀ r τ, Ext σ τ → Q r τ → J l d X D K Kx M p τ L (.long r :: rest)) : ∀ (v : Option Value) (σ' : wS), Ext σ σ' → kJ Q v σ' → J l d X D K Kx M p σ' L (v.toList ++ rest) := by
  rintro _ τ hx ⟨r, rfl, hq⟩
  exact h r τ hx hq
theorem kkR {Q : Option Nat → wS → Prop} {p : Nat} {rest : List Value} (h : ∀ r τ, Ext σ τ → Q r τ → J l d X D K Kx M p τ L (va_rf r :: rest)) : ∀ (v : Option Value) (σ' : wS), Ext σ σ' → kR Q v σ' → J l d X D K Kx M p σ' L (v.toList ++ rest) := by
  rintro _ τ hx ⟨r, rfl, hq⟩
  exact h r τ hx hq
theorem kkS {Q : Nat → wS → Prop} {p : Nat} {rest : List Value} (h : ∀ r τ, Ext σ τ → Q r τ → J l d X D K Kx M p τ L (.ref (d.2.2.1 r) :: rest)) : ∀ (v : Option Value) (σ' : wS), Ext σ σ' → kS d Q v σ' → J l d X D K Kx M p σ' L (v.toList ++ rest) := by
  rintro _ τ hx ⟨r, rfl, hq⟩
  exact h r τ hx hq
theorem kkV {Q : wS → Prop} {p : Nat} {rest : List Value} (h : ∀ τ, Ext σ τ → Q τ → J l d X D K Kx M p τ L rest) : ∀ (v : Option Value) (σ' : wS), Ext σ σ' → kV Q v σ' → J l d X D K Kx M p σ' L (v.toList ++ rest) := by
  rintro _ τ hx ⟨rfl, hq⟩
  exact h τ hx hq
theorem kx0 {M' : jM} {p : Nat} : ∀ (E : String) (q : Nat) (σ' : wS), Ext σ σ' → noX E q σ' → JX l d X D K Kx M' p σ' L E q := fun _ _ _ _ h => h.elim
theorem kxX {Xh : Nat → Nat → wS → Prop} {p : Nat} (h : ∀ c q τ, Ext σ τ → Xh c q τ → JX l d X D K Kx M p τ L (exS c) q) : ∀ (E : String) (q : Nat) (σ' : wS), Ext σ σ' → kX Xh E q σ' → JX l d X D K Kx M p σ' L E q := by
  rintro _ q τ hx ⟨c, rfl, hq⟩
  exact h c q τ hx hq
/-! small steps of the picture -/
theorem j_nullm (hd : decode M.2.1 pc = .ok (.aconst_null, 1)) (k : J l d X D K Kx M (pc + 1) σ L (va_rf none :: st)) : J l d X D K Kx M pc σ L st := j_null hd k
theorem j_genI {v : Int32} (k : ∀ x, x = v → J l d X D K Kx M pc σ L (.int x :: st)) : J l d X D K Kx M pc σ L (.int v :: st) := k v rfl
theorem j_genJ {v : Int64} (k : ∀ x, x = v → J l d X D K Kx M pc σ L (.long x :: st)) : J l d X D K Kx M pc σ L (.long v :: st) := k v rfl
theorem j_genR {v : Option Nat} (k : ∀ x, x = v → J l d X D K Kx M pc σ L (va_rf x :: st)) : J l d X D K Kx M pc σ L (va_rf v :: st) := k v rfl
theorem j_nn0 {r : Option Nat} {b : Nat} (h : r = some b) (k : J l d X D K Kx M pc σ L (.ref b :: st)) : J l d X D K Kx M pc σ L (va_rf r :: st) := by subst h; exact k
theorem j_nn1 {r : Option Nat} {b : Nat} {v1 : Value} (h : r = some b) (k : J l d X D K Kx M pc σ L (v1 :: .ref b :: st)) : J l d X D K Kx M pc σ L (v1 :: va_rf r :: st) := by subst h; exact k
theorem j_nn2 {r : Option Nat} {b : Nat} {v1 v2 : Value} (h : r = some b) (k : J l d X D K Kx M pc σ L (v1 :: v2 :: .ref b :: st)) : J l d X D K Kx M pc σ L (v1 :: v2 :: va_rf r :: st) := by subst h; exact k
theorem j_nn3 {r : Option Nat} {b : Nat} {v1 v2 v3 : Value} (h : r = some b) (k : J l d X D K Kx M pc σ L (v1 :: v2 :: v3 :: .ref b :: st)) : J l d X D K Kx M pc σ L (v1 :: v2 :: v3 :: va_rf r :: st) := by subst h; exact k
theorem j_nn4 {r : Option Nat} {b : Nat} {v1 v2 v3 v4 : Value} (h : r = some b) (k : J l d X D K Kx M pc σ L (v1 :: v2 :: v3 :: v4 :: .ref b :: st)) : J l d X D K Kx M pc σ L (v1 :: v2 :: v3 :: v4 :: va_rf r :: st) := by subst h; exact k
theorem j_nn5 {r : Option Nat} {b : Nat} {v1 v2 v3 v4 v5 : Value} (h : r = some b) (k : J l d X D K Kx M pc σ L (v1 :: v2 :: v3 :: v4 :: v5 :: .ref b :: st)) : J l d X D K Kx M pc σ L (v1 :: v2 :: v3 :: v4 :: v5 :: va_rf r :: st) := by subst h; exact k
theorem j_eqI {v w : Int32} (h : v = w) (k : J l d X D K Kx M pc σ L (.int w :: st)) : J l d X D K Kx M pc σ L (.int v :: st) := by subst h; exact k
theorem lcmp_eq {x y : Int64} : lg_cmp x y = 0 ↔ x = y := by
  unfold lg_cmp
  split
  · rename_i h
    constructor
    · intro e; exact absurd e (by decide)
    · rintro rfl; exact absurd h (Int64.lt_irrefl)
  · split
    · rename_i h; exact ⟨fun _ => h, fun _ => rfl⟩
    · rename_i h; exact ⟨fun e => absurd e (by decide), fun e => absurd e h⟩
theorem zb_ite {c : Prop} [Decidable c] : narrow .boolean (.int (if c then (1 : Int32) else 0)) = .int (if c then (1 : Int32) else 0) := by split <;> rfl
def isZ (v : Int32) : Prop := v = 0 ∨ v = 1
theorem isZ.nar {v : Int32} (h : isZ v) : narrow .boolean (.int v) = .int v := by rcases h with rfl | rfl <;> rfl
theorem isZ.fit {v : Int32} (h : isZ v) : fits .boolean (.int v) = true := by rcases h with rfl | rfl <;> rfl
theorem isZ.ite {c : Prop} [Decidable c] {a b : Int32} (h : isZ a) (k : isZ b) : isZ (if c then a else b) := by split <;> assumption
theorem isZ.zero : isZ 0 := Or.inl rfl
theorem isZ.one : isZ 1 := Or.inr rfl
theorem lw_SU {own : String} {idx : Nat} {y : MethodName} {b : ByteArray} {L : Nat} {r : Option FieldType} (h1 : Cond.methodLink own idx y ∈ lw_all) (h2 : Cond.sameMethod y.cls y.cls y.name y.desc ∈ lw_all) (h3 : Cond.superclass own y.cls ∈ lw_all) (h4 : Cond.instanceMethod y ∈ lw_all) (h5 : Cond.initialized y.cls ∈ lw_all) (h6 : Cond.code y b L r ∈ lw_all) : GoodIn lw_all (va_wsSU own idx y (ws_ y b L r)) := by
  refine lw_app ?_ (lw_meth h6)
  intro w hw
  simp only [List.mem_cons, List.not_mem_nil, or_false] at hw
  rcases hw with rfl | rfl | rfl | rfl | rfl <;> assumption
theorem pass_nil {P : ExceptionTableEntry → Prop} : ∀ z ∈ ([] : List ExceptionTableEntry), P z := fun z hz => nomatch hz
theorem pass_cons {P : ExceptionTableEntry → Prop} {a : ExceptionTableEntry} {l : List ExceptionTableEntry} (h : P a) (t : ∀ z ∈ l, P z) : ∀ z ∈ a :: l, P z := List.forall_mem_cons.mpr ⟨h, t⟩
theorem va_rf_cat (r : Option Nat) : (va_rf r).category = 1 := by cases r <;> rfl
theorem ll_0 : (lg_sl []).length = 0 := rfl
theorem ll_i {x : Int32} {vs : List Value} : (lg_sl (.int x :: vs)).length = (lg_sl vs).length + 1 := rfl
theorem ll_j {x : Int64} {vs : List Value} : (lg_sl (.long x :: vs)).length = (lg_sl vs).length + 2 := rfl
theorem ll_n {x : Nat} {vs : List Value} : (lg_sl (.ref x :: vs)).length = (lg_sl vs).length + 1 := rfl
theorem ll_r {x : Option Nat} {vs : List Value} : (lg_sl (va_rf x :: vs)).length = (lg_sl vs).length + 1 := by cases x <;> rfl
theorem la_0 {i : Nat} : lv_args i [] = [] := rfl
theorem la_i {i : Nat} {x : Int32} {vs : List Value} : lv_args i (.int x :: vs) = (i, .int x) :: lv_args (i + 1) vs := rfl
theorem la_j {i : Nat} {x : Int64} {vs : List Value} : lv_args i (.long x :: vs) = (i, .long x) :: lv_args (i + 2) vs := rfl
theorem la_n {i : Nat} {x : Nat} {vs : List Value} : lv_args i (.ref x :: vs) = (i, .ref x) :: lv_args (i + 1) vs := rfl
theorem la_r {i : Nat} {x : Option Nat} {vs : List Value} : lv_args i (va_rf x :: vs) = (i, va_rf x) :: lv_args (i + 1) vs := by cases x <;> rfl
theorem cat_i (x : Int32) : (Value.int x).category = 1 := rfl
theorem cat_j (x : Int64) : (Value.long x).category = 2 := rfl
theorem cat_n (x : Nat) : (Value.ref x).category = 1 := rfl
theorem cat_le (v : Value) : v.category ≤ 2 := by cases v <;> first | exact Nat.le_of_ble_eq_true rfl | decide
theorem rest_le {rest : List Value} (h : rest.length ≤ 4) : (rest.map fun v => v.category).sum ≤ 8 := by
  match rest, h with
  | [], _ => decide
  | [a], _ => have := cat_le a; simp; omega
  | [a, b], _ => have := cat_le a; have := cat_le b; simp; omega
  | [a, b, c], _ => have := cat_le a; have := cat_le b; have := cat_le c; simp; omega
  | [a, b, c, e], _ => have := cat_le a; have := cat_le b; have := cat_le c; have := cat_le e; simp; omega
theorem mtN {r : Option Nat} {A : Prop} {B : Nat → Prop} (h : mt r A B) (e : r = none) : A := by subst e; exact h
theorem mtS {r : Option Nat} {A : Prop} {B : Nat → Prop} {b : Nat} (h : mt r A B) (e : r = some b) : B b := by subst e; exact h
theorem nar_any {ft : FieldType} (h : refKind ft = true) (v : Option Nat) : narrow ft (va_rf v) = va_rf v := by cases ft <;> first | (cases v <;> rfl) | cases h
theorem fit_any {ft : FieldType} (h : refKind ft = true) (v : Option Nat) : fits ft (va_rf v) = true := by cases ft <;> first | (cases v <;> rfl) | cases h
theorem j_gets {idx : Nat} {n dsc : String} (hd : decode M.2.1 pc = .ok (.getstatic idx, 3)) (hq : Cond.fieldLink M.1.cls idx Bundle.tN n dsc ∈ lw_all) (hn : (n = "UNASSIGNED_STACK" ∧ dsc = Bundle.steD) ∨ (n = "SUPPRESSED_SENTINEL" ∧ dsc = Bundle.listD)) (kk : ∀ z : Option Nat, J l d X D K Kx M (pc + 3) σ L (va_rf z :: st)) : J l d X D K Kx M pc σ L st := by
  intro G ha hb hE H locs ls hW hS hl
  have hZ : va_Zq Bundle.tN n dsc (wd_A d) X.2.2.1 X.2.2.1.heap := by
    rcases hn with ⟨rfl, rfl⟩ | ⟨rfl, rfl⟩
    · exact G.kk.2.2.2.2.2.2.2.1.1
    · exact G.kk.2.2.2.2.2.2.2.2.1
  rcases hZ with h | ⟨t, h⟩
  · exact va_gets G.ex G.cd h hS G.own (G.ws _ hq) (fun _ h => h) hd (kk none G ha hb hE H locs ls hW hS hl)
  · exact va_gets G.ex G.cd h hS G.own (G.ws _ hq) (fun _ h => h) hd (kk (some t) G ha hb hE H locs ls hW hS hl)
theorem nar_rf {n : String} (v : Option Nat) : narrow (.object n) (va_rf v) = va_rf v := by cases v <;> rfl
theorem fit_rf {n : String} (v : Option Nat) : fits (.object n) (va_rf v) = true := by cases v <;> rfl
theorem mkO_C {c N : Nat} : oC (mkO σ c N) (nx σ) = c + 1 := by show (if nx σ = nx σ then c + 1 else _) = _; rw [if_pos rfl]
theorem Ext.sI {g a : Nat} {v : Int32} : Ext σ (sI σ g a v) := Ext.refl σ
theorem Ext.sJ {g a : Nat} {v : Int64} : Ext σ (sJ σ g a v) := Ext.refl σ
theorem Ext.sR {g a : Nat} {v : Option Nat} : Ext σ (sR σ g a v) := Ext.refl σ
theorem Ext.sA {g a : Nat} {v : Nat → Int32} : Ext σ (sA σ g a v) := Ext.refl σ
theorem Ext.sAJ {g a : Nat} {v : Nat → Int64} : Ext σ (sAJ σ g a v) := Ext.refl σ
theorem Ext.sAR {g a : Nat} {v : Nat → Option Nat} : Ext σ (sAR σ g a v) := Ext.refl σ
theorem Ext.bp {n k m : Nat} : Ext σ (bp σ n k m) := Ext.refl σ
theorem Ext.an {τ : wS} {g x n c : Nat} (h : Ext σ τ) (hC : oC σ x = c + 1) (hg : g % 10000 ≠ 0) (hN : aN σ g x = some n) : aN τ g x = some n := (h.2 g x n (by omega) hg hN).1
theorem Ext.ad {τ : wS} {g x n c : Nat} (h : Ext σ τ) (hC : oC σ x = c + 1) (hg : g % 10000 ≠ 0) (hN : aN σ g x = some n) : aD τ g x = aD σ g x := (h.2 g x n (by omega) hg hN).2
/-- a step that moves no array -/
def Sm (σ τ : wS) : Prop := aN τ = aN σ ∧ aD τ = aD σ
theorem Sm.sI {g a : Nat} {v : Int32} : Sm σ (sI σ g a v) := ⟨rfl, rfl⟩
theorem Sm.sJ {g a : Nat} {v : Int64} : Sm σ (sJ σ g a v) := ⟨rfl, rfl⟩
theorem Sm.sR {g a : Nat} {v : Option Nat} : Sm σ (sR σ g a v) := ⟨rfl, rfl⟩
theorem Sm.sA {g a : Nat} {v : Nat → Int32} : Sm σ (sA σ g a v) := ⟨rfl, rfl⟩
theorem Sm.sAJ {g a : Nat} {v : Nat → Int64} : Sm σ (sAJ σ g a v) := ⟨rfl, rfl⟩
theorem Sm.sAR {g a : Nat} {v : Nat → Option Nat} : Sm σ (sAR σ g a v) := ⟨rfl, rfl⟩
theorem Sm.bp {n k m : Nat} : Sm σ (bp σ n k m) := ⟨rfl, rfl⟩
theorem Sm.an {τ : wS} (h : Sm σ τ) {g x n : Nat} (e : aN σ g x = some n) : aN τ g x = some n := by rw [h.1]; exact e
theorem Sm.ad {τ : wS} (h : Sm σ τ) (g x : Nat) : aD τ g x = aD σ g x := by rw [h.2]
theorem mkA_n {f n : Nat} : aN (mkA σ f n) f (nx σ) = some n := by show u2 _ f (nx σ) (some n) f (nx σ) = _; rw [u2_s]
theorem mvA_new {g a0 f q N0 : Nat} (hN : aN σ f q = some N0) : aN (mvA σ g a0 f q) g a0 = some N0 := by show u2 _ g a0 (aN σ f q) g a0 = _; rw [u2_s, hN]
theorem j_tsIn {dflt lo hi off z : Int} {offs : Array Int} {len tgt : Nat} {x k : Int32} (hd : decode M.2.1 pc = .ok (.tableswitch dflt lo hi offs, len)) (hx : x = k) (hz : k.toInt = z) (h : lo ≤ z ∧ z ≤ hi) (ho : offs[(z - lo).toNat]? = some off) (ht : (pc : Int) + off = (tgt : Int)) (k : J l d X D K Kx M tgt σ L st) : J l d X D K Kx M pc σ L (.int x :: st) := by
  subst hx
  exact j_tableIn hd (by omega) (by omega) (by rw [hz]; exact ho) ht k
theorem ts_ne {x k : Int32} (h : ¬ x = k) : x.toInt ≠ k.toInt := fun e => h (Int32.toInt_inj.mp e)
end JR4

def oS9 (σ : wS) (a : Nat) : Prop := oC σ a = 26 ∨ oC σ a = 41
theorem oS9.ext {σ τ : wS} {a : Nat} (h : oS9 σ a) (e : Ext σ τ) : oS9 τ a := by
  rcases h with h | h
  · exact Or.inl (e.C h)
  · exact Or.inr ((e.C h))
theorem oS9.f9000 {σ : wS} {a : Nat} (h : oS9 σ a) : ∃ c k, oC σ a = c + 1 ∧ fd c k 9000 2 "java/lang/Throwable" "cause" "Ljava/lang/Throwable;" false (tyX25 0) := by
  rcases h with h | h
  · exact ⟨25, 0, h, fX25_0⟩
  · exact ⟨40, 0, h, fX40_0⟩
theorem oS9.f9001 {σ : wS} {a : Nat} (h : oS9 σ a) : ∃ c k, oC σ a = c + 1 ∧ fd c k 9001 2 "java/lang/Throwable" "stackTrace" "[Ljava/lang/StackTraceElement;" false (tyX25 1) := by
  rcases h with h | h
  · exact ⟨25, 1, h, fX25_1⟩
  · exact ⟨40, 1, h, fX40_1⟩
theorem oS9.f9002 {σ : wS} {a : Nat} (h : oS9 σ a) : ∃ c k, oC σ a = c + 1 ∧ fd c k 9002 2 "java/lang/Throwable" "suppressedExceptions" "Ljava/util/List;" false (tyX25 2) := by
  rcases h with h | h
  · exact ⟨25, 2, h, fX25_2⟩
  · exact ⟨40, 2, h, fX40_2⟩
theorem oS9.f9003 {σ : wS} {a : Nat} (h : oS9 σ a) : ∃ c k, oC σ a = c + 1 ∧ fd c k 9003 2 "java/lang/Throwable" "detailMessage" "Ljava/lang/String;" false (tyX25 3) := by
  rcases h with h | h
  · exact ⟨25, 3, h, fX25_3⟩
  · exact ⟨40, 3, h, fX40_3⟩
theorem oS9.f9004 {σ : wS} {a : Nat} (h : oS9 σ a) : ∃ c k, oC σ a = c + 1 ∧ fd c k 9004 2 "java/lang/Throwable" "backtrace" "Ljava/lang/Object;" false (tyX25 4) := by
  rcases h with h | h
  · exact ⟨25, 4, h, fX25_4⟩
  · exact ⟨40, 4, h, fX40_4⟩
theorem oS9.f9005 {σ : wS} {a : Nat} (h : oS9 σ a) : ∃ c k, oC σ a = c + 1 ∧ fd c k 9005 0 "java/lang/Throwable" "depth" "I" false (tyX25 5) := by
  rcases h with h | h
  · exact ⟨25, 5, h, fX25_5⟩
  · exact ⟨40, 5, h, fX40_5⟩
theorem oS9.any {σ : wS} {a : Nat} (h : oS9 σ a) : ∃ (c : Nat) (r : vw_C), oC σ a = c + 1 ∧ vwCl[c]? = some r := by
  rcases h with h | h
  · exact ⟨25, _, h, rfl⟩
  · exact ⟨40, _, h, rfl⟩
def oS32 (σ : wS) (a : Nat) : Prop := oC σ a = 34 ∨ oC σ a = 36 ∨ oC σ a = 37 ∨ oC σ a = 38 ∨ oC σ a = 39
theorem oS32.ext {σ τ : wS} {a : Nat} (h : oS32 σ a) (e : Ext σ τ) : oS32 τ a := by
  rcases h with h | h | h | h | h
  · exact Or.inl (e.C h)
  · exact Or.inr (Or.inl (e.C h))
  · exact Or.inr (Or.inr (Or.inl (e.C h)))
  · exact Or.inr (Or.inr (Or.inr (Or.inl (e.C h))))
  · exact Or.inr (Or.inr (Or.inr (Or.inr ((e.C h)))))
theorem oS32.f3300 {σ : wS} {a : Nat} (h : oS32 σ a) : ∃ c k, oC σ a = c + 1 ∧ fd c k 3300 0 "PlanMemo$Expression" "index" "I" true (tyX33 0) := by
  rcases h with h | h | h | h | h
  · exact ⟨33, 0, h, fX33_0⟩
  · exact ⟨35, 0, h, fX35_0⟩
  · exact ⟨36, 0, h, fX36_0⟩
  · exact ⟨37, 0, h, fX37_0⟩
  · exact ⟨38, 0, h, fX38_0⟩
theorem oS32.f3301 {σ : wS} {a : Nat} (h : oS32 σ a) : ∃ c k, oC σ a = c + 1 ∧ fd c k 3301 0 "PlanMemo$Expression" "by" "I" true (tyX33 1) := by
  rcases h with h | h | h | h | h
  · exact ⟨33, 1, h, fX33_1⟩
  · exact ⟨35, 1, h, fX35_1⟩
  · exact ⟨36, 1, h, fX36_1⟩
  · exact ⟨37, 1, h, fX37_1⟩
  · exact ⟨38, 1, h, fX38_1⟩
theorem oS32.any {σ : wS} {a : Nat} (h : oS32 σ a) : ∃ (c : Nat) (r : vw_C), oC σ a = c + 1 ∧ vwCl[c]? = some r := by
  rcases h with h | h | h | h | h
  · exact ⟨33, _, h, rfl⟩
  · exact ⟨35, _, h, rfl⟩
  · exact ⟨36, _, h, rfl⟩
  · exact ⟨37, _, h, rfl⟩
  · exact ⟨38, _, h, rfl⟩
theorem oS32.cast {σ : wS} {a : Nat} (h : oS32 σ a) : ∃ (c : Nat) (r : vw_C), oC σ a = c + 1 ∧ vwCl[c]? = some r ∧ (r.1 = "PlanMemo$Expression" ∨ (r.1, "PlanMemo$Expression") ∈ wd_casts) := by
  rcases h with h | h | h | h | h
  · exact ⟨33, _, h, rfl, Or.inr (by decide)⟩
  · exact ⟨35, _, h, rfl, Or.inr (by decide)⟩
  · exact ⟨36, _, h, rfl, Or.inr (by decide)⟩
  · exact ⟨37, _, h, rfl, Or.inr (by decide)⟩
  · exact ⟨38, _, h, rfl, Or.inr (by decide)⟩
def oS34 (σ : wS) (a : Nat) : Prop := oC σ a = 36 ∨ oC σ a = 37
theorem oS34.ext {σ τ : wS} {a : Nat} (h : oS34 σ a) (e : Ext σ τ) : oS34 τ a := by
  rcases h with h | h
  · exact Or.inl (e.C h)
  · exact Or.inr ((e.C h))
theorem oS34.f3300 {σ : wS} {a : Nat} (h : oS34 σ a) : ∃ c k, oC σ a = c + 1 ∧ fd c k 3300 0 "PlanMemo$Expression" "index" "I" true (tyX35 0) := by
  rcases h with h | h
  · exact ⟨35, 0, h, fX35_0⟩
  · exact ⟨36, 0, h, fX36_0⟩
theorem oS34.f3301 {σ : wS} {a : Nat} (h : oS34 σ a) : ∃ c k, oC σ a = c + 1 ∧ fd c k 3301 0 "PlanMemo$Expression" "by" "I" true (tyX35 1) := by
  rcases h with h | h
  · exact ⟨35, 1, h, fX35_1⟩
  · exact ⟨36, 1, h, fX36_1⟩
theorem oS34.any {σ : wS} {a : Nat} (h : oS34 σ a) : ∃ (c : Nat) (r : vw_C), oC σ a = c + 1 ∧ vwCl[c]? = some r := by
  rcases h with h | h
  · exact ⟨35, _, h, rfl⟩
  · exact ⟨36, _, h, rfl⟩
def oS137 (σ : wS) (a : Nat) : Prop := oC σ a = 38 ∨ oC σ a = 39
theorem oS137.ext {σ τ : wS} {a : Nat} (h : oS137 σ a) (e : Ext σ τ) : oS137 τ a := by
  rcases h with h | h
  · exact Or.inl (e.C h)
  · exact Or.inr ((e.C h))
theorem oS137.f3300 {σ : wS} {a : Nat} (h : oS137 σ a) : ∃ c k, oC σ a = c + 1 ∧ fd c k 3300 0 "PlanMemo$Expression" "index" "I" true (tyX37 0) := by
  rcases h with h | h
  · exact ⟨37, 0, h, fX37_0⟩
  · exact ⟨38, 0, h, fX38_0⟩
theorem oS137.f3301 {σ : wS} {a : Nat} (h : oS137 σ a) : ∃ c k, oC σ a = c + 1 ∧ fd c k 3301 0 "PlanMemo$Expression" "by" "I" true (tyX37 1) := by
  rcases h with h | h
  · exact ⟨37, 1, h, fX37_1⟩
  · exact ⟨38, 1, h, fX38_1⟩
theorem oS137.any {σ : wS} {a : Nat} (h : oS137 σ a) : ∃ (c : Nat) (r : vw_C), oC σ a = c + 1 ∧ vwCl[c]? = some r := by
  rcases h with h | h
  · exact ⟨37, _, h, rfl⟩
  · exact ⟨38, _, h, rfl⟩
def oS41 (σ : wS) (a : Nat) : Prop := oC σ a = 43 ∨ oC σ a = 44 ∨ oC σ a = 45
theorem oS41.ext {σ τ : wS} {a : Nat} (h : oS41 σ a) (e : Ext σ τ) : oS41 τ a := by
  rcases h with h | h | h
  · exact Or.inl (e.C h)
  · exact Or.inr (Or.inl (e.C h))
  · exact Or.inr (Or.inr ((e.C h)))
theorem oS41.f4200 {σ : wS} {a : Nat} (h : oS41 σ a) : ∃ c k, oC σ a = c + 1 ∧ fd c k 4200 0 "PlanMemo$Said" "by" "I" true (tyX42 0) := by
  rcases h with h | h | h
  · exact ⟨42, 0, h, fX42_0⟩
  · exact ⟨43, 0, h, fX43_0⟩
  · exact ⟨44, 0, h, fX44_0⟩
theorem oS41.f4201 {σ : wS} {a : Nat} (h : oS41 σ a) : ∃ c k, oC σ a = c + 1 ∧ fd c k 4201 0 "PlanMemo$Said" "columns" "I" true (tyX42 1) := by
  rcases h with h | h | h
  · exact ⟨42, 1, h, fX42_1⟩
  · exact ⟨43, 1, h, fX43_1⟩
  · exact ⟨44, 1, h, fX44_1⟩
theorem oS41.any {σ : wS} {a : Nat} (h : oS41 σ a) : ∃ (c : Nat) (r : vw_C), oC σ a = c + 1 ∧ vwCl[c]? = some r := by
  rcases h with h | h | h
  · exact ⟨42, _, h, rfl⟩
  · exact ⟨43, _, h, rfl⟩
  · exact ⟨44, _, h, rfl⟩
def oS26 (σ : wS) (a : Nat) : Prop := oC σ a = 28 ∨ oC σ a = 29 ∨ oC σ a = 30 ∨ oC σ a = 31
theorem oS26.ext {σ τ : wS} {a : Nat} (h : oS26 σ a) (e : Ext σ τ) : oS26 τ a := by
  rcases h with h | h | h | h
  · exact Or.inl (e.C h)
  · exact Or.inr (Or.inl (e.C h))
  · exact Or.inr (Or.inr (Or.inl (e.C h)))
  · exact Or.inr (Or.inr (Or.inr ((e.C h))))
theorem oS26.any {σ : wS} {a : Nat} (h : oS26 σ a) : ∃ (c : Nat) (r : vw_C), oC σ a = c + 1 ∧ vwCl[c]? = some r := by
  rcases h with h | h | h | h
  · exact ⟨27, _, h, rfl⟩
  · exact ⟨28, _, h, rfl⟩
  · exact ⟨29, _, h, rfl⟩
  · exact ⟨30, _, h, rfl⟩
def oS113 (σ : wS) (a : Nat) : Prop := oC σ a = 14 ∨ oC σ a = 15 ∨ oC σ a = 16 ∨ oC σ a = 17 ∨ oC σ a = 18 ∨ oC σ a = 19 ∨ oC σ a = 20 ∨ oC σ a = 21 ∨ oC σ a = 22
theorem oS113.ext {σ τ : wS} {a : Nat} (h : oS113 σ a) (e : Ext σ τ) : oS113 τ a := by
  rcases h with h | h | h | h | h | h | h | h | h
  · exact Or.inl (e.C h)
  · exact Or.inr (Or.inl (e.C h))
  · exact Or.inr (Or.inr (Or.inl (e.C h)))
  · exact Or.inr (Or.inr (Or.inr (Or.inl (e.C h))))
  · exact Or.inr (Or.inr (Or.inr (Or.inr (Or.inl (e.C h)))))
  · exact Or.inr (Or.inr (Or.inr (Or.inr (Or.inr (Or.inl (e.C h))))))
  · exact Or.inr (Or.inr (Or.inr (Or.inr (Or.inr (Or.inr (Or.inl (e.C h)))))))
  · exact Or.inr (Or.inr (Or.inr (Or.inr (Or.inr (Or.inr (Or.inr (Or.inl (e.C h))))))))
  · exact Or.inr (Or.inr (Or.inr (Or.inr (Or.inr (Or.inr (Or.inr (Or.inr ((e.C h)))))))))
theorem oS113.any {σ : wS} {a : Nat} (h : oS113 σ a) : ∃ (c : Nat) (r : vw_C), oC σ a = c + 1 ∧ vwCl[c]? = some r := by
  rcases h with h | h | h | h | h | h | h | h | h
  · exact ⟨13, _, h, rfl⟩
  · exact ⟨14, _, h, rfl⟩
  · exact ⟨15, _, h, rfl⟩
  · exact ⟨16, _, h, rfl⟩
  · exact ⟨17, _, h, rfl⟩
  · exact ⟨18, _, h, rfl⟩
  · exact ⟨19, _, h, rfl⟩
  · exact ⟨20, _, h, rfl⟩
  · exact ⟨21, _, h, rfl⟩
theorem oS113.cast {σ : wS} {a : Nat} (h : oS113 σ a) : ∃ (c : Nat) (r : vw_C), oC σ a = c + 1 ∧ vwCl[c]? = some r ∧ (r.1 = "PlanMemo$Way" ∨ (r.1, "PlanMemo$Way") ∈ wd_casts) := by
  rcases h with h | h | h | h | h | h | h | h | h
  · exact ⟨13, _, h, rfl, Or.inl rfl⟩
  · exact ⟨14, _, h, rfl, Or.inr (by decide)⟩
  · exact ⟨15, _, h, rfl, Or.inr (by decide)⟩
  · exact ⟨16, _, h, rfl, Or.inr (by decide)⟩
  · exact ⟨17, _, h, rfl, Or.inr (by decide)⟩
  · exact ⟨18, _, h, rfl, Or.inr (by decide)⟩
  · exact ⟨19, _, h, rfl, Or.inr (by decide)⟩
  · exact ⟨20, _, h, rfl, Or.inr (by decide)⟩
  · exact ⟨21, _, h, rfl, Or.inr (by decide)⟩
def oS114 (σ : wS) (a : Nat) : Prop := oC σ a = 15 ∨ oC σ a = 16 ∨ oC σ a = 17 ∨ oC σ a = 18
theorem oS114.ext {σ τ : wS} {a : Nat} (h : oS114 σ a) (e : Ext σ τ) : oS114 τ a := by
  rcases h with h | h | h | h
  · exact Or.inl (e.C h)
  · exact Or.inr (Or.inl (e.C h))
  · exact Or.inr (Or.inr (Or.inl (e.C h)))
  · exact Or.inr (Or.inr (Or.inr ((e.C h))))
theorem oS114.any {σ : wS} {a : Nat} (h : oS114 σ a) : ∃ (c : Nat) (r : vw_C), oC σ a = c + 1 ∧ vwCl[c]? = some r := by
  rcases h with h | h | h | h
  · exact ⟨14, _, h, rfl⟩
  · exact ⟨15, _, h, rfl⟩
  · exact ⟨16, _, h, rfl⟩
  · exact ⟨17, _, h, rfl⟩
def oS118 (σ : wS) (a : Nat) : Prop := oC σ a = 19 ∨ oC σ a = 20
theorem oS118.ext {σ τ : wS} {a : Nat} (h : oS118 σ a) (e : Ext σ τ) : oS118 τ a := by
  rcases h with h | h
  · exact Or.inl (e.C h)
  · exact Or.inr ((e.C h))
theorem oS118.any {σ : wS} {a : Nat} (h : oS118 σ a) : ∃ (c : Nat) (r : vw_C), oC σ a = c + 1 ∧ vwCl[c]? = some r := by
  rcases h with h | h
  · exact ⟨18, _, h, rfl⟩
  · exact ⟨19, _, h, rfl⟩
def oS50 (σ : wS) (a : Nat) : Prop := oC σ a = 5 ∨ oC σ a = 6 ∨ oC σ a = 7 ∨ oC σ a = 8 ∨ oC σ a = 9 ∨ oC σ a = 10 ∨ oC σ a = 11
theorem oS50.ext {σ τ : wS} {a : Nat} (h : oS50 σ a) (e : Ext σ τ) : oS50 τ a := by
  rcases h with h | h | h | h | h | h | h
  · exact Or.inl (e.C h)
  · exact Or.inr (Or.inl (e.C h))
  · exact Or.inr (Or.inr (Or.inl (e.C h)))
  · exact Or.inr (Or.inr (Or.inr (Or.inl (e.C h))))
  · exact Or.inr (Or.inr (Or.inr (Or.inr (Or.inl (e.C h)))))
  · exact Or.inr (Or.inr (Or.inr (Or.inr (Or.inr (Or.inl (e.C h))))))
  · exact Or.inr (Or.inr (Or.inr (Or.inr (Or.inr (Or.inr ((e.C h)))))))
theorem oS50.any {σ : wS} {a : Nat} (h : oS50 σ a) : ∃ (c : Nat) (r : vw_C), oC σ a = c + 1 ∧ vwCl[c]? = some r := by
  rcases h with h | h | h | h | h | h | h
  · exact ⟨4, _, h, rfl⟩
  · exact ⟨5, _, h, rfl⟩
  · exact ⟨6, _, h, rfl⟩
  · exact ⟨7, _, h, rfl⟩
  · exact ⟨8, _, h, rfl⟩
  · exact ⟨9, _, h, rfl⟩
  · exact ⟨10, _, h, rfl⟩
theorem oS50.cast {σ : wS} {a : Nat} (h : oS50 σ a) : ∃ (c : Nat) (r : vw_C), oC σ a = c + 1 ∧ vwCl[c]? = some r ∧ (r.1 = "PlanMemo$Rule" ∨ (r.1, "PlanMemo$Rule") ∈ wd_casts) := by
  rcases h with h | h | h | h | h | h | h
  · exact ⟨4, _, h, rfl, Or.inr (by decide)⟩
  · exact ⟨5, _, h, rfl, Or.inr (by decide)⟩
  · exact ⟨6, _, h, rfl, Or.inr (by decide)⟩
  · exact ⟨7, _, h, rfl, Or.inr (by decide)⟩
  · exact ⟨8, _, h, rfl, Or.inr (by decide)⟩
  · exact ⟨9, _, h, rfl, Or.inr (by decide)⟩
  · exact ⟨10, _, h, rfl, Or.inr (by decide)⟩
def oS51 (σ : wS) (a : Nat) : Prop := oC σ a = 12 ∨ oC σ a = 46 ∨ oC σ a = 48
theorem oS51.ext {σ τ : wS} {a : Nat} (h : oS51 σ a) (e : Ext σ τ) : oS51 τ a := by
  rcases h with h | h | h
  · exact Or.inl (e.C h)
  · exact Or.inr (Or.inl (e.C h))
  · exact Or.inr (Or.inr ((e.C h)))
theorem oS51.any {σ : wS} {a : Nat} (h : oS51 σ a) : ∃ (c : Nat) (r : vw_C), oC σ a = c + 1 ∧ vwCl[c]? = some r := by
  rcases h with h | h | h
  · exact ⟨11, _, h, rfl⟩
  · exact ⟨45, _, h, rfl⟩
  · exact ⟨47, _, h, rfl⟩
section JR6
variable {l : Launch} {d : wD} {X : jX} {D : Nat} {K : jK} {Kx : jKx} {M : jM} {pc : Nat} {σ : wS} {L L2 : List (Nat × Value)} {st : List Value}
theorem j_castR {r : Option Nat} {idx : Nat} {nm : String} (hd : decode M.2.1 pc = .ok (.checkcast idx, 3)) (hq : Cond.classLink M.1.cls idx nm ∈ lw_all) (h : ∀ b, r = some b → ∃ (c : Nat) (rv : vw_C), oC σ b = c + 1 ∧ vwCl[c]? = some rv ∧ (rv.1 = nm ∨ (rv.1, nm) ∈ wd_casts)) (kk : J l d X D K Kx M (pc + 3) σ L (va_rf r :: st)) : J l d X D K Kx M pc σ L (va_rf r :: st) := by
  cases r with
  | none => exact j_castN hd kk
  | some b =>
    obtain ⟨c, rv, h1, h2, h3⟩ := h b rfl
    exact j_castY hd h1 h2 hq h3 kk
theorem j_instR {r : Option Nat} {idx : Nat} (hd : decode M.2.1 pc = .ok (.instanceof idx, 3)) (hq : Cond.classLink M.1.cls idx "PlanMemo$Expression" ∈ lw_all) (h : ∀ b, r = some b → oS32 σ b ∨ oS26 σ b) (kk : ∀ v : Int32, (r = none → v = 0) → (∀ b, r = some b → (oS32 σ b → v = 1) ∧ (oS26 σ b → v = 0)) → J l d X D K Kx M (pc + 3) σ L (.int v :: st)) : J l d X D K Kx M pc σ L (va_rf r :: st) := by
  cases r with
  | none => exact j_instN hd (kk 0 (fun _ => rfl) (fun b hb => nomatch hb))
  | some b =>
    have hne : oS32 σ b → ¬ oS26 σ b := by
      unfold oS32 oS26
      omega
    rcases h b rfl with h1 | h1
    · obtain ⟨c, rv, g1, g2, g3⟩ := oS32.cast h1
      exact j_instY hd g1 g2 hq g3 (kk 1 (fun q => nomatch q) (fun b' hb => by cases hb; exact ⟨fun _ => rfl, fun z => absurd z (hne h1)⟩))
    · have k := kk 0 (fun q => nomatch q) (fun b' hb => by cases hb; exact ⟨fun z => absurd h1 (hne z), fun _ => rfl⟩)
      rcases h1 with h1 | h1 | h1 | h1
      · exact j_instNo hd h1 rfl hq (by decide) k
      · exact j_instNo hd h1 rfl hq (by decide) k
      · exact j_instNo hd h1 rfl hq (by decide) k
      · exact j_instNo hd h1 rfl hq (by decide) k
theorem oS32.castN {σ : wS} {a : Nat} (h : oS32 σ a) : ∃ (c : Nat) (r : vw_C), oC σ a = c + 1 ∧ vwCl[c]? = some r ∧ (r.1 = "PlanMemo$Expression" ∨ (r.1, "PlanMemo$Expression") ∈ wd_casts) := by
  rcases h with h | h | h | h | h
  · exact ⟨33, _, h, rfl, Or.inr (by decide)⟩
  · exact ⟨35, _, h, rfl, Or.inr (by decide)⟩
  · exact ⟨36, _, h, rfl, Or.inr (by decide)⟩
  · exact ⟨37, _, h, rfl, Or.inr (by decide)⟩
  · exact ⟨38, _, h, rfl, Or.inr (by decide)⟩
theorem oS26.castN {σ : wS} {a : Nat} (h : oS26 σ a) : ∃ (c : Nat) (r : vw_C), oC σ a = c + 1 ∧ vwCl[c]? = some r ∧ (r.1 = "PlanMemo$Row" ∨ (r.1, "PlanMemo$Row") ∈ wd_casts) := by
  rcases h with h | h | h | h
  · exact ⟨27, _, h, rfl, Or.inr (by decide)⟩
  · exact ⟨28, _, h, rfl, Or.inr (by decide)⟩
  · exact ⟨29, _, h, rfl, Or.inr (by decide)⟩
  · exact ⟨30, _, h, rfl, Or.inr (by decide)⟩
theorem oS34.castN {σ : wS} {a : Nat} (h : oS34 σ a) : ∃ (c : Nat) (r : vw_C), oC σ a = c + 1 ∧ vwCl[c]? = some r ∧ (r.1 = "PlanMemo$Single" ∨ (r.1, "PlanMemo$Single") ∈ wd_casts) := by
  rcases h with h | h
  · exact ⟨35, _, h, rfl, Or.inr (by decide)⟩
  · exact ⟨36, _, h, rfl, Or.inr (by decide)⟩
theorem oS137.castN {σ : wS} {a : Nat} (h : oS137 σ a) : ∃ (c : Nat) (r : vw_C), oC σ a = c + 1 ∧ vwCl[c]? = some r ∧ (r.1 = "PlanMemo$Join" ∨ (r.1, "PlanMemo$Join") ∈ wd_casts) := by
  rcases h with h | h
  · exact ⟨37, _, h, rfl, Or.inl rfl⟩
  · exact ⟨38, _, h, rfl, Or.inr (by decide)⟩
end JR6
