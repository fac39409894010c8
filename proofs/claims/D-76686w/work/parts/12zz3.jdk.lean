set_option linter.unusedVariables false
set_option maxRecDepth 100000
abbrev mJ6_coder : jM := (yJ6_coder, cJ6_coder, 1, (Option.some Jvm.ClassFile.FieldType.byte), [])
def w_J6_coder (σ : wS) (t : Nat) (Q : Int32 → wS → Prop) : Prop :=
  ¬ ((1 : Int32) = 0) ∧ t < 15 ∧ Q (0 : Int32) σ
theorem s_J6_coder {l : Launch} {d : wD} {D : Nat} (hD : 0 ≤ D) (σ : wS) (t : Nat) (Q : Int32 → wS → Prop) (h : w_J6_coder σ t Q) : WP l d (ws_ yJ6_coder cJ6_coder 1 (Option.some Jvm.ClassFile.FieldType.byte)) D yJ6_coder σ [.ref (d.2.2.1 t)] (kI Q) noX :=
  wp_of (L := [(0, .ref (d.2.2.1 t))]) (by decide) (Nat.le_of_ble_eq_true rfl) rfl fun Xj => by
    show J l d Xj D (kI Q) noX mJ6_coder 0 σ [(0, .ref (d.2.2.1 t))] []
    refine j_getC (pc := 0) dJ6_coder_0 q1329 ?_
    obtain ⟨c1, h⟩ := h
    refine j_if_eq (pc := 3) dJ6_coder_3 (tgt := 13) rfl (fun q2 => (c1 q2).elim) (fun q2 => ?_)
    refine j_aload_n (pc := 6) dJ6_coder_6 rfl (kk := 0) rfl ?_
    obtain ⟨c3, h⟩ := h
    refine j_litC (pc := 7) dJ6_coder_7 q1438 c3 ?_
    refine j_goto (pc := 10) dJ6_coder_10 (tgt := 14) rfl ?_
    exact j_iret (pc := 14) dJ6_coder_14 rfl rfl ⟨_, rfl, h⟩
theorem ykJ6_coder : yok yJ6_coder 0 := ⟨by decide, by decide, by decide +kernel⟩
abbrev mJ6_length : jM := (yJ6_length, cJ6_length, 1, (Option.some Jvm.ClassFile.FieldType.int), [])
def w_J6_length (σ : wS) (t : Nat) (Q : Int32 → wS → Prop) : Prop :=
  t < 15 ∧ w_J6_coder σ t (fun r2 σ3 => Q ((Int32.ofNat (wd_len.getD t 0)) >>> (r2 &&& 31)) σ3)
theorem s_J6_length {l : Launch} {d : wD} {D : Nat} (hD : 1 ≤ D) (σ : wS) (t : Nat) (Q : Int32 → wS → Prop) (h : w_J6_length σ t Q) : WP l d (ws_ yJ6_length cJ6_length 1 (Option.some Jvm.ClassFile.FieldType.int)) D yJ6_length σ [.ref (d.2.2.1 t)] (kI Q) noX :=
  wp_of (L := [(0, .ref (d.2.2.1 t))]) (by decide) (Nat.le_of_ble_eq_true rfl) rfl fun Xj => by
    show J l d Xj D (kI Q) noX mJ6_length 0 σ [(0, .ref (d.2.2.1 t))] []
    refine j_aload_n (pc := 0) dJ6_length_0 rfl (kk := 0) rfl ?_
    obtain ⟨c1, h⟩ := h
    refine j_litV (pc := 1) dJ6_length_1 q1437 c1 ?_
    refine j_litL (pc := 4) dJ6_length_4 c1 ?_
    refine j_aload_n (pc := 5) dJ6_length_5 rfl (kk := 0) rfl ?_
    refine j_callL [] [.int (Int32.ofNat (wd_len.getD t 0))] (pc := 6) dJ6_length_6 (lw_V q1325 q1326 q1327 q132 q1328) ykJ6_coder rfl (by decide) rfl (Nat.le_of_ble_eq_true rfl) c1 rfl (D' := D - 1) (by omega) (s_J6_coder (by omega) σ t _ h) (kkI fun r2 σ3 E4 h => ?_) kx0
    refine j_ishr (pc := 9) dJ6_length_9 ?_
    exact j_iret (pc := 10) dJ6_length_10 rfl rfl ⟨_, rfl, h⟩
abbrev mJ6_isLatin1 : jM := (yJ6_isLatin1, cJ6_isLatin1, 1, (Option.some Jvm.ClassFile.FieldType.boolean), [])
def w_J6_isLatin1 (σ : wS) (t : Nat) (Q : Int32 → wS → Prop) : Prop :=
  ¬ ((1 : Int32) = 0) ∧ t < 15 ∧ (0 : Int32) = 0 ∧ Q (1 : Int32) σ
theorem s_J6_isLatin1 {l : Launch} {d : wD} {D : Nat} (hD : 0 ≤ D) (σ : wS) (t : Nat) (Q : Int32 → wS → Prop) (h : w_J6_isLatin1 σ t Q) : WP l d (ws_ yJ6_isLatin1 cJ6_isLatin1 1 (Option.some Jvm.ClassFile.FieldType.boolean)) D yJ6_isLatin1 σ [.ref (d.2.2.1 t)] (kI Q) noX :=
  wp_of (L := [(0, .ref (d.2.2.1 t))]) (by decide) (Nat.le_of_ble_eq_true rfl) rfl fun Xj => by
    show J l d Xj D (kI Q) noX mJ6_isLatin1 0 σ [(0, .ref (d.2.2.1 t))] []
    refine j_getC (pc := 0) dJ6_isLatin1_0 q1329 ?_
    obtain ⟨c1, h⟩ := h
    refine j_if_eq (pc := 3) dJ6_isLatin1_3 (tgt := 17) rfl (fun q2 => (c1 q2).elim) (fun q2 => ?_)
    refine j_aload_n (pc := 6) dJ6_isLatin1_6 rfl (kk := 0) rfl ?_
    obtain ⟨c3, h⟩ := h
    refine j_litC (pc := 7) dJ6_isLatin1_7 q1438 c3 ?_
    obtain ⟨c4, h⟩ := h
    refine j_if_ne (pc := 10) dJ6_isLatin1_10 (tgt := 17) rfl (fun q5 => (q5 c4).elim) (fun q5 => ?_)
    refine j_iconst (pc := 13) dJ6_isLatin1_13 (v := (1 : Int32)) rfl ?_
    refine j_goto (pc := 14) dJ6_isLatin1_14 (tgt := 18) rfl ?_
    exact j_iret (pc := 18) dJ6_isLatin1_18 rfl (isZ.nar isZ.one) ⟨_, rfl, h⟩
abbrev mJ14_checkIndex : jM := (yJ14_checkIndex, cJ14_checkIndex, 3, (Option.some Jvm.ClassFile.FieldType.int), [])
def w_J14_checkIndex (σ : wS) (a0 : Int32) (a1 : Int32) (a2 : Option Nat) (Q : Int32 → wS → Prop) : Prop :=
  ¬ (a0 < 0) ∧ a0 < a1 ∧ Q a0 σ
theorem s_J14_checkIndex {l : Launch} {d : wD} {D : Nat} (hD : 0 ≤ D) (σ : wS) (a0 : Int32) (a1 : Int32) (a2 : Option Nat) (Q : Int32 → wS → Prop) (h : w_J14_checkIndex σ a0 a1 a2 Q) : WP l d (ws_ yJ14_checkIndex cJ14_checkIndex 3 (Option.some Jvm.ClassFile.FieldType.int)) D yJ14_checkIndex σ [.int a0, .int a1, va_rf a2] (kI Q) noX :=
  wp_of (L := [(0, .int a0), (1, .int a1), (2, va_rf a2)]) (by decide) (by simp only [ll_i, ll_j, ll_n, ll_r, ll_0]; decide) (by simp only [la_i, la_j, la_n, la_r, la_0, Nat.reduceAdd]) fun Xj => by
    show J l d Xj D (kI Q) noX mJ14_checkIndex 0 σ [(0, .int a0), (1, .int a1), (2, va_rf a2)] []
    refine j_iload_n (pc := 0) dJ14_checkIndex_0 rfl (kk := 0) rfl ?_
    obtain ⟨c1, h⟩ := h
    refine j_if_lt (pc := 1) dJ14_checkIndex_1 (tgt := 9) rfl (fun q2 => (c1 q2).elim) (fun q2 => ?_)
    refine j_iload_n (pc := 4) dJ14_checkIndex_4 rfl (kk := 0) rfl ?_
    refine j_iload_n (pc := 5) dJ14_checkIndex_5 rfl (kk := 1) rfl ?_
    obtain ⟨c3, h⟩ := h
    refine j_icmp_lt (pc := 6) dJ14_checkIndex_6 (tgt := 16) rfl (fun q4 => ?_) (fun q4 => (q4 c3).elim)
    refine j_iload_n (pc := 16) dJ14_checkIndex_16 rfl (kk := 0) rfl ?_
    exact j_iret (pc := 17) dJ14_checkIndex_17 rfl rfl ⟨_, rfl, h⟩
theorem ykJ14_checkIndex : yok yJ14_checkIndex 3 := ⟨by decide, by decide, by decide +kernel⟩
abbrev mJ6_checkIndex : jM := (yJ6_checkIndex, cJ6_checkIndex, 2, (Option.none : Option Jvm.ClassFile.FieldType), [])
def w_J6_checkIndex (σ : wS) (a0 : Int32) (a1 : Int32) (Q : wS → Prop) : Prop :=
  ∀ z1 : Option Nat, w_J14_checkIndex σ a0 a1 z1 (fun r2 σ3 => Q σ3)
theorem s_J6_checkIndex {l : Launch} {d : wD} {D : Nat} (hD : 1 ≤ D) (σ : wS) (a0 : Int32) (a1 : Int32) (Q : wS → Prop) (h : w_J6_checkIndex σ a0 a1 Q) : WP l d (ws_ yJ6_checkIndex cJ6_checkIndex 2 (Option.none : Option Jvm.ClassFile.FieldType)) D yJ6_checkIndex σ [.int a0, .int a1] (kV Q) noX :=
  wp_of (L := [(0, .int a0), (1, .int a1)]) (by decide) (Nat.le_of_ble_eq_true rfl) rfl fun Xj => by
    show J l d Xj D (kV Q) noX mJ6_checkIndex 0 σ [(0, .int a0), (1, .int a1)] []
    refine j_iload_n (pc := 0) dJ6_checkIndex_0 rfl (kk := 0) rfl ?_
    refine j_iload_n (pc := 1) dJ6_checkIndex_1 rfl (kk := 1) rfl ?_
    refine j_getF (pc := 2) dJ6_checkIndex_2 q1307 fun z1 => ?_
    replace h := h z1
    refine j_callS [.int a0, .int a1, va_rf z1] [] (pc := 5) dJ6_checkIndex_5 (lw_S q1605 q1606 q155 q1607) ykJ14_checkIndex rfl (by decide) rfl (Nat.le_of_ble_eq_true rfl) (D' := D - 1) (by omega) (s_J14_checkIndex (by omega) σ a0 a1 z1 _ h) (kkI fun r2 σ3 E4 h => ?_) kx0
    refine j_pop (pc := 8) dJ6_checkIndex_8 (by rfl) ?_
    exact j_vret (pc := 9) dJ6_checkIndex_9 rfl ⟨rfl, h⟩
theorem ykJ6_checkIndex : yok yJ6_checkIndex 2 := ⟨by decide, by decide, by decide +kernel⟩
abbrev mJ15_charAt : jM := (yJ15_charAt, cJ15_charAt, 2, (Option.some Jvm.ClassFile.FieldType.char), [])
def w_J15_charAt (σ : wS) (a0 : Nat) (a1 : Int32) (Q : Int32 → wS → Prop) : Prop :=
  a0 < 15 ∧ w_J6_checkIndex σ a1 (Int32.ofNat (wd_len.getD a0 0)) (fun σ3 => vp_in a1 (wd_len.getD a0 0) ∧ narrow .char (.int (((((wd_byt.getD a0 []).getD a1.toNatClampNeg 0) &&& (255 : Int32)).toUInt32 % 65536).toInt32)) = .int (((((wd_byt.getD a0 []).getD a1.toNatClampNeg 0) &&& (255 : Int32)).toUInt32 % 65536).toInt32) ∧ Q (((((wd_byt.getD a0 []).getD a1.toNatClampNeg 0) &&& (255 : Int32)).toUInt32 % 65536).toInt32) σ3)
theorem s_J15_charAt {l : Launch} {d : wD} {D : Nat} (hD : 2 ≤ D) (σ : wS) (a0 : Nat) (a1 : Int32) (Q : Int32 → wS → Prop) (h : w_J15_charAt σ a0 a1 Q) : WP l d (ws_ yJ15_charAt cJ15_charAt 2 (Option.some Jvm.ClassFile.FieldType.char)) D yJ15_charAt σ [.ref (d.2.2.2.1 a0), .int a1] (kI Q) noX :=
  wp_of (L := [(0, .ref (d.2.2.2.1 a0)), (1, .int a1)]) (by decide) (Nat.le_of_ble_eq_true rfl) rfl fun Xj => by
    show J l d Xj D (kI Q) noX mJ15_charAt 0 σ [(0, .ref (d.2.2.2.1 a0)), (1, .int a1)] []
    refine j_iload_n (pc := 0) dJ15_charAt_0 rfl (kk := 1) rfl ?_
    refine j_aload_n (pc := 1) dJ15_charAt_1 rfl (kk := 0) rfl ?_
    obtain ⟨c1, h⟩ := h
    refine j_litL (pc := 2) dJ15_charAt_2 c1 ?_
    refine j_callS [.int a1, .int (Int32.ofNat (wd_len.getD a0 0))] [] (pc := 3) dJ15_charAt_3 (lw_S q1602 q1603 q132 q1604) ykJ6_checkIndex rfl (by decide) rfl (Nat.le_of_ble_eq_true rfl) (D' := D - 1) (by omega) (s_J6_checkIndex (by omega) σ a1 (Int32.ofNat (wd_len.getD a0 0)) _ h) (kkV fun σ3 E4 h => ?_) kx0
    refine j_aload_n (pc := 6) dJ15_charAt_6 rfl (kk := 0) rfl ?_
    refine j_iload_n (pc := 7) dJ15_charAt_7 rfl (kk := 1) rfl ?_
    obtain ⟨c5, h⟩ := h
    refine j_litB (pc := 8) dJ15_charAt_8 c1 c5 ?_
    refine j_sipush (pc := 9) dJ15_charAt_9 (v := (255 : Int32)) rfl ?_
    refine j_iand (pc := 12) dJ15_charAt_12 ?_
    refine j_i2c (pc := 13) dJ15_charAt_13 ?_
    obtain ⟨c6, h⟩ := h
    exact j_iret (pc := 14) dJ15_charAt_14 rfl c6 ⟨_, rfl, h⟩
theorem ykJ6_isLatin1 : yok yJ6_isLatin1 0 := ⟨by decide, by decide, by decide +kernel⟩
theorem ykJ15_charAt : yok yJ15_charAt 2 := ⟨by decide, by decide, by decide +kernel⟩
abbrev mJ6_charAt : jM := (yJ6_charAt, cJ6_charAt, 2, (Option.some Jvm.ClassFile.FieldType.char), [])
def w_J6_charAt (σ : wS) (t : Nat) (a1 : Int32) (Q : Int32 → wS → Prop) : Prop :=
  t < 15 ∧ w_J6_isLatin1 σ t (fun r2 σ3 => ¬ (r2 = 0) ∧ w_J15_charAt σ3 t a1 (fun r7 σ8 => narrow .char (.int r7) = .int r7 ∧ Q r7 σ8))
theorem s_J6_charAt {l : Launch} {d : wD} {D : Nat} (hD : 3 ≤ D) (σ : wS) (t : Nat) (a1 : Int32) (Q : Int32 → wS → Prop) (h : w_J6_charAt σ t a1 Q) : WP l d (ws_ yJ6_charAt cJ6_charAt 2 (Option.some Jvm.ClassFile.FieldType.char)) D yJ6_charAt σ [.ref (d.2.2.1 t), .int a1] (kI Q) noX :=
  wp_of (L := [(0, .ref (d.2.2.1 t)), (1, .int a1)]) (by decide) (Nat.le_of_ble_eq_true rfl) rfl fun Xj => by
    show J l d Xj D (kI Q) noX mJ6_charAt 0 σ [(0, .ref (d.2.2.1 t)), (1, .int a1)] []
    refine j_aload_n (pc := 0) dJ6_charAt_0 rfl (kk := 0) rfl ?_
    obtain ⟨c1, h⟩ := h
    refine j_callL [] [] (pc := 1) dJ6_charAt_1 (lw_V q1595 q1596 q1597 q132 q1598) ykJ6_isLatin1 rfl (by decide) rfl (Nat.le_of_ble_eq_true rfl) c1 rfl (D' := D - 1) (by omega) (s_J6_isLatin1 (by omega) σ t _ h) (kkI fun r2 σ3 E4 h => ?_) kx0
    obtain ⟨c5, h⟩ := h
    refine j_if_eq (pc := 4) dJ6_charAt_4 (tgt := 16) rfl (fun q6 => (c5 q6).elim) (fun q6 => ?_)
    refine j_aload_n (pc := 7) dJ6_charAt_7 rfl (kk := 0) rfl ?_
    refine j_litV (pc := 8) dJ6_charAt_8 q1437 c1 ?_
    refine j_iload_n (pc := 11) dJ6_charAt_11 rfl (kk := 1) rfl ?_
    refine j_callS [.ref (d.2.2.2.1 t), .int a1] [] (pc := 12) dJ6_charAt_12 (lw_S q1599 q1600 q156 q1601) ykJ15_charAt rfl (by decide) rfl (Nat.le_of_ble_eq_true rfl) (D' := D - 1) (by omega) (s_J15_charAt (by omega) σ3 t a1 _ h) (kkI fun r7 σ8 E9 h => ?_) kx0
    obtain ⟨c10, h⟩ := h
    exact j_iret (pc := 15) dJ6_charAt_15 rfl c10 ⟨_, rfl, h⟩
abbrev mJ6_hashCode : jM := (yJ6_hashCode, cJ6_hashCode, 2, (Option.some Jvm.ClassFile.FieldType.int), [])
def w_J6_hashCode (σ : wS) (t : Nat) (Q : Int32 → wS → Prop) : Prop :=
  t < 15 ∧ ¬ ((wd_hsh.getD t 0) = 0) ∧ Q (wd_hsh.getD t 0) σ
theorem s_J6_hashCode {l : Launch} {d : wD} {D : Nat} (hD : 0 ≤ D) (σ : wS) (t : Nat) (Q : Int32 → wS → Prop) (h : w_J6_hashCode σ t Q) : WP l d (ws_ yJ6_hashCode cJ6_hashCode 2 (Option.some Jvm.ClassFile.FieldType.int)) D yJ6_hashCode σ [.ref (d.2.2.1 t)] (kI Q) noX :=
  wp_of (L := [(0, .ref (d.2.2.1 t))]) (by decide) (Nat.le_of_ble_eq_true rfl) rfl fun Xj => by
    show J l d Xj D (kI Q) noX mJ6_hashCode 0 σ [(0, .ref (d.2.2.1 t))] []
    refine j_aload_n (pc := 0) dJ6_hashCode_0 rfl (kk := 0) rfl ?_
    obtain ⟨c1, h⟩ := h
    refine j_litH (pc := 1) dJ6_hashCode_1 q1439 c1 ?_
    refine j_istore_n (i := 1) (pc := 4) dJ6_hashCode_4 rfl (by decide) (L2 := [(1, _), (0, _)]) rfl ?_
    refine j_iload_n (pc := 5) dJ6_hashCode_5 rfl (kk := 0) rfl ?_
    obtain ⟨c2, h⟩ := h
    refine j_if_ne (pc := 6) dJ6_hashCode_6 (tgt := 58) rfl (fun q3 => ?_) (fun q3 => (c2 q3).elim)
    refine j_iload_n (pc := 58) dJ6_hashCode_58 rfl (kk := 0) rfl ?_
    exact j_iret (pc := 59) dJ6_hashCode_59 rfl rfl ⟨_, rfl, h⟩
abbrev mJ6_equals : jM := (yJ6_equals, cJ6_equals, 3, (Option.some Jvm.ClassFile.FieldType.boolean), [])
def w_J6_equals (σ : wS) (t : Nat) (a1 : Nat) (Q : Int32 → wS → Prop) : Prop :=
  t = a1 ∧ Q (1 : Int32) σ
theorem s_J6_equals {l : Launch} {d : wD} {D : Nat} (hD : 0 ≤ D) (σ : wS) (t : Nat) (a1 : Nat) (Q : Int32 → wS → Prop) (h : w_J6_equals σ t a1 Q) : WP l d (ws_ yJ6_equals cJ6_equals 3 (Option.some Jvm.ClassFile.FieldType.boolean)) D yJ6_equals σ [.ref (d.2.2.1 t), .ref (d.2.2.1 a1)] (kI Q) noX :=
  wp_of (L := [(0, .ref (d.2.2.1 t)), (1, .ref (d.2.2.1 a1))]) (by decide) (Nat.le_of_ble_eq_true rfl) rfl fun Xj => by
    show J l d Xj D (kI Q) noX mJ6_equals 0 σ [(0, .ref (d.2.2.1 t)), (1, .ref (d.2.2.1 a1))] []
    refine j_aload_n (pc := 0) dJ6_equals_0 rfl (kk := 0) rfl ?_
    refine j_aload_n (pc := 1) dJ6_equals_1 rfl (kk := 1) rfl ?_
    obtain ⟨c1, h⟩ := h
    refine j_same (pc := 2) dJ6_equals_2 (tgt := 7) rfl c1 ?_
    refine j_iconst (pc := 5) dJ6_equals_5 (v := (1 : Int32)) rfl ?_
    exact j_iret (pc := 6) dJ6_equals_6 rfl (isZ.nar isZ.one) ⟨_, rfl, h⟩
abbrev mJ13_multiplyExact : jM := (yJ13_multiplyExact, cJ13_multiplyExact, 4, (Option.some Jvm.ClassFile.FieldType.int), [])
def w_J13_multiplyExact (σ : wS) (a0 : Int32) (a1 : Int32) (Q : Int32 → wS → Prop) (Xh : Nat → Nat → wS → Prop) : Prop :=
  (if (((a0.toInt64 * a1.toInt64).toInt32).toInt64) = (a0.toInt64 * a1.toInt64) then Q ((a0.toInt64 * a1.toInt64).toInt32) σ else vmx σ 1 6 (fun q9 τ9 => Xh 104 q9 τ9))
theorem s_J13_multiplyExact {l : Launch} {d : wD} {D : Nat} (hD : 5 ≤ D) (σ : wS) (a0 : Int32) (a1 : Int32) (Q : Int32 → wS → Prop) (Xh : Nat → Nat → wS → Prop) (h : w_J13_multiplyExact σ a0 a1 Q Xh) : WP l d (ws_ yJ13_multiplyExact cJ13_multiplyExact 4 (Option.some Jvm.ClassFile.FieldType.int)) D yJ13_multiplyExact σ [.int a0, .int a1] (kI Q) (kX Xh) :=
  wp_ofF (L := [(0, .int a0), (1, .int a1)]) (by decide +kernel) (Nat.le_of_ble_eq_true rfl) rfl fun Xj => by
    show J l d Xj D (kI Q) (kX Xh) mJ13_multiplyExact 0 σ [(0, .int a0), (1, .int a1)] []
    refine j_iload_n (pc := 0) dJ13_multiplyExact_0 rfl (kk := 0) rfl ?_
    refine j_i2l (pc := 1) dJ13_multiplyExact_1 ?_
    refine j_iload_n (pc := 2) dJ13_multiplyExact_2 rfl (kk := 1) rfl ?_
    refine j_i2l (pc := 3) dJ13_multiplyExact_3 ?_
    refine j_lmul (pc := 4) dJ13_multiplyExact_4 ?_
    refine j_lstore_n (i := 2) (pc := 5) dJ13_multiplyExact_5 rfl (by decide) (L2 := [(2, _), (0, _), (1, _)]) rfl ?_
    refine j_lload_n (pc := 6) dJ13_multiplyExact_6 rfl (kk := 0) rfl ?_
    refine j_l2i (pc := 7) dJ13_multiplyExact_7 ?_
    refine j_i2l (pc := 8) dJ13_multiplyExact_8 ?_
    refine j_lload_n (pc := 9) dJ13_multiplyExact_9 rfl (kk := 0) rfl ?_
    refine j_lcmp (pc := 10) dJ13_multiplyExact_10 ?_
    refine j_if_eq (pc := 11) dJ13_multiplyExact_11 (tgt := 24) rfl (fun q1 => ?_) (fun q1 => ?_)
    · replace h := iteT h ((lcmp_eq).mp q1)
      refine j_lload_n (pc := 24) dJ13_multiplyExact_24 rfl (kk := 0) rfl ?_
      refine j_l2i (pc := 25) dJ13_multiplyExact_25 ?_
      exact j_iret (pc := 26) dJ13_multiplyExact_26 rfl rfl ⟨_, rfl, h⟩
    · replace h := iteF h (fun z => q1 ((lcmp_eq).mpr z))
      refine j_thrA (pc := 14) rfl dJ13_multiplyExact_14 dJ13_multiplyExact_17 dJ13_multiplyExact_18 dJ13_multiplyExact_20 dJ13_multiplyExact_23 q2654 q171 (by decide) (vmx_mono h (fun q9 τ9 E9 h => ?_))
      exact jx_out0 rfl ⟨_, rfl, h⟩
abbrev mJ13_addExact : jM := (yJ13_addExact, cJ13_addExact, 3, (Option.some Jvm.ClassFile.FieldType.int), [])
def w_J13_addExact (σ : wS) (a0 : Int32) (a1 : Int32) (Q : Int32 → wS → Prop) (Xh : Nat → Nat → wS → Prop) : Prop :=
  (if 0 ≤ ((a0 ^^^ (a0 + a1)) &&& (a1 ^^^ (a0 + a1))) then Q (a0 + a1) σ else vmx σ 1 6 (fun q9 τ9 => Xh 104 q9 τ9))
theorem s_J13_addExact {l : Launch} {d : wD} {D : Nat} (hD : 5 ≤ D) (σ : wS) (a0 : Int32) (a1 : Int32) (Q : Int32 → wS → Prop) (Xh : Nat → Nat → wS → Prop) (h : w_J13_addExact σ a0 a1 Q Xh) : WP l d (ws_ yJ13_addExact cJ13_addExact 3 (Option.some Jvm.ClassFile.FieldType.int)) D yJ13_addExact σ [.int a0, .int a1] (kI Q) (kX Xh) :=
  wp_ofF (L := [(0, .int a0), (1, .int a1)]) (by decide +kernel) (Nat.le_of_ble_eq_true rfl) rfl fun Xj => by
    show J l d Xj D (kI Q) (kX Xh) mJ13_addExact 0 σ [(0, .int a0), (1, .int a1)] []
    refine j_iload_n (pc := 0) dJ13_addExact_0 rfl (kk := 0) rfl ?_
    refine j_iload_n (pc := 1) dJ13_addExact_1 rfl (kk := 1) rfl ?_
    refine j_iadd (pc := 2) dJ13_addExact_2 ?_
    refine j_istore_n (i := 2) (pc := 3) dJ13_addExact_3 rfl (by decide) (L2 := [(2, _), (0, _), (1, _)]) rfl ?_
    refine j_iload_n (pc := 4) dJ13_addExact_4 rfl (kk := 1) rfl ?_
    refine j_iload_n (pc := 5) dJ13_addExact_5 rfl (kk := 0) rfl ?_
    refine j_ixor (pc := 6) dJ13_addExact_6 ?_
    refine j_iload_n (pc := 7) dJ13_addExact_7 rfl (kk := 2) rfl ?_
    refine j_iload_n (pc := 8) dJ13_addExact_8 rfl (kk := 0) rfl ?_
    refine j_ixor (pc := 9) dJ13_addExact_9 ?_
    refine j_iand (pc := 10) dJ13_addExact_10 ?_
    refine j_if_ge (pc := 11) dJ13_addExact_11 (tgt := 24) rfl (fun q1 => ?_) (fun q1 => ?_)
    · replace h := iteT h (q1)
      refine j_iload_n (pc := 24) dJ13_addExact_24 rfl (kk := 0) rfl ?_
      exact j_iret (pc := 25) dJ13_addExact_25 rfl rfl ⟨_, rfl, h⟩
    · replace h := iteF h q1
      refine j_thrA (pc := 14) rfl dJ13_addExact_14 dJ13_addExact_17 dJ13_addExact_18 dJ13_addExact_20 dJ13_addExact_23 q2654 q171 (by decide) (vmx_mono h (fun q9 τ9 E9 h => ?_))
      exact jx_out0 rfl ⟨_, rfl, h⟩
