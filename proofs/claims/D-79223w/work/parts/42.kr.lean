section
variable {p : Program} {l : Launch} {e : Env} {s : State} {m : MethodId} {args : Array Value} {below : List Frame} {meth : Method} {c : Code} {D : va_G} {ca : Nat → ClassId} {ad : Nat → Nat}
def P_isBetween (F : Nat) (p0 : Int32) (p1 : Int32) (p2 : Int32) : Option (Int32) :=
  if p0 < p1 then
    some 0
  else
    if p2 < p0 then
      some 0
    else
      some 1
theorem k_P_isBetween {F : Nat} {p0 : Int32} {p1 : Int32} {p2 : Int32} {r : Int32} (hr : P_isBetween F p0 p1 p2 = some r) : PmI l yX1_isBetween cX1_isBetween 3 (some .boolean) 0 [.int p0, .int p1, .int p2] (some (.int r)) := by
  refine pp_start (by decide) (own := RX1) rfl (Nat.le_of_ble_eq_true rfl) fun p e s m below meth c X hrt hlk ls hl => ?_
  have hl : lv_has ls 3 [(0, .int p0), (1, .int p1), (2, .int p2)] := hl
  have X2 := X
  obtain ⟨hx, hb, -⟩ := X2
  unfold P_isBetween at hr
  refine lv_iload_n hx hb dX1_isBetween_0 rfl (lv_at hl 0 rfl) ?_
  refine lv_iload_n hx hb dX1_isBetween_1 rfl (lv_at hl 1 rfl) ?_
  refine lv_icmp_lt (tgt := 14) hx hb dX1_isBetween_2 (by decide) (fun c1 => ?_) (fun c1 => ?_)
  · have hr := if_p c1 hr
    refine lv_iconst (v := 0) hx hb dX1_isBetween_14 rfl ?_
    cases hr
    exact p_zret X hrt hlk (by decide) dX1_isBetween_15
  · have hr := if_n c1 hr
    refine lv_iload_n hx hb dX1_isBetween_5 rfl (lv_at hl 0 rfl) ?_
    refine lv_iload_n hx hb dX1_isBetween_6 rfl (lv_at hl 2 rfl) ?_
    refine lv_icmp_gt (tgt := 14) hx hb dX1_isBetween_7 (by decide) (fun c2 => ?_) (fun c2 => ?_)
    · have hr := if_p c2 hr
      refine lv_iconst (v := 0) hx hb dX1_isBetween_14 rfl ?_
      cases hr
      exact p_zret X hrt hlk (by decide) dX1_isBetween_15
    · have hr := if_n c2 hr
      refine lv_iconst (v := 1) hx hb dX1_isBetween_10 rfl ?_
      refine lv_goto (tgt := 15) hx hb dX1_isBetween_11 (by decide) ?_
      cases hr
      exact p_zret X hrt hlk (by decide) dX1_isBetween_15
def P_isPersonK (F : Nat) (p0 : Int32) : Option (Int32) :=
  (P_isBetween F p0 0 5).bind fun r1 =>
  gb r1 <|
  some r1
theorem k_P_isPersonK {F : Nat} {p0 : Int32} {r : Int32} (hr : P_isPersonK F p0 = some r) : PmI l yX1_isPerson cX1_isPerson 1 (some .boolean) 1 [.int p0] (some (.int r)) := by
  refine pp_start (by decide) (own := RX1) rfl (Nat.le_of_ble_eq_true rfl) fun p e s m below meth c X hrt hlk ls hl => ?_
  have hl : lv_has ls 1 [(0, .int p0)] := hl
  have X2 := X
  obtain ⟨hx, hb, -⟩ := X2
  unfold P_isPersonK at hr
  refine lv_iload_n hx hb dX1_isPerson_0 rfl (lv_at hl 0 rfl) ?_
  refine lv_iconst (v := 0) hx hb dX1_isPerson_1 rfl ?_
  refine lv_iconst (v := 5) hx hb dX1_isPerson_2 rfl ?_
  obtain ⟨r1, h1, hr⟩ := ob hr
  refine p_cSi (k9 := 3) X (k_P_isBetween h1) (lw_S q524 q525 q65 q526) rfl (by decide +kernel) ⟨Nat.le_of_ble_eq_true rfl, Nat.le_of_ble_eq_true rfl⟩ hl.1 rfl (Nat.le_of_ble_eq_true rfl) dX1_isPerson_3 ⟨Nat.zero_le _, Nat.zero_le _⟩ ?_
  obtain ⟨g1, hr⟩ := gbs hr
  cases hr
  exact p_zret X hrt hlk g1 dX1_isPerson_6
def P_has (F : Nat) (p0 : Int32) (p1 : Int32) : Option (Int32) :=
  if ((p0 >>> (p1 &&& 31)) &&& 1) = 1 then
    some 1
  else
    some 0
theorem k_P_has {F : Nat} {p0 : Int32} {p1 : Int32} {r : Int32} (hr : P_has F p0 p1 = some r) : PmI l yX1_has cX1_has 2 (some .boolean) 0 [.int p0, .int p1] (some (.int r)) := by
  refine pp_start (by decide) (own := RX1) rfl (Nat.le_of_ble_eq_true rfl) fun p e s m below meth c X hrt hlk ls hl => ?_
  have hl : lv_has ls 2 [(0, .int p0), (1, .int p1)] := hl
  have X2 := X
  obtain ⟨hx, hb, -⟩ := X2
  unfold P_has at hr
  refine lv_iload_n hx hb dX1_has_0 rfl (lv_at hl 0 rfl) ?_
  refine lv_iload_n hx hb dX1_has_1 rfl (lv_at hl 1 rfl) ?_
  refine lv_ishr hx hb dX1_has_2 ?_
  refine lv_iconst (v := 1) hx hb dX1_has_3 rfl ?_
  refine lv_iand hx hb dX1_has_4 ?_
  refine lv_iconst (v := 1) hx hb dX1_has_5 rfl ?_
  refine lv_icmp_ne (tgt := 13) hx hb dX1_has_6 (by decide) (fun c1 => ?_) (fun c1 => ?_)
  · have hr := if_n c1 hr
    refine lv_iconst (v := 0) hx hb dX1_has_13 rfl ?_
    cases hr
    exact p_zret X hrt hlk (by decide) dX1_has_14
  · have hr := if_p c1 hr
    refine lv_iconst (v := 1) hx hb dX1_has_9 rfl ?_
    refine lv_goto (tgt := 14) hx hb dX1_has_10 (by decide) ?_
    cases hr
    exact p_zret X hrt hlk (by decide) dX1_has_14
def P_bitCount (F : Nat) (p0 : Int32) : Option (Int32) :=
  some ((((((((p0 - (((p0.toUInt32 >>> ((1 : Int32).toUInt32 &&& Int32.toUInt32 31)).toInt32) &&& 1431655765)) &&& 858993459) + ((((p0 - (((p0.toUInt32 >>> ((1 : Int32).toUInt32 &&& Int32.toUInt32 31)).toInt32) &&& 1431655765)).toUInt32 >>> ((2 : Int32).toUInt32 &&& Int32.toUInt32 31)).toInt32) &&& 858993459)) + (((((p0 - (((p0.toUInt32 >>> ((1 : Int32).toUInt32 &&& Int32.toUInt32 31)).toInt32) &&& 1431655765)) &&& 858993459) + ((((p0 - (((p0.toUInt32 >>> ((1 : Int32).toUInt32 &&& Int32.toUInt32 31)).toInt32) &&& 1431655765)).toUInt32 >>> ((2 : Int32).toUInt32 &&& Int32.toUInt32 31)).toInt32) &&& 858993459)).toUInt32 >>> ((4 : Int32).toUInt32 &&& Int32.toUInt32 31)).toInt32)) &&& 252645135) + (((((((p0 - (((p0.toUInt32 >>> ((1 : Int32).toUInt32 &&& Int32.toUInt32 31)).toInt32) &&& 1431655765)) &&& 858993459) + ((((p0 - (((p0.toUInt32 >>> ((1 : Int32).toUInt32 &&& Int32.toUInt32 31)).toInt32) &&& 1431655765)).toUInt32 >>> ((2 : Int32).toUInt32 &&& Int32.toUInt32 31)).toInt32) &&& 858993459)) + (((((p0 - (((p0.toUInt32 >>> ((1 : Int32).toUInt32 &&& Int32.toUInt32 31)).toInt32) &&& 1431655765)) &&& 858993459) + ((((p0 - (((p0.toUInt32 >>> ((1 : Int32).toUInt32 &&& Int32.toUInt32 31)).toInt32) &&& 1431655765)).toUInt32 >>> ((2 : Int32).toUInt32 &&& Int32.toUInt32 31)).toInt32) &&& 858993459)).toUInt32 >>> ((4 : Int32).toUInt32 &&& Int32.toUInt32 31)).toInt32)) &&& 252645135).toUInt32 >>> ((8 : Int32).toUInt32 &&& Int32.toUInt32 31)).toInt32)) + ((((((((p0 - (((p0.toUInt32 >>> ((1 : Int32).toUInt32 &&& Int32.toUInt32 31)).toInt32) &&& 1431655765)) &&& 858993459) + ((((p0 - (((p0.toUInt32 >>> ((1 : Int32).toUInt32 &&& Int32.toUInt32 31)).toInt32) &&& 1431655765)).toUInt32 >>> ((2 : Int32).toUInt32 &&& Int32.toUInt32 31)).toInt32) &&& 858993459)) + (((((p0 - (((p0.toUInt32 >>> ((1 : Int32).toUInt32 &&& Int32.toUInt32 31)).toInt32) &&& 1431655765)) &&& 858993459) + ((((p0 - (((p0.toUInt32 >>> ((1 : Int32).toUInt32 &&& Int32.toUInt32 31)).toInt32) &&& 1431655765)).toUInt32 >>> ((2 : Int32).toUInt32 &&& Int32.toUInt32 31)).toInt32) &&& 858993459)).toUInt32 >>> ((4 : Int32).toUInt32 &&& Int32.toUInt32 31)).toInt32)) &&& 252645135) + (((((((p0 - (((p0.toUInt32 >>> ((1 : Int32).toUInt32 &&& Int32.toUInt32 31)).toInt32) &&& 1431655765)) &&& 858993459) + ((((p0 - (((p0.toUInt32 >>> ((1 : Int32).toUInt32 &&& Int32.toUInt32 31)).toInt32) &&& 1431655765)).toUInt32 >>> ((2 : Int32).toUInt32 &&& Int32.toUInt32 31)).toInt32) &&& 858993459)) + (((((p0 - (((p0.toUInt32 >>> ((1 : Int32).toUInt32 &&& Int32.toUInt32 31)).toInt32) &&& 1431655765)) &&& 858993459) + ((((p0 - (((p0.toUInt32 >>> ((1 : Int32).toUInt32 &&& Int32.toUInt32 31)).toInt32) &&& 1431655765)).toUInt32 >>> ((2 : Int32).toUInt32 &&& Int32.toUInt32 31)).toInt32) &&& 858993459)).toUInt32 >>> ((4 : Int32).toUInt32 &&& Int32.toUInt32 31)).toInt32)) &&& 252645135).toUInt32 >>> ((8 : Int32).toUInt32 &&& Int32.toUInt32 31)).toInt32)).toUInt32 >>> ((16 : Int32).toUInt32 &&& Int32.toUInt32 31)).toInt32)) &&& 63)
theorem k_P_bitCount {F : Nat} {p0 : Int32} {r : Int32} (hr : P_bitCount F p0 = some r) : PmI l yJ10_bitCount cJ10_bitCount 1 (some .int) 0 [.int p0] (some (.int r)) := by
  refine pp_start (by decide) (own := RJ10) rfl (Nat.le_of_ble_eq_true rfl) fun p e s m below meth c X hrt hlk ls hl => ?_
  have hl : lv_has ls 1 [(0, .int p0)] := hl
  have X2 := X
  obtain ⟨hx, hb, -⟩ := X2
  unfold P_bitCount at hr
  refine lv_iload_n hx hb dJ10_bitCount_0 rfl (lv_at hl 0 rfl) ?_
  refine lv_iload_n hx hb dJ10_bitCount_1 rfl (lv_at hl 0 rfl) ?_
  refine lv_iconst (v := 1) hx hb dJ10_bitCount_2 rfl ?_
  refine lv_iushr hx hb dJ10_bitCount_3 rfl ?_
  refine lv_ldcw (v := 1431655765) hx hb X.2.2.2.1 (X.2.2.2.2 _ q811) dJ10_bitCount_4 ?_
  refine lv_iand hx hb dJ10_bitCount_7 ?_
  refine lv_isub hx hb dJ10_bitCount_8 ?_
  refine lv_istore_n (lv' := [(0, .int (p0 - (((p0.toUInt32 >>> ((1 : Int32).toUInt32 &&& Int32.toUInt32 31)).toInt32) &&& 1431655765)))]) hx hb dJ10_bitCount_9 rfl hl (by decide) rfl (fun ls hl => ?_)
  refine lv_iload_n hx hb dJ10_bitCount_10 rfl (lv_at hl 0 rfl) ?_
  refine lv_ldcw (v := 858993459) hx hb X.2.2.2.1 (X.2.2.2.2 _ q812) dJ10_bitCount_11 ?_
  refine lv_iand hx hb dJ10_bitCount_14 ?_
  refine lv_iload_n hx hb dJ10_bitCount_15 rfl (lv_at hl 0 rfl) ?_
  refine lv_iconst (v := 2) hx hb dJ10_bitCount_16 rfl ?_
  refine lv_iushr hx hb dJ10_bitCount_17 rfl ?_
  refine lv_ldcw (v := 858993459) hx hb X.2.2.2.1 (X.2.2.2.2 _ q812) dJ10_bitCount_18 ?_
  refine lv_iand hx hb dJ10_bitCount_21 ?_
  refine lv_iadd hx hb dJ10_bitCount_22 ?_
  refine lv_istore_n (lv' := [(0, .int (((p0 - (((p0.toUInt32 >>> ((1 : Int32).toUInt32 &&& Int32.toUInt32 31)).toInt32) &&& 1431655765)) &&& 858993459) + ((((p0 - (((p0.toUInt32 >>> ((1 : Int32).toUInt32 &&& Int32.toUInt32 31)).toInt32) &&& 1431655765)).toUInt32 >>> ((2 : Int32).toUInt32 &&& Int32.toUInt32 31)).toInt32) &&& 858993459)))]) hx hb dJ10_bitCount_23 rfl hl (by decide) rfl (fun ls hl => ?_)
  refine lv_iload_n hx hb dJ10_bitCount_24 rfl (lv_at hl 0 rfl) ?_
  refine lv_iload_n hx hb dJ10_bitCount_25 rfl (lv_at hl 0 rfl) ?_
  refine lv_iconst (v := 4) hx hb dJ10_bitCount_26 rfl ?_
  refine lv_iushr hx hb dJ10_bitCount_27 rfl ?_
  refine lv_iadd hx hb dJ10_bitCount_28 ?_
  refine lv_ldcw (v := 252645135) hx hb X.2.2.2.1 (X.2.2.2.2 _ q813) dJ10_bitCount_29 ?_
  refine lv_iand hx hb dJ10_bitCount_32 ?_
  refine lv_istore_n (lv' := [(0, .int (((((p0 - (((p0.toUInt32 >>> ((1 : Int32).toUInt32 &&& Int32.toUInt32 31)).toInt32) &&& 1431655765)) &&& 858993459) + ((((p0 - (((p0.toUInt32 >>> ((1 : Int32).toUInt32 &&& Int32.toUInt32 31)).toInt32) &&& 1431655765)).toUInt32 >>> ((2 : Int32).toUInt32 &&& Int32.toUInt32 31)).toInt32) &&& 858993459)) + (((((p0 - (((p0.toUInt32 >>> ((1 : Int32).toUInt32 &&& Int32.toUInt32 31)).toInt32) &&& 1431655765)) &&& 858993459) + ((((p0 - (((p0.toUInt32 >>> ((1 : Int32).toUInt32 &&& Int32.toUInt32 31)).toInt32) &&& 1431655765)).toUInt32 >>> ((2 : Int32).toUInt32 &&& Int32.toUInt32 31)).toInt32) &&& 858993459)).toUInt32 >>> ((4 : Int32).toUInt32 &&& Int32.toUInt32 31)).toInt32)) &&& 252645135))]) hx hb dJ10_bitCount_33 rfl hl (by decide) rfl (fun ls hl => ?_)
  refine lv_iload_n hx hb dJ10_bitCount_34 rfl (lv_at hl 0 rfl) ?_
  refine lv_iload_n hx hb dJ10_bitCount_35 rfl (lv_at hl 0 rfl) ?_
  refine lv_bipush (v := 8) hx hb dJ10_bitCount_36 rfl ?_
  refine lv_iushr hx hb dJ10_bitCount_38 rfl ?_
  refine lv_iadd hx hb dJ10_bitCount_39 ?_
  refine lv_istore_n (lv' := [(0, .int ((((((p0 - (((p0.toUInt32 >>> ((1 : Int32).toUInt32 &&& Int32.toUInt32 31)).toInt32) &&& 1431655765)) &&& 858993459) + ((((p0 - (((p0.toUInt32 >>> ((1 : Int32).toUInt32 &&& Int32.toUInt32 31)).toInt32) &&& 1431655765)).toUInt32 >>> ((2 : Int32).toUInt32 &&& Int32.toUInt32 31)).toInt32) &&& 858993459)) + (((((p0 - (((p0.toUInt32 >>> ((1 : Int32).toUInt32 &&& Int32.toUInt32 31)).toInt32) &&& 1431655765)) &&& 858993459) + ((((p0 - (((p0.toUInt32 >>> ((1 : Int32).toUInt32 &&& Int32.toUInt32 31)).toInt32) &&& 1431655765)).toUInt32 >>> ((2 : Int32).toUInt32 &&& Int32.toUInt32 31)).toInt32) &&& 858993459)).toUInt32 >>> ((4 : Int32).toUInt32 &&& Int32.toUInt32 31)).toInt32)) &&& 252645135) + (((((((p0 - (((p0.toUInt32 >>> ((1 : Int32).toUInt32 &&& Int32.toUInt32 31)).toInt32) &&& 1431655765)) &&& 858993459) + ((((p0 - (((p0.toUInt32 >>> ((1 : Int32).toUInt32 &&& Int32.toUInt32 31)).toInt32) &&& 1431655765)).toUInt32 >>> ((2 : Int32).toUInt32 &&& Int32.toUInt32 31)).toInt32) &&& 858993459)) + (((((p0 - (((p0.toUInt32 >>> ((1 : Int32).toUInt32 &&& Int32.toUInt32 31)).toInt32) &&& 1431655765)) &&& 858993459) + ((((p0 - (((p0.toUInt32 >>> ((1 : Int32).toUInt32 &&& Int32.toUInt32 31)).toInt32) &&& 1431655765)).toUInt32 >>> ((2 : Int32).toUInt32 &&& Int32.toUInt32 31)).toInt32) &&& 858993459)).toUInt32 >>> ((4 : Int32).toUInt32 &&& Int32.toUInt32 31)).toInt32)) &&& 252645135).toUInt32 >>> ((8 : Int32).toUInt32 &&& Int32.toUInt32 31)).toInt32)))]) hx hb dJ10_bitCount_40 rfl hl (by decide) rfl (fun ls hl => ?_)
  refine lv_iload_n hx hb dJ10_bitCount_41 rfl (lv_at hl 0 rfl) ?_
  refine lv_iload_n hx hb dJ10_bitCount_42 rfl (lv_at hl 0 rfl) ?_
  refine lv_bipush (v := 16) hx hb dJ10_bitCount_43 rfl ?_
  refine lv_iushr hx hb dJ10_bitCount_45 rfl ?_
  refine lv_iadd hx hb dJ10_bitCount_46 ?_
  refine lv_istore_n (lv' := [(0, .int (((((((p0 - (((p0.toUInt32 >>> ((1 : Int32).toUInt32 &&& Int32.toUInt32 31)).toInt32) &&& 1431655765)) &&& 858993459) + ((((p0 - (((p0.toUInt32 >>> ((1 : Int32).toUInt32 &&& Int32.toUInt32 31)).toInt32) &&& 1431655765)).toUInt32 >>> ((2 : Int32).toUInt32 &&& Int32.toUInt32 31)).toInt32) &&& 858993459)) + (((((p0 - (((p0.toUInt32 >>> ((1 : Int32).toUInt32 &&& Int32.toUInt32 31)).toInt32) &&& 1431655765)) &&& 858993459) + ((((p0 - (((p0.toUInt32 >>> ((1 : Int32).toUInt32 &&& Int32.toUInt32 31)).toInt32) &&& 1431655765)).toUInt32 >>> ((2 : Int32).toUInt32 &&& Int32.toUInt32 31)).toInt32) &&& 858993459)).toUInt32 >>> ((4 : Int32).toUInt32 &&& Int32.toUInt32 31)).toInt32)) &&& 252645135) + (((((((p0 - (((p0.toUInt32 >>> ((1 : Int32).toUInt32 &&& Int32.toUInt32 31)).toInt32) &&& 1431655765)) &&& 858993459) + ((((p0 - (((p0.toUInt32 >>> ((1 : Int32).toUInt32 &&& Int32.toUInt32 31)).toInt32) &&& 1431655765)).toUInt32 >>> ((2 : Int32).toUInt32 &&& Int32.toUInt32 31)).toInt32) &&& 858993459)) + (((((p0 - (((p0.toUInt32 >>> ((1 : Int32).toUInt32 &&& Int32.toUInt32 31)).toInt32) &&& 1431655765)) &&& 858993459) + ((((p0 - (((p0.toUInt32 >>> ((1 : Int32).toUInt32 &&& Int32.toUInt32 31)).toInt32) &&& 1431655765)).toUInt32 >>> ((2 : Int32).toUInt32 &&& Int32.toUInt32 31)).toInt32) &&& 858993459)).toUInt32 >>> ((4 : Int32).toUInt32 &&& Int32.toUInt32 31)).toInt32)) &&& 252645135).toUInt32 >>> ((8 : Int32).toUInt32 &&& Int32.toUInt32 31)).toInt32)) + ((((((((p0 - (((p0.toUInt32 >>> ((1 : Int32).toUInt32 &&& Int32.toUInt32 31)).toInt32) &&& 1431655765)) &&& 858993459) + ((((p0 - (((p0.toUInt32 >>> ((1 : Int32).toUInt32 &&& Int32.toUInt32 31)).toInt32) &&& 1431655765)).toUInt32 >>> ((2 : Int32).toUInt32 &&& Int32.toUInt32 31)).toInt32) &&& 858993459)) + (((((p0 - (((p0.toUInt32 >>> ((1 : Int32).toUInt32 &&& Int32.toUInt32 31)).toInt32) &&& 1431655765)) &&& 858993459) + ((((p0 - (((p0.toUInt32 >>> ((1 : Int32).toUInt32 &&& Int32.toUInt32 31)).toInt32) &&& 1431655765)).toUInt32 >>> ((2 : Int32).toUInt32 &&& Int32.toUInt32 31)).toInt32) &&& 858993459)).toUInt32 >>> ((4 : Int32).toUInt32 &&& Int32.toUInt32 31)).toInt32)) &&& 252645135) + (((((((p0 - (((p0.toUInt32 >>> ((1 : Int32).toUInt32 &&& Int32.toUInt32 31)).toInt32) &&& 1431655765)) &&& 858993459) + ((((p0 - (((p0.toUInt32 >>> ((1 : Int32).toUInt32 &&& Int32.toUInt32 31)).toInt32) &&& 1431655765)).toUInt32 >>> ((2 : Int32).toUInt32 &&& Int32.toUInt32 31)).toInt32) &&& 858993459)) + (((((p0 - (((p0.toUInt32 >>> ((1 : Int32).toUInt32 &&& Int32.toUInt32 31)).toInt32) &&& 1431655765)) &&& 858993459) + ((((p0 - (((p0.toUInt32 >>> ((1 : Int32).toUInt32 &&& Int32.toUInt32 31)).toInt32) &&& 1431655765)).toUInt32 >>> ((2 : Int32).toUInt32 &&& Int32.toUInt32 31)).toInt32) &&& 858993459)).toUInt32 >>> ((4 : Int32).toUInt32 &&& Int32.toUInt32 31)).toInt32)) &&& 252645135).toUInt32 >>> ((8 : Int32).toUInt32 &&& Int32.toUInt32 31)).toInt32)).toUInt32 >>> ((16 : Int32).toUInt32 &&& Int32.toUInt32 31)).toInt32)))]) hx hb dJ10_bitCount_47 rfl hl (by decide) rfl (fun ls hl => ?_)
  refine lv_iload_n hx hb dJ10_bitCount_48 rfl (lv_at hl 0 rfl) ?_
  refine lv_bipush (v := 63) hx hb dJ10_bitCount_49 rfl ?_
  refine lv_iand hx hb dJ10_bitCount_51 ?_
  cases hr
  exact p_iret X hrt hlk dJ10_bitCount_52
end
section
variable {p : Program} {l : Launch} {e : Env} {s : State} {m : MethodId} {args : Array Value} {below : List Frame} {meth : Method} {c : Code} {D : va_G} {ca : Nat → ClassId} {zb N L : Nat → Nat} {G : mMS}
def K_sysI (F : Nat) (N : Nat → Nat) (k0 : Int32) (G : mMS) : Option (Int32) :=
  some (G (iC k0) 0)
theorem k_K_sysI {F : Nat} {k0 : Int32} (hk0 : vp_in k0 (N 0)) {r : Int32} (hr : K_sysI F N k0 G = some r) : KrI l D ca zb yX5_system cX5_system 1 (some .int) 0 [.ref (L (iC k0))] N L G (some (.int r)) := by
  refine kr_start (own := RX5) (by decide) rfl (Nat.le_of_ble_eq_true rfl) fun p e s m below meth c X ls hl hM => ?_
  have hl : lv_has ls 1 [(0, .ref (L (iC k0)))] := hl
  have X2 := X.1
  obtain ⟨hx, hb, hml, hown, hts⟩ := X2
  unfold K_sysI at hr
  refine lv_aload_n hx hb dX5_system_0 rfl (lv_at hl 0 rfl) ?_
  refine r_X6_0 X hM hk0 q331 dX5_system_1 ?_
  cases hr
  exact p_iret X.1 X.2.1 X.2.2.1 dX5_system_4
def K_fstI (F : Nat) (N : Nat → Nat) (k0 : Int32) (G : mMS) : Option (Int32) :=
  some (G (iC k0) 1)
theorem k_K_fstI {F : Nat} {k0 : Int32} (hk0 : vp_in k0 (N 0)) {r : Int32} (hr : K_fstI F N k0 G = some r) : KrI l D ca zb yX5_first cX5_first 1 (some .int) 0 [.ref (L (iC k0))] N L G (some (.int r)) := by
  refine kr_start (own := RX5) (by decide) rfl (Nat.le_of_ble_eq_true rfl) fun p e s m below meth c X ls hl hM => ?_
  have hl : lv_has ls 1 [(0, .ref (L (iC k0)))] := hl
  have X2 := X.1
  obtain ⟨hx, hb, hml, hown, hts⟩ := X2
  unfold K_fstI at hr
  refine lv_aload_n hx hb dX5_first_0 rfl (lv_at hl 0 rfl) ?_
  refine r_X6_1 X hM hk0 q332 dX5_first_1 ?_
  cases hr
  exact p_iret X.1 X.2.1 X.2.2.1 dX5_first_4
def K_sysG (F : Nat) (N : Nat → Nat) (k0 : Int32) (G : mMS) : Option (Int32) :=
  some (G (gC k0) 0)
theorem k_K_sysG {F : Nat} {k0 : Int32} (hk0 : vp_in k0 (N 1)) {r : Int32} (hr : K_sysG F N k0 G = some r) : KrI l D ca zb yX5_system cX5_system 1 (some .int) 0 [.ref (L (gC k0))] N L G (some (.int r)) := by
  refine kr_start (own := RX5) (by decide) rfl (Nat.le_of_ble_eq_true rfl) fun p e s m below meth c X ls hl hM => ?_
  have hl : lv_has ls 1 [(0, .ref (L (gC k0)))] := hl
  have X2 := X.1
  obtain ⟨hx, hb, hml, hown, hts⟩ := X2
  unfold K_sysG at hr
  refine lv_aload_n hx hb dX5_system_0 rfl (lv_at hl 0 rfl) ?_
  refine r_X12_0 X hM hk0 q331 dX5_system_1 ?_
  cases hr
  exact p_iret X.1 X.2.1 X.2.2.1 dX5_system_4
def K_fstG (F : Nat) (N : Nat → Nat) (k0 : Int32) (G : mMS) : Option (Int32) :=
  some (G (gC k0) 1)
theorem k_K_fstG {F : Nat} {k0 : Int32} (hk0 : vp_in k0 (N 1)) {r : Int32} (hr : K_fstG F N k0 G = some r) : KrI l D ca zb yX5_first cX5_first 1 (some .int) 0 [.ref (L (gC k0))] N L G (some (.int r)) := by
  refine kr_start (own := RX5) (by decide) rfl (Nat.le_of_ble_eq_true rfl) fun p e s m below meth c X ls hl hM => ?_
  have hl : lv_has ls 1 [(0, .ref (L (gC k0)))] := hl
  have X2 := X.1
  obtain ⟨hx, hb, hml, hown, hts⟩ := X2
  unfold K_fstG at hr
  refine lv_aload_n hx hb dX5_first_0 rfl (lv_at hl 0 rfl) ?_
  refine r_X12_1 X hM hk0 q332 dX5_first_1 ?_
  cases hr
  exact p_iret X.1 X.2.1 X.2.2.1 dX5_first_4
def K_isActive (F : Nat) (N : Nat → Nat) (k0 : Int32) (G : mMS) : Option (Int32) :=
  if 1 < (G (iC k0) 7) then
    some 0
  else
    some 1
theorem k_K_isActive {F : Nat} {k0 : Int32} (hk0 : vp_in k0 (N 0)) {r : Int32} (hr : K_isActive F N k0 G = some r) : KrI l D ca zb yX6_isActive cX6_isActive 1 (some .boolean) 0 [.ref (L (iC k0))] N L G (some (.int r)) := by
  refine kr_start (own := RX6) (by decide) rfl (Nat.le_of_ble_eq_true rfl) fun p e s m below meth c X ls hl hM => ?_
  have hl : lv_has ls 1 [(0, .ref (L (iC k0)))] := hl
  have X2 := X.1
  obtain ⟨hx, hb, hml, hown, hts⟩ := X2
  unfold K_isActive at hr
  refine lv_aload_n hx hb dX6_isActive_0 rfl (lv_at hl 0 rfl) ?_
  refine r_X6_7 X hM hk0 q304 dX6_isActive_1 ?_
  refine lv_iconst (v := 1) hx hb dX6_isActive_4 rfl ?_
  refine lv_icmp_gt (tgt := 12) hx hb dX6_isActive_5 (by decide) (fun c1 => ?_) (fun c1 => ?_)
  · have hr := if_p c1 hr
    refine lv_iconst (v := 0) hx hb dX6_isActive_12 rfl ?_
    cases hr
    exact p_zret X.1 X.2.1 X.2.2.1 (by decide) dX6_isActive_13
  · have hr := if_n c1 hr
    refine lv_iconst (v := 1) hx hb dX6_isActive_8 rfl ?_
    refine lv_goto (tgt := 13) hx hb dX6_isActive_9 (by decide) ?_
    cases hr
    exact p_zret X.1 X.2.1 X.2.2.1 (by decide) dX6_isActive_13
def K_age (F : Nat) (N : Nat → Nat) (k0 : Int32) (G : mMS) : Option (Int32) :=
  some ((G (iC k0) 8) - (G (iC k0) 9))
theorem k_K_age {F : Nat} {k0 : Int32} (hk0 : vp_in k0 (N 0)) {r : Int32} (hr : K_age F N k0 G = some r) : KrI l D ca zb yX6_age cX6_age 1 (some .int) 0 [.ref (L (iC k0))] N L G (some (.int r)) := by
  refine kr_start (own := RX6) (by decide) rfl (Nat.le_of_ble_eq_true rfl) fun p e s m below meth c X ls hl hM => ?_
  have hl : lv_has ls 1 [(0, .ref (L (iC k0)))] := hl
  have X2 := X.1
  obtain ⟨hx, hb, hml, hown, hts⟩ := X2
  unfold K_age at hr
  refine lv_aload_n hx hb dX6_age_0 rfl (lv_at hl 0 rfl) ?_
  refine r_X6_8 X hM hk0 q307 dX6_age_1 ?_
  refine lv_aload_n hx hb dX6_age_4 rfl (lv_at hl 0 rfl) ?_
  refine r_X6_9 X hM hk0 q310 dX6_age_5 ?_
  refine lv_isub hx hb dX6_age_8 ?_
  cases hr
  exact p_iret X.1 X.2.1 X.2.2.1 dX6_age_9
def K_isReached (F : Nat) (N : Nat → Nat) (k0 : Int32) (G : mMS) : Option (Int32) :=
  (K_age F N k0 G).bind fun r1 =>
  gd ((G (iC k0) 4) - 1) 4 <|
  if r1 < (G 5 ((G (iC k0) 4) - 1).toNatClampNeg) then
    some 0
  else
    some 1
theorem k_K_isReached {F : Nat} {k0 : Int32} (hk0 : vp_in k0 (N 0)) {r : Int32} (hr : K_isReached F N k0 G = some r) : KrI l D ca zb yX6_isReached cX6_isReached 1 (some .boolean) 1 [.ref (L (iC k0))] N L G (some (.int r)) := by
  refine kr_start (own := RX6) (by decide) rfl (Nat.le_of_ble_eq_true rfl) fun p e s m below meth c X ls hl hM => ?_
  have hl : lv_has ls 1 [(0, .ref (L (iC k0)))] := hl
  have X2 := X.1
  obtain ⟨hx, hb, hml, hown, hts⟩ := X2
  unfold K_isReached at hr
  refine lv_aload_n hx hb dX6_isReached_0 rfl (lv_at hl 0 rfl) ?_
  obtain ⟨r1, h1, hr⟩ := ob hr
  refine kr_cVi (k9 := 0) X hM (rc_inc X hM hk0) (k_K_age hk0 h1) (lw_V q842 q843 q844 q75 q845) rfl (by decide +kernel) ⟨Nat.le_of_ble_eq_true rfl, Nat.le_of_ble_eq_true rfl⟩ hl.1 rfl (Nat.le_of_ble_eq_true rfl) dX6_isReached_1 ⟨Nat.zero_le _, Nat.zero_le _⟩ ?_
  refine lv_aload_n hx hb dX6_isReached_4 rfl (lv_at hl 0 rfl) ?_
  refine r_X6_17 X hM hk0 q330 dX6_isReached_5 ?_
  refine r_X2_5N X hM q157 dX6_isReached_8 ?_
  refine lv_aload_n hx hb dX6_isReached_11 rfl (lv_at hl 0 rfl) ?_
  refine r_X6_4 X hM hk0 q295 dX6_isReached_12 ?_
  refine lv_iconst (v := 1) hx hb dX6_isReached_15 rfl ?_
  refine lv_isub hx hb dX6_isReached_16 ?_
  obtain ⟨g1, hr⟩ := gs hr
  refine r_ald_5 X hM g1 dX6_isReached_17 ?_
  refine lv_icmp_lt (tgt := 25) hx hb dX6_isReached_18 (by decide) (fun c1 => ?_) (fun c1 => ?_)
  · have hr := if_p c1 hr
    refine lv_iconst (v := 0) hx hb dX6_isReached_25 rfl ?_
    cases hr
    exact p_zret X.1 X.2.1 X.2.2.1 (by decide) dX6_isReached_26
  · have hr := if_n c1 hr
    refine lv_iconst (v := 1) hx hb dX6_isReached_21 rfl ?_
    refine lv_goto (tgt := 26) hx hb dX6_isReached_22 (by decide) ?_
    cases hr
    exact p_zret X.1 X.2.1 X.2.2.1 (by decide) dX6_isReached_26
def K_hasIncident (F : Nat) (N : Nat → Nat) (p0 : Int32) (G : mMS) : Option (Int32) :=
  (P_isBetween F p0 0 ((G 0 2) - 1)).bind fun r1 =>
  gb r1 <|
  some r1
theorem k_K_hasIncident {F : Nat} {p0 : Int32} {r : Int32} (hr : K_hasIncident F N p0 G = some r) : KrI l D ca zb yX2_hasIncident cX2_hasIncident 2 (some .boolean) 1 [.ref (L 7), .int p0] N L G (some (.int r)) := by
  refine kr_start (own := RX2) (by decide) rfl (Nat.le_of_ble_eq_true rfl) fun p e s m below meth c X ls hl hM => ?_
  have hl : lv_has ls 2 [(0, .ref (L 7)), (1, .int p0)] := hl
  have X2 := X.1
  obtain ⟨hx, hb, hml, hown, hts⟩ := X2
  unfold K_hasIncident at hr
  refine lv_iload_n hx hb dX2_hasIncident_0 rfl (lv_at hl 1 rfl) ?_
  refine lv_iconst (v := 0) hx hb dX2_hasIncident_1 rfl ?_
  refine lv_aload_n hx hb dX2_hasIncident_2 rfl (lv_at hl 0 rfl) ?_
  refine r_X2_0 X hM q144 dX2_hasIncident_3 ?_
  refine kr_size X hM (j := 0) (by decide) q246 (Nat.le_of_ble_eq_true rfl) (Nat.le_of_ble_eq_true rfl) hl.1 (Nat.le_of_ble_eq_true rfl) dX2_hasIncident_6 ⟨Nat.zero_le _, Nat.zero_le _⟩ ?_
  refine lv_iconst (v := 1) hx hb dX2_hasIncident_9 rfl ?_
  refine lv_isub hx hb dX2_hasIncident_10 ?_
  obtain ⟨r1, h1, hr⟩ := ob hr
  refine p_cSN (k9 := 3) X (k_P_isBetween h1) q671 q525 q65 q526 rfl (by decide +kernel) ⟨Nat.le_of_ble_eq_true rfl, Nat.le_of_ble_eq_true rfl⟩ hl.1 rfl (Nat.le_of_ble_eq_true rfl) dX2_hasIncident_11 ⟨Nat.zero_le _, Nat.zero_le _⟩ ?_
  obtain ⟨g1, hr⟩ := gbs hr
  cases hr
  exact p_zret X.1 X.2.1 X.2.2.1 g1 dX2_hasIncident_14
def K_load_4 (F : Nat) (N : Nat → Nat) : Nat → Int32 → Int32 → Int32 → mMS → Option (Int32)
  | 0, _, _, _, _ => none
  | f + 1, x1, x2, x3, G =>
    if (G 0 2) ≤ x3 then
      some (x2)
    else
      gd x3 (N 0) <|
      if (G (iC x3) 5) = x1 then
        if (G (iC x3) 7) = 3 then
          K_load_4 F N f x1 (x2 + 0) (x3 + 1) G
        else
          K_load_4 F N f x1 (x2 + 1) (x3 + 1) G
      else
        K_load_4 F N f x1 (x2 + 0) (x3 + 1) G
theorem w_K_load_4 {F : Nat} (X : KX p s m args meth c RX2 cX2_load 5 (some .int) D ca) (hM : kR D ca zb N L G s s.heap) : ∀ (f : Nat), ∀ (x1 : Int32) (x2 : Int32) (x3 : Int32) (r : Int32), K_load_4 F N f x1 x2 x3 G = some r → ∀ (ls : Array Slot), lv_has ls 5 [(0, .ref (L 7)), (1, .int x1), (2, .int x2), (3, .int x3)] → W p l e { frames := 3, cells := 0, slots := 0, locals := 120 } s m args below meth c s.heap [] 0 0 (MQ below (fun _ st o t => o = .returned (some (.int r)) ∧ t.heap = st.heap) args s 0 0 (fun _ => False)) (F0 m 4 ls []) := by
  have X2 := X.1
  obtain ⟨hx, hb, hml, hown, hts⟩ := X2
  intro f
  induction f with
  | zero =>
    intro x1 x2 x3 r hr
    rw [K_load_4] at hr
    cases hr
  | succ f ih =>
    intro x1 x2 x3 r hr ls hl
    rw [K_load_4] at hr
    refine lv_iload_n hx hb dX2_load_4 rfl (lv_at hl 3 rfl) ?_
    refine lv_aload_n hx hb dX2_load_5 rfl (lv_at hl 0 rfl) ?_
    refine r_X2_0 X hM q144 dX2_load_6 ?_
    refine kr_size X hM (j := 0) (by decide) q246 (Nat.le_of_ble_eq_true rfl) (Nat.le_of_ble_eq_true rfl) hl.1 (Nat.le_of_ble_eq_true rfl) dX2_load_9 ⟨Nat.zero_le _, Nat.zero_le _⟩ ?_
    refine lv_icmp_ge (tgt := 60) hx hb dX2_load_12 (by decide) (fun c1 => ?_) (fun c1 => ?_)
    · have hr := if_p c1 hr
      refine lv_iload_n hx hb dX2_load_60 rfl (lv_at hl 2 rfl) ?_
      cases hr
      exact p_iret X.1 X.2.1 X.2.2.1 dX2_load_61
    · have hr := if_n c1 hr
      refine lv_aload_n hx hb dX2_load_15 rfl (lv_at hl 0 rfl) ?_
      refine r_X2_0 X hM q144 dX2_load_16 ?_
      refine lv_iload_n hx hb dX2_load_19 rfl (lv_at hl 3 rfl) ?_
      obtain ⟨g1, hr⟩ := gs hr
      refine kr_get X hM (j := 0) (by decide) g1 q250 (Nat.le_of_ble_eq_true rfl) (Nat.le_of_ble_eq_true rfl) hl.1 (Nat.le_of_ble_eq_true rfl) dX2_load_20 ⟨Nat.zero_le _, Nat.zero_le _⟩ ?_
      refine va_castS hx hb hown (hts _ q264) (X.2.2.2.1.1 2 _ rfl).2 (rc_inc X hM g1) dX2_load_23 ?_
      refine lv_astore (lv' := [(4, .ref (L (iC x3))), (0, .ref (L 7)), (1, .int x1), (2, .int x2), (3, .int x3)]) hx hb dX2_load_26 hl (by decide) rfl (fun ls hl => ?_)
      refine lv_iload_n hx hb dX2_load_28 rfl (lv_at hl 3 rfl) ?_
      refine lv_aload hx hb dX2_load_29 (lv_at hl 0 rfl) ?_
      refine r_X6_5N X hM g1 q299 dX2_load_31 ?_
      refine lv_iload_n hx hb dX2_load_34 rfl (lv_at hl 2 rfl) ?_
      refine lv_icmp_ne (tgt := 51) hx hb dX2_load_35 (by decide) (fun c2 => ?_) (fun c2 => ?_)
      · have hr := if_n c2 hr
        refine lv_iconst (v := 0) hx hb dX2_load_51 rfl ?_
        refine lv_iadd hx hb dX2_load_52 ?_
        refine lv_istore_n (lv' := [(2, .int (x2 + 0)), (4, .ref (L (iC x3))), (0, .ref (L 7)), (1, .int x1), (3, .int x3)]) hx hb dX2_load_53 rfl hl (by decide) rfl (fun ls hl => ?_)
        refine lv_iinc (v := x3 + 1) (lv' := [(3, .int (x3 + 1)), (2, .int (x2 + 0)), (4, .ref (L (iC x3))), (0, .ref (L 7)), (1, .int x1)]) hx hb dX2_load_54 hl (k := 4) rfl rfl (by decide) rfl (fun ls hl => ?_)
        refine lv_goto (tgt := 4) hx hb dX2_load_57 (by decide) ?_
        exact ih _ _ _ _ hr _ (lv_sub hl [3, 4, 1, 0] rfl)
      · have hr := if_p c2 hr
        refine lv_aload hx hb dX2_load_38 (lv_at hl 0 rfl) ?_
        refine r_X6_7N X hM g1 q305 dX2_load_40 ?_
        refine lv_iconst (v := 3) hx hb dX2_load_43 rfl ?_
        refine lv_icmp_eq (tgt := 51) hx hb dX2_load_44 (by decide) (fun c3 => ?_) (fun c3 => ?_)
        · have hr := if_p c3 hr
          refine lv_iconst (v := 0) hx hb dX2_load_51 rfl ?_
          refine lv_iadd hx hb dX2_load_52 ?_
          refine lv_istore_n (lv' := [(2, .int (x2 + 0)), (4, .ref (L (iC x3))), (0, .ref (L 7)), (1, .int x1), (3, .int x3)]) hx hb dX2_load_53 rfl hl (by decide) rfl (fun ls hl => ?_)
          refine lv_iinc (v := x3 + 1) (lv' := [(3, .int (x3 + 1)), (2, .int (x2 + 0)), (4, .ref (L (iC x3))), (0, .ref (L 7)), (1, .int x1)]) hx hb dX2_load_54 hl (k := 4) rfl rfl (by decide) rfl (fun ls hl => ?_)
          refine lv_goto (tgt := 4) hx hb dX2_load_57 (by decide) ?_
          exact ih _ _ _ _ hr _ (lv_sub hl [3, 4, 1, 0] rfl)
        · have hr := if_n c3 hr
          refine lv_iconst (v := 1) hx hb dX2_load_47 rfl ?_
          refine lv_goto (tgt := 52) hx hb dX2_load_48 (by decide) ?_
          refine lv_iadd hx hb dX2_load_52 ?_
          refine lv_istore_n (lv' := [(2, .int (x2 + 1)), (4, .ref (L (iC x3))), (0, .ref (L 7)), (1, .int x1), (3, .int x3)]) hx hb dX2_load_53 rfl hl (by decide) rfl (fun ls hl => ?_)
          refine lv_iinc (v := x3 + 1) (lv' := [(3, .int (x3 + 1)), (2, .int (x2 + 1)), (4, .ref (L (iC x3))), (0, .ref (L 7)), (1, .int x1)]) hx hb dX2_load_54 hl (k := 4) rfl rfl (by decide) rfl (fun ls hl => ?_)
          refine lv_goto (tgt := 4) hx hb dX2_load_57 (by decide) ?_
          exact ih _ _ _ _ hr _ (lv_sub hl [3, 4, 1, 0] rfl)
def K_load (F : Nat) (N : Nat → Nat) (p0 : Int32) (G : mMS) : Option (Int32) :=
  K_load_4 F N F p0 0 0 G
theorem k_K_load {F : Nat} {p0 : Int32} {r : Int32} (hr : K_load F N p0 G = some r) : KrI l D ca zb yX2_load cX2_load 5 (some .int) 3 [.ref (L 7), .int p0] N L G (some (.int r)) := by
  refine kr_start (own := RX2) (by decide) rfl (Nat.le_of_ble_eq_true rfl) fun p e s m below meth c X ls hl hM => ?_
  have hl : lv_has ls 5 [(0, .ref (L 7)), (1, .int p0)] := hl
  have X2 := X.1
  obtain ⟨hx, hb, hml, hown, hts⟩ := X2
  unfold K_load at hr
  refine lv_iconst (v := 0) hx hb dX2_load_0 rfl ?_
  refine lv_istore_n (lv' := [(2, .int 0), (0, .ref (L 7)), (1, .int p0)]) hx hb dX2_load_1 rfl hl (by decide) rfl (fun ls hl => ?_)
  refine lv_iconst (v := 0) hx hb dX2_load_2 rfl ?_
  refine lv_istore_n (lv' := [(3, .int 0), (2, .int 0), (0, .ref (L 7)), (1, .int p0)]) hx hb dX2_load_3 rfl hl (by decide) rfl (fun ls hl => ?_)
  exact w_K_load_4 X hM  _ _ _ _ _ hr _ (lv_sub hl [2, 3, 1, 0] rfl)
def K_heldBy_4 (F : Nat) (N : Nat → Nat) : Nat → Int32 → Int32 → Int32 → mMS → Option (Int32)
  | 0, _, _, _, _ => none
  | f + 1, x1, x2, x3, G =>
    if (G 0 2) ≤ x3 then
      some (x2)
    else
      gd x3 (N 0) <|
      if (G (iC x3) 5) = x1 then
        K_heldBy_4 F N f x1 (x2 ||| (1 <<< (x3 &&& 31))) (x3 + 1) G
      else
        K_heldBy_4 F N f x1 (x2 ||| 0) (x3 + 1) G
theorem w_K_heldBy_4 {F : Nat} (X : KX p s m args meth c RX2 cX2_heldBy 4 (some .int) D ca) (hM : kR D ca zb N L G s s.heap) : ∀ (f : Nat), ∀ (x1 : Int32) (x2 : Int32) (x3 : Int32) (r : Int32), K_heldBy_4 F N f x1 x2 x3 G = some r → ∀ (ls : Array Slot), lv_has ls 4 [(0, .ref (L 7)), (1, .int x1), (2, .int x2), (3, .int x3)] → W p l e { frames := 3, cells := 0, slots := 0, locals := 120 } s m args below meth c s.heap [] 0 0 (MQ below (fun _ st o t => o = .returned (some (.int r)) ∧ t.heap = st.heap) args s 0 0 (fun _ => False)) (F0 m 4 ls []) := by
  have X2 := X.1
  obtain ⟨hx, hb, hml, hown, hts⟩ := X2
  intro f
  induction f with
  | zero =>
    intro x1 x2 x3 r hr
    rw [K_heldBy_4] at hr
    cases hr
  | succ f ih =>
    intro x1 x2 x3 r hr ls hl
    rw [K_heldBy_4] at hr
    refine lv_iload_n hx hb dX2_heldBy_4 rfl (lv_at hl 3 rfl) ?_
    refine lv_aload_n hx hb dX2_heldBy_5 rfl (lv_at hl 0 rfl) ?_
    refine r_X2_0 X hM q144 dX2_heldBy_6 ?_
    refine kr_size X hM (j := 0) (by decide) q246 (Nat.le_of_ble_eq_true rfl) (Nat.le_of_ble_eq_true rfl) hl.1 (Nat.le_of_ble_eq_true rfl) dX2_heldBy_9 ⟨Nat.zero_le _, Nat.zero_le _⟩ ?_
    refine lv_icmp_ge (tgt := 49) hx hb dX2_heldBy_12 (by decide) (fun c1 => ?_) (fun c1 => ?_)
    · have hr := if_p c1 hr
      refine lv_iload_n hx hb dX2_heldBy_49 rfl (lv_at hl 2 rfl) ?_
      cases hr
      exact p_iret X.1 X.2.1 X.2.2.1 dX2_heldBy_50
    · have hr := if_n c1 hr
      refine lv_iload_n hx hb dX2_heldBy_15 rfl (lv_at hl 2 rfl) ?_
      refine lv_aload_n hx hb dX2_heldBy_16 rfl (lv_at hl 0 rfl) ?_
      refine r_X2_0 X hM q144 dX2_heldBy_17 ?_
      refine lv_iload_n hx hb dX2_heldBy_20 rfl (lv_at hl 3 rfl) ?_
      obtain ⟨g1, hr⟩ := gs hr
      refine kr_get X hM (j := 0) (by decide) g1 q250 (Nat.le_of_ble_eq_true rfl) (Nat.le_of_ble_eq_true rfl) hl.1 (Nat.le_of_ble_eq_true rfl) dX2_heldBy_21 ⟨Nat.zero_le _, Nat.zero_le _⟩ ?_
      refine va_castS hx hb hown (hts _ q264) (X.2.2.2.1.1 2 _ rfl).2 (rc_inc X hM g1) dX2_heldBy_24 ?_
      refine r_X6_5N X hM g1 q299 dX2_heldBy_27 ?_
      refine lv_iload_n hx hb dX2_heldBy_30 rfl (lv_at hl 1 rfl) ?_
      refine lv_icmp_ne (tgt := 40) hx hb dX2_heldBy_31 (by decide) (fun c2 => ?_) (fun c2 => ?_)
      · have hr := if_n c2 hr
        refine lv_iconst (v := 0) hx hb dX2_heldBy_40 rfl ?_
        refine lv_ior hx hb dX2_heldBy_41 ?_
        refine lv_istore_n (lv' := [(2, .int (x2 ||| 0)), (0, .ref (L 7)), (1, .int x1), (3, .int x3)]) hx hb dX2_heldBy_42 rfl hl (by decide) rfl (fun ls hl => ?_)
        refine lv_iinc (v := x3 + 1) (lv' := [(3, .int (x3 + 1)), (2, .int (x2 ||| 0)), (0, .ref (L 7)), (1, .int x1)]) hx hb dX2_heldBy_43 hl (k := 3) rfl rfl (by decide) rfl (fun ls hl => ?_)
        refine lv_goto (tgt := 4) hx hb dX2_heldBy_46 (by decide) ?_
        exact ih _ _ _ _ hr _ (lv_sub hl [2, 3, 1, 0] rfl)
      · have hr := if_p c2 hr
        refine lv_iconst (v := 1) hx hb dX2_heldBy_34 rfl ?_
        refine lv_iload_n hx hb dX2_heldBy_35 rfl (lv_at hl 3 rfl) ?_
        refine lv_ishl hx hb dX2_heldBy_36 ?_
        refine lv_goto (tgt := 41) hx hb dX2_heldBy_37 (by decide) ?_
        refine lv_ior hx hb dX2_heldBy_41 ?_
        refine lv_istore_n (lv' := [(2, .int (x2 ||| (1 <<< (x3 &&& 31)))), (0, .ref (L 7)), (1, .int x1), (3, .int x3)]) hx hb dX2_heldBy_42 rfl hl (by decide) rfl (fun ls hl => ?_)
        refine lv_iinc (v := x3 + 1) (lv' := [(3, .int (x3 + 1)), (2, .int (x2 ||| (1 <<< (x3 &&& 31)))), (0, .ref (L 7)), (1, .int x1)]) hx hb dX2_heldBy_43 hl (k := 3) rfl rfl (by decide) rfl (fun ls hl => ?_)
        refine lv_goto (tgt := 4) hx hb dX2_heldBy_46 (by decide) ?_
        exact ih _ _ _ _ hr _ (lv_sub hl [2, 3, 1, 0] rfl)
def K_heldBy (F : Nat) (N : Nat → Nat) (p0 : Int32) (G : mMS) : Option (Int32) :=
  K_heldBy_4 F N F p0 0 0 G
theorem k_K_heldBy {F : Nat} {p0 : Int32} {r : Int32} (hr : K_heldBy F N p0 G = some r) : KrI l D ca zb yX2_heldBy cX2_heldBy 4 (some .int) 3 [.ref (L 7), .int p0] N L G (some (.int r)) := by
  refine kr_start (own := RX2) (by decide) rfl (Nat.le_of_ble_eq_true rfl) fun p e s m below meth c X ls hl hM => ?_
  have hl : lv_has ls 4 [(0, .ref (L 7)), (1, .int p0)] := hl
  have X2 := X.1
  obtain ⟨hx, hb, hml, hown, hts⟩ := X2
  unfold K_heldBy at hr
  refine lv_iconst (v := 0) hx hb dX2_heldBy_0 rfl ?_
  refine lv_istore_n (lv' := [(2, .int 0), (0, .ref (L 7)), (1, .int p0)]) hx hb dX2_heldBy_1 rfl hl (by decide) rfl (fun ls hl => ?_)
  refine lv_iconst (v := 0) hx hb dX2_heldBy_2 rfl ?_
  refine lv_istore_n (lv' := [(3, .int 0), (2, .int 0), (0, .ref (L 7)), (1, .int p0)]) hx hb dX2_heldBy_3 rfl hl (by decide) rfl (fun ls hl => ?_)
  exact w_K_heldBy_4 X hM  _ _ _ _ _ hr _ (lv_sub hl [2, 3, 1, 0] rfl)
def K_resolvedAbove_35 (F : Nat) (N : Nat → Nat) (κ4 : Int32 → Int32 → mMS → Option (Int32)) (x3 : Int32) (y0 : Int32) (y1 : Int32) (G : mMS) : Option (Int32) :=
  gd x3 (N 0) <|
  κ4 (y1 ||| y0) (G (iC x3) 12) G
theorem w_K_resolvedAbove_35 {F : Nat} {κ4 : Int32 → Int32 → mMS → Option (Int32)} (X : KX p s m args meth c RX2 cX2_resolvedAbove 4 (some .int) D ca) (hM : kR D ca zb N L G s s.heap) (hk4 : ∀ (x2 : Int32) (x3 : Int32) (r : Int32), κ4 x2 x3 G = some r → ∀ (ls : Array Slot), lv_has ls 4 [(0, .ref (L 7)), (2, .int x2), (3, .int x3)] → W p l e { frames := 3, cells := 0, slots := 0, locals := 120 } s m args below meth c s.heap [] 0 0 (MQ below (fun _ st o t => o = .returned (some (.int r)) ∧ t.heap = st.heap) args s 0 0 (fun _ => False)) (F0 m 4 ls [])) : ∀ (x3 : Int32) (y0 : Int32) (y1 : Int32) (r : Int32), K_resolvedAbove_35 F N κ4 x3 y0 y1 G = some r → ∀ (ls : Array Slot), lv_has ls 4 [(0, .ref (L 7)), (3, .int x3)] → W p l e { frames := 3, cells := 0, slots := 0, locals := 120 } s m args below meth c s.heap [] 0 0 (MQ below (fun _ st o t => o = .returned (some (.int r)) ∧ t.heap = st.heap) args s 0 0 (fun _ => False)) (F0 m 35 ls [.int y0, .int y1]) := by
  have X2 := X.1
  obtain ⟨hx, hb, hml, hown, hts⟩ := X2
  intro x3 y0 y1 r hr ls hl
  unfold K_resolvedAbove_35 at hr
  refine lv_ior hx hb dX2_resolvedAbove_35 ?_
  refine lv_istore_n (lv' := [(2, .int (y1 ||| y0)), (0, .ref (L 7)), (3, .int x3)]) hx hb dX2_resolvedAbove_36 rfl hl (by decide) rfl (fun ls hl => ?_)
  refine lv_aload_n hx hb dX2_resolvedAbove_37 rfl (lv_at hl 1 rfl) ?_
  refine r_X2_0 X hM q144 dX2_resolvedAbove_38 ?_
  refine lv_iload_n hx hb dX2_resolvedAbove_41 rfl (lv_at hl 2 rfl) ?_
  obtain ⟨g1, hr⟩ := gs hr
  refine kr_get X hM (j := 0) (by decide) g1 q250 (Nat.le_of_ble_eq_true rfl) (Nat.le_of_ble_eq_true rfl) hl.1 (Nat.le_of_ble_eq_true rfl) dX2_resolvedAbove_42 ⟨Nat.zero_le _, Nat.zero_le _⟩ ?_
  refine va_castS hx hb hown (hts _ q264) (X.2.2.2.1.1 2 _ rfl).2 (rc_inc X hM g1) dX2_resolvedAbove_45 ?_
  refine r_X6_12N X hM g1 q318 dX2_resolvedAbove_48 ?_
  refine lv_istore_n (lv' := [(3, .int (G (iC x3) 12)), (2, .int (y1 ||| y0)), (0, .ref (L 7))]) hx hb dX2_resolvedAbove_51 rfl hl (by decide) rfl (fun ls hl => ?_)
  refine lv_goto (tgt := 4) hx hb dX2_resolvedAbove_52 (by decide) ?_
  exact hk4 _ _ _ hr _ (lv_sub hl [2, 1, 0] rfl)
def K_resolvedAbove_4 (F : Nat) (N : Nat → Nat) : Nat → Int32 → Int32 → mMS → Option (Int32)
  | 0, _, _, _ => none
  | f + 1, x2, x3, G =>
    if x3 = (-1) then
      some (x2)
    else
      gd x3 (N 0) <|
      if (G (iC x3) 7) = 2 then
        K_resolvedAbove_35 F N (K_resolvedAbove_4 F N f) x3 (1 <<< (x3 &&& 31)) x2 G
      else
        K_resolvedAbove_35 F N (K_resolvedAbove_4 F N f) x3 0 x2 G
theorem w_K_resolvedAbove_4 {F : Nat} (X : KX p s m args meth c RX2 cX2_resolvedAbove 4 (some .int) D ca) (hM : kR D ca zb N L G s s.heap) : ∀ (f : Nat), ∀ (x2 : Int32) (x3 : Int32) (r : Int32), K_resolvedAbove_4 F N f x2 x3 G = some r → ∀ (ls : Array Slot), lv_has ls 4 [(0, .ref (L 7)), (2, .int x2), (3, .int x3)] → W p l e { frames := 3, cells := 0, slots := 0, locals := 120 } s m args below meth c s.heap [] 0 0 (MQ below (fun _ st o t => o = .returned (some (.int r)) ∧ t.heap = st.heap) args s 0 0 (fun _ => False)) (F0 m 4 ls []) := by
  have X2 := X.1
  obtain ⟨hx, hb, hml, hown, hts⟩ := X2
  intro f
  induction f with
  | zero =>
    intro x2 x3 r hr
    rw [K_resolvedAbove_4] at hr
    cases hr
  | succ f ih =>
    intro x2 x3 r hr ls hl
    rw [K_resolvedAbove_4] at hr
    refine lv_iload_n hx hb dX2_resolvedAbove_4 rfl (lv_at hl 2 rfl) ?_
    refine lv_iconst (v := (-1)) hx hb dX2_resolvedAbove_5 rfl ?_
    refine lv_icmp_eq (tgt := 55) hx hb dX2_resolvedAbove_6 (by decide) (fun c1 => ?_) (fun c1 => ?_)
    · have hr := if_p c1 hr
      refine lv_iload_n hx hb dX2_resolvedAbove_55 rfl (lv_at hl 1 rfl) ?_
      cases hr
      exact p_iret X.1 X.2.1 X.2.2.1 dX2_resolvedAbove_56
    · have hr := if_n c1 hr
      refine lv_iload_n hx hb dX2_resolvedAbove_9 rfl (lv_at hl 1 rfl) ?_
      refine lv_aload_n hx hb dX2_resolvedAbove_10 rfl (lv_at hl 0 rfl) ?_
      refine r_X2_0 X hM q144 dX2_resolvedAbove_11 ?_
      refine lv_iload_n hx hb dX2_resolvedAbove_14 rfl (lv_at hl 2 rfl) ?_
      obtain ⟨g1, hr⟩ := gs hr
      refine kr_get X hM (j := 0) (by decide) g1 q250 (Nat.le_of_ble_eq_true rfl) (Nat.le_of_ble_eq_true rfl) hl.1 (Nat.le_of_ble_eq_true rfl) dX2_resolvedAbove_15 ⟨Nat.zero_le _, Nat.zero_le _⟩ ?_
      refine va_castS hx hb hown (hts _ q264) (X.2.2.2.1.1 2 _ rfl).2 (rc_inc X hM g1) dX2_resolvedAbove_18 ?_
      refine r_X6_7N X hM g1 q305 dX2_resolvedAbove_21 ?_
      refine lv_iconst (v := 2) hx hb dX2_resolvedAbove_24 rfl ?_
      refine lv_icmp_ne (tgt := 34) hx hb dX2_resolvedAbove_25 (by decide) (fun c2 => ?_) (fun c2 => ?_)
      · have hr := if_n c2 hr
        refine lv_iconst (v := 0) hx hb dX2_resolvedAbove_34 rfl ?_
        exact w_K_resolvedAbove_35 X hM ih _ _ _ _ hr _ (lv_sub hl [0, 2] rfl)
      · have hr := if_p c2 hr
        refine lv_iconst (v := 1) hx hb dX2_resolvedAbove_28 rfl ?_
        refine lv_iload_n hx hb dX2_resolvedAbove_29 rfl (lv_at hl 2 rfl) ?_
        refine lv_ishl hx hb dX2_resolvedAbove_30 ?_
        refine lv_goto (tgt := 35) hx hb dX2_resolvedAbove_31 (by decide) ?_
        exact w_K_resolvedAbove_35 X hM ih _ _ _ _ hr _ (lv_sub hl [0, 2] rfl)
def K_resolvedAbove (F : Nat) (N : Nat → Nat) (p0 : Int32) (G : mMS) : Option (Int32) :=
  K_resolvedAbove_4 F N F 0 p0 G
theorem k_K_resolvedAbove {F : Nat} {p0 : Int32} {r : Int32} (hr : K_resolvedAbove F N p0 G = some r) : KrI l D ca zb yX2_resolvedAbove cX2_resolvedAbove 4 (some .int) 3 [.ref (L 7), .int p0] N L G (some (.int r)) := by
  refine kr_start (own := RX2) (by decide) rfl (Nat.le_of_ble_eq_true rfl) fun p e s m below meth c X ls hl hM => ?_
  have hl : lv_has ls 4 [(0, .ref (L 7)), (1, .int p0)] := hl
  have X2 := X.1
  obtain ⟨hx, hb, hml, hown, hts⟩ := X2
  unfold K_resolvedAbove at hr
  refine lv_iconst (v := 0) hx hb dX2_resolvedAbove_0 rfl ?_
  refine lv_istore_n (lv' := [(2, .int 0), (0, .ref (L 7)), (1, .int p0)]) hx hb dX2_resolvedAbove_1 rfl hl (by decide) rfl (fun ls hl => ?_)
  refine lv_iload_n hx hb dX2_resolvedAbove_2 rfl (lv_at hl 2 rfl) ?_
  refine lv_istore_n (lv' := [(3, .int p0), (2, .int 0), (0, .ref (L 7)), (1, .int p0)]) hx hb dX2_resolvedAbove_3 rfl hl (by decide) rfl (fun ls hl => ?_)
  exact w_K_resolvedAbove_4 X hM  _ _ _ _ hr _ (lv_sub hl [2, 1, 0] rfl)
def K_openAction_2 (F : Nat) (N : Nat → Nat) : Nat → Int32 → Int32 → mMS → Option (Int32)
  | 0, _, _, _ => none
  | f + 1, x1, x2, G =>
    if (G 2 2) ≤ x2 then
      some ((-1))
    else
      gd x2 (N 2) <|
      if (G (aC x2) 0) = x1 then
        gd x2 (N 2) <|
        if (G (aC x2) 3) = 0 then
          some (x2)
        else
          K_openAction_2 F N f x1 (x2 + 1) G
      else
        K_openAction_2 F N f x1 (x2 + 1) G
theorem w_K_openAction_2 {F : Nat} (X : KX p s m args meth c RX2 cX2_openAction 3 (some .int) D ca) (hM : kR D ca zb N L G s s.heap) : ∀ (f : Nat), ∀ (x1 : Int32) (x2 : Int32) (r : Int32), K_openAction_2 F N f x1 x2 G = some r → ∀ (ls : Array Slot), lv_has ls 3 [(0, .ref (L 7)), (1, .int x1), (2, .int x2)] → W p l e { frames := 3, cells := 0, slots := 0, locals := 120 } s m args below meth c s.heap [] 0 0 (MQ below (fun _ st o t => o = .returned (some (.int r)) ∧ t.heap = st.heap) args s 0 0 (fun _ => False)) (F0 m 2 ls []) := by
  have X2 := X.1
  obtain ⟨hx, hb, hml, hown, hts⟩ := X2
  intro f
  induction f with
  | zero =>
    intro x1 x2 r hr
    rw [K_openAction_2] at hr
    cases hr
  | succ f ih =>
    intro x1 x2 r hr ls hl
    rw [K_openAction_2] at hr
    refine lv_iload_n hx hb dX2_openAction_2 rfl (lv_at hl 2 rfl) ?_
    refine lv_aload_n hx hb dX2_openAction_3 rfl (lv_at hl 0 rfl) ?_
    refine r_X2_2 X hM q150 dX2_openAction_4 ?_
    refine kr_size X hM (j := 2) (by decide) q246 (Nat.le_of_ble_eq_true rfl) (Nat.le_of_ble_eq_true rfl) hl.1 (Nat.le_of_ble_eq_true rfl) dX2_openAction_7 ⟨Nat.zero_le _, Nat.zero_le _⟩ ?_
    refine lv_icmp_ge (tgt := 56) hx hb dX2_openAction_10 (by decide) (fun c1 => ?_) (fun c1 => ?_)
    · have hr := if_p c1 hr
      refine lv_iconst (v := (-1)) hx hb dX2_openAction_56 rfl ?_
      cases hr
      exact p_iret X.1 X.2.1 X.2.2.1 dX2_openAction_57
    · have hr := if_n c1 hr
      refine lv_aload_n hx hb dX2_openAction_13 rfl (lv_at hl 0 rfl) ?_
      refine r_X2_2 X hM q150 dX2_openAction_14 ?_
      refine lv_iload_n hx hb dX2_openAction_17 rfl (lv_at hl 2 rfl) ?_
      obtain ⟨g1, hr⟩ := gs hr
      refine kr_get X hM (j := 2) (by decide) g1 q250 (Nat.le_of_ble_eq_true rfl) (Nat.le_of_ble_eq_true rfl) hl.1 (Nat.le_of_ble_eq_true rfl) dX2_openAction_18 ⟨Nat.zero_le _, Nat.zero_le _⟩ ?_
      refine va_castS hx hb hown (hts _ q445) (X.2.2.2.1.1 6 _ rfl).2 (rc_act X hM g1) dX2_openAction_21 ?_
      refine r_X7_0N X hM g1 q457 dX2_openAction_24 ?_
      refine lv_iload_n hx hb dX2_openAction_27 rfl (lv_at hl 1 rfl) ?_
      refine lv_icmp_ne (tgt := 50) hx hb dX2_openAction_28 (by decide) (fun c2 => ?_) (fun c2 => ?_)
      · have hr := if_n c2 hr
        refine lv_iinc (v := x2 + 1) (lv' := [(2, .int (x2 + 1)), (0, .ref (L 7)), (1, .int x1)]) hx hb dX2_openAction_50 hl (k := 2) rfl rfl (by decide) rfl (fun ls hl => ?_)
        refine lv_goto (tgt := 2) hx hb dX2_openAction_53 (by decide) ?_
        exact ih _ _ _ hr _ (lv_sub hl [1, 2, 0] rfl)
      · have hr := if_p c2 hr
        refine lv_aload_n hx hb dX2_openAction_31 rfl (lv_at hl 0 rfl) ?_
        refine r_X2_2 X hM q150 dX2_openAction_32 ?_
        refine lv_iload_n hx hb dX2_openAction_35 rfl (lv_at hl 2 rfl) ?_
        obtain ⟨g2, hr⟩ := gs hr
        refine kr_get X hM (j := 2) (by decide) g2 q250 (Nat.le_of_ble_eq_true rfl) (Nat.le_of_ble_eq_true rfl) hl.1 (Nat.le_of_ble_eq_true rfl) dX2_openAction_36 ⟨Nat.zero_le _, Nat.zero_le _⟩ ?_
        refine va_castS hx hb hown (hts _ q445) (X.2.2.2.1.1 6 _ rfl).2 (rc_act X hM g2) dX2_openAction_39 ?_
        refine r_X7_3N X hM g2 q464 dX2_openAction_42 ?_
        refine lv_if_ne (tgt := 50) hx hb dX2_openAction_45 (by decide) (fun c3 => ?_) (fun c3 => ?_)
        · have hr := if_n c3 hr
          refine lv_iinc (v := x2 + 1) (lv' := [(2, .int (x2 + 1)), (0, .ref (L 7)), (1, .int x1)]) hx hb dX2_openAction_50 hl (k := 2) rfl rfl (by decide) rfl (fun ls hl => ?_)
          refine lv_goto (tgt := 2) hx hb dX2_openAction_53 (by decide) ?_
          exact ih _ _ _ hr _ (lv_sub hl [1, 2, 0] rfl)
        · have hr := if_p c3 hr
          refine lv_iload_n hx hb dX2_openAction_48 rfl (lv_at hl 2 rfl) ?_
          cases hr
          exact p_iret X.1 X.2.1 X.2.2.1 dX2_openAction_49
def K_openAction (F : Nat) (N : Nat → Nat) (p0 : Int32) (G : mMS) : Option (Int32) :=
  K_openAction_2 F N F p0 0 G
theorem k_K_openAction {F : Nat} {p0 : Int32} {r : Int32} (hr : K_openAction F N p0 G = some r) : KrI l D ca zb yX2_openAction cX2_openAction 3 (some .int) 3 [.ref (L 7), .int p0] N L G (some (.int r)) := by
  refine kr_start (own := RX2) (by decide) rfl (Nat.le_of_ble_eq_true rfl) fun p e s m below meth c X ls hl hM => ?_
  have hl : lv_has ls 3 [(0, .ref (L 7)), (1, .int p0)] := hl
  have X2 := X.1
  obtain ⟨hx, hb, hml, hown, hts⟩ := X2
  unfold K_openAction at hr
  refine lv_iconst (v := 0) hx hb dX2_openAction_0 rfl ?_
  refine lv_istore_n (lv' := [(2, .int 0), (0, .ref (L 7)), (1, .int p0)]) hx hb dX2_openAction_1 rfl hl (by decide) rfl (fun ls hl => ?_)
  exact w_K_openAction_2 X hM  _ _ _ _ hr _ (lv_sub hl [1, 2, 0] rfl)
def K_inState_4 (F : Nat) (N : Nat → Nat) : Nat → Int32 → Int32 → Int32 → mMS → Option (Int32)
  | 0, _, _, _, _ => none
  | f + 1, x1, x2, x3, G =>
    if (G 0 2) ≤ x3 then
      some (x2)
    else
      gd x3 (N 0) <|
      if (G (iC x3) 7) = x1 then
        K_inState_4 F N f x1 (x2 + 1) (x3 + 1) G
      else
        K_inState_4 F N f x1 (x2 + 0) (x3 + 1) G
theorem w_K_inState_4 {F : Nat} (X : KX p s m args meth c RX2 cX2_inState 4 (some .int) D ca) (hM : kR D ca zb N L G s s.heap) : ∀ (f : Nat), ∀ (x1 : Int32) (x2 : Int32) (x3 : Int32) (r : Int32), K_inState_4 F N f x1 x2 x3 G = some r → ∀ (ls : Array Slot), lv_has ls 4 [(0, .ref (L 7)), (1, .int x1), (2, .int x2), (3, .int x3)] → W p l e { frames := 3, cells := 0, slots := 0, locals := 120 } s m args below meth c s.heap [] 0 0 (MQ below (fun _ st o t => o = .returned (some (.int r)) ∧ t.heap = st.heap) args s 0 0 (fun _ => False)) (F0 m 4 ls []) := by
  have X2 := X.1
  obtain ⟨hx, hb, hml, hown, hts⟩ := X2
  intro f
  induction f with
  | zero =>
    intro x1 x2 x3 r hr
    rw [K_inState_4] at hr
    cases hr
  | succ f ih =>
    intro x1 x2 x3 r hr ls hl
    rw [K_inState_4] at hr
    refine lv_iload_n hx hb dX2_inState_4 rfl (lv_at hl 3 rfl) ?_
    refine lv_aload_n hx hb dX2_inState_5 rfl (lv_at hl 0 rfl) ?_
    refine r_X2_0 X hM q144 dX2_inState_6 ?_
    refine kr_size X hM (j := 0) (by decide) q246 (Nat.le_of_ble_eq_true rfl) (Nat.le_of_ble_eq_true rfl) hl.1 (Nat.le_of_ble_eq_true rfl) dX2_inState_9 ⟨Nat.zero_le _, Nat.zero_le _⟩ ?_
    refine lv_icmp_ge (tgt := 47) hx hb dX2_inState_12 (by decide) (fun c1 => ?_) (fun c1 => ?_)
    · have hr := if_p c1 hr
      refine lv_iload_n hx hb dX2_inState_47 rfl (lv_at hl 2 rfl) ?_
      cases hr
      exact p_iret X.1 X.2.1 X.2.2.1 dX2_inState_48
    · have hr := if_n c1 hr
      refine lv_iload_n hx hb dX2_inState_15 rfl (lv_at hl 2 rfl) ?_
      refine lv_aload_n hx hb dX2_inState_16 rfl (lv_at hl 0 rfl) ?_
      refine r_X2_0 X hM q144 dX2_inState_17 ?_
      refine lv_iload_n hx hb dX2_inState_20 rfl (lv_at hl 3 rfl) ?_
      obtain ⟨g1, hr⟩ := gs hr
      refine kr_get X hM (j := 0) (by decide) g1 q250 (Nat.le_of_ble_eq_true rfl) (Nat.le_of_ble_eq_true rfl) hl.1 (Nat.le_of_ble_eq_true rfl) dX2_inState_21 ⟨Nat.zero_le _, Nat.zero_le _⟩ ?_
      refine va_castS hx hb hown (hts _ q264) (X.2.2.2.1.1 2 _ rfl).2 (rc_inc X hM g1) dX2_inState_24 ?_
      refine r_X6_7N X hM g1 q305 dX2_inState_27 ?_
      refine lv_iload_n hx hb dX2_inState_30 rfl (lv_at hl 1 rfl) ?_
      refine lv_icmp_ne (tgt := 38) hx hb dX2_inState_31 (by decide) (fun c2 => ?_) (fun c2 => ?_)
      · have hr := if_n c2 hr
        refine lv_iconst (v := 0) hx hb dX2_inState_38 rfl ?_
        refine lv_iadd hx hb dX2_inState_39 ?_
        refine lv_istore_n (lv' := [(2, .int (x2 + 0)), (0, .ref (L 7)), (1, .int x1), (3, .int x3)]) hx hb dX2_inState_40 rfl hl (by decide) rfl (fun ls hl => ?_)
        refine lv_iinc (v := x3 + 1) (lv' := [(3, .int (x3 + 1)), (2, .int (x2 + 0)), (0, .ref (L 7)), (1, .int x1)]) hx hb dX2_inState_41 hl (k := 3) rfl rfl (by decide) rfl (fun ls hl => ?_)
        refine lv_goto (tgt := 4) hx hb dX2_inState_44 (by decide) ?_
        exact ih _ _ _ _ hr _ (lv_sub hl [2, 3, 1, 0] rfl)
      · have hr := if_p c2 hr
        refine lv_iconst (v := 1) hx hb dX2_inState_34 rfl ?_
        refine lv_goto (tgt := 39) hx hb dX2_inState_35 (by decide) ?_
        refine lv_iadd hx hb dX2_inState_39 ?_
        refine lv_istore_n (lv' := [(2, .int (x2 + 1)), (0, .ref (L 7)), (1, .int x1), (3, .int x3)]) hx hb dX2_inState_40 rfl hl (by decide) rfl (fun ls hl => ?_)
        refine lv_iinc (v := x3 + 1) (lv' := [(3, .int (x3 + 1)), (2, .int (x2 + 1)), (0, .ref (L 7)), (1, .int x1)]) hx hb dX2_inState_41 hl (k := 3) rfl rfl (by decide) rfl (fun ls hl => ?_)
        refine lv_goto (tgt := 4) hx hb dX2_inState_44 (by decide) ?_
        exact ih _ _ _ _ hr _ (lv_sub hl [2, 3, 1, 0] rfl)
def K_inState (F : Nat) (N : Nat → Nat) (p0 : Int32) (G : mMS) : Option (Int32) :=
  K_inState_4 F N F p0 0 0 G
theorem k_K_inState {F : Nat} {p0 : Int32} {r : Int32} (hr : K_inState F N p0 G = some r) : KrI l D ca zb yX2_inState cX2_inState 4 (some .int) 3 [.ref (L 7), .int p0] N L G (some (.int r)) := by
  refine kr_start (own := RX2) (by decide) rfl (Nat.le_of_ble_eq_true rfl) fun p e s m below meth c X ls hl hM => ?_
  have hl : lv_has ls 4 [(0, .ref (L 7)), (1, .int p0)] := hl
  have X2 := X.1
  obtain ⟨hx, hb, hml, hown, hts⟩ := X2
  unfold K_inState at hr
  refine lv_iconst (v := 0) hx hb dX2_inState_0 rfl ?_
  refine lv_istore_n (lv' := [(2, .int 0), (0, .ref (L 7)), (1, .int p0)]) hx hb dX2_inState_1 rfl hl (by decide) rfl (fun ls hl => ?_)
  refine lv_iconst (v := 0) hx hb dX2_inState_2 rfl ?_
  refine lv_istore_n (lv' := [(3, .int 0), (2, .int 0), (0, .ref (L 7)), (1, .int p0)]) hx hb dX2_inState_3 rfl hl (by decide) rfl (fun ls hl => ?_)
  exact w_K_inState_4 X hM  _ _ _ _ _ hr _ (lv_sub hl [2, 3, 1, 0] rfl)
def K_hasReview (F : Nat) (N : Nat → Nat) (p0 : Int32) (G : mMS) : Option (Int32) :=
  (P_isBetween F p0 0 ((G 7 7) - 1)).bind fun r1 =>
  gb r1 <|
  some r1
theorem k_K_hasReview {F : Nat} {p0 : Int32} {r : Int32} (hr : K_hasReview F N p0 G = some r) : KrI l D ca zb yX2_hasReview cX2_hasReview 2 (some .boolean) 1 [.ref (L 7), .int p0] N L G (some (.int r)) := by
  refine kr_start (own := RX2) (by decide) rfl (Nat.le_of_ble_eq_true rfl) fun p e s m below meth c X ls hl hM => ?_
  have hl : lv_has ls 2 [(0, .ref (L 7)), (1, .int p0)] := hl
  have X2 := X.1
  obtain ⟨hx, hb, hml, hown, hts⟩ := X2
  unfold K_hasReview at hr
  refine lv_iload_n hx hb dX2_hasReview_0 rfl (lv_at hl 1 rfl) ?_
  refine lv_iconst (v := 0) hx hb dX2_hasReview_1 rfl ?_
  refine lv_aload_n hx hb dX2_hasReview_2 rfl (lv_at hl 0 rfl) ?_
  refine r_X2_7 X hM q162 dX2_hasReview_3 ?_
  refine lv_iconst (v := 1) hx hb dX2_hasReview_6 rfl ?_
  refine lv_isub hx hb dX2_hasReview_7 ?_
  obtain ⟨r1, h1, hr⟩ := ob hr
  refine p_cSN (k9 := 3) X (k_P_isBetween h1) q671 q525 q65 q526 rfl (by decide +kernel) ⟨Nat.le_of_ble_eq_true rfl, Nat.le_of_ble_eq_true rfl⟩ hl.1 rfl (Nat.le_of_ble_eq_true rfl) dX2_hasReview_8 ⟨Nat.zero_le _, Nat.zero_le _⟩ ?_
  obtain ⟨g1, hr⟩ := gbs hr
  cases hr
  exact p_zret X.1 X.2.1 X.2.2.1 g1 dX2_hasReview_11
end
