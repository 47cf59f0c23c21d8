section
variable {p : Program} {l : Launch} {e : Env} {s : State} {m : MethodId} {args : Array Value} {below : List Frame} {meth : Method} {c : Code} {D : va_G} {ca : Nat → ClassId} {zb N L : Nat → Nat} {mc ms : Nat} {ow0 : Nat → Nat × Nat} {G : mMS}
def K_setStateI (F : Nat) (N : Nat → Nat) (k0 : Int32) (p0 : Int32) (G : mMS) : Option ((Int32 × mMS) × Nat × Nat) :=
  st (m_up G (iC k0) 7 p0) fun G1 =>
  some ((0, G1), 0, 0)
theorem k_K_setStateI {F : Nat} {k0 : Int32} (hk0 : vp_in k0 (N 0)) {p0 : Int32} {sz : Nat} {r : (Int32 × mMS) × Nat × Nat} (hr : K_setStateI F N k0 p0 G = some r) (hmc : r.2.1 ≤ mc) (hms : r.2.2 ≤ ms) : KwI l D ca zb ow0 sz yX6_setState cX6_setState 2 none 0 mc ms [.ref (L (iC k0)), .int p0] N L G r.1.2 none := by
  refine kw_start (own := RX6) (by decide) rfl (Nat.le_of_ble_eq_true rfl) fun p e s m below meth c X ls hl hsz hM => ?_
  have hl : lv_has ls 2 [(0, .ref (L (iC k0))), (1, .int p0)] := hl
  have X2 := X.1
  obtain ⟨hx, hb, hml, hown, hts⟩ := X2
  have hcc : 0 + r.2.1 ≤ mc := by rw [Nat.zero_add]; exact hmc
  have hcs : 0 + r.2.2 ≤ ms := by rw [Nat.zero_add]; exact hms
  unfold K_setStateI at hr
  refine lv_aload_n hx hb dX6_setState_0 rfl (lv_at hl 0 rfl) ?_
  refine lv_iload_n hx hb dX6_setState_1 rfl (lv_at hl 1 rfl) ?_
  refine w_X6_7 X hM hk0 q304 dX6_setState_2 (fun H locs G1 e1 hM => ?_)
  have hr := stE hr e1
  cases hr
  exact kw_vret X hM hcc hcs dX6_setState_5
def K_findStateI (F : Nat) (N : Nat → Nat) (k0 : Int32) (G : mMS) : Option ((Int32 × mMS) × Nat × Nat) :=
  if (G (iC k0) 6) = 0 then
    (K_setStateI F N k0 0 G).bind fun r3 =>
    tk r3.2.1 r3.2.2 <|
    some ((0, r3.1.2), 0, 0)
  else
    (K_setStateI F N k0 1 G).bind fun r1 =>
    tk r1.2.1 r1.2.2 <|
    some ((0, r1.1.2), 0, 0)
theorem k_K_findStateI {F : Nat} {k0 : Int32} (hk0 : vp_in k0 (N 0)) {sz : Nat} {r : (Int32 × mMS) × Nat × Nat} (hr : K_findStateI F N k0 G = some r) (hmc : r.2.1 ≤ mc) (hms : r.2.2 ≤ ms) : KwI l D ca zb ow0 sz yX6_findState cX6_findState 1 none 1 mc ms [.ref (L (iC k0))] N L G r.1.2 none := by
  refine kw_start (own := RX6) (by decide) rfl (Nat.le_of_ble_eq_true rfl) fun p e s m below meth c X ls hl hsz hM => ?_
  have hl : lv_has ls 1 [(0, .ref (L (iC k0)))] := hl
  have X2 := X.1
  obtain ⟨hx, hb, hml, hown, hts⟩ := X2
  have hcc : 0 + r.2.1 ≤ mc := by rw [Nat.zero_add]; exact hmc
  have hcs : 0 + r.2.2 ≤ ms := by rw [Nat.zero_add]; exact hms
  unfold K_findStateI at hr
  refine lv_aload_n hx hb dX6_findState_0 rfl (lv_at hl 0 rfl) ?_
  refine lv_aload_n hx hb dX6_findState_1 rfl (lv_at hl 0 rfl) ?_
  refine r_X6_6 X hM.r hk0 q301 dX6_findState_2 ?_
  refine lv_if_ne (tgt := 12) hx hb dX6_findState_5 (by decide) (fun c1 => ?_) (fun c1 => ?_)
  · have hr := if_n c1 hr
    refine lv_iconst (v := 1) hx hb dX6_findState_12 rfl ?_
    obtain ⟨r1, h1, hr⟩ := ob hr
    obtain ⟨r2, h9, e9⟩ := tkE hr
    subst e9
    have hr := h9
    clear h9
    refine kw_cVv (k9 := 1) X hM (rc_inc X hM.r hk0) (fun ow => k_K_setStateI hk0 h1 (Nat.le_refl _) (Nat.le_refl _)) (lw_V q697 q698 q699 q75 q700) rfl (by decide +kernel) ⟨Nat.le_of_ble_eq_true rfl, Nat.le_of_ble_eq_true rfl⟩ hl.1 rfl (Nat.le_of_ble_eq_true rfl) dX6_findState_13 ⟨Nat.le_trans (Nat.add_le_add_left (Nat.le_add_right _ _) _) hcc, Nat.le_trans (Nat.add_le_add_left (Nat.le_add_right _ _) _) hcs⟩ (fun H locs hM => ?_)
    have hcc := Nat.le_trans (Nat.le_of_eq (Nat.add_assoc _ _ _)) hcc
    have hcs := Nat.le_trans (Nat.le_of_eq (Nat.add_assoc _ _ _)) hcs
    cases hr
    exact kw_vret X hM hcc hcs dX6_findState_16
  · have hr := if_p c1 hr
    refine lv_iconst (v := 0) hx hb dX6_findState_8 rfl ?_
    refine lv_goto (tgt := 13) hx hb dX6_findState_9 (by decide) ?_
    obtain ⟨r3, h2, hr⟩ := ob hr
    obtain ⟨r4, h9, e9⟩ := tkE hr
    subst e9
    have hr := h9
    clear h9
    refine kw_cVv (k9 := 1) X hM (rc_inc X hM.r hk0) (fun ow => k_K_setStateI hk0 h2 (Nat.le_refl _) (Nat.le_refl _)) (lw_V q697 q698 q699 q75 q700) rfl (by decide +kernel) ⟨Nat.le_of_ble_eq_true rfl, Nat.le_of_ble_eq_true rfl⟩ hl.1 rfl (Nat.le_of_ble_eq_true rfl) dX6_findState_13 ⟨Nat.le_trans (Nat.add_le_add_left (Nat.le_add_right _ _) _) hcc, Nat.le_trans (Nat.add_le_add_left (Nat.le_add_right _ _) _) hcs⟩ (fun H locs hM => ?_)
    have hcc := Nat.le_trans (Nat.le_of_eq (Nat.add_assoc _ _ _)) hcc
    have hcs := Nat.le_trans (Nat.le_of_eq (Nat.add_assoc _ _ _)) hcs
    cases hr
    exact kw_vret X hM hcc hcs dX6_findState_16
def K_rateI (F : Nat) (N : Nat → Nat) (k0 : Int32) (p0 : Int32) (G : mMS) : Option ((Int32 × mMS) × Nat × Nat) :=
  st (m_up G (iC k0) 4 p0) fun G1 =>
  st (m_up G1 (iC k0) 9 (G1 (iC k0) 8)) fun G2 =>
  tk (1 + gcC (hapN G2)) (4 + gcS (hapN G2)) <|
  st (hapG G2 1 (G2 (iC k0) 2) p0) fun G3 =>
  some ((0, G3), 0, 0)
theorem k_K_rateI {F : Nat} {k0 : Int32} (hk0 : vp_in k0 (N 0)) {p0 : Int32} {sz : Nat} {r : (Int32 × mMS) × Nat × Nat} (hr : K_rateI F N k0 p0 G = some r) (hmc : r.2.1 ≤ mc) (hms : r.2.2 ≤ ms) : KwI l D ca zb ow0 sz yX6_rate cX6_rate 2 none 8 mc ms [.ref (L (iC k0)), .int p0] N L G r.1.2 none := by
  refine kw_start (own := RX6) (by decide) rfl (Nat.le_of_ble_eq_true rfl) fun p e s m below meth c X ls hl hsz hM => ?_
  have hl : lv_has ls 2 [(0, .ref (L (iC k0))), (1, .int p0)] := hl
  have X2 := X.1
  obtain ⟨hx, hb, hml, hown, hts⟩ := X2
  have hcc : 0 + r.2.1 ≤ mc := by rw [Nat.zero_add]; exact hmc
  have hcs : 0 + r.2.2 ≤ ms := by rw [Nat.zero_add]; exact hms
  unfold K_rateI at hr
  refine lv_aload_n hx hb dX6_rate_0 rfl (lv_at hl 0 rfl) ?_
  refine lv_iload_n hx hb dX6_rate_1 rfl (lv_at hl 1 rfl) ?_
  refine w_X6_4 X hM hk0 q295 dX6_rate_2 (fun H locs G1 e1 hM => ?_)
  have hr := stE hr e1
  refine lv_aload_n hx hb dX6_rate_5 rfl (lv_at hl 0 rfl) ?_
  refine lv_aload_n hx hb dX6_rate_6 rfl (lv_at hl 0 rfl) ?_
  refine r_X6_8 X hM.r hk0 q307 dX6_rate_7 ?_
  refine w_X6_9 X hM hk0 q310 dX6_rate_10 (fun H locs G2 e2 hM => ?_)
  have hr := stE hr e2
  refine lv_aload_n hx hb dX6_rate_13 rfl (lv_at hl 0 rfl) ?_
  refine r_X6_17 X hM.r hk0 q330 dX6_rate_14 ?_
  refine lv_iconst (v := 1) hx hb dX6_rate_17 rfl ?_
  refine lv_aload_n hx hb dX6_rate_18 rfl (lv_at hl 0 rfl) ?_
  refine r_X6_2 X hM.r hk0 q289 dX6_rate_19 ?_
  refine lv_iload_n hx hb dX6_rate_22 rfl (lv_at hl 1 rfl) ?_
  obtain ⟨r2, h9, e9⟩ := tkE hr
  subst e9
  have hr := h9
  clear h9
  refine kw_cVNv (k9 := 3) X hM (rc_core X hM.r) (fun ow => k_K_happens (Nat.le_refl _) (Nat.le_refl _)) q626 q628 qs7 q66 q629 rfl (by decide +kernel) ⟨Nat.le_of_ble_eq_true rfl, Nat.le_of_ble_eq_true rfl⟩ hl.1 rfl (Nat.le_of_ble_eq_true rfl) dX6_rate_23 ⟨Nat.le_trans (Nat.add_le_add_left (Nat.le_add_right _ _) _) hcc, Nat.le_trans (Nat.add_le_add_left (Nat.le_add_right _ _) _) hcs⟩ (fun H locs hM => ?_)
  have hcc := Nat.le_trans (Nat.le_of_eq (Nat.add_assoc _ _ _)) hcc
  have hcs := Nat.le_trans (Nat.le_of_eq (Nat.add_assoc _ _ _)) hcs
  obtain ⟨G3, e3⟩ : ∃ z, z = hapG G2 1 (G2 (iC k0) 2) p0 := ⟨_, rfl⟩
  rw [← e3] at hM
  have hr := stE hr e3
  cases hr
  exact kw_vret X hM hcc hcs dX6_rate_26
def K_endI (F : Nat) (N : Nat → Nat) (k0 : Int32) (p0 : Int32) (G : mMS) : Option ((Int32 × mMS) × Nat × Nat) :=
  st (m_up G (iC k0) 6 ((G (iC k0) 6) &&& ((1 <<< (p0 &&& 31)) ^^^ (-1)))) fun G1 =>
  (K_findStateI F N k0 G1).bind fun r1 =>
  tk r1.2.1 r1.2.2 <|
  tk (1 + gcC (hapN r1.1.2)) (4 + gcS (hapN r1.1.2)) <|
  st (hapG r1.1.2 4 (r1.1.2 (iC k0) 2) p0) fun G2 =>
  some ((0, G2), 0, 0)
theorem k_K_endI {F : Nat} {k0 : Int32} (hk0 : vp_in k0 (N 0)) {p0 : Int32} {sz : Nat} {r : (Int32 × mMS) × Nat × Nat} (hr : K_endI F N k0 p0 G = some r) (hmc : r.2.1 ≤ mc) (hms : r.2.2 ≤ ms) : KwI l D ca zb ow0 sz yX6_end cX6_end 2 none 8 mc ms [.ref (L (iC k0)), .int p0] N L G r.1.2 none := by
  refine kw_start (own := RX6) (by decide) rfl (Nat.le_of_ble_eq_true rfl) fun p e s m below meth c X ls hl hsz hM => ?_
  have hl : lv_has ls 2 [(0, .ref (L (iC k0))), (1, .int p0)] := hl
  have X2 := X.1
  obtain ⟨hx, hb, hml, hown, hts⟩ := X2
  have hcc : 0 + r.2.1 ≤ mc := by rw [Nat.zero_add]; exact hmc
  have hcs : 0 + r.2.2 ≤ ms := by rw [Nat.zero_add]; exact hms
  unfold K_endI at hr
  refine lv_aload_n hx hb dX6_end_0 rfl (lv_at hl 0 rfl) ?_
  refine lv_dup hx hb dX6_end_1 rfl ?_
  refine r_X6_6 X hM.r hk0 q301 dX6_end_2 ?_
  refine lv_iconst (v := 1) hx hb dX6_end_5 rfl ?_
  refine lv_iload_n hx hb dX6_end_6 rfl (lv_at hl 1 rfl) ?_
  refine lv_ishl hx hb dX6_end_7 ?_
  refine lv_iconst (v := (-1)) hx hb dX6_end_8 rfl ?_
  refine lv_ixor hx hb dX6_end_9 ?_
  refine lv_iand hx hb dX6_end_10 ?_
  refine w_X6_6 X hM hk0 q301 dX6_end_11 (fun H locs G1 e1 hM => ?_)
  have hr := stE hr e1
  refine lv_aload_n hx hb dX6_end_14 rfl (lv_at hl 0 rfl) ?_
  obtain ⟨r1, h1, hr⟩ := ob hr
  obtain ⟨r2, h9, e9⟩ := tkE hr
  subst e9
  have hr := h9
  clear h9
  refine kw_cVv (k9 := 0) X hM (rc_inc X hM.r hk0) (fun ow => k_K_findStateI hk0 h1 (Nat.le_refl _) (Nat.le_refl _)) (lw_V q709 q694 q695 q75 q696) rfl (by decide +kernel) ⟨Nat.le_of_ble_eq_true rfl, Nat.le_of_ble_eq_true rfl⟩ hl.1 rfl (Nat.le_of_ble_eq_true rfl) dX6_end_15 ⟨Nat.le_trans (Nat.add_le_add_left (Nat.le_add_right _ _) _) hcc, Nat.le_trans (Nat.add_le_add_left (Nat.le_add_right _ _) _) hcs⟩ (fun H locs hM => ?_)
  have hcc := Nat.le_trans (Nat.le_of_eq (Nat.add_assoc _ _ _)) hcc
  have hcs := Nat.le_trans (Nat.le_of_eq (Nat.add_assoc _ _ _)) hcs
  refine lv_aload_n hx hb dX6_end_18 rfl (lv_at hl 0 rfl) ?_
  refine r_X6_17 X hM.r hk0 q330 dX6_end_19 ?_
  refine lv_iconst (v := 4) hx hb dX6_end_22 rfl ?_
  refine lv_aload_n hx hb dX6_end_23 rfl (lv_at hl 0 rfl) ?_
  refine r_X6_2 X hM.r hk0 q289 dX6_end_24 ?_
  refine lv_iload_n hx hb dX6_end_27 rfl (lv_at hl 1 rfl) ?_
  obtain ⟨r4, h9, e9⟩ := tkE hr
  subst e9
  have hr := h9
  clear h9
  refine kw_cVNv (k9 := 3) X hM (rc_core X hM.r) (fun ow => k_K_happens (Nat.le_refl _) (Nat.le_refl _)) q626 q628 qs7 q66 q629 rfl (by decide +kernel) ⟨Nat.le_of_ble_eq_true rfl, Nat.le_of_ble_eq_true rfl⟩ hl.1 rfl (Nat.le_of_ble_eq_true rfl) dX6_end_28 ⟨Nat.le_trans (Nat.add_le_add_left (Nat.le_add_right _ _) _) hcc, Nat.le_trans (Nat.add_le_add_left (Nat.le_add_right _ _) _) hcs⟩ (fun H locs hM => ?_)
  have hcc := Nat.le_trans (Nat.le_of_eq (Nat.add_assoc _ _ _)) hcc
  have hcs := Nat.le_trans (Nat.le_of_eq (Nat.add_assoc _ _ _)) hcs
  obtain ⟨G2, e2⟩ : ∃ z, z = hapG r1.1.2 4 (r1.1.2 (iC k0) 2) p0 := ⟨_, rfl⟩
  rw [← e2] at hM
  have hr := stE hr e2
  cases hr
  exact kw_vret X hM hcc hcs dX6_end_31
def K_growsI (F : Nat) (N : Nat → Nat) (k0 : Int32) (G : mMS) : Option ((Int32 × mMS) × Nat × Nat) :=
  st (m_up G (iC k0) 8 ((G (iC k0) 8) + 1)) fun G1 =>
  (K_isReached F N k0 G1).bind fun r1 =>
  if r1 = 0 then
    some ((0, G1), 0, 0)
  else
    if (G1 (iC k0) 4) = 1 then
      st (m_up G1 (iC k0) 16 1) fun G2 =>
      some ((0, G2), 0, 0)
    else
      (K_rateI F N k0 ((G1 (iC k0) 4) - 1) G1).bind fun r2 =>
      tk r2.2.1 r2.2.2 <|
      some ((1, r2.1.2), 0, 0)
theorem k_K_growsI {F : Nat} {k0 : Int32} (hk0 : vp_in k0 (N 0)) {sz : Nat} {r : (Int32 × mMS) × Nat × Nat} (hr : K_growsI F N k0 G = some r) (hmc : r.2.1 ≤ mc) (hms : r.2.2 ≤ ms) : KwI l D ca zb ow0 sz yX6_grows cX6_grows 1 (some .int) 9 mc ms [.ref (L (iC k0))] N L G r.1.2 (some (.int r.1.1)) := by
  refine kw_start (own := RX6) (by decide) rfl (Nat.le_of_ble_eq_true rfl) fun p e s m below meth c X ls hl hsz hM => ?_
  have hl : lv_has ls 1 [(0, .ref (L (iC k0)))] := hl
  have X2 := X.1
  obtain ⟨hx, hb, hml, hown, hts⟩ := X2
  have hcc : 0 + r.2.1 ≤ mc := by rw [Nat.zero_add]; exact hmc
  have hcs : 0 + r.2.2 ≤ ms := by rw [Nat.zero_add]; exact hms
  unfold K_growsI at hr
  refine lv_aload_n hx hb dX6_grows_0 rfl (lv_at hl 0 rfl) ?_
  refine lv_dup hx hb dX6_grows_1 rfl ?_
  refine r_X6_8 X hM.r hk0 q307 dX6_grows_2 ?_
  refine lv_iconst (v := 1) hx hb dX6_grows_5 rfl ?_
  refine lv_iadd hx hb dX6_grows_6 ?_
  refine w_X6_8 X hM hk0 q307 dX6_grows_7 (fun H locs G1 e1 hM => ?_)
  have hr := stE hr e1
  refine lv_aload_n hx hb dX6_grows_10 rfl (lv_at hl 0 rfl) ?_
  obtain ⟨r1, h1, hr⟩ := ob hr
  refine kr_cVi (k9 := 0) X hM.r (rc_inc X hM.r hk0) (k_K_isReached hk0 h1) (lw_V q838 q839 q840 q75 q841) rfl (by decide +kernel) ⟨Nat.le_of_ble_eq_true rfl, Nat.le_of_ble_eq_true rfl⟩ hl.1 rfl (Nat.le_of_ble_eq_true rfl) dX6_grows_11 ⟨Nat.le_trans (Nat.le_add_right _ _) hcc, Nat.le_trans (Nat.le_add_right _ _) hcs⟩ ?_
  refine lv_if_ne (tgt := 19) hx hb dX6_grows_14 (by decide) (fun c1 => ?_) (fun c1 => ?_)
  · have hr := if_n c1 hr
    refine lv_aload_n hx hb dX6_grows_19 rfl (lv_at hl 0 rfl) ?_
    refine r_X6_4 X hM.r hk0 q295 dX6_grows_20 ?_
    refine lv_iconst (v := 1) hx hb dX6_grows_23 rfl ?_
    refine lv_icmp_ne (tgt := 34) hx hb dX6_grows_24 (by decide) (fun c2 => ?_) (fun c2 => ?_)
    · have hr := if_n c2 hr
      refine lv_aload_n hx hb dX6_grows_34 rfl (lv_at hl 0 rfl) ?_
      refine lv_aload_n hx hb dX6_grows_35 rfl (lv_at hl 0 rfl) ?_
      refine r_X6_4 X hM.r hk0 q295 dX6_grows_36 ?_
      refine lv_iconst (v := 1) hx hb dX6_grows_39 rfl ?_
      refine lv_isub hx hb dX6_grows_40 ?_
      obtain ⟨r2, h2, hr⟩ := ob hr
      obtain ⟨r3, h9, e9⟩ := tkE hr
      subst e9
      have hr := h9
      clear h9
      refine kw_cVv (k9 := 1) X hM (rc_inc X hM.r hk0) (fun ow => k_K_rateI hk0 h2 (Nat.le_refl _) (Nat.le_refl _)) (lw_V q846 q715 q716 q75 q717) rfl (by decide +kernel) ⟨Nat.le_of_ble_eq_true rfl, Nat.le_of_ble_eq_true rfl⟩ hl.1 rfl (Nat.le_of_ble_eq_true rfl) dX6_grows_41 ⟨Nat.le_trans (Nat.add_le_add_left (Nat.le_add_right _ _) _) hcc, Nat.le_trans (Nat.add_le_add_left (Nat.le_add_right _ _) _) hcs⟩ (fun H locs hM => ?_)
      have hcc := Nat.le_trans (Nat.le_of_eq (Nat.add_assoc _ _ _)) hcc
      have hcs := Nat.le_trans (Nat.le_of_eq (Nat.add_assoc _ _ _)) hcs
      refine lv_iconst (v := 1) hx hb dX6_grows_44 rfl ?_
      cases hr
      exact kw_iret X hM hcc hcs dX6_grows_45
    · have hr := if_p c2 hr
      refine lv_aload_n hx hb dX6_grows_27 rfl (lv_at hl 0 rfl) ?_
      refine lv_iconst (v := 1) hx hb dX6_grows_28 rfl ?_
      refine w_X6_16 X hM hk0 (by decide) q328 dX6_grows_29 (fun H locs G2 e2 hM => ?_)
      have hr := stE hr e2
      refine lv_iconst (v := 0) hx hb dX6_grows_32 rfl ?_
      cases hr
      exact kw_iret X hM hcc hcs dX6_grows_33
  · have hr := if_p c1 hr
    refine lv_iconst (v := 0) hx hb dX6_grows_17 rfl ?_
    cases hr
    exact kw_iret X hM hcc hcs dX6_grows_18
def K_passesI_29 (F : Nat) (N : Nat → Nat) (k0 : Int32) : Nat → Int32 → Int32 → mMS → Option ((Int32 × mMS) × Nat × Nat)
  | 0, _, _, _ => none
  | f + 1, x1, x2, G =>
    if 4 ≤ x2 then
      some ((x1, G), 0, 0)
    else
      (P_has F (G (iC k0) 6) x2).bind fun r1 =>
      if r1 = 0 then
        K_passesI_29 F N k0 f x1 (x2 + 1) G
      else
        gd x2 4 <|
        gd x2 4 <|
        st (m_up G (tC k0) x2.toNatClampNeg ((G (tC k0) x2.toNatClampNeg) + 1)) fun G1 =>
        gd x2 4 <|
        if (G1 6 x2.toNatClampNeg) ≤ 0 then
          K_passesI_29 F N k0 f x1 (x2 + 1) G1
        else
          gd x2 4 <|
          gd x2 4 <|
          if (G1 (tC k0) x2.toNatClampNeg) < (G1 6 x2.toNatClampNeg) then
            K_passesI_29 F N k0 f x1 (x2 + 1) G1
          else
            (K_endI F N k0 x2 G1).bind fun r2 =>
            tk r2.2.1 r2.2.2 <|
            K_passesI_29 F N k0 f x1 (x2 + 1) r2.1.2
theorem w_K_passesI_29 {F : Nat} {k0 : Int32} (hk0 : vp_in k0 (N 0)) (X : KX p s m args meth c RX6 cX6_passes 3 (some .int) D ca) : ∀ (f : Nat), ∀ (x1 : Int32) (x2 : Int32) (G : mMS) (r : (Int32 × mMS) × Nat × Nat), K_passesI_29 F N k0 f x1 x2 G = some r → ∀ (H : Heap) (locs : List Loc) (cells slots : Nat) (ls : Array Slot), lv_has ls 3 [(0, .ref (L (iC k0))), (1, .int x1), (2, .int x2)] → kI D ca zb ow0 N L G s H locs → cells + r.2.1 ≤ mc → slots + r.2.2 ≤ ms → W p l e { frames := 10, cells := mc, slots := ms, locals := 40 * 10 } s m args below meth c H locs cells slots (MQ below (fun _ st o t => (o = .returned (some (.int r.1.1)) ∧ kPost D ca zb ow0 s.heap.size N L r.1.2 t) ∧ va_F (kA ow0 (L 7) s.heap.size) st t) args s mc ms (kA ow0 (L 7) s.heap.size)) (F0 m 29 ls []) := by
  have X2 := X.1
  obtain ⟨hx, hb, hml, hown, hts⟩ := X2
  intro f
  induction f with
  | zero =>
    intro x1 x2 G r hr
    rw [K_passesI_29] at hr
    cases hr
  | succ f ih =>
    intro x1 x2 G r hr H locs cells slots ls hl hM hcc hcs
    rw [K_passesI_29] at hr
    refine lv_iload_n hx hb dX6_passes_29 rfl (lv_at hl 2 rfl) ?_
    refine lv_iconst (v := 4) hx hb dX6_passes_30 rfl ?_
    refine lv_icmp_ge (tgt := 96) hx hb dX6_passes_31 (by decide) (fun c1 => ?_) (fun c1 => ?_)
    · have hr := if_p c1 hr
      refine lv_iload_n hx hb dX6_passes_96 rfl (lv_at hl 1 rfl) ?_
      cases hr
      exact kw_iret X hM hcc hcs dX6_passes_97
    · have hr := if_n c1 hr
      refine lv_aload_n hx hb dX6_passes_34 rfl (lv_at hl 0 rfl) ?_
      refine r_X6_6 X hM.r hk0 q301 dX6_passes_35 ?_
      refine lv_iload_n hx hb dX6_passes_38 rfl (lv_at hl 2 rfl) ?_
      obtain ⟨r1, h1, hr⟩ := ob hr
      refine p_cSN (k9 := 2) X (k_P_has h1) q847 q608 q65 q609 rfl (by decide +kernel) ⟨Nat.le_of_ble_eq_true rfl, Nat.le_of_ble_eq_true rfl⟩ hl.1 rfl (Nat.le_of_ble_eq_true rfl) dX6_passes_39 ⟨Nat.le_trans (Nat.le_add_right _ _) hcc, Nat.le_trans (Nat.le_add_right _ _) hcs⟩ ?_
      refine lv_if_eq (tgt := 90) hx hb dX6_passes_42 (by decide) (fun c2 => ?_) (fun c2 => ?_)
      · have hr := if_p c2 hr
        refine lv_iinc (v := x2 + 1) (lv' := [(2, .int (x2 + 1)), (0, .ref (L (iC k0))), (1, .int x1)]) hx hb dX6_passes_90 hl (k := 2) rfl rfl (by decide) rfl (fun ls hl => ?_)
        refine lv_goto (tgt := 29) hx hb dX6_passes_93 (by decide) ?_
        exact ih _ _ _ _ hr _ _ _ _ _ (lv_sub hl [1, 2, 0] rfl) hM hcc hcs
      · have hr := if_n c2 hr
        refine lv_aload_n hx hb dX6_passes_45 rfl (lv_at hl 0 rfl) ?_
        refine r_X6_3 X hM.r hk0 q292 dX6_passes_46 ?_
        refine lv_iload_n hx hb dX6_passes_49 rfl (lv_at hl 2 rfl) ?_
        refine lv_dup2_11 hx hb dX6_passes_50 rfl rfl ?_
        obtain ⟨g1, hr⟩ := gs hr
        refine r_ald_t X hM.r hk0 g1 dX6_passes_51 ?_
        refine lv_iconst (v := 1) hx hb dX6_passes_52 rfl ?_
        refine lv_iadd hx hb dX6_passes_53 ?_
        obtain ⟨g2, hr⟩ := gs hr
        refine w_ast_t X hM hk0 g2 dX6_passes_54 (fun H locs G1 e1 hM => ?_)
        have hr := stE hr e1
        refine lv_aload_n hx hb dX6_passes_55 rfl (lv_at hl 0 rfl) ?_
        refine r_X6_17 X hM.r hk0 q330 dX6_passes_56 ?_
        refine r_X2_6N X hM.r q160 dX6_passes_59 ?_
        refine lv_iload_n hx hb dX6_passes_62 rfl (lv_at hl 2 rfl) ?_
        obtain ⟨g3, hr⟩ := gs hr
        refine r_ald_6 X hM.r g3 dX6_passes_63 ?_
        refine lv_if_le (tgt := 90) hx hb dX6_passes_64 (by decide) (fun c3 => ?_) (fun c3 => ?_)
        · have hr := if_p c3 hr
          refine lv_iinc (v := x2 + 1) (lv' := [(2, .int (x2 + 1)), (0, .ref (L (iC k0))), (1, .int x1)]) hx hb dX6_passes_90 hl (k := 2) rfl rfl (by decide) rfl (fun ls hl => ?_)
          refine lv_goto (tgt := 29) hx hb dX6_passes_93 (by decide) ?_
          exact ih _ _ _ _ hr _ _ _ _ _ (lv_sub hl [1, 2, 0] rfl) hM hcc hcs
        · have hr := if_n c3 hr
          refine lv_aload_n hx hb dX6_passes_67 rfl (lv_at hl 0 rfl) ?_
          refine r_X6_3 X hM.r hk0 q292 dX6_passes_68 ?_
          refine lv_iload_n hx hb dX6_passes_71 rfl (lv_at hl 2 rfl) ?_
          obtain ⟨g4, hr⟩ := gs hr
          refine r_ald_t X hM.r hk0 g4 dX6_passes_72 ?_
          refine lv_aload_n hx hb dX6_passes_73 rfl (lv_at hl 0 rfl) ?_
          refine r_X6_17 X hM.r hk0 q330 dX6_passes_74 ?_
          refine r_X2_6N X hM.r q160 dX6_passes_77 ?_
          refine lv_iload_n hx hb dX6_passes_80 rfl (lv_at hl 2 rfl) ?_
          obtain ⟨g5, hr⟩ := gs hr
          refine r_ald_6 X hM.r g5 dX6_passes_81 ?_
          refine lv_icmp_lt (tgt := 90) hx hb dX6_passes_82 (by decide) (fun c4 => ?_) (fun c4 => ?_)
          · have hr := if_p c4 hr
            refine lv_iinc (v := x2 + 1) (lv' := [(2, .int (x2 + 1)), (0, .ref (L (iC k0))), (1, .int x1)]) hx hb dX6_passes_90 hl (k := 2) rfl rfl (by decide) rfl (fun ls hl => ?_)
            refine lv_goto (tgt := 29) hx hb dX6_passes_93 (by decide) ?_
            exact ih _ _ _ _ hr _ _ _ _ _ (lv_sub hl [1, 2, 0] rfl) hM hcc hcs
          · have hr := if_n c4 hr
            refine lv_aload_n hx hb dX6_passes_85 rfl (lv_at hl 0 rfl) ?_
            refine lv_iload_n hx hb dX6_passes_86 rfl (lv_at hl 2 rfl) ?_
            obtain ⟨r2, h2, hr⟩ := ob hr
            obtain ⟨r3, h9, e9⟩ := tkE hr
            subst e9
            have hr := h9
            clear h9
            refine kw_cVv (k9 := 1) X hM (rc_inc X hM.r hk0) (fun ow => k_K_endI hk0 h2 (Nat.le_refl _) (Nat.le_refl _)) (lw_V q848 q706 q707 q75 q708) rfl (by decide +kernel) ⟨Nat.le_of_ble_eq_true rfl, Nat.le_of_ble_eq_true rfl⟩ hl.1 rfl (Nat.le_of_ble_eq_true rfl) dX6_passes_87 ⟨Nat.le_trans (Nat.add_le_add_left (Nat.le_add_right _ _) _) hcc, Nat.le_trans (Nat.add_le_add_left (Nat.le_add_right _ _) _) hcs⟩ (fun H locs hM => ?_)
            have hcc := Nat.le_trans (Nat.le_of_eq (Nat.add_assoc _ _ _)) hcc
            have hcs := Nat.le_trans (Nat.le_of_eq (Nat.add_assoc _ _ _)) hcs
            refine lv_iinc (v := x2 + 1) (lv' := [(2, .int (x2 + 1)), (0, .ref (L (iC k0))), (1, .int x1)]) hx hb dX6_passes_90 hl (k := 2) rfl rfl (by decide) rfl (fun ls hl => ?_)
            refine lv_goto (tgt := 29) hx hb dX6_passes_93 (by decide) ?_
            exact ih _ _ _ _ hr _ _ _ _ _ (lv_sub hl [1, 2, 0] rfl) hM hcc hcs
def K_passesI (F : Nat) (N : Nat → Nat) (k0 : Int32) (G : mMS) : Option ((Int32 × mMS) × Nat × Nat) :=
  if (G (iC k0) 7) = 0 then
    (K_growsI F N k0 G).bind fun r1 =>
    tk r1.2.1 r1.2.2 <|
    K_passesI_29 F N k0 F r1.1.1 0 r1.1.2
  else
    st (m_up G (iC k0) 10 ((G (iC k0) 10) + 1)) fun G1 =>
    K_passesI_29 F N k0 F 0 0 G1
theorem k_K_passesI {F : Nat} {k0 : Int32} (hk0 : vp_in k0 (N 0)) {sz : Nat} {r : (Int32 × mMS) × Nat × Nat} (hr : K_passesI F N k0 G = some r) (hmc : r.2.1 ≤ mc) (hms : r.2.2 ≤ ms) : KwI l D ca zb ow0 sz yX6_passes cX6_passes 3 (some .int) 10 mc ms [.ref (L (iC k0))] N L G r.1.2 (some (.int r.1.1)) := by
  refine kw_start (own := RX6) (by decide) rfl (Nat.le_of_ble_eq_true rfl) fun p e s m below meth c X ls hl hsz hM => ?_
  have hl : lv_has ls 3 [(0, .ref (L (iC k0)))] := hl
  have X2 := X.1
  obtain ⟨hx, hb, hml, hown, hts⟩ := X2
  have hcc : 0 + r.2.1 ≤ mc := by rw [Nat.zero_add]; exact hmc
  have hcs : 0 + r.2.2 ≤ ms := by rw [Nat.zero_add]; exact hms
  unfold K_passesI at hr
  refine lv_iconst (v := 0) hx hb dX6_passes_0 rfl ?_
  refine lv_istore_n (lv' := [(1, .int 0), (0, .ref (L (iC k0)))]) hx hb dX6_passes_1 rfl hl (by decide) rfl (fun ls hl => ?_)
  refine lv_aload_n hx hb dX6_passes_2 rfl (lv_at hl 1 rfl) ?_
  refine r_X6_7 X hM.r hk0 q304 dX6_passes_3 ?_
  refine lv_if_ne (tgt := 17) hx hb dX6_passes_6 (by decide) (fun c1 => ?_) (fun c1 => ?_)
  · have hr := if_n c1 hr
    refine lv_aload_n hx hb dX6_passes_17 rfl (lv_at hl 1 rfl) ?_
    refine lv_dup hx hb dX6_passes_18 rfl ?_
    refine r_X6_10 X hM.r hk0 q311 dX6_passes_19 ?_
    refine lv_iconst (v := 1) hx hb dX6_passes_22 rfl ?_
    refine lv_iadd hx hb dX6_passes_23 ?_
    refine w_X6_10 X hM hk0 q311 dX6_passes_24 (fun H locs G1 e1 hM => ?_)
    have hr := stE hr e1
    refine lv_iconst (v := 0) hx hb dX6_passes_27 rfl ?_
    refine lv_istore_n (lv' := [(2, .int 0), (1, .int 0), (0, .ref (L (iC k0)))]) hx hb dX6_passes_28 rfl hl (by decide) rfl (fun ls hl => ?_)
    exact w_K_passesI_29 hk0 X  _ _ _ _ _ hr _ _ _ _ _ (lv_sub hl [2, 1, 0] rfl) hM hcc hcs
  · have hr := if_p c1 hr
    refine lv_aload_n hx hb dX6_passes_9 rfl (lv_at hl 1 rfl) ?_
    obtain ⟨r1, h1, hr⟩ := ob hr
    obtain ⟨r2, h9, e9⟩ := tkE hr
    subst e9
    have hr := h9
    clear h9
    refine kw_cVi (k9 := 0) X hM (rc_inc X hM.r hk0) (fun ow => k_K_growsI hk0 h1 (Nat.le_refl _) (Nat.le_refl _)) (lw_V q834 q836 qs17 q75 q837) rfl (by decide +kernel) ⟨Nat.le_of_ble_eq_true rfl, Nat.le_of_ble_eq_true rfl⟩ hl.1 rfl (Nat.le_of_ble_eq_true rfl) dX6_passes_10 ⟨Nat.le_trans (Nat.add_le_add_left (Nat.le_add_right _ _) _) hcc, Nat.le_trans (Nat.add_le_add_left (Nat.le_add_right _ _) _) hcs⟩ (fun H locs hM => ?_)
    have hcc := Nat.le_trans (Nat.le_of_eq (Nat.add_assoc _ _ _)) hcc
    have hcs := Nat.le_trans (Nat.le_of_eq (Nat.add_assoc _ _ _)) hcs
    refine lv_istore_n (lv' := [(1, .int r1.1.1), (0, .ref (L (iC k0)))]) hx hb dX6_passes_13 rfl hl (by decide) rfl (fun ls hl => ?_)
    refine lv_goto (tgt := 27) hx hb dX6_passes_14 (by decide) ?_
    refine lv_iconst (v := 0) hx hb dX6_passes_27 rfl ?_
    refine lv_istore_n (lv' := [(2, .int 0), (1, .int r1.1.1), (0, .ref (L (iC k0)))]) hx hb dX6_passes_28 rfl hl (by decide) rfl (fun ls hl => ?_)
    exact w_K_passesI_29 hk0 X  _ _ _ _ _ hr _ _ _ _ _ (lv_sub hl [2, 1, 0] rfl) hM hcc hcs
def K_handI (F : Nat) (N : Nat → Nat) (k0 : Int32) (p0 : Int32) (G : mMS) : Option ((Int32 × mMS) × Nat × Nat) :=
  st (m_up G (iC k0) 5 p0) fun G1 =>
  st (m_up G1 (iC k0) 15 ((G1 (iC k0) 15) + 1)) fun G2 =>
  tk (1 + gcC (hapN G2)) (4 + gcS (hapN G2)) <|
  st (hapG G2 2 (G2 (iC k0) 2) p0) fun G3 =>
  some ((0, G3), 0, 0)
theorem k_K_handI {F : Nat} {k0 : Int32} (hk0 : vp_in k0 (N 0)) {p0 : Int32} {sz : Nat} {r : (Int32 × mMS) × Nat × Nat} (hr : K_handI F N k0 p0 G = some r) (hmc : r.2.1 ≤ mc) (hms : r.2.2 ≤ ms) : KwI l D ca zb ow0 sz yX6_hand cX6_hand 2 none 8 mc ms [.ref (L (iC k0)), .int p0] N L G r.1.2 none := by
  refine kw_start (own := RX6) (by decide) rfl (Nat.le_of_ble_eq_true rfl) fun p e s m below meth c X ls hl hsz hM => ?_
  have hl : lv_has ls 2 [(0, .ref (L (iC k0))), (1, .int p0)] := hl
  have X2 := X.1
  obtain ⟨hx, hb, hml, hown, hts⟩ := X2
  have hcc : 0 + r.2.1 ≤ mc := by rw [Nat.zero_add]; exact hmc
  have hcs : 0 + r.2.2 ≤ ms := by rw [Nat.zero_add]; exact hms
  unfold K_handI at hr
  refine lv_aload_n hx hb dX6_hand_0 rfl (lv_at hl 0 rfl) ?_
  refine lv_iload_n hx hb dX6_hand_1 rfl (lv_at hl 1 rfl) ?_
  refine w_X6_5 X hM hk0 q298 dX6_hand_2 (fun H locs G1 e1 hM => ?_)
  have hr := stE hr e1
  refine lv_aload_n hx hb dX6_hand_5 rfl (lv_at hl 0 rfl) ?_
  refine lv_dup hx hb dX6_hand_6 rfl ?_
  refine r_X6_15 X hM.r hk0 q326 dX6_hand_7 ?_
  refine lv_iconst (v := 1) hx hb dX6_hand_10 rfl ?_
  refine lv_iadd hx hb dX6_hand_11 ?_
  refine w_X6_15 X hM hk0 q326 dX6_hand_12 (fun H locs G2 e2 hM => ?_)
  have hr := stE hr e2
  refine lv_aload_n hx hb dX6_hand_15 rfl (lv_at hl 0 rfl) ?_
  refine r_X6_17 X hM.r hk0 q330 dX6_hand_16 ?_
  refine lv_iconst (v := 2) hx hb dX6_hand_19 rfl ?_
  refine lv_aload_n hx hb dX6_hand_20 rfl (lv_at hl 0 rfl) ?_
  refine r_X6_2 X hM.r hk0 q289 dX6_hand_21 ?_
  refine lv_iload_n hx hb dX6_hand_24 rfl (lv_at hl 1 rfl) ?_
  obtain ⟨r2, h9, e9⟩ := tkE hr
  subst e9
  have hr := h9
  clear h9
  refine kw_cVNv (k9 := 3) X hM (rc_core X hM.r) (fun ow => k_K_happens (Nat.le_refl _) (Nat.le_refl _)) q626 q628 qs7 q66 q629 rfl (by decide +kernel) ⟨Nat.le_of_ble_eq_true rfl, Nat.le_of_ble_eq_true rfl⟩ hl.1 rfl (Nat.le_of_ble_eq_true rfl) dX6_hand_25 ⟨Nat.le_trans (Nat.add_le_add_left (Nat.le_add_right _ _) _) hcc, Nat.le_trans (Nat.add_le_add_left (Nat.le_add_right _ _) _) hcs⟩ (fun H locs hM => ?_)
  have hcc := Nat.le_trans (Nat.le_of_eq (Nat.add_assoc _ _ _)) hcc
  have hcs := Nat.le_trans (Nat.le_of_eq (Nat.add_assoc _ _ _)) hcs
  obtain ⟨G3, e3⟩ : ∃ z, z = hapG G2 2 (G2 (iC k0) 2) p0 := ⟨_, rfl⟩
  rw [← e3] at hM
  have hr := stE hr e3
  cases hr
  exact kw_vret X hM hcc hcs dX6_hand_28
end
