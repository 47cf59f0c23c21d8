section
variable {p : Program} {l : Launch} {e : Env} {s : State} {m : MethodId} {args : Array Value} {below : List Frame} {meth : Method} {c : Code} {D : va_G} {ca : Nat → ClassId} {zb N L : Nat → Nat} {mc ms : Nat} {ow0 : Nat → Nat × Nat} {G : mMS}
def K_getK (F : Nat) (N : Nat → Nat) (p0 : Int32) (G : mMS) : Option (KO × Nat × Nat) :=
  (K_hasIncident F N p0 G).bind fun r1 =>
  if r1 = 0 then
    some (.inr (1, 0), 1, 8)
  else
    gd p0 (N 0) <|
    some (.inl (p0, G), 0, 0)
theorem k_K_getK {F : Nat} {p0 : Int32} {sz : Nat} {r : KO × Nat × Nat} (hr : K_getK F N p0 G = some r) (hmc : r.2.1 ≤ mc) (hms : r.2.2 ≤ ms) : KtI l D ca zb ow0 sz yX2_get cX2_get 2 (some (.object "IncidentKeeper$Core$Incident")) 6 mc ms [.ref (L 7), .int p0] N L G (fun v => some (.ref (L (iC v)))) (fun _ G' => kPost D ca zb ow0 sz N L G') r.1 := by
  refine kt_start (own := RX2) (by decide) rfl (Nat.le_of_ble_eq_true rfl) fun p e s m below meth c X htab ls hl hsz hM => ?_
  subst hsz
  have hl : lv_has ls 2 [(0, .ref (L 7)), (1, .int p0)] := hl
  have X2 := X.1
  obtain ⟨hx, hb, hml, hown, hts⟩ := X2
  have hcc : 0 + r.2.1 ≤ mc := by rw [Nat.zero_add]; exact hmc
  have hcs : 0 + r.2.2 ≤ ms := by rw [Nat.zero_add]; exact hms
  unfold K_getK at hr
  refine lv_aload_n hx hb dX2_get_0 rfl (lv_at hl 0 rfl) ?_
  refine lv_iload_n hx hb dX2_get_1 rfl (lv_at hl 1 rfl) ?_
  obtain ⟨r1, h1, hr⟩ := ob hr
  refine kr_cVi (k9 := 1) X hM.r (rc_core X hM.r) (k_K_hasIncident h1) (lw_V q677 q678 q679 q66 q680) rfl (by decide +kernel) ⟨Nat.le_of_ble_eq_true rfl, Nat.le_of_ble_eq_true rfl⟩ hl.1 rfl (Nat.le_of_ble_eq_true rfl) dX2_get_2 ⟨Nat.le_trans (Nat.le_add_right _ _) hcc, Nat.le_trans (Nat.le_add_right _ _) hcs⟩ ?_
  refine lv_if_ne (tgt := 12) hx hb dX2_get_5 (by decide) (fun c1 => ?_) (fun c1 => ?_)
  · have hr := if_n c1 hr
    refine lv_iconst (v := 0) hx hb dX2_get_12 rfl ?_
    refine lv_iconst (v := 1) hx hb dX2_get_13 rfl ?_
    refine kt_ref20 X hM q527 (Nat.le_of_ble_eq_true rfl) (Nat.le_of_ble_eq_true rfl) hl.1 (Nat.le_of_ble_eq_true rfl) dX2_get_14 ⟨Nat.le_trans (Nat.le_add_right _ _) hcc, Nat.le_trans (Nat.le_add_right _ _) hcs⟩ ?_
    refine lv_aload_n hx hb dX2_get_17 rfl (lv_at hl 0 rfl) ?_
    refine r_X2_0 X hM.r q144 dX2_get_18 ?_
    refine lv_iload_n hx hb dX2_get_21 rfl (lv_at hl 1 rfl) ?_
    obtain ⟨g1, hr⟩ := gs hr
    refine kr_get X hM.r (j := 0) (by decide) g1 q250 (Nat.le_of_ble_eq_true rfl) (Nat.le_of_ble_eq_true rfl) hl.1 (Nat.le_of_ble_eq_true rfl) dX2_get_22 ⟨Nat.le_trans (Nat.le_add_right _ _) hcc, Nat.le_trans (Nat.le_add_right _ _) hcs⟩ ?_
    refine va_castS hx hb hown (hts _ q264) (X.2.2.2.1.1 2 _ rfl).2 (rc_inc X hM.r g1) dX2_get_25 ?_
    cases hr
    exact kt_aret X hM hcc hcs dX2_get_28
  · have hr := if_p c1 hr
    refine lv_iconst (v := 1) hx hb dX2_get_8 rfl ?_
    refine lv_goto (tgt := 13) hx hb dX2_get_9 (by decide) ?_
    refine lv_iconst (v := 1) hx hb dX2_get_13 rfl ?_
    cases hr
    exact kt_ref21 X htab hM q527 (Nat.le_of_ble_eq_true rfl) (Nat.le_of_ble_eq_true rfl) hl.1 (Nat.le_of_ble_eq_true rfl) dX2_get_14 ⟨Nat.le_trans (Nat.le_add_right _ _) hcc, Nat.le_trans (Nat.le_add_right _ _) hcs⟩ rfl hcc hcs rfl rfl
def K_getActiveK (F : Nat) (N : Nat → Nat) (p0 : Int32) (G : mMS) : Option (KO × Nat × Nat) :=
  (K_getK F N p0 G).bind fun r1 =>
  tk r1.2.1 r1.2.2 <|
  onL r1.1 fun o1 =>
  gd o1.1 (N 0) <|
  (K_isActive F N o1.1 o1.2).bind fun r3 =>
  if r3 = 0 then
    some (.inr (4, 0), 1, 8)
  else
    some (.inl (o1.1, o1.2), 0, 0)
theorem k_K_getActiveK {F : Nat} {p0 : Int32} {sz : Nat} {r : KO × Nat × Nat} (hr : K_getActiveK F N p0 G = some r) (hmc : r.2.1 ≤ mc) (hms : r.2.2 ≤ ms) : KtI l D ca zb ow0 sz yX2_getActive cX2_getActive 3 (some (.object "IncidentKeeper$Core$Incident")) 7 mc ms [.ref (L 7), .int p0] N L G (fun v => some (.ref (L (iC v)))) (fun _ G' => kPost D ca zb ow0 sz N L G') r.1 := by
  refine kt_start (own := RX2) (by decide) rfl (Nat.le_of_ble_eq_true rfl) fun p e s m below meth c X htab ls hl hsz hM => ?_
  subst hsz
  have hl : lv_has ls 3 [(0, .ref (L 7)), (1, .int p0)] := hl
  have X2 := X.1
  obtain ⟨hx, hb, hml, hown, hts⟩ := X2
  have hcc : 0 + r.2.1 ≤ mc := by rw [Nat.zero_add]; exact hmc
  have hcs : 0 + r.2.2 ≤ ms := by rw [Nat.zero_add]; exact hms
  unfold K_getActiveK at hr
  refine lv_aload_n hx hb dX2_getActive_0 rfl (lv_at hl 0 rfl) ?_
  refine lv_iload_n hx hb dX2_getActive_1 rfl (lv_at hl 1 rfl) ?_
  obtain ⟨r1, h1, hr⟩ := ob hr
  obtain ⟨r2, h9, e9⟩ := tkE hr
  subst e9
  have hr := h9
  clear h9
  refine kt_cVr (k9 := 1) X htab hM (rc_core X hM.r) (fun ow => k_K_getK h1 (Nat.le_refl _) (Nat.le_refl _)) (lw_V q689 q691 qs10 q66 q692) rfl (by decide +kernel) ⟨Nat.le_of_ble_eq_true rfl, Nat.le_of_ble_eq_true rfl⟩ hl.1 rfl (Nat.le_of_ble_eq_true rfl) dX2_getActive_2 ⟨Nat.le_trans (Nat.add_le_add_left (Nat.le_add_right _ _) _) hcc, Nat.le_trans (Nat.add_le_add_left (Nat.le_add_right _ _) _) hcs⟩ (fun a b e1 => ?_) (fun o1 e1 H locs hM => ?_)
  · have h9 := onL_r hr e1
    subst h9
    exact ⟨rfl, hcc, hcs⟩
  · have hr := onL_l hr e1
    have hcc := Nat.le_trans (Nat.le_of_eq (Nat.add_assoc _ _ _)) hcc
    have hcs := Nat.le_trans (Nat.le_of_eq (Nat.add_assoc _ _ _)) hcs
    obtain ⟨g1, hr⟩ := gs hr
    refine lv_astore_n (lv' := [(2, .ref (L (iC o1.1))), (0, .ref (L 7)), (1, .int p0)]) hx hb dX2_getActive_5 rfl hl (by decide) rfl (fun ls hl => ?_)
    refine lv_aload_n hx hb dX2_getActive_6 rfl (lv_at hl 0 rfl) ?_
    obtain ⟨r3, h2, hr⟩ := ob hr
    refine kr_cVi (k9 := 0) X hM.r (rc_inc X hM.r g1) (k_K_isActive g1 h2) (lw_V q610 q611 q612 q75 q613) rfl (by decide +kernel) ⟨Nat.le_of_ble_eq_true rfl, Nat.le_of_ble_eq_true rfl⟩ hl.1 rfl (Nat.le_of_ble_eq_true rfl) dX2_getActive_7 ⟨Nat.le_trans (Nat.le_add_right _ _) hcc, Nat.le_trans (Nat.le_add_right _ _) hcs⟩ ?_
    refine lv_if_ne (tgt := 17) hx hb dX2_getActive_10 (by decide) (fun c1 => ?_) (fun c1 => ?_)
    · have hr := if_n c1 hr
      refine lv_iconst (v := 0) hx hb dX2_getActive_17 rfl ?_
      refine lv_iconst (v := 4) hx hb dX2_getActive_18 rfl ?_
      refine kt_ref20 X hM q527 (Nat.le_of_ble_eq_true rfl) (Nat.le_of_ble_eq_true rfl) hl.1 (Nat.le_of_ble_eq_true rfl) dX2_getActive_19 ⟨Nat.le_trans (Nat.le_add_right _ _) hcc, Nat.le_trans (Nat.le_add_right _ _) hcs⟩ ?_
      refine lv_aload_n hx hb dX2_getActive_22 rfl (lv_at hl 0 rfl) ?_
      cases hr
      exact kt_aret X hM hcc hcs dX2_getActive_23
    · have hr := if_p c1 hr
      refine lv_iconst (v := 1) hx hb dX2_getActive_13 rfl ?_
      refine lv_goto (tgt := 18) hx hb dX2_getActive_14 (by decide) ?_
      refine lv_iconst (v := 4) hx hb dX2_getActive_18 rfl ?_
      cases hr
      exact kt_ref21 X htab hM q527 (Nat.le_of_ble_eq_true rfl) (Nat.le_of_ble_eq_true rfl) hl.1 (Nat.le_of_ble_eq_true rfl) dX2_getActive_19 ⟨Nat.le_trans (Nat.le_add_right _ _) hcc, Nat.le_trans (Nat.le_add_right _ _) hcs⟩ rfl hcc hcs rfl rfl
def K_getResolvedK (F : Nat) (N : Nat → Nat) (p0 : Int32) (G : mMS) : Option (KO × Nat × Nat) :=
  (K_getK F N p0 G).bind fun r1 =>
  tk r1.2.1 r1.2.2 <|
  onL r1.1 fun o1 =>
  gd o1.1 (N 0) <|
  if (o1.2 (iC o1.1) 7) = 2 then
    some (.inl (o1.1, o1.2), 0, 0)
  else
    some (.inr (4, 0), 1, 8)
theorem k_K_getResolvedK {F : Nat} {p0 : Int32} {sz : Nat} {r : KO × Nat × Nat} (hr : K_getResolvedK F N p0 G = some r) (hmc : r.2.1 ≤ mc) (hms : r.2.2 ≤ ms) : KtI l D ca zb ow0 sz yX2_getResolved cX2_getResolved 3 (some (.object "IncidentKeeper$Core$Incident")) 7 mc ms [.ref (L 7), .int p0] N L G (fun v => some (.ref (L (iC v)))) (fun _ G' => kPost D ca zb ow0 sz N L G') r.1 := by
  refine kt_start (own := RX2) (by decide) rfl (Nat.le_of_ble_eq_true rfl) fun p e s m below meth c X htab ls hl hsz hM => ?_
  subst hsz
  have hl : lv_has ls 3 [(0, .ref (L 7)), (1, .int p0)] := hl
  have X2 := X.1
  obtain ⟨hx, hb, hml, hown, hts⟩ := X2
  have hcc : 0 + r.2.1 ≤ mc := by rw [Nat.zero_add]; exact hmc
  have hcs : 0 + r.2.2 ≤ ms := by rw [Nat.zero_add]; exact hms
  unfold K_getResolvedK at hr
  refine lv_aload_n hx hb dX2_getResolved_0 rfl (lv_at hl 0 rfl) ?_
  refine lv_iload_n hx hb dX2_getResolved_1 rfl (lv_at hl 1 rfl) ?_
  obtain ⟨r1, h1, hr⟩ := ob hr
  obtain ⟨r2, h9, e9⟩ := tkE hr
  subst e9
  have hr := h9
  clear h9
  refine kt_cVr (k9 := 1) X htab hM (rc_core X hM.r) (fun ow => k_K_getK h1 (Nat.le_refl _) (Nat.le_refl _)) (lw_V q689 q691 qs10 q66 q692) rfl (by decide +kernel) ⟨Nat.le_of_ble_eq_true rfl, Nat.le_of_ble_eq_true rfl⟩ hl.1 rfl (Nat.le_of_ble_eq_true rfl) dX2_getResolved_2 ⟨Nat.le_trans (Nat.add_le_add_left (Nat.le_add_right _ _) _) hcc, Nat.le_trans (Nat.add_le_add_left (Nat.le_add_right _ _) _) hcs⟩ (fun a b e1 => ?_) (fun o1 e1 H locs hM => ?_)
  · have h9 := onL_r hr e1
    subst h9
    exact ⟨rfl, hcc, hcs⟩
  · have hr := onL_l hr e1
    have hcc := Nat.le_trans (Nat.le_of_eq (Nat.add_assoc _ _ _)) hcc
    have hcs := Nat.le_trans (Nat.le_of_eq (Nat.add_assoc _ _ _)) hcs
    obtain ⟨g1, hr⟩ := gs hr
    refine lv_astore_n (lv' := [(2, .ref (L (iC o1.1))), (0, .ref (L 7)), (1, .int p0)]) hx hb dX2_getResolved_5 rfl hl (by decide) rfl (fun ls hl => ?_)
    refine lv_aload_n hx hb dX2_getResolved_6 rfl (lv_at hl 0 rfl) ?_
    refine r_X6_7N X hM.r g1 q305 dX2_getResolved_7 ?_
    refine lv_iconst (v := 2) hx hb dX2_getResolved_10 rfl ?_
    refine lv_icmp_eq (tgt := 18) hx hb dX2_getResolved_11 (by decide) (fun c1 => ?_) (fun c1 => ?_)
    · have hr := if_p c1 hr
      refine lv_iconst (v := 0) hx hb dX2_getResolved_18 rfl ?_
      refine lv_iconst (v := 4) hx hb dX2_getResolved_19 rfl ?_
      refine kt_ref20 X hM q527 (Nat.le_of_ble_eq_true rfl) (Nat.le_of_ble_eq_true rfl) hl.1 (Nat.le_of_ble_eq_true rfl) dX2_getResolved_20 ⟨Nat.le_trans (Nat.le_add_right _ _) hcc, Nat.le_trans (Nat.le_add_right _ _) hcs⟩ ?_
      refine lv_aload_n hx hb dX2_getResolved_23 rfl (lv_at hl 0 rfl) ?_
      cases hr
      exact kt_aret X hM hcc hcs dX2_getResolved_24
    · have hr := if_n c1 hr
      refine lv_iconst (v := 1) hx hb dX2_getResolved_14 rfl ?_
      refine lv_goto (tgt := 19) hx hb dX2_getResolved_15 (by decide) ?_
      refine lv_iconst (v := 4) hx hb dX2_getResolved_19 rfl ?_
      cases hr
      exact kt_ref21 X htab hM q527 (Nat.le_of_ble_eq_true rfl) (Nat.le_of_ble_eq_true rfl) hl.1 (Nat.le_of_ble_eq_true rfl) dX2_getResolved_20 ⟨Nat.le_trans (Nat.le_add_right _ _) hcc, Nat.le_trans (Nat.le_add_right _ _) hcs⟩ rfl hcc hcs rfl rfl
def K_getForK (F : Nat) (N : Nat → Nat) (p0 : Int32) (p1 : Int32) (p2 : Int32) (G : mMS) : Option (KO × Nat × Nat) :=
  (K_getK F N p0 G).bind fun r1 =>
  tk r1.2.1 r1.2.2 <|
  onL r1.1 fun o1 =>
  gd o1.1 (N 0) <|
  (P_isBetween F p1 0 3).bind fun r3 =>
  if r3 = 0 then
    some (.inr (2, 0), 1, 8)
  else
    (K_isActive F N o1.1 o1.2).bind fun r4 =>
    if r4 = 0 then
      some (.inr (4, 0), 1, 8)
    else
      (P_has F (o1.2 (iC o1.1) 6) p1).bind fun r5 =>
      if r5 = p2 then
        some (.inl (o1.1, o1.2), 0, 0)
      else
        some (.inr (8, 0), 1, 8)
theorem k_K_getForK {F : Nat} {p0 : Int32} {p1 : Int32} {p2 : Int32} {sz : Nat} {r : KO × Nat × Nat} (hr : K_getForK F N p0 p1 p2 G = some r) (hmc : r.2.1 ≤ mc) (hms : r.2.2 ≤ ms) : KtI l D ca zb ow0 sz yX2_getFor cX2_getFor 5 (some (.object "IncidentKeeper$Core$Incident")) 7 mc ms [.ref (L 7), .int p0, .int p1, .int p2] N L G (fun v => some (.ref (L (iC v)))) (fun _ G' => kPost D ca zb ow0 sz N L G') r.1 := by
  refine kt_start (own := RX2) (by decide) rfl (Nat.le_of_ble_eq_true rfl) fun p e s m below meth c X htab ls hl hsz hM => ?_
  subst hsz
  have hl : lv_has ls 5 [(0, .ref (L 7)), (1, .int p0), (2, .int p1), (3, .int p2)] := hl
  have X2 := X.1
  obtain ⟨hx, hb, hml, hown, hts⟩ := X2
  have hcc : 0 + r.2.1 ≤ mc := by rw [Nat.zero_add]; exact hmc
  have hcs : 0 + r.2.2 ≤ ms := by rw [Nat.zero_add]; exact hms
  unfold K_getForK at hr
  refine lv_aload_n hx hb dX2_getFor_0 rfl (lv_at hl 0 rfl) ?_
  refine lv_iload_n hx hb dX2_getFor_1 rfl (lv_at hl 1 rfl) ?_
  obtain ⟨r1, h1, hr⟩ := ob hr
  obtain ⟨r2, h9, e9⟩ := tkE hr
  subst e9
  have hr := h9
  clear h9
  refine kt_cVr (k9 := 1) X htab hM (rc_core X hM.r) (fun ow => k_K_getK h1 (Nat.le_refl _) (Nat.le_refl _)) (lw_V q689 q691 qs10 q66 q692) rfl (by decide +kernel) ⟨Nat.le_of_ble_eq_true rfl, Nat.le_of_ble_eq_true rfl⟩ hl.1 rfl (Nat.le_of_ble_eq_true rfl) dX2_getFor_2 ⟨Nat.le_trans (Nat.add_le_add_left (Nat.le_add_right _ _) _) hcc, Nat.le_trans (Nat.add_le_add_left (Nat.le_add_right _ _) _) hcs⟩ (fun a b e1 => ?_) (fun o1 e1 H locs hM => ?_)
  · have h9 := onL_r hr e1
    subst h9
    exact ⟨rfl, hcc, hcs⟩
  · have hr := onL_l hr e1
    have hcc := Nat.le_trans (Nat.le_of_eq (Nat.add_assoc _ _ _)) hcc
    have hcs := Nat.le_trans (Nat.le_of_eq (Nat.add_assoc _ _ _)) hcs
    obtain ⟨g1, hr⟩ := gs hr
    refine lv_astore (lv' := [(4, .ref (L (iC o1.1))), (0, .ref (L 7)), (1, .int p0), (2, .int p1), (3, .int p2)]) hx hb dX2_getFor_5 hl (by decide) rfl (fun ls hl => ?_)
    refine lv_iload_n hx hb dX2_getFor_7 rfl (lv_at hl 3 rfl) ?_
    refine lv_iconst (v := 0) hx hb dX2_getFor_8 rfl ?_
    refine lv_iconst (v := 3) hx hb dX2_getFor_9 rfl ?_
    obtain ⟨r3, h2, hr⟩ := ob hr
    refine p_cSN (k9 := 3) X (k_P_isBetween h2) q671 q525 q65 q526 rfl (by decide +kernel) ⟨Nat.le_of_ble_eq_true rfl, Nat.le_of_ble_eq_true rfl⟩ hl.1 rfl (Nat.le_of_ble_eq_true rfl) dX2_getFor_10 ⟨Nat.le_trans (Nat.le_add_right _ _) hcc, Nat.le_trans (Nat.le_add_right _ _) hcs⟩ ?_
    refine lv_if_ne (tgt := 20) hx hb dX2_getFor_13 (by decide) (fun c1 => ?_) (fun c1 => ?_)
    · have hr := if_n c1 hr
      refine lv_iconst (v := 0) hx hb dX2_getFor_20 rfl ?_
      refine lv_iconst (v := 2) hx hb dX2_getFor_21 rfl ?_
      refine kt_ref20 X hM q527 (Nat.le_of_ble_eq_true rfl) (Nat.le_of_ble_eq_true rfl) hl.1 (Nat.le_of_ble_eq_true rfl) dX2_getFor_22 ⟨Nat.le_trans (Nat.le_add_right _ _) hcc, Nat.le_trans (Nat.le_add_right _ _) hcs⟩ ?_
      refine lv_aload hx hb dX2_getFor_25 (lv_at hl 0 rfl) ?_
      obtain ⟨r4, h3, hr⟩ := ob hr
      refine kr_cVi (k9 := 0) X hM.r (rc_inc X hM.r g1) (k_K_isActive g1 h3) (lw_V q610 q611 q612 q75 q613) rfl (by decide +kernel) ⟨Nat.le_of_ble_eq_true rfl, Nat.le_of_ble_eq_true rfl⟩ hl.1 rfl (Nat.le_of_ble_eq_true rfl) dX2_getFor_27 ⟨Nat.le_trans (Nat.le_add_right _ _) hcc, Nat.le_trans (Nat.le_add_right _ _) hcs⟩ ?_
      refine lv_if_ne (tgt := 37) hx hb dX2_getFor_30 (by decide) (fun c2 => ?_) (fun c2 => ?_)
      · have hr := if_n c2 hr
        refine lv_iconst (v := 0) hx hb dX2_getFor_37 rfl ?_
        refine lv_iconst (v := 4) hx hb dX2_getFor_38 rfl ?_
        refine kt_ref20 X hM q527 (Nat.le_of_ble_eq_true rfl) (Nat.le_of_ble_eq_true rfl) hl.1 (Nat.le_of_ble_eq_true rfl) dX2_getFor_39 ⟨Nat.le_trans (Nat.le_add_right _ _) hcc, Nat.le_trans (Nat.le_add_right _ _) hcs⟩ ?_
        refine lv_aload hx hb dX2_getFor_42 (lv_at hl 0 rfl) ?_
        refine r_X6_6N X hM.r g1 q302 dX2_getFor_44 ?_
        refine lv_iload_n hx hb dX2_getFor_47 rfl (lv_at hl 3 rfl) ?_
        obtain ⟨r5, h4, hr⟩ := ob hr
        refine p_cSN (k9 := 2) X (k_P_has h4) q607 q608 q65 q609 rfl (by decide +kernel) ⟨Nat.le_of_ble_eq_true rfl, Nat.le_of_ble_eq_true rfl⟩ hl.1 rfl (Nat.le_of_ble_eq_true rfl) dX2_getFor_48 ⟨Nat.le_trans (Nat.le_add_right _ _) hcc, Nat.le_trans (Nat.le_add_right _ _) hcs⟩ ?_
        refine lv_iload_n hx hb dX2_getFor_51 rfl (lv_at hl 4 rfl) ?_
        refine lv_icmp_eq (tgt := 59) hx hb dX2_getFor_52 (by decide) (fun c3 => ?_) (fun c3 => ?_)
        · have hr := if_p c3 hr
          refine lv_iconst (v := 0) hx hb dX2_getFor_59 rfl ?_
          refine lv_bipush (v := 8) hx hb dX2_getFor_60 rfl ?_
          refine kt_ref20 X hM q527 (Nat.le_of_ble_eq_true rfl) (Nat.le_of_ble_eq_true rfl) hl.1 (Nat.le_of_ble_eq_true rfl) dX2_getFor_62 ⟨Nat.le_trans (Nat.le_add_right _ _) hcc, Nat.le_trans (Nat.le_add_right _ _) hcs⟩ ?_
          refine lv_aload hx hb dX2_getFor_65 (lv_at hl 0 rfl) ?_
          cases hr
          exact kt_aret X hM hcc hcs dX2_getFor_67
        · have hr := if_n c3 hr
          refine lv_iconst (v := 1) hx hb dX2_getFor_55 rfl ?_
          refine lv_goto (tgt := 60) hx hb dX2_getFor_56 (by decide) ?_
          refine lv_bipush (v := 8) hx hb dX2_getFor_60 rfl ?_
          cases hr
          exact kt_ref21 X htab hM q527 (Nat.le_of_ble_eq_true rfl) (Nat.le_of_ble_eq_true rfl) hl.1 (Nat.le_of_ble_eq_true rfl) dX2_getFor_62 ⟨Nat.le_trans (Nat.le_add_right _ _) hcc, Nat.le_trans (Nat.le_add_right _ _) hcs⟩ rfl hcc hcs rfl rfl
      · have hr := if_p c2 hr
        refine lv_iconst (v := 1) hx hb dX2_getFor_33 rfl ?_
        refine lv_goto (tgt := 38) hx hb dX2_getFor_34 (by decide) ?_
        refine lv_iconst (v := 4) hx hb dX2_getFor_38 rfl ?_
        cases hr
        exact kt_ref21 X htab hM q527 (Nat.le_of_ble_eq_true rfl) (Nat.le_of_ble_eq_true rfl) hl.1 (Nat.le_of_ble_eq_true rfl) dX2_getFor_39 ⟨Nat.le_trans (Nat.le_add_right _ _) hcc, Nat.le_trans (Nat.le_add_right _ _) hcs⟩ rfl hcc hcs rfl rfl
    · have hr := if_p c1 hr
      refine lv_iconst (v := 1) hx hb dX2_getFor_16 rfl ?_
      refine lv_goto (tgt := 21) hx hb dX2_getFor_17 (by decide) ?_
      refine lv_iconst (v := 2) hx hb dX2_getFor_21 rfl ?_
      cases hr
      exact kt_ref21 X htab hM q527 (Nat.le_of_ble_eq_true rfl) (Nat.le_of_ble_eq_true rfl) hl.1 (Nat.le_of_ble_eq_true rfl) dX2_getFor_22 ⟨Nat.le_trans (Nat.le_add_right _ _) hcc, Nat.le_trans (Nat.le_add_right _ _) hcs⟩ rfl hcc hcs rfl rfl
def K_freestK_35 (F : Nat) (N : Nat → Nat) (κ4 : Int32 → Int32 → mMS → Option (KO × Nat × Nat)) (x1 : Int32) (x2 : Int32) (y0 : Int32) (G : mMS) : Option (KO × Nat × Nat) :=
  if y0 = 0 then
    κ4 x1 (x2 + 1) G
  else
    if x1 = (-1) then
      κ4 x2 (x2 + 1) G
    else
      (K_load F N x2 G).bind fun r1 =>
      (K_load F N x1 G).bind fun r2 =>
      if r2 ≤ r1 then
        κ4 x1 (x2 + 1) G
      else
        κ4 x2 (x2 + 1) G
theorem w_K_freestK_35 {F : Nat} {κ4 : Int32 → Int32 → mMS → Option (KO × Nat × Nat)} (X : KX p s m args meth c RX2 cX2_freest 4 (some .int) D ca) (htab : ∀ x ∈ c.exceptionTable.toList, False) (hk4 : ∀ (x1 : Int32) (x2 : Int32) (G : mMS) (r : KO × Nat × Nat), κ4 x1 x2 G = some r → ∀ (H : Heap) (locs : List Loc) (cells slots : Nat) (ls : Array Slot), lv_has ls 4 [(0, .ref (L 7)), (1, .int x1), (2, .int x2)] → kI D ca zb ow0 N L G s H locs → cells + r.2.1 ≤ mc → slots + r.2.2 ≤ ms → W p l e { frames := 6, cells := mc, slots := ms, locals := 40 * 6 } s m args below meth c H locs cells slots (vx_MQ below (ktQ (kA ow0 (L 7) s.heap.size) (fun v => some (.int v)) (fun _ G' => kPost D ca zb ow0 s.heap.size N L G') r.1) (ktX D (kA ow0 (L 7) s.heap.size) s.heap.size r.1) args s mc ms (kA ow0 (L 7) s.heap.size)) (F0 m 4 ls [])) : ∀ (x1 : Int32) (x2 : Int32) (y0 : Int32) (G : mMS) (r : KO × Nat × Nat), K_freestK_35 F N κ4 x1 x2 y0 G = some r → ∀ (H : Heap) (locs : List Loc) (cells slots : Nat) (ls : Array Slot), lv_has ls 4 [(0, .ref (L 7)), (1, .int x1), (2, .int x2)] → kI D ca zb ow0 N L G s H locs → cells + r.2.1 ≤ mc → slots + r.2.2 ≤ ms → W p l e { frames := 6, cells := mc, slots := ms, locals := 40 * 6 } s m args below meth c H locs cells slots (vx_MQ below (ktQ (kA ow0 (L 7) s.heap.size) (fun v => some (.int v)) (fun _ G' => kPost D ca zb ow0 s.heap.size N L G') r.1) (ktX D (kA ow0 (L 7) s.heap.size) s.heap.size r.1) args s mc ms (kA ow0 (L 7) s.heap.size)) (F0 m 35 ls [.int y0]) := by
  have X2 := X.1
  obtain ⟨hx, hb, hml, hown, hts⟩ := X2
  intro x1 x2 y0 G r hr H locs cells slots ls hl hM hcc hcs
  unfold K_freestK_35 at hr
  refine lv_istore_n (lv' := [(3, .int y0), (0, .ref (L 7)), (1, .int x1), (2, .int x2)]) hx hb dX2_freest_35 rfl hl (by decide) rfl (fun ls hl => ?_)
  refine lv_iload_n hx hb dX2_freest_36 rfl (lv_at hl 0 rfl) ?_
  refine lv_if_eq (tgt := 62) hx hb dX2_freest_37 (by decide) (fun c1 => ?_) (fun c1 => ?_)
  · have hr := if_p c1 hr
    refine lv_iload_n hx hb dX2_freest_62 rfl (lv_at hl 2 rfl) ?_
    refine lv_istore_n (lv' := [(1, .int x1), (3, .int y0), (0, .ref (L 7)), (2, .int x2)]) hx hb dX2_freest_63 rfl hl (by decide) rfl (fun ls hl => ?_)
    refine lv_iinc (v := x2 + 1) (lv' := [(2, .int (x2 + 1)), (1, .int x1), (3, .int y0), (0, .ref (L 7))]) hx hb dX2_freest_64 hl (k := 3) rfl rfl (by decide) rfl (fun ls hl => ?_)
    refine lv_goto (tgt := 4) hx hb dX2_freest_67 (by decide) ?_
    exact hk4 _ _ _ _ hr _ _ _ _ _ (lv_sub hl [3, 1, 0] rfl) hM hcc hcs
  · have hr := if_n c1 hr
    refine lv_iload_n hx hb dX2_freest_40 rfl (lv_at hl 2 rfl) ?_
    refine lv_iconst (v := (-1)) hx hb dX2_freest_41 rfl ?_
    refine lv_icmp_eq (tgt := 58) hx hb dX2_freest_42 (by decide) (fun c2 => ?_) (fun c2 => ?_)
    · have hr := if_p c2 hr
      refine lv_iload_n hx hb dX2_freest_58 rfl (lv_at hl 3 rfl) ?_
      refine lv_goto (tgt := 63) hx hb dX2_freest_59 (by decide) ?_
      refine lv_istore_n (lv' := [(1, .int x2), (3, .int y0), (0, .ref (L 7)), (2, .int x2)]) hx hb dX2_freest_63 rfl hl (by decide) rfl (fun ls hl => ?_)
      refine lv_iinc (v := x2 + 1) (lv' := [(2, .int (x2 + 1)), (1, .int x2), (3, .int y0), (0, .ref (L 7))]) hx hb dX2_freest_64 hl (k := 3) rfl rfl (by decide) rfl (fun ls hl => ?_)
      refine lv_goto (tgt := 4) hx hb dX2_freest_67 (by decide) ?_
      exact hk4 _ _ _ _ hr _ _ _ _ _ (lv_sub hl [3, 1, 0] rfl) hM hcc hcs
    · have hr := if_n c2 hr
      refine lv_aload_n hx hb dX2_freest_45 rfl (lv_at hl 1 rfl) ?_
      refine lv_iload_n hx hb dX2_freest_46 rfl (lv_at hl 3 rfl) ?_
      obtain ⟨r1, h1, hr⟩ := ob hr
      refine kr_cVi (k9 := 1) X hM.r (rc_core X hM.r) (k_K_load h1) (lw_V q618 q619 q620 q66 q621) rfl (by decide +kernel) ⟨Nat.le_of_ble_eq_true rfl, Nat.le_of_ble_eq_true rfl⟩ hl.1 rfl (Nat.le_of_ble_eq_true rfl) dX2_freest_47 ⟨Nat.le_trans (Nat.le_add_right _ _) hcc, Nat.le_trans (Nat.le_add_right _ _) hcs⟩ ?_
      refine lv_aload_n hx hb dX2_freest_50 rfl (lv_at hl 1 rfl) ?_
      refine lv_iload_n hx hb dX2_freest_51 rfl (lv_at hl 2 rfl) ?_
      obtain ⟨r2, h2, hr⟩ := ob hr
      refine kr_cVi (k9 := 1) X hM.r (rc_core X hM.r) (k_K_load h2) (lw_V q618 q619 q620 q66 q621) rfl (by decide +kernel) ⟨Nat.le_of_ble_eq_true rfl, Nat.le_of_ble_eq_true rfl⟩ hl.1 rfl (Nat.le_of_ble_eq_true rfl) dX2_freest_52 ⟨Nat.le_trans (Nat.le_add_right _ _) hcc, Nat.le_trans (Nat.le_add_right _ _) hcs⟩ ?_
      refine lv_icmp_ge (tgt := 62) hx hb dX2_freest_55 (by decide) (fun c3 => ?_) (fun c3 => ?_)
      · have hr := if_p c3 hr
        refine lv_iload_n hx hb dX2_freest_62 rfl (lv_at hl 2 rfl) ?_
        refine lv_istore_n (lv' := [(1, .int x1), (3, .int y0), (0, .ref (L 7)), (2, .int x2)]) hx hb dX2_freest_63 rfl hl (by decide) rfl (fun ls hl => ?_)
        refine lv_iinc (v := x2 + 1) (lv' := [(2, .int (x2 + 1)), (1, .int x1), (3, .int y0), (0, .ref (L 7))]) hx hb dX2_freest_64 hl (k := 3) rfl rfl (by decide) rfl (fun ls hl => ?_)
        refine lv_goto (tgt := 4) hx hb dX2_freest_67 (by decide) ?_
        exact hk4 _ _ _ _ hr _ _ _ _ _ (lv_sub hl [3, 1, 0] rfl) hM hcc hcs
      · have hr := if_n c3 hr
        refine lv_iload_n hx hb dX2_freest_58 rfl (lv_at hl 3 rfl) ?_
        refine lv_goto (tgt := 63) hx hb dX2_freest_59 (by decide) ?_
        refine lv_istore_n (lv' := [(1, .int x2), (3, .int y0), (0, .ref (L 7)), (2, .int x2)]) hx hb dX2_freest_63 rfl hl (by decide) rfl (fun ls hl => ?_)
        refine lv_iinc (v := x2 + 1) (lv' := [(2, .int (x2 + 1)), (1, .int x2), (3, .int y0), (0, .ref (L 7))]) hx hb dX2_freest_64 hl (k := 3) rfl rfl (by decide) rfl (fun ls hl => ?_)
        refine lv_goto (tgt := 4) hx hb dX2_freest_67 (by decide) ?_
        exact hk4 _ _ _ _ hr _ _ _ _ _ (lv_sub hl [3, 1, 0] rfl) hM hcc hcs
def K_freestK_4 (F : Nat) (N : Nat → Nat) : Nat → Int32 → Int32 → mMS → Option (KO × Nat × Nat)
  | 0, _, _, _ => none
  | f + 1, x1, x2, G =>
    if 6 ≤ x2 then
      if x1 = (-1) then
        some (.inr (5, 0), 1, 8)
      else
        some (.inl (x1, G), 0, 0)
    else
      (P_has F (G 7 8) x2).bind fun r1 =>
      if r1 = 0 then
        K_freestK_35 F N (K_freestK_4 F N f) x1 x2 0 G
      else
        (K_load F N x2 G).bind fun r2 =>
        if 4 ≤ r2 then
          K_freestK_35 F N (K_freestK_4 F N f) x1 x2 0 G
        else
          K_freestK_35 F N (K_freestK_4 F N f) x1 x2 1 G
theorem w_K_freestK_4 {F : Nat} (X : KX p s m args meth c RX2 cX2_freest 4 (some .int) D ca) (htab : ∀ x ∈ c.exceptionTable.toList, False) : ∀ (f : Nat), ∀ (x1 : Int32) (x2 : Int32) (G : mMS) (r : KO × Nat × Nat), K_freestK_4 F N f x1 x2 G = some r → ∀ (H : Heap) (locs : List Loc) (cells slots : Nat) (ls : Array Slot), lv_has ls 4 [(0, .ref (L 7)), (1, .int x1), (2, .int x2)] → kI D ca zb ow0 N L G s H locs → cells + r.2.1 ≤ mc → slots + r.2.2 ≤ ms → W p l e { frames := 6, cells := mc, slots := ms, locals := 40 * 6 } s m args below meth c H locs cells slots (vx_MQ below (ktQ (kA ow0 (L 7) s.heap.size) (fun v => some (.int v)) (fun _ G' => kPost D ca zb ow0 s.heap.size N L G') r.1) (ktX D (kA ow0 (L 7) s.heap.size) s.heap.size r.1) args s mc ms (kA ow0 (L 7) s.heap.size)) (F0 m 4 ls []) := by
  have X2 := X.1
  obtain ⟨hx, hb, hml, hown, hts⟩ := X2
  intro f
  induction f with
  | zero =>
    intro x1 x2 G r hr
    rw [K_freestK_4] at hr
    cases hr
  | succ f ih =>
    intro x1 x2 G r hr H locs cells slots ls hl hM hcc hcs
    rw [K_freestK_4] at hr
    refine lv_iload_n hx hb dX2_freest_4 rfl (lv_at hl 2 rfl) ?_
    refine lv_bipush (v := 6) hx hb dX2_freest_5 rfl ?_
    refine lv_icmp_ge (tgt := 70) hx hb dX2_freest_7 (by decide) (fun c1 => ?_) (fun c1 => ?_)
    · have hr := if_p c1 hr
      refine lv_iload_n hx hb dX2_freest_70 rfl (lv_at hl 1 rfl) ?_
      refine lv_iconst (v := (-1)) hx hb dX2_freest_71 rfl ?_
      refine lv_icmp_ne (tgt := 79) hx hb dX2_freest_72 (by decide) (fun c2 => ?_) (fun c2 => ?_)
      · have hr := if_n c2 hr
        refine lv_iconst (v := 0) hx hb dX2_freest_79 rfl ?_
        refine lv_iconst (v := 5) hx hb dX2_freest_80 rfl ?_
        refine kt_ref20 X hM q527 (Nat.le_of_ble_eq_true rfl) (Nat.le_of_ble_eq_true rfl) hl.1 (Nat.le_of_ble_eq_true rfl) dX2_freest_81 ⟨Nat.le_trans (Nat.le_add_right _ _) hcc, Nat.le_trans (Nat.le_add_right _ _) hcs⟩ ?_
        refine lv_iload_n hx hb dX2_freest_84 rfl (lv_at hl 1 rfl) ?_
        cases hr
        exact kt_iret X hM hcc hcs dX2_freest_85
      · have hr := if_p c2 hr
        refine lv_iconst (v := 1) hx hb dX2_freest_75 rfl ?_
        refine lv_goto (tgt := 80) hx hb dX2_freest_76 (by decide) ?_
        refine lv_iconst (v := 5) hx hb dX2_freest_80 rfl ?_
        cases hr
        exact kt_ref21 X htab hM q527 (Nat.le_of_ble_eq_true rfl) (Nat.le_of_ble_eq_true rfl) hl.1 (Nat.le_of_ble_eq_true rfl) dX2_freest_81 ⟨Nat.le_trans (Nat.le_add_right _ _) hcc, Nat.le_trans (Nat.le_add_right _ _) hcs⟩ rfl hcc hcs rfl rfl
    · have hr := if_n c1 hr
      refine lv_aload_n hx hb dX2_freest_10 rfl (lv_at hl 0 rfl) ?_
      refine r_X2_8 X hM.r q164 dX2_freest_11 ?_
      refine lv_iload_n hx hb dX2_freest_14 rfl (lv_at hl 2 rfl) ?_
      obtain ⟨r1, h1, hr⟩ := ob hr
      refine p_cSN (k9 := 2) X (k_P_has h1) q607 q608 q65 q609 rfl (by decide +kernel) ⟨Nat.le_of_ble_eq_true rfl, Nat.le_of_ble_eq_true rfl⟩ hl.1 rfl (Nat.le_of_ble_eq_true rfl) dX2_freest_15 ⟨Nat.le_trans (Nat.le_add_right _ _) hcc, Nat.le_trans (Nat.le_add_right _ _) hcs⟩ ?_
      refine lv_if_eq (tgt := 34) hx hb dX2_freest_18 (by decide) (fun c3 => ?_) (fun c3 => ?_)
      · have hr := if_p c3 hr
        refine lv_iconst (v := 0) hx hb dX2_freest_34 rfl ?_
        exact w_K_freestK_35 X htab ih _ _ _ _ _ hr _ _ _ _ _ (lv_sub hl [0, 1, 2] rfl) hM hcc hcs
      · have hr := if_n c3 hr
        refine lv_aload_n hx hb dX2_freest_21 rfl (lv_at hl 0 rfl) ?_
        refine lv_iload_n hx hb dX2_freest_22 rfl (lv_at hl 2 rfl) ?_
        obtain ⟨r2, h2, hr⟩ := ob hr
        refine kr_cVi (k9 := 1) X hM.r (rc_core X hM.r) (k_K_load h2) (lw_V q618 q619 q620 q66 q621) rfl (by decide +kernel) ⟨Nat.le_of_ble_eq_true rfl, Nat.le_of_ble_eq_true rfl⟩ hl.1 rfl (Nat.le_of_ble_eq_true rfl) dX2_freest_23 ⟨Nat.le_trans (Nat.le_add_right _ _) hcc, Nat.le_trans (Nat.le_add_right _ _) hcs⟩ ?_
        refine lv_iconst (v := 4) hx hb dX2_freest_26 rfl ?_
        refine lv_icmp_ge (tgt := 34) hx hb dX2_freest_27 (by decide) (fun c4 => ?_) (fun c4 => ?_)
        · have hr := if_p c4 hr
          refine lv_iconst (v := 0) hx hb dX2_freest_34 rfl ?_
          exact w_K_freestK_35 X htab ih _ _ _ _ _ hr _ _ _ _ _ (lv_sub hl [0, 1, 2] rfl) hM hcc hcs
        · have hr := if_n c4 hr
          refine lv_iconst (v := 1) hx hb dX2_freest_30 rfl ?_
          refine lv_goto (tgt := 35) hx hb dX2_freest_31 (by decide) ?_
          exact w_K_freestK_35 X htab ih _ _ _ _ _ hr _ _ _ _ _ (lv_sub hl [0, 1, 2] rfl) hM hcc hcs
def K_freestK (F : Nat) (N : Nat → Nat) (G : mMS) : Option (KO × Nat × Nat) :=
  K_freestK_4 F N F (-1) 0 G
theorem k_K_freestK {F : Nat} {sz : Nat} {r : KO × Nat × Nat} (hr : K_freestK F N G = some r) (hmc : r.2.1 ≤ mc) (hms : r.2.2 ≤ ms) : KtI l D ca zb ow0 sz yX2_freest cX2_freest 4 (some .int) 6 mc ms [.ref (L 7)] N L G (fun v => some (.int v)) (fun _ G' => kPost D ca zb ow0 sz N L G') r.1 := by
  refine kt_start (own := RX2) (by decide) rfl (Nat.le_of_ble_eq_true rfl) fun p e s m below meth c X htab ls hl hsz hM => ?_
  subst hsz
  have hl : lv_has ls 4 [(0, .ref (L 7))] := hl
  have X2 := X.1
  obtain ⟨hx, hb, hml, hown, hts⟩ := X2
  have hcc : 0 + r.2.1 ≤ mc := by rw [Nat.zero_add]; exact hmc
  have hcs : 0 + r.2.2 ≤ ms := by rw [Nat.zero_add]; exact hms
  unfold K_freestK at hr
  refine lv_iconst (v := (-1)) hx hb dX2_freest_0 rfl ?_
  refine lv_istore_n (lv' := [(1, .int (-1)), (0, .ref (L 7))]) hx hb dX2_freest_1 rfl hl (by decide) rfl (fun ls hl => ?_)
  refine lv_iconst (v := 0) hx hb dX2_freest_2 rfl ?_
  refine lv_istore_n (lv' := [(2, .int 0), (1, .int (-1)), (0, .ref (L 7))]) hx hb dX2_freest_3 rfl hl (by decide) rfl (fun ls hl => ?_)
  exact w_K_freestK_4 X htab  _ _ _ _ _ hr _ _ _ _ _ (lv_sub hl [2, 1, 0] rfl) hM hcc hcs
def K_setDutyK_55 (F : Nat) (N : Nat → Nat) : Nat → Int32 → Int32 → Int32 → Int32 → mMS → Option (KO × Nat × Nat)
  | 0, _, _, _, _, _ => none
  | f + 1, x1, x2, x3, x4, G =>
    if (G 0 2) ≤ x4 then
      some (.inl (x3, G), 0, 0)
    else
      if x2 = 0 then
        gd x4 (N 0) <|
        if (G (iC x4) 5) = x1 then
          (K_isActive F N x4 G).bind fun r1 =>
          if r1 = 0 then
            K_setDutyK_55 F N f x1 x2 x3 (x4 + 1) G
          else
            (K_freestK F N G).bind fun r2 =>
            tk r2.2.1 r2.2.2 <|
            onL r2.1 fun o1 =>
            (K_handI F N x4 o1.1 o1.2).bind fun r4 =>
            tk r4.2.1 r4.2.2 <|
            K_setDutyK_55 F N f x1 x2 (x3 + 1) (x4 + 1) r4.1.2
        else
          K_setDutyK_55 F N f x1 x2 x3 (x4 + 1) G
      else
        some (.inl (x3, G), 0, 0)
theorem w_K_setDutyK_55 {F : Nat} (X : KX p s m args meth c RX2 cX2_setDuty 6 (some .int) D ca) (htab : ∀ x ∈ c.exceptionTable.toList, False) : ∀ (f : Nat), ∀ (x1 : Int32) (x2 : Int32) (x3 : Int32) (x4 : Int32) (G : mMS) (r : KO × Nat × Nat), K_setDutyK_55 F N f x1 x2 x3 x4 G = some r → ∀ (H : Heap) (locs : List Loc) (cells slots : Nat) (ls : Array Slot), lv_has ls 6 [(0, .ref (L 7)), (1, .int x1), (2, .int x2), (3, .int x3), (4, .int x4)] → kI D ca zb ow0 N L G s H locs → cells + r.2.1 ≤ mc → slots + r.2.2 ≤ ms → W p l e { frames := 9, cells := mc, slots := ms, locals := 40 * 9 } s m args below meth c H locs cells slots (vx_MQ below (ktQ (kA ow0 (L 7) s.heap.size) (fun v => some (.int v)) (fun _ G' => kPost D ca zb ow0 s.heap.size N L G') r.1) (ktX D (kA ow0 (L 7) s.heap.size) s.heap.size r.1) args s mc ms (kA ow0 (L 7) s.heap.size)) (F0 m 55 ls []) := by
  have X2 := X.1
  obtain ⟨hx, hb, hml, hown, hts⟩ := X2
  intro f
  induction f with
  | zero =>
    intro x1 x2 x3 x4 G r hr
    rw [K_setDutyK_55] at hr
    cases hr
  | succ f ih =>
    intro x1 x2 x3 x4 G r hr H locs cells slots ls hl hM hcc hcs
    rw [K_setDutyK_55] at hr
    refine lv_iload hx hb dX2_setDuty_55 (lv_at hl 4 rfl) ?_
    refine lv_aload_n hx hb dX2_setDuty_57 rfl (lv_at hl 0 rfl) ?_
    refine r_X2_0 X hM.r q144 dX2_setDuty_58 ?_
    refine kr_size X hM.r (j := 0) (by decide) q246 (Nat.le_of_ble_eq_true rfl) (Nat.le_of_ble_eq_true rfl) hl.1 (Nat.le_of_ble_eq_true rfl) dX2_setDuty_61 ⟨Nat.le_trans (Nat.le_add_right _ _) hcc, Nat.le_trans (Nat.le_add_right _ _) hcs⟩ ?_
    refine lv_icmp_ge (tgt := 120) hx hb dX2_setDuty_64 (by decide) (fun c1 => ?_) (fun c1 => ?_)
    · have hr := if_p c1 hr
      refine lv_iload_n hx hb dX2_setDuty_120 rfl (lv_at hl 3 rfl) ?_
      cases hr
      exact kt_iret X hM hcc hcs dX2_setDuty_121
    · have hr := if_n c1 hr
      refine lv_iload_n hx hb dX2_setDuty_67 rfl (lv_at hl 2 rfl) ?_
      refine lv_if_ne (tgt := 120) hx hb dX2_setDuty_68 (by decide) (fun c2 => ?_) (fun c2 => ?_)
      · have hr := if_n c2 hr
        refine lv_iload_n hx hb dX2_setDuty_120 rfl (lv_at hl 3 rfl) ?_
        cases hr
        exact kt_iret X hM hcc hcs dX2_setDuty_121
      · have hr := if_p c2 hr
        refine lv_aload_n hx hb dX2_setDuty_71 rfl (lv_at hl 0 rfl) ?_
        refine r_X2_0 X hM.r q144 dX2_setDuty_72 ?_
        refine lv_iload hx hb dX2_setDuty_75 (lv_at hl 4 rfl) ?_
        obtain ⟨g1, hr⟩ := gs hr
        refine kr_get X hM.r (j := 0) (by decide) g1 q250 (Nat.le_of_ble_eq_true rfl) (Nat.le_of_ble_eq_true rfl) hl.1 (Nat.le_of_ble_eq_true rfl) dX2_setDuty_77 ⟨Nat.le_trans (Nat.le_add_right _ _) hcc, Nat.le_trans (Nat.le_add_right _ _) hcs⟩ ?_
        refine va_castS hx hb hown (hts _ q264) (X.2.2.2.1.1 2 _ rfl).2 (rc_inc X hM.r g1) dX2_setDuty_80 ?_
        refine lv_astore (lv' := [(5, .ref (L (iC x4))), (0, .ref (L 7)), (1, .int x1), (2, .int x2), (3, .int x3), (4, .int x4)]) hx hb dX2_setDuty_83 hl (by decide) rfl (fun ls hl => ?_)
        refine lv_aload hx hb dX2_setDuty_85 (lv_at hl 0 rfl) ?_
        refine r_X6_5N X hM.r g1 q299 dX2_setDuty_87 ?_
        refine lv_iload_n hx hb dX2_setDuty_90 rfl (lv_at hl 2 rfl) ?_
        refine lv_icmp_ne (tgt := 114) hx hb dX2_setDuty_91 (by decide) (fun c3 => ?_) (fun c3 => ?_)
        · have hr := if_n c3 hr
          refine lv_iinc (v := x4 + 1) (lv' := [(4, .int (x4 + 1)), (5, .ref (L (iC x4))), (0, .ref (L 7)), (1, .int x1), (2, .int x2), (3, .int x3)]) hx hb dX2_setDuty_114 hl (k := 5) rfl rfl (by decide) rfl (fun ls hl => ?_)
          refine lv_goto (tgt := 55) hx hb dX2_setDuty_117 (by decide) ?_
          exact ih _ _ _ _ _ _ hr _ _ _ _ _ (lv_sub hl [2, 3, 4, 5, 0] rfl) hM hcc hcs
        · have hr := if_p c3 hr
          refine lv_aload hx hb dX2_setDuty_94 (lv_at hl 0 rfl) ?_
          obtain ⟨r1, h1, hr⟩ := ob hr
          refine kr_cVi (k9 := 0) X hM.r (rc_inc X hM.r g1) (k_K_isActive g1 h1) (lw_V q610 q611 q612 q75 q613) rfl (by decide +kernel) ⟨Nat.le_of_ble_eq_true rfl, Nat.le_of_ble_eq_true rfl⟩ hl.1 rfl (Nat.le_of_ble_eq_true rfl) dX2_setDuty_96 ⟨Nat.le_trans (Nat.le_add_right _ _) hcc, Nat.le_trans (Nat.le_add_right _ _) hcs⟩ ?_
          refine lv_if_eq (tgt := 114) hx hb dX2_setDuty_99 (by decide) (fun c4 => ?_) (fun c4 => ?_)
          · have hr := if_p c4 hr
            refine lv_iinc (v := x4 + 1) (lv' := [(4, .int (x4 + 1)), (5, .ref (L (iC x4))), (0, .ref (L 7)), (1, .int x1), (2, .int x2), (3, .int x3)]) hx hb dX2_setDuty_114 hl (k := 5) rfl rfl (by decide) rfl (fun ls hl => ?_)
            refine lv_goto (tgt := 55) hx hb dX2_setDuty_117 (by decide) ?_
            exact ih _ _ _ _ _ _ hr _ _ _ _ _ (lv_sub hl [2, 3, 4, 5, 0] rfl) hM hcc hcs
          · have hr := if_n c4 hr
            refine lv_aload hx hb dX2_setDuty_102 (lv_at hl 0 rfl) ?_
            refine lv_aload_n hx hb dX2_setDuty_104 rfl (lv_at hl 1 rfl) ?_
            obtain ⟨r2, h2, hr⟩ := ob hr
            obtain ⟨r3, h9, e9⟩ := tkE hr
            subst e9
            have hr := h9
            clear h9
            refine kt_cVi (k9 := 0) X htab hM (rc_core X hM.r) (fun ow => k_K_freestK h2 (Nat.le_refl _) (Nat.le_refl _)) (lw_V q614 q616 qs6 q66 q617) rfl (by decide +kernel) ⟨Nat.le_of_ble_eq_true rfl, Nat.le_of_ble_eq_true rfl⟩ hl.1 rfl (Nat.le_of_ble_eq_true rfl) dX2_setDuty_105 ⟨Nat.le_trans (Nat.add_le_add_left (Nat.le_add_right _ _) _) hcc, Nat.le_trans (Nat.add_le_add_left (Nat.le_add_right _ _) _) hcs⟩ (fun a b e1 => ?_) (fun o1 e1 H locs hM => ?_)
            · have h9 := onL_r hr e1
              subst h9
              exact ⟨rfl, hcc, hcs⟩
            · have hr := onL_l hr e1
              have hcc := Nat.le_trans (Nat.le_of_eq (Nat.add_assoc _ _ _)) hcc
              have hcs := Nat.le_trans (Nat.le_of_eq (Nat.add_assoc _ _ _)) hcs
              obtain ⟨r4, h3, hr⟩ := ob hr
              obtain ⟨r5, h9, e9⟩ := tkE hr
              subst e9
              have hr := h9
              clear h9
              refine kw_cVv (k9 := 1) X hM (rc_inc X hM.r g1) (fun ow => k_K_handI g1 h3 (Nat.le_refl _) (Nat.le_refl _)) (lw_V q622 q623 q624 q75 q625) rfl (by decide +kernel) ⟨Nat.le_of_ble_eq_true rfl, Nat.le_of_ble_eq_true rfl⟩ hl.1 rfl (Nat.le_of_ble_eq_true rfl) dX2_setDuty_108 ⟨Nat.le_trans (Nat.add_le_add_left (Nat.le_add_right _ _) _) hcc, Nat.le_trans (Nat.add_le_add_left (Nat.le_add_right _ _) _) hcs⟩ (fun H locs hM => ?_)
              have hcc := Nat.le_trans (Nat.le_of_eq (Nat.add_assoc _ _ _)) hcc
              have hcs := Nat.le_trans (Nat.le_of_eq (Nat.add_assoc _ _ _)) hcs
              refine lv_iinc (v := x3 + 1) (lv' := [(3, .int (x3 + 1)), (5, .ref (L (iC x4))), (0, .ref (L 7)), (1, .int x1), (2, .int x2), (4, .int x4)]) hx hb dX2_setDuty_111 hl (k := 4) rfl rfl (by decide) rfl (fun ls hl => ?_)
              refine lv_iinc (v := x4 + 1) (lv' := [(4, .int (x4 + 1)), (3, .int (x3 + 1)), (5, .ref (L (iC x4))), (0, .ref (L 7)), (1, .int x1), (2, .int x2)]) hx hb dX2_setDuty_114 hl (k := 5) rfl rfl (by decide) rfl (fun ls hl => ?_)
              refine lv_goto (tgt := 55) hx hb dX2_setDuty_117 (by decide) ?_
              exact ih _ _ _ _ _ _ hr _ _ _ _ _ (lv_sub hl [3, 4, 5, 1, 0] rfl) hM hcc hcs
def K_setDutyK (F : Nat) (N : Nat → Nat) (p0 : Int32) (p1 : Int32) (G : mMS) : Option (KO × Nat × Nat) :=
  (P_isPersonK F p0).bind fun r1 =>
  if r1 = 0 then
    some (.inr (1, 0), 1, 8)
  else
    (P_has F (G 7 8) p0).bind fun r2 =>
    if r2 = p1 then
      some (.inr (13, 0), 1, 8)
    else
      st (m_up G 7 8 ((G 7 8) ^^^ (1 <<< (p0 &&& 31)))) fun G1 =>
      K_setDutyK_55 F N F p0 p1 0 0 G1
theorem k_K_setDutyK {F : Nat} {p0 : Int32} {p1 : Int32} {sz : Nat} {r : KO × Nat × Nat} (hr : K_setDutyK F N p0 p1 G = some r) (hmc : r.2.1 ≤ mc) (hms : r.2.2 ≤ ms) : KtI l D ca zb ow0 sz yX2_setDuty cX2_setDuty 6 (some .int) 9 mc ms [.ref (L 7), .int p0, .int p1] N L G (fun v => some (.int v)) (fun _ G' => kPost D ca zb ow0 sz N L G') r.1 := by
  refine kt_start (own := RX2) (by decide) rfl (Nat.le_of_ble_eq_true rfl) fun p e s m below meth c X htab ls hl hsz hM => ?_
  subst hsz
  have hl : lv_has ls 6 [(0, .ref (L 7)), (1, .int p0), (2, .int p1)] := hl
  have X2 := X.1
  obtain ⟨hx, hb, hml, hown, hts⟩ := X2
  have hcc : 0 + r.2.1 ≤ mc := by rw [Nat.zero_add]; exact hmc
  have hcs : 0 + r.2.2 ≤ ms := by rw [Nat.zero_add]; exact hms
  unfold K_setDutyK at hr
  refine lv_iload_n hx hb dX2_setDuty_0 rfl (lv_at hl 1 rfl) ?_
  obtain ⟨r1, h1, hr⟩ := ob hr
  refine p_cSN (k9 := 1) X (k_P_isPersonK h1) q521 q522 q65 q523 rfl (by decide +kernel) ⟨Nat.le_of_ble_eq_true rfl, Nat.le_of_ble_eq_true rfl⟩ hl.1 rfl (Nat.le_of_ble_eq_true rfl) dX2_setDuty_1 ⟨Nat.le_trans (Nat.le_add_right _ _) hcc, Nat.le_trans (Nat.le_add_right _ _) hcs⟩ ?_
  refine lv_if_ne (tgt := 11) hx hb dX2_setDuty_4 (by decide) (fun c1 => ?_) (fun c1 => ?_)
  · have hr := if_n c1 hr
    refine lv_iconst (v := 0) hx hb dX2_setDuty_11 rfl ?_
    refine lv_iconst (v := 1) hx hb dX2_setDuty_12 rfl ?_
    refine kt_ref20 X hM q527 (Nat.le_of_ble_eq_true rfl) (Nat.le_of_ble_eq_true rfl) hl.1 (Nat.le_of_ble_eq_true rfl) dX2_setDuty_13 ⟨Nat.le_trans (Nat.le_add_right _ _) hcc, Nat.le_trans (Nat.le_add_right _ _) hcs⟩ ?_
    refine lv_aload_n hx hb dX2_setDuty_16 rfl (lv_at hl 0 rfl) ?_
    refine r_X2_8 X hM.r q164 dX2_setDuty_17 ?_
    refine lv_iload_n hx hb dX2_setDuty_20 rfl (lv_at hl 1 rfl) ?_
    obtain ⟨r2, h2, hr⟩ := ob hr
    refine p_cSN (k9 := 2) X (k_P_has h2) q607 q608 q65 q609 rfl (by decide +kernel) ⟨Nat.le_of_ble_eq_true rfl, Nat.le_of_ble_eq_true rfl⟩ hl.1 rfl (Nat.le_of_ble_eq_true rfl) dX2_setDuty_21 ⟨Nat.le_trans (Nat.le_add_right _ _) hcc, Nat.le_trans (Nat.le_add_right _ _) hcs⟩ ?_
    refine lv_iload_n hx hb dX2_setDuty_24 rfl (lv_at hl 2 rfl) ?_
    refine lv_icmp_ne (tgt := 32) hx hb dX2_setDuty_25 (by decide) (fun c2 => ?_) (fun c2 => ?_)
    · have hr := if_n c2 hr
      refine lv_iconst (v := 0) hx hb dX2_setDuty_32 rfl ?_
      refine lv_bipush (v := 13) hx hb dX2_setDuty_33 rfl ?_
      refine kt_ref20 X hM q527 (Nat.le_of_ble_eq_true rfl) (Nat.le_of_ble_eq_true rfl) hl.1 (Nat.le_of_ble_eq_true rfl) dX2_setDuty_35 ⟨Nat.le_trans (Nat.le_add_right _ _) hcc, Nat.le_trans (Nat.le_add_right _ _) hcs⟩ ?_
      refine lv_aload_n hx hb dX2_setDuty_38 rfl (lv_at hl 0 rfl) ?_
      refine lv_dup hx hb dX2_setDuty_39 rfl ?_
      refine r_X2_8 X hM.r q164 dX2_setDuty_40 ?_
      refine lv_iconst (v := 1) hx hb dX2_setDuty_43 rfl ?_
      refine lv_iload_n hx hb dX2_setDuty_44 rfl (lv_at hl 1 rfl) ?_
      refine lv_ishl hx hb dX2_setDuty_45 ?_
      refine lv_ixor hx hb dX2_setDuty_46 ?_
      refine w_X2_8 X hM q164 dX2_setDuty_47 (fun H locs G1 e1 hM => ?_)
      have hr := stE hr e1
      refine lv_iconst (v := 0) hx hb dX2_setDuty_50 rfl ?_
      refine lv_istore_n (lv' := [(3, .int 0), (0, .ref (L 7)), (1, .int p0), (2, .int p1)]) hx hb dX2_setDuty_51 rfl hl (by decide) rfl (fun ls hl => ?_)
      refine lv_iconst (v := 0) hx hb dX2_setDuty_52 rfl ?_
      refine lv_istore (lv' := [(4, .int 0), (3, .int 0), (0, .ref (L 7)), (1, .int p0), (2, .int p1)]) hx hb dX2_setDuty_53 hl (by decide) rfl (fun ls hl => ?_)
      exact w_K_setDutyK_55 X htab  _ _ _ _ _ _ _ hr _ _ _ _ _ (lv_sub hl [2, 3, 4, 1, 0] rfl) hM hcc hcs
    · have hr := if_p c2 hr
      refine lv_iconst (v := 1) hx hb dX2_setDuty_28 rfl ?_
      refine lv_goto (tgt := 33) hx hb dX2_setDuty_29 (by decide) ?_
      refine lv_bipush (v := 13) hx hb dX2_setDuty_33 rfl ?_
      cases hr
      exact kt_ref21 X htab hM q527 (Nat.le_of_ble_eq_true rfl) (Nat.le_of_ble_eq_true rfl) hl.1 (Nat.le_of_ble_eq_true rfl) dX2_setDuty_35 ⟨Nat.le_trans (Nat.le_add_right _ _) hcc, Nat.le_trans (Nat.le_add_right _ _) hcs⟩ rfl hcc hcs rfl rfl
  · have hr := if_p c1 hr
    refine lv_iconst (v := 1) hx hb dX2_setDuty_7 rfl ?_
    refine lv_goto (tgt := 12) hx hb dX2_setDuty_8 (by decide) ?_
    refine lv_iconst (v := 1) hx hb dX2_setDuty_12 rfl ?_
    cases hr
    exact kt_ref21 X htab hM q527 (Nat.le_of_ble_eq_true rfl) (Nat.le_of_ble_eq_true rfl) hl.1 (Nat.le_of_ble_eq_true rfl) dX2_setDuty_13 ⟨Nat.le_trans (Nat.le_add_right _ _) hcc, Nat.le_trans (Nat.le_add_right _ _) hcs⟩ rfl hcc hcs rfl rfl
def K_handK (F : Nat) (N : Nat → Nat) (p0 : Int32) (p1 : Int32) (G : mMS) : Option (KO × Nat × Nat) :=
  (K_hasIncident F N p0 G).bind fun r1 =>
  if r1 = 0 then
    some (.inr (1, 0), 1, 8)
  else
    (P_isPersonK F p1).bind fun r2 =>
    if r2 = 0 then
      some (.inr (1, 0), 1, 8)
    else
      gd p0 (N 0) <|
      if (G (iC p0) 7) = 3 then
        some (.inr (4, 0), 1, 8)
      else
        (P_has F (G 7 8) p1).bind fun r3 =>
        if r3 = 0 then
          some (.inr (6, 0), 1, 8)
        else
          if (G (iC p0) 5) = p1 then
            some (.inr (6, 0), 1, 8)
          else
            (K_load F N p1 G).bind fun r4 =>
            if r4 < 4 then
              (K_handI F N p0 p1 G).bind fun r5 =>
              tk r5.2.1 r5.2.2 <|
              some (.inl (G (iC p0) 5, r5.1.2), 0, 0)
            else
              some (.inr (7, 0), 1, 8)
theorem k_K_handK {F : Nat} {p0 : Int32} {p1 : Int32} {sz : Nat} {r : KO × Nat × Nat} (hr : K_handK F N p0 p1 G = some r) (hmc : r.2.1 ≤ mc) (hms : r.2.2 ≤ ms) : KtI l D ca zb ow0 sz yX2_hand cX2_hand 5 (some .int) 9 mc ms [.ref (L 7), .int p0, .int p1] N L G (fun v => some (.int v)) (fun _ G' => kPost D ca zb ow0 sz N L G') r.1 := by
  refine kt_start (own := RX2) (by decide) rfl (Nat.le_of_ble_eq_true rfl) fun p e s m below meth c X htab ls hl hsz hM => ?_
  subst hsz
  have hl : lv_has ls 5 [(0, .ref (L 7)), (1, .int p0), (2, .int p1)] := hl
  have X2 := X.1
  obtain ⟨hx, hb, hml, hown, hts⟩ := X2
  have hcc : 0 + r.2.1 ≤ mc := by rw [Nat.zero_add]; exact hmc
  have hcs : 0 + r.2.2 ≤ ms := by rw [Nat.zero_add]; exact hms
  unfold K_handK at hr
  refine lv_aload_n hx hb dX2_hand_0 rfl (lv_at hl 0 rfl) ?_
  refine lv_iload_n hx hb dX2_hand_1 rfl (lv_at hl 1 rfl) ?_
  obtain ⟨r1, h1, hr⟩ := ob hr
  refine kr_cVi (k9 := 1) X hM.r (rc_core X hM.r) (k_K_hasIncident h1) (lw_V q677 q678 q679 q66 q680) rfl (by decide +kernel) ⟨Nat.le_of_ble_eq_true rfl, Nat.le_of_ble_eq_true rfl⟩ hl.1 rfl (Nat.le_of_ble_eq_true rfl) dX2_hand_2 ⟨Nat.le_trans (Nat.le_add_right _ _) hcc, Nat.le_trans (Nat.le_add_right _ _) hcs⟩ ?_
  refine lv_if_eq (tgt := 15) hx hb dX2_hand_5 (by decide) (fun c1 => ?_) (fun c1 => ?_)
  · have hr := if_p c1 hr
    refine lv_iconst (v := 1) hx hb dX2_hand_15 rfl ?_
    refine lv_goto (tgt := 20) hx hb dX2_hand_16 (by decide) ?_
    refine lv_iconst (v := 1) hx hb dX2_hand_20 rfl ?_
    cases hr
    exact kt_ref21 X htab hM q527 (Nat.le_of_ble_eq_true rfl) (Nat.le_of_ble_eq_true rfl) hl.1 (Nat.le_of_ble_eq_true rfl) dX2_hand_21 ⟨Nat.le_trans (Nat.le_add_right _ _) hcc, Nat.le_trans (Nat.le_add_right _ _) hcs⟩ rfl hcc hcs rfl rfl
  · have hr := if_n c1 hr
    refine lv_iload_n hx hb dX2_hand_8 rfl (lv_at hl 2 rfl) ?_
    obtain ⟨r2, h2, hr⟩ := ob hr
    refine p_cSN (k9 := 1) X (k_P_isPersonK h2) q521 q522 q65 q523 rfl (by decide +kernel) ⟨Nat.le_of_ble_eq_true rfl, Nat.le_of_ble_eq_true rfl⟩ hl.1 rfl (Nat.le_of_ble_eq_true rfl) dX2_hand_9 ⟨Nat.le_trans (Nat.le_add_right _ _) hcc, Nat.le_trans (Nat.le_add_right _ _) hcs⟩ ?_
    refine lv_if_ne (tgt := 19) hx hb dX2_hand_12 (by decide) (fun c2 => ?_) (fun c2 => ?_)
    · have hr := if_n c2 hr
      refine lv_iconst (v := 0) hx hb dX2_hand_19 rfl ?_
      refine lv_iconst (v := 1) hx hb dX2_hand_20 rfl ?_
      refine kt_ref20 X hM q527 (Nat.le_of_ble_eq_true rfl) (Nat.le_of_ble_eq_true rfl) hl.1 (Nat.le_of_ble_eq_true rfl) dX2_hand_21 ⟨Nat.le_trans (Nat.le_add_right _ _) hcc, Nat.le_trans (Nat.le_add_right _ _) hcs⟩ ?_
      refine lv_aload_n hx hb dX2_hand_24 rfl (lv_at hl 0 rfl) ?_
      refine r_X2_0 X hM.r q144 dX2_hand_25 ?_
      refine lv_iload_n hx hb dX2_hand_28 rfl (lv_at hl 1 rfl) ?_
      obtain ⟨g1, hr⟩ := gs hr
      refine kr_get X hM.r (j := 0) (by decide) g1 q250 (Nat.le_of_ble_eq_true rfl) (Nat.le_of_ble_eq_true rfl) hl.1 (Nat.le_of_ble_eq_true rfl) dX2_hand_29 ⟨Nat.le_trans (Nat.le_add_right _ _) hcc, Nat.le_trans (Nat.le_add_right _ _) hcs⟩ ?_
      refine va_castS hx hb hown (hts _ q264) (X.2.2.2.1.1 2 _ rfl).2 (rc_inc X hM.r g1) dX2_hand_32 ?_
      refine lv_astore_n (lv' := [(3, .ref (L (iC p0))), (0, .ref (L 7)), (1, .int p0), (2, .int p1)]) hx hb dX2_hand_35 rfl hl (by decide) rfl (fun ls hl => ?_)
      refine lv_aload_n hx hb dX2_hand_36 rfl (lv_at hl 0 rfl) ?_
      refine r_X6_7N X hM.r g1 q305 dX2_hand_37 ?_
      refine lv_iconst (v := 3) hx hb dX2_hand_40 rfl ?_
      refine lv_icmp_ne (tgt := 48) hx hb dX2_hand_41 (by decide) (fun c3 => ?_) (fun c3 => ?_)
      · have hr := if_n c3 hr
        refine lv_iconst (v := 0) hx hb dX2_hand_48 rfl ?_
        refine lv_iconst (v := 4) hx hb dX2_hand_49 rfl ?_
        refine kt_ref20 X hM q527 (Nat.le_of_ble_eq_true rfl) (Nat.le_of_ble_eq_true rfl) hl.1 (Nat.le_of_ble_eq_true rfl) dX2_hand_50 ⟨Nat.le_trans (Nat.le_add_right _ _) hcc, Nat.le_trans (Nat.le_add_right _ _) hcs⟩ ?_
        refine lv_aload_n hx hb dX2_hand_53 rfl (lv_at hl 1 rfl) ?_
        refine r_X2_8 X hM.r q164 dX2_hand_54 ?_
        refine lv_iload_n hx hb dX2_hand_57 rfl (lv_at hl 3 rfl) ?_
        obtain ⟨r3, h3, hr⟩ := ob hr
        refine p_cSN (k9 := 2) X (k_P_has h3) q607 q608 q65 q609 rfl (by decide +kernel) ⟨Nat.le_of_ble_eq_true rfl, Nat.le_of_ble_eq_true rfl⟩ hl.1 rfl (Nat.le_of_ble_eq_true rfl) dX2_hand_58 ⟨Nat.le_trans (Nat.le_add_right _ _) hcc, Nat.le_trans (Nat.le_add_right _ _) hcs⟩ ?_
        refine lv_if_eq (tgt := 72) hx hb dX2_hand_61 (by decide) (fun c4 => ?_) (fun c4 => ?_)
        · have hr := if_p c4 hr
          refine lv_iconst (v := 1) hx hb dX2_hand_72 rfl ?_
          refine lv_goto (tgt := 77) hx hb dX2_hand_73 (by decide) ?_
          refine lv_bipush (v := 6) hx hb dX2_hand_77 rfl ?_
          cases hr
          exact kt_ref21 X htab hM q527 (Nat.le_of_ble_eq_true rfl) (Nat.le_of_ble_eq_true rfl) hl.1 (Nat.le_of_ble_eq_true rfl) dX2_hand_79 ⟨Nat.le_trans (Nat.le_add_right _ _) hcc, Nat.le_trans (Nat.le_add_right _ _) hcs⟩ rfl hcc hcs rfl rfl
        · have hr := if_n c4 hr
          refine lv_aload_n hx hb dX2_hand_64 rfl (lv_at hl 0 rfl) ?_
          refine r_X6_5N X hM.r g1 q299 dX2_hand_65 ?_
          refine lv_iload_n hx hb dX2_hand_68 rfl (lv_at hl 3 rfl) ?_
          refine lv_icmp_ne (tgt := 76) hx hb dX2_hand_69 (by decide) (fun c5 => ?_) (fun c5 => ?_)
          · have hr := if_n c5 hr
            refine lv_iconst (v := 0) hx hb dX2_hand_76 rfl ?_
            refine lv_bipush (v := 6) hx hb dX2_hand_77 rfl ?_
            refine kt_ref20 X hM q527 (Nat.le_of_ble_eq_true rfl) (Nat.le_of_ble_eq_true rfl) hl.1 (Nat.le_of_ble_eq_true rfl) dX2_hand_79 ⟨Nat.le_trans (Nat.le_add_right _ _) hcc, Nat.le_trans (Nat.le_add_right _ _) hcs⟩ ?_
            refine lv_aload_n hx hb dX2_hand_82 rfl (lv_at hl 1 rfl) ?_
            refine lv_iload_n hx hb dX2_hand_83 rfl (lv_at hl 3 rfl) ?_
            obtain ⟨r4, h4, hr⟩ := ob hr
            refine kr_cVi (k9 := 1) X hM.r (rc_core X hM.r) (k_K_load h4) (lw_V q618 q619 q620 q66 q621) rfl (by decide +kernel) ⟨Nat.le_of_ble_eq_true rfl, Nat.le_of_ble_eq_true rfl⟩ hl.1 rfl (Nat.le_of_ble_eq_true rfl) dX2_hand_84 ⟨Nat.le_trans (Nat.le_add_right _ _) hcc, Nat.le_trans (Nat.le_add_right _ _) hcs⟩ ?_
            refine lv_iconst (v := 4) hx hb dX2_hand_87 rfl ?_
            refine lv_icmp_lt (tgt := 95) hx hb dX2_hand_88 (by decide) (fun c6 => ?_) (fun c6 => ?_)
            · have hr := if_p c6 hr
              refine lv_iconst (v := 0) hx hb dX2_hand_95 rfl ?_
              refine lv_bipush (v := 7) hx hb dX2_hand_96 rfl ?_
              refine kt_ref20 X hM q527 (Nat.le_of_ble_eq_true rfl) (Nat.le_of_ble_eq_true rfl) hl.1 (Nat.le_of_ble_eq_true rfl) dX2_hand_98 ⟨Nat.le_trans (Nat.le_add_right _ _) hcc, Nat.le_trans (Nat.le_add_right _ _) hcs⟩ ?_
              refine lv_aload_n hx hb dX2_hand_101 rfl (lv_at hl 0 rfl) ?_
              refine r_X6_5N X hM.r g1 q299 dX2_hand_102 ?_
              refine lv_istore (lv' := [(4, .int (G (iC p0) 5)), (3, .ref (L (iC p0))), (0, .ref (L 7)), (1, .int p0), (2, .int p1)]) hx hb dX2_hand_105 hl (by decide) rfl (fun ls hl => ?_)
              refine lv_aload_n hx hb dX2_hand_107 rfl (lv_at hl 1 rfl) ?_
              refine lv_iload_n hx hb dX2_hand_108 rfl (lv_at hl 4 rfl) ?_
              obtain ⟨r5, h5, hr⟩ := ob hr
              obtain ⟨r6, h9, e9⟩ := tkE hr
              subst e9
              have hr := h9
              clear h9
              refine kw_cVv (k9 := 1) X hM (rc_inc X hM.r g1) (fun ow => k_K_handI g1 h5 (Nat.le_refl _) (Nat.le_refl _)) (lw_V q622 q623 q624 q75 q625) rfl (by decide +kernel) ⟨Nat.le_of_ble_eq_true rfl, Nat.le_of_ble_eq_true rfl⟩ hl.1 rfl (Nat.le_of_ble_eq_true rfl) dX2_hand_109 ⟨Nat.le_trans (Nat.add_le_add_left (Nat.le_add_right _ _) _) hcc, Nat.le_trans (Nat.add_le_add_left (Nat.le_add_right _ _) _) hcs⟩ (fun H locs hM => ?_)
              have hcc := Nat.le_trans (Nat.le_of_eq (Nat.add_assoc _ _ _)) hcc
              have hcs := Nat.le_trans (Nat.le_of_eq (Nat.add_assoc _ _ _)) hcs
              refine lv_iload hx hb dX2_hand_112 (lv_at hl 0 rfl) ?_
              cases hr
              exact kt_iret X hM hcc hcs dX2_hand_114
            · have hr := if_n c6 hr
              refine lv_iconst (v := 1) hx hb dX2_hand_91 rfl ?_
              refine lv_goto (tgt := 96) hx hb dX2_hand_92 (by decide) ?_
              refine lv_bipush (v := 7) hx hb dX2_hand_96 rfl ?_
              cases hr
              exact kt_ref21 X htab hM q527 (Nat.le_of_ble_eq_true rfl) (Nat.le_of_ble_eq_true rfl) hl.1 (Nat.le_of_ble_eq_true rfl) dX2_hand_98 ⟨Nat.le_trans (Nat.le_add_right _ _) hcc, Nat.le_trans (Nat.le_add_right _ _) hcs⟩ rfl hcc hcs rfl rfl
          · have hr := if_p c5 hr
            refine lv_iconst (v := 1) hx hb dX2_hand_72 rfl ?_
            refine lv_goto (tgt := 77) hx hb dX2_hand_73 (by decide) ?_
            refine lv_bipush (v := 6) hx hb dX2_hand_77 rfl ?_
            cases hr
            exact kt_ref21 X htab hM q527 (Nat.le_of_ble_eq_true rfl) (Nat.le_of_ble_eq_true rfl) hl.1 (Nat.le_of_ble_eq_true rfl) dX2_hand_79 ⟨Nat.le_trans (Nat.le_add_right _ _) hcc, Nat.le_trans (Nat.le_add_right _ _) hcs⟩ rfl hcc hcs rfl rfl
      · have hr := if_p c3 hr
        refine lv_iconst (v := 1) hx hb dX2_hand_44 rfl ?_
        refine lv_goto (tgt := 49) hx hb dX2_hand_45 (by decide) ?_
        refine lv_iconst (v := 4) hx hb dX2_hand_49 rfl ?_
        cases hr
        exact kt_ref21 X htab hM q527 (Nat.le_of_ble_eq_true rfl) (Nat.le_of_ble_eq_true rfl) hl.1 (Nat.le_of_ble_eq_true rfl) dX2_hand_50 ⟨Nat.le_trans (Nat.le_add_right _ _) hcc, Nat.le_trans (Nat.le_add_right _ _) hcs⟩ rfl hcc hcs rfl rfl
    · have hr := if_p c2 hr
      refine lv_iconst (v := 1) hx hb dX2_hand_15 rfl ?_
      refine lv_goto (tgt := 20) hx hb dX2_hand_16 (by decide) ?_
      refine lv_iconst (v := 1) hx hb dX2_hand_20 rfl ?_
      cases hr
      exact kt_ref21 X htab hM q527 (Nat.le_of_ble_eq_true rfl) (Nat.le_of_ble_eq_true rfl) hl.1 (Nat.le_of_ble_eq_true rfl) dX2_hand_21 ⟨Nat.le_trans (Nat.le_add_right _ _) hcc, Nat.le_trans (Nat.le_add_right _ _) hcs⟩ rfl hcc hcs rfl rfl
def K_put5 (F : Nat) (N : Nat → Nat) (p1 : Int32) (p2 : Int32) (p3 : Int32) (p4 : Int32) (G : mMS) : Option (KO × Nat × Nat) :=
  (P_isBetween F p1 0 (4 - 1)).bind fun r1 =>
  if r1 = 0 then
    some (.inr (2, 0), 1, 8)
  else
    (P_isBetween F p2 p3 p4).bind fun r2 =>
    if r2 = 0 then
      some (.inr (2, 0), 1, 8)
    else
      gd p1 4 <|
      gd p1 4 <|
      st (m_up G 5 p1.toNatClampNeg p2) fun G1 =>
      some (.inl (G 5 p1.toNatClampNeg, G1), 0, 0)
theorem k_K_put5 {F : Nat} {p1 : Int32} {p2 : Int32} {p3 : Int32} {p4 : Int32} {sz : Nat} {r : KO × Nat × Nat} (hr : K_put5 F N p1 p2 p3 p4 G = some r) (hmc : r.2.1 ≤ mc) (hms : r.2.2 ≤ ms) : KtI l D ca zb ow0 sz yX2_put cX2_put 6 (some .int) 6 mc ms [.ref (L 5), .int p1, .int p2, .int p3, .int p4] N L G (fun v => some (.int v)) (fun _ G' => kPost D ca zb ow0 sz N L G') r.1 := by
  refine kt_start (own := RX2) (by decide) rfl (Nat.le_of_ble_eq_true rfl) fun p e s m below meth c X htab ls hl hsz hM => ?_
  subst hsz
  have hl : lv_has ls 6 [(0, .ref (L 5)), (1, .int p1), (2, .int p2), (3, .int p3), (4, .int p4)] := hl
  have X2 := X.1
  obtain ⟨hx, hb, hml, hown, hts⟩ := X2
  have hcc : 0 + r.2.1 ≤ mc := by rw [Nat.zero_add]; exact hmc
  have hcs : 0 + r.2.2 ≤ ms := by rw [Nat.zero_add]; exact hms
  unfold K_put5 at hr
  refine lv_iload_n hx hb dX2_put_0 rfl (lv_at hl 1 rfl) ?_
  refine lv_iconst (v := 0) hx hb dX2_put_1 rfl ?_
  refine lv_aload_n hx hb dX2_put_2 rfl (lv_at hl 0 rfl) ?_
  refine r_len_5 X hM.r dX2_put_3 ?_
  refine lv_iconst (v := 1) hx hb dX2_put_4 rfl ?_
  refine lv_isub hx hb dX2_put_5 ?_
  obtain ⟨r1, h1, hr⟩ := ob hr
  refine p_cSN (k9 := 3) X (k_P_isBetween h1) q671 q525 q65 q526 rfl (by decide +kernel) ⟨Nat.le_of_ble_eq_true rfl, Nat.le_of_ble_eq_true rfl⟩ hl.1 rfl (Nat.le_of_ble_eq_true rfl) dX2_put_6 ⟨Nat.le_trans (Nat.le_add_right _ _) hcc, Nat.le_trans (Nat.le_add_right _ _) hcs⟩ ?_
  refine lv_if_eq (tgt := 22) hx hb dX2_put_9 (by decide) (fun c1 => ?_) (fun c1 => ?_)
  · have hr := if_p c1 hr
    refine lv_iconst (v := 1) hx hb dX2_put_22 rfl ?_
    refine lv_goto (tgt := 27) hx hb dX2_put_23 (by decide) ?_
    refine lv_iconst (v := 2) hx hb dX2_put_27 rfl ?_
    cases hr
    exact kt_ref21 X htab hM q527 (Nat.le_of_ble_eq_true rfl) (Nat.le_of_ble_eq_true rfl) hl.1 (Nat.le_of_ble_eq_true rfl) dX2_put_28 ⟨Nat.le_trans (Nat.le_add_right _ _) hcc, Nat.le_trans (Nat.le_add_right _ _) hcs⟩ rfl hcc hcs rfl rfl
  · have hr := if_n c1 hr
    refine lv_iload_n hx hb dX2_put_12 rfl (lv_at hl 2 rfl) ?_
    refine lv_iload_n hx hb dX2_put_13 rfl (lv_at hl 3 rfl) ?_
    refine lv_iload hx hb dX2_put_14 (lv_at hl 4 rfl) ?_
    obtain ⟨r2, h2, hr⟩ := ob hr
    refine p_cSN (k9 := 3) X (k_P_isBetween h2) q671 q525 q65 q526 rfl (by decide +kernel) ⟨Nat.le_of_ble_eq_true rfl, Nat.le_of_ble_eq_true rfl⟩ hl.1 rfl (Nat.le_of_ble_eq_true rfl) dX2_put_16 ⟨Nat.le_trans (Nat.le_add_right _ _) hcc, Nat.le_trans (Nat.le_add_right _ _) hcs⟩ ?_
    refine lv_if_ne (tgt := 26) hx hb dX2_put_19 (by decide) (fun c2 => ?_) (fun c2 => ?_)
    · have hr := if_n c2 hr
      refine lv_iconst (v := 0) hx hb dX2_put_26 rfl ?_
      refine lv_iconst (v := 2) hx hb dX2_put_27 rfl ?_
      refine kt_ref20 X hM q527 (Nat.le_of_ble_eq_true rfl) (Nat.le_of_ble_eq_true rfl) hl.1 (Nat.le_of_ble_eq_true rfl) dX2_put_28 ⟨Nat.le_trans (Nat.le_add_right _ _) hcc, Nat.le_trans (Nat.le_add_right _ _) hcs⟩ ?_
      refine lv_aload_n hx hb dX2_put_31 rfl (lv_at hl 0 rfl) ?_
      refine lv_iload_n hx hb dX2_put_32 rfl (lv_at hl 1 rfl) ?_
      obtain ⟨g1, hr⟩ := gs hr
      refine r_ald_5 X hM.r g1 dX2_put_33 ?_
      refine lv_istore (lv' := [(5, .int (G 5 p1.toNatClampNeg)), (0, .ref (L 5)), (1, .int p1), (2, .int p2), (3, .int p3), (4, .int p4)]) hx hb dX2_put_34 hl (by decide) rfl (fun ls hl => ?_)
      refine lv_aload_n hx hb dX2_put_36 rfl (lv_at hl 1 rfl) ?_
      refine lv_iload_n hx hb dX2_put_37 rfl (lv_at hl 2 rfl) ?_
      refine lv_iload_n hx hb dX2_put_38 rfl (lv_at hl 3 rfl) ?_
      obtain ⟨g2, hr⟩ := gs hr
      refine w_ast_5 X hM g2 dX2_put_39 (fun H locs G1 e1 hM => ?_)
      have hr := stE hr e1
      refine lv_iload hx hb dX2_put_40 (lv_at hl 0 rfl) ?_
      cases hr
      exact kt_iret X hM hcc hcs dX2_put_42
    · have hr := if_p c2 hr
      refine lv_iconst (v := 1) hx hb dX2_put_22 rfl ?_
      refine lv_goto (tgt := 27) hx hb dX2_put_23 (by decide) ?_
      refine lv_iconst (v := 2) hx hb dX2_put_27 rfl ?_
      cases hr
      exact kt_ref21 X htab hM q527 (Nat.le_of_ble_eq_true rfl) (Nat.le_of_ble_eq_true rfl) hl.1 (Nat.le_of_ble_eq_true rfl) dX2_put_28 ⟨Nat.le_trans (Nat.le_add_right _ _) hcc, Nat.le_trans (Nat.le_add_right _ _) hcs⟩ rfl hcc hcs rfl rfl
def K_put6 (F : Nat) (N : Nat → Nat) (p1 : Int32) (p2 : Int32) (p3 : Int32) (p4 : Int32) (G : mMS) : Option (KO × Nat × Nat) :=
  (P_isBetween F p1 0 (4 - 1)).bind fun r1 =>
  if r1 = 0 then
    some (.inr (2, 0), 1, 8)
  else
    (P_isBetween F p2 p3 p4).bind fun r2 =>
    if r2 = 0 then
      some (.inr (2, 0), 1, 8)
    else
      gd p1 4 <|
      gd p1 4 <|
      st (m_up G 6 p1.toNatClampNeg p2) fun G1 =>
      some (.inl (G 6 p1.toNatClampNeg, G1), 0, 0)
theorem k_K_put6 {F : Nat} {p1 : Int32} {p2 : Int32} {p3 : Int32} {p4 : Int32} {sz : Nat} {r : KO × Nat × Nat} (hr : K_put6 F N p1 p2 p3 p4 G = some r) (hmc : r.2.1 ≤ mc) (hms : r.2.2 ≤ ms) : KtI l D ca zb ow0 sz yX2_put cX2_put 6 (some .int) 6 mc ms [.ref (L 6), .int p1, .int p2, .int p3, .int p4] N L G (fun v => some (.int v)) (fun _ G' => kPost D ca zb ow0 sz N L G') r.1 := by
  refine kt_start (own := RX2) (by decide) rfl (Nat.le_of_ble_eq_true rfl) fun p e s m below meth c X htab ls hl hsz hM => ?_
  subst hsz
  have hl : lv_has ls 6 [(0, .ref (L 6)), (1, .int p1), (2, .int p2), (3, .int p3), (4, .int p4)] := hl
  have X2 := X.1
  obtain ⟨hx, hb, hml, hown, hts⟩ := X2
  have hcc : 0 + r.2.1 ≤ mc := by rw [Nat.zero_add]; exact hmc
  have hcs : 0 + r.2.2 ≤ ms := by rw [Nat.zero_add]; exact hms
  unfold K_put6 at hr
  refine lv_iload_n hx hb dX2_put_0 rfl (lv_at hl 1 rfl) ?_
  refine lv_iconst (v := 0) hx hb dX2_put_1 rfl ?_
  refine lv_aload_n hx hb dX2_put_2 rfl (lv_at hl 0 rfl) ?_
  refine r_len_6 X hM.r dX2_put_3 ?_
  refine lv_iconst (v := 1) hx hb dX2_put_4 rfl ?_
  refine lv_isub hx hb dX2_put_5 ?_
  obtain ⟨r1, h1, hr⟩ := ob hr
  refine p_cSN (k9 := 3) X (k_P_isBetween h1) q671 q525 q65 q526 rfl (by decide +kernel) ⟨Nat.le_of_ble_eq_true rfl, Nat.le_of_ble_eq_true rfl⟩ hl.1 rfl (Nat.le_of_ble_eq_true rfl) dX2_put_6 ⟨Nat.le_trans (Nat.le_add_right _ _) hcc, Nat.le_trans (Nat.le_add_right _ _) hcs⟩ ?_
  refine lv_if_eq (tgt := 22) hx hb dX2_put_9 (by decide) (fun c1 => ?_) (fun c1 => ?_)
  · have hr := if_p c1 hr
    refine lv_iconst (v := 1) hx hb dX2_put_22 rfl ?_
    refine lv_goto (tgt := 27) hx hb dX2_put_23 (by decide) ?_
    refine lv_iconst (v := 2) hx hb dX2_put_27 rfl ?_
    cases hr
    exact kt_ref21 X htab hM q527 (Nat.le_of_ble_eq_true rfl) (Nat.le_of_ble_eq_true rfl) hl.1 (Nat.le_of_ble_eq_true rfl) dX2_put_28 ⟨Nat.le_trans (Nat.le_add_right _ _) hcc, Nat.le_trans (Nat.le_add_right _ _) hcs⟩ rfl hcc hcs rfl rfl
  · have hr := if_n c1 hr
    refine lv_iload_n hx hb dX2_put_12 rfl (lv_at hl 2 rfl) ?_
    refine lv_iload_n hx hb dX2_put_13 rfl (lv_at hl 3 rfl) ?_
    refine lv_iload hx hb dX2_put_14 (lv_at hl 4 rfl) ?_
    obtain ⟨r2, h2, hr⟩ := ob hr
    refine p_cSN (k9 := 3) X (k_P_isBetween h2) q671 q525 q65 q526 rfl (by decide +kernel) ⟨Nat.le_of_ble_eq_true rfl, Nat.le_of_ble_eq_true rfl⟩ hl.1 rfl (Nat.le_of_ble_eq_true rfl) dX2_put_16 ⟨Nat.le_trans (Nat.le_add_right _ _) hcc, Nat.le_trans (Nat.le_add_right _ _) hcs⟩ ?_
    refine lv_if_ne (tgt := 26) hx hb dX2_put_19 (by decide) (fun c2 => ?_) (fun c2 => ?_)
    · have hr := if_n c2 hr
      refine lv_iconst (v := 0) hx hb dX2_put_26 rfl ?_
      refine lv_iconst (v := 2) hx hb dX2_put_27 rfl ?_
      refine kt_ref20 X hM q527 (Nat.le_of_ble_eq_true rfl) (Nat.le_of_ble_eq_true rfl) hl.1 (Nat.le_of_ble_eq_true rfl) dX2_put_28 ⟨Nat.le_trans (Nat.le_add_right _ _) hcc, Nat.le_trans (Nat.le_add_right _ _) hcs⟩ ?_
      refine lv_aload_n hx hb dX2_put_31 rfl (lv_at hl 0 rfl) ?_
      refine lv_iload_n hx hb dX2_put_32 rfl (lv_at hl 1 rfl) ?_
      obtain ⟨g1, hr⟩ := gs hr
      refine r_ald_6 X hM.r g1 dX2_put_33 ?_
      refine lv_istore (lv' := [(5, .int (G 6 p1.toNatClampNeg)), (0, .ref (L 6)), (1, .int p1), (2, .int p2), (3, .int p3), (4, .int p4)]) hx hb dX2_put_34 hl (by decide) rfl (fun ls hl => ?_)
      refine lv_aload_n hx hb dX2_put_36 rfl (lv_at hl 1 rfl) ?_
      refine lv_iload_n hx hb dX2_put_37 rfl (lv_at hl 2 rfl) ?_
      refine lv_iload_n hx hb dX2_put_38 rfl (lv_at hl 3 rfl) ?_
      obtain ⟨g2, hr⟩ := gs hr
      refine w_ast_6 X hM g2 dX2_put_39 (fun H locs G1 e1 hM => ?_)
      have hr := stE hr e1
      refine lv_iload hx hb dX2_put_40 (lv_at hl 0 rfl) ?_
      cases hr
      exact kt_iret X hM hcc hcs dX2_put_42
    · have hr := if_p c2 hr
      refine lv_iconst (v := 1) hx hb dX2_put_22 rfl ?_
      refine lv_goto (tgt := 27) hx hb dX2_put_23 (by decide) ?_
      refine lv_iconst (v := 2) hx hb dX2_put_27 rfl ?_
      cases hr
      exact kt_ref21 X htab hM q527 (Nat.le_of_ble_eq_true rfl) (Nat.le_of_ble_eq_true rfl) hl.1 (Nat.le_of_ble_eq_true rfl) dX2_put_28 ⟨Nat.le_trans (Nat.le_add_right _ _) hcc, Nat.le_trans (Nat.le_add_right _ _) hcs⟩ rfl hcc hcs rfl rfl
def K_setTargetK (F : Nat) (N : Nat → Nat) (p0 : Int32) (p1 : Int32) (G : mMS) : Option (KO × Nat × Nat) :=
  (K_put5 F N (p0 - 1) p1 1 999 G).bind fun r1 =>
  tk r1.2.1 r1.2.2 <|
  onL r1.1 fun o1 =>
  some (.inl (o1.1, o1.2), 0, 0)
theorem k_K_setTargetK {F : Nat} {p0 : Int32} {p1 : Int32} {sz : Nat} {r : KO × Nat × Nat} (hr : K_setTargetK F N p0 p1 G = some r) (hmc : r.2.1 ≤ mc) (hms : r.2.2 ≤ ms) : KtI l D ca zb ow0 sz yX2_setTarget cX2_setTarget 3 (some .int) 7 mc ms [.ref (L 7), .int p0, .int p1] N L G (fun v => some (.int v)) (fun _ G' => kPost D ca zb ow0 sz N L G') r.1 := by
  refine kt_start (own := RX2) (by decide) rfl (Nat.le_of_ble_eq_true rfl) fun p e s m below meth c X htab ls hl hsz hM => ?_
  subst hsz
  have hl : lv_has ls 3 [(0, .ref (L 7)), (1, .int p0), (2, .int p1)] := hl
  have X2 := X.1
  obtain ⟨hx, hb, hml, hown, hts⟩ := X2
  have hcc : 0 + r.2.1 ≤ mc := by rw [Nat.zero_add]; exact hmc
  have hcs : 0 + r.2.2 ≤ ms := by rw [Nat.zero_add]; exact hms
  unfold K_setTargetK at hr
  refine lv_aload_n hx hb dX2_setTarget_0 rfl (lv_at hl 0 rfl) ?_
  refine r_X2_5 X hM.r q156 dX2_setTarget_1 ?_
  refine lv_iload_n hx hb dX2_setTarget_4 rfl (lv_at hl 1 rfl) ?_
  refine lv_iconst (v := 1) hx hb dX2_setTarget_5 rfl ?_
  refine lv_isub hx hb dX2_setTarget_6 ?_
  refine lv_iload_n hx hb dX2_setTarget_7 rfl (lv_at hl 2 rfl) ?_
  refine lv_iconst (v := 1) hx hb dX2_setTarget_8 rfl ?_
  refine lv_sipush (v := 999) hx hb dX2_setTarget_9 rfl ?_
  obtain ⟨r1, h1, hr⟩ := ob hr
  obtain ⟨r2, h9, e9⟩ := tkE hr
  subst e9
  have hr := h9
  clear h9
  refine kt_cSi (k9 := 5) X htab hM (fun ow => k_K_put5 h1 (Nat.le_refl _) (Nat.le_refl _)) (lw_S q858 q859 q66 q860) rfl (by decide +kernel) ⟨Nat.le_of_ble_eq_true rfl, Nat.le_of_ble_eq_true rfl⟩ hl.1 rfl (Nat.le_of_ble_eq_true rfl) dX2_setTarget_12 ⟨Nat.le_trans (Nat.add_le_add_left (Nat.le_add_right _ _) _) hcc, Nat.le_trans (Nat.add_le_add_left (Nat.le_add_right _ _) _) hcs⟩ (fun a b e1 => ?_) (fun o1 e1 H locs hM => ?_)
  · have h9 := onL_r hr e1
    subst h9
    exact ⟨rfl, hcc, hcs⟩
  · have hr := onL_l hr e1
    have hcc := Nat.le_trans (Nat.le_of_eq (Nat.add_assoc _ _ _)) hcc
    have hcs := Nat.le_trans (Nat.le_of_eq (Nat.add_assoc _ _ _)) hcs
    cases hr
    exact kt_iret X hM hcc hcs dX2_setTarget_15
def K_setLimitK (F : Nat) (N : Nat → Nat) (p0 : Int32) (p1 : Int32) (G : mMS) : Option (KO × Nat × Nat) :=
  (K_put6 F N p0 p1 0 99 G).bind fun r1 =>
  tk r1.2.1 r1.2.2 <|
  onL r1.1 fun o1 =>
  some (.inl (o1.1, o1.2), 0, 0)
theorem k_K_setLimitK {F : Nat} {p0 : Int32} {p1 : Int32} {sz : Nat} {r : KO × Nat × Nat} (hr : K_setLimitK F N p0 p1 G = some r) (hmc : r.2.1 ≤ mc) (hms : r.2.2 ≤ ms) : KtI l D ca zb ow0 sz yX2_setLimit cX2_setLimit 3 (some .int) 7 mc ms [.ref (L 7), .int p0, .int p1] N L G (fun v => some (.int v)) (fun _ G' => kPost D ca zb ow0 sz N L G') r.1 := by
  refine kt_start (own := RX2) (by decide) rfl (Nat.le_of_ble_eq_true rfl) fun p e s m below meth c X htab ls hl hsz hM => ?_
  subst hsz
  have hl : lv_has ls 3 [(0, .ref (L 7)), (1, .int p0), (2, .int p1)] := hl
  have X2 := X.1
  obtain ⟨hx, hb, hml, hown, hts⟩ := X2
  have hcc : 0 + r.2.1 ≤ mc := by rw [Nat.zero_add]; exact hmc
  have hcs : 0 + r.2.2 ≤ ms := by rw [Nat.zero_add]; exact hms
  unfold K_setLimitK at hr
  refine lv_aload_n hx hb dX2_setLimit_0 rfl (lv_at hl 0 rfl) ?_
  refine r_X2_6 X hM.r q159 dX2_setLimit_1 ?_
  refine lv_iload_n hx hb dX2_setLimit_4 rfl (lv_at hl 1 rfl) ?_
  refine lv_iload_n hx hb dX2_setLimit_5 rfl (lv_at hl 2 rfl) ?_
  refine lv_iconst (v := 0) hx hb dX2_setLimit_6 rfl ?_
  refine lv_bipush (v := 99) hx hb dX2_setLimit_7 rfl ?_
  obtain ⟨r1, h1, hr⟩ := ob hr
  obtain ⟨r2, h9, e9⟩ := tkE hr
  subst e9
  have hr := h9
  clear h9
  refine kt_cSi (k9 := 5) X htab hM (fun ow => k_K_put6 h1 (Nat.le_refl _) (Nat.le_refl _)) (lw_S q858 q859 q66 q860) rfl (by decide +kernel) ⟨Nat.le_of_ble_eq_true rfl, Nat.le_of_ble_eq_true rfl⟩ hl.1 rfl (Nat.le_of_ble_eq_true rfl) dX2_setLimit_9 ⟨Nat.le_trans (Nat.add_le_add_left (Nat.le_add_right _ _) _) hcc, Nat.le_trans (Nat.add_le_add_left (Nat.le_add_right _ _) _) hcs⟩ (fun a b e1 => ?_) (fun o1 e1 H locs hM => ?_)
  · have h9 := onL_r hr e1
    subst h9
    exact ⟨rfl, hcc, hcs⟩
  · have hr := onL_l hr e1
    have hcc := Nat.le_trans (Nat.le_of_eq (Nat.add_assoc _ _ _)) hcc
    have hcs := Nat.le_trans (Nat.le_of_eq (Nat.add_assoc _ _ _)) hcs
    cases hr
    exact kt_iret X hM hcc hcs dX2_setLimit_12
def K_setWindowK (F : Nat) (N : Nat → Nat) (p0 : Int32) (G : mMS) : Option (KO × Nat × Nat) :=
  (P_isBetween F p0 0 999).bind fun r1 =>
  if r1 = 0 then
    some (.inr (2, 0), 1, 8)
  else
    st (m_up G 7 9 p0) fun G1 =>
    some (.inl (G 7 9, G1), 0, 0)
theorem k_K_setWindowK {F : Nat} {p0 : Int32} {sz : Nat} {r : KO × Nat × Nat} (hr : K_setWindowK F N p0 G = some r) (hmc : r.2.1 ≤ mc) (hms : r.2.2 ≤ ms) : KtI l D ca zb ow0 sz yX2_setWindow cX2_setWindow 3 (some .int) 6 mc ms [.ref (L 7), .int p0] N L G (fun v => some (.int v)) (fun _ G' => kPost D ca zb ow0 sz N L G') r.1 := by
  refine kt_start (own := RX2) (by decide) rfl (Nat.le_of_ble_eq_true rfl) fun p e s m below meth c X htab ls hl hsz hM => ?_
  subst hsz
  have hl : lv_has ls 3 [(0, .ref (L 7)), (1, .int p0)] := hl
  have X2 := X.1
  obtain ⟨hx, hb, hml, hown, hts⟩ := X2
  have hcc : 0 + r.2.1 ≤ mc := by rw [Nat.zero_add]; exact hmc
  have hcs : 0 + r.2.2 ≤ ms := by rw [Nat.zero_add]; exact hms
  unfold K_setWindowK at hr
  refine lv_iload_n hx hb dX2_setWindow_0 rfl (lv_at hl 1 rfl) ?_
  refine lv_iconst (v := 0) hx hb dX2_setWindow_1 rfl ?_
  refine lv_sipush (v := 999) hx hb dX2_setWindow_2 rfl ?_
  obtain ⟨r1, h1, hr⟩ := ob hr
  refine p_cSN (k9 := 3) X (k_P_isBetween h1) q671 q525 q65 q526 rfl (by decide +kernel) ⟨Nat.le_of_ble_eq_true rfl, Nat.le_of_ble_eq_true rfl⟩ hl.1 rfl (Nat.le_of_ble_eq_true rfl) dX2_setWindow_5 ⟨Nat.le_trans (Nat.le_add_right _ _) hcc, Nat.le_trans (Nat.le_add_right _ _) hcs⟩ ?_
  refine lv_if_ne (tgt := 15) hx hb dX2_setWindow_8 (by decide) (fun c1 => ?_) (fun c1 => ?_)
  · have hr := if_n c1 hr
    refine lv_iconst (v := 0) hx hb dX2_setWindow_15 rfl ?_
    refine lv_iconst (v := 2) hx hb dX2_setWindow_16 rfl ?_
    refine kt_ref20 X hM q527 (Nat.le_of_ble_eq_true rfl) (Nat.le_of_ble_eq_true rfl) hl.1 (Nat.le_of_ble_eq_true rfl) dX2_setWindow_17 ⟨Nat.le_trans (Nat.le_add_right _ _) hcc, Nat.le_trans (Nat.le_add_right _ _) hcs⟩ ?_
    refine lv_aload_n hx hb dX2_setWindow_20 rfl (lv_at hl 0 rfl) ?_
    refine r_X2_9 X hM.r q166 dX2_setWindow_21 ?_
    refine lv_istore_n (lv' := [(2, .int (G 7 9)), (0, .ref (L 7)), (1, .int p0)]) hx hb dX2_setWindow_24 rfl hl (by decide) rfl (fun ls hl => ?_)
    refine lv_aload_n hx hb dX2_setWindow_25 rfl (lv_at hl 1 rfl) ?_
    refine lv_iload_n hx hb dX2_setWindow_26 rfl (lv_at hl 2 rfl) ?_
    refine w_X2_9 X hM q166 dX2_setWindow_27 (fun H locs G1 e1 hM => ?_)
    have hr := stE hr e1
    refine lv_iload_n hx hb dX2_setWindow_30 rfl (lv_at hl 0 rfl) ?_
    cases hr
    exact kt_iret X hM hcc hcs dX2_setWindow_31
  · have hr := if_p c1 hr
    refine lv_iconst (v := 1) hx hb dX2_setWindow_11 rfl ?_
    refine lv_goto (tgt := 16) hx hb dX2_setWindow_12 (by decide) ?_
    refine lv_iconst (v := 2) hx hb dX2_setWindow_16 rfl ?_
    cases hr
    exact kt_ref21 X htab hM q527 (Nat.le_of_ble_eq_true rfl) (Nat.le_of_ble_eq_true rfl) hl.1 (Nat.le_of_ble_eq_true rfl) dX2_setWindow_17 ⟨Nat.le_trans (Nat.le_add_right _ _) hcc, Nat.le_trans (Nat.le_add_right _ _) hcs⟩ rfl hcc hcs rfl rfl
def K_rateK (F : Nat) (N : Nat → Nat) (p0 : Int32) (p1 : Int32) (G : mMS) : Option (KO × Nat × Nat) :=
  (K_getK F N p0 G).bind fun r1 =>
  tk r1.2.1 r1.2.2 <|
  onL r1.1 fun o1 =>
  gd o1.1 (N 0) <|
  (P_isBetween F p1 1 4).bind fun r3 =>
  if r3 = 0 then
    some (.inr (2, 0), 1, 8)
  else
    (K_isActive F N o1.1 o1.2).bind fun r4 =>
    if r4 = 0 then
      some (.inr (4, 0), 1, 8)
    else
      (K_rateI F N o1.1 p1 o1.2).bind fun r5 =>
      tk r5.2.1 r5.2.2 <|
      some (.inl (o1.2 (iC o1.1) 4, r5.1.2), 0, 0)
theorem k_K_rateK {F : Nat} {p0 : Int32} {p1 : Int32} {sz : Nat} {r : KO × Nat × Nat} (hr : K_rateK F N p0 p1 G = some r) (hmc : r.2.1 ≤ mc) (hms : r.2.2 ≤ ms) : KtI l D ca zb ow0 sz yX2_rate cX2_rate 5 (some .int) 9 mc ms [.ref (L 7), .int p0, .int p1] N L G (fun v => some (.int v)) (fun _ G' => kPost D ca zb ow0 sz N L G') r.1 := by
  refine kt_start (own := RX2) (by decide) rfl (Nat.le_of_ble_eq_true rfl) fun p e s m below meth c X htab ls hl hsz hM => ?_
  subst hsz
  have hl : lv_has ls 5 [(0, .ref (L 7)), (1, .int p0), (2, .int p1)] := hl
  have X2 := X.1
  obtain ⟨hx, hb, hml, hown, hts⟩ := X2
  have hcc : 0 + r.2.1 ≤ mc := by rw [Nat.zero_add]; exact hmc
  have hcs : 0 + r.2.2 ≤ ms := by rw [Nat.zero_add]; exact hms
  unfold K_rateK at hr
  refine lv_aload_n hx hb dX2_rate_0 rfl (lv_at hl 0 rfl) ?_
  refine lv_iload_n hx hb dX2_rate_1 rfl (lv_at hl 1 rfl) ?_
  obtain ⟨r1, h1, hr⟩ := ob hr
  obtain ⟨r2, h9, e9⟩ := tkE hr
  subst e9
  have hr := h9
  clear h9
  refine kt_cVr (k9 := 1) X htab hM (rc_core X hM.r) (fun ow => k_K_getK h1 (Nat.le_refl _) (Nat.le_refl _)) (lw_V q689 q691 qs10 q66 q692) rfl (by decide +kernel) ⟨Nat.le_of_ble_eq_true rfl, Nat.le_of_ble_eq_true rfl⟩ hl.1 rfl (Nat.le_of_ble_eq_true rfl) dX2_rate_2 ⟨Nat.le_trans (Nat.add_le_add_left (Nat.le_add_right _ _) _) hcc, Nat.le_trans (Nat.add_le_add_left (Nat.le_add_right _ _) _) hcs⟩ (fun a b e1 => ?_) (fun o1 e1 H locs hM => ?_)
  · have h9 := onL_r hr e1
    subst h9
    exact ⟨rfl, hcc, hcs⟩
  · have hr := onL_l hr e1
    have hcc := Nat.le_trans (Nat.le_of_eq (Nat.add_assoc _ _ _)) hcc
    have hcs := Nat.le_trans (Nat.le_of_eq (Nat.add_assoc _ _ _)) hcs
    obtain ⟨g1, hr⟩ := gs hr
    refine lv_astore_n (lv' := [(3, .ref (L (iC o1.1))), (0, .ref (L 7)), (1, .int p0), (2, .int p1)]) hx hb dX2_rate_5 rfl hl (by decide) rfl (fun ls hl => ?_)
    refine lv_iload_n hx hb dX2_rate_6 rfl (lv_at hl 3 rfl) ?_
    refine lv_iconst (v := 1) hx hb dX2_rate_7 rfl ?_
    refine lv_iconst (v := 4) hx hb dX2_rate_8 rfl ?_
    obtain ⟨r3, h2, hr⟩ := ob hr
    refine p_cSN (k9 := 3) X (k_P_isBetween h2) q671 q525 q65 q526 rfl (by decide +kernel) ⟨Nat.le_of_ble_eq_true rfl, Nat.le_of_ble_eq_true rfl⟩ hl.1 rfl (Nat.le_of_ble_eq_true rfl) dX2_rate_9 ⟨Nat.le_trans (Nat.le_add_right _ _) hcc, Nat.le_trans (Nat.le_add_right _ _) hcs⟩ ?_
    refine lv_if_ne (tgt := 19) hx hb dX2_rate_12 (by decide) (fun c1 => ?_) (fun c1 => ?_)
    · have hr := if_n c1 hr
      refine lv_iconst (v := 0) hx hb dX2_rate_19 rfl ?_
      refine lv_iconst (v := 2) hx hb dX2_rate_20 rfl ?_
      refine kt_ref20 X hM q527 (Nat.le_of_ble_eq_true rfl) (Nat.le_of_ble_eq_true rfl) hl.1 (Nat.le_of_ble_eq_true rfl) dX2_rate_21 ⟨Nat.le_trans (Nat.le_add_right _ _) hcc, Nat.le_trans (Nat.le_add_right _ _) hcs⟩ ?_
      refine lv_aload_n hx hb dX2_rate_24 rfl (lv_at hl 0 rfl) ?_
      obtain ⟨r4, h3, hr⟩ := ob hr
      refine kr_cVi (k9 := 0) X hM.r (rc_inc X hM.r g1) (k_K_isActive g1 h3) (lw_V q610 q611 q612 q75 q613) rfl (by decide +kernel) ⟨Nat.le_of_ble_eq_true rfl, Nat.le_of_ble_eq_true rfl⟩ hl.1 rfl (Nat.le_of_ble_eq_true rfl) dX2_rate_25 ⟨Nat.le_trans (Nat.le_add_right _ _) hcc, Nat.le_trans (Nat.le_add_right _ _) hcs⟩ ?_
      refine lv_if_ne (tgt := 35) hx hb dX2_rate_28 (by decide) (fun c2 => ?_) (fun c2 => ?_)
      · have hr := if_n c2 hr
        refine lv_iconst (v := 0) hx hb dX2_rate_35 rfl ?_
        refine lv_iconst (v := 4) hx hb dX2_rate_36 rfl ?_
        refine kt_ref20 X hM q527 (Nat.le_of_ble_eq_true rfl) (Nat.le_of_ble_eq_true rfl) hl.1 (Nat.le_of_ble_eq_true rfl) dX2_rate_37 ⟨Nat.le_trans (Nat.le_add_right _ _) hcc, Nat.le_trans (Nat.le_add_right _ _) hcs⟩ ?_
        refine lv_aload_n hx hb dX2_rate_40 rfl (lv_at hl 0 rfl) ?_
        refine r_X6_4N X hM.r g1 q296 dX2_rate_41 ?_
        refine lv_istore (lv' := [(4, .int (o1.2 (iC o1.1) 4)), (3, .ref (L (iC o1.1))), (0, .ref (L 7)), (1, .int p0), (2, .int p1)]) hx hb dX2_rate_44 hl (by decide) rfl (fun ls hl => ?_)
        refine lv_aload_n hx hb dX2_rate_46 rfl (lv_at hl 1 rfl) ?_
        refine lv_iload_n hx hb dX2_rate_47 rfl (lv_at hl 4 rfl) ?_
        obtain ⟨r5, h4, hr⟩ := ob hr
        obtain ⟨r6, h9, e9⟩ := tkE hr
        subst e9
        have hr := h9
        clear h9
        refine kw_cVv (k9 := 1) X hM (rc_inc X hM.r g1) (fun ow => k_K_rateI g1 h4 (Nat.le_refl _) (Nat.le_refl _)) (lw_V q714 q715 q716 q75 q717) rfl (by decide +kernel) ⟨Nat.le_of_ble_eq_true rfl, Nat.le_of_ble_eq_true rfl⟩ hl.1 rfl (Nat.le_of_ble_eq_true rfl) dX2_rate_48 ⟨Nat.le_trans (Nat.add_le_add_left (Nat.le_add_right _ _) _) hcc, Nat.le_trans (Nat.add_le_add_left (Nat.le_add_right _ _) _) hcs⟩ (fun H locs hM => ?_)
        have hcc := Nat.le_trans (Nat.le_of_eq (Nat.add_assoc _ _ _)) hcc
        have hcs := Nat.le_trans (Nat.le_of_eq (Nat.add_assoc _ _ _)) hcs
        refine lv_iload hx hb dX2_rate_51 (lv_at hl 0 rfl) ?_
        cases hr
        exact kt_iret X hM hcc hcs dX2_rate_53
      · have hr := if_p c2 hr
        refine lv_iconst (v := 1) hx hb dX2_rate_31 rfl ?_
        refine lv_goto (tgt := 36) hx hb dX2_rate_32 (by decide) ?_
        refine lv_iconst (v := 4) hx hb dX2_rate_36 rfl ?_
        cases hr
        exact kt_ref21 X htab hM q527 (Nat.le_of_ble_eq_true rfl) (Nat.le_of_ble_eq_true rfl) hl.1 (Nat.le_of_ble_eq_true rfl) dX2_rate_37 ⟨Nat.le_trans (Nat.le_add_right _ _) hcc, Nat.le_trans (Nat.le_add_right _ _) hcs⟩ rfl hcc hcs rfl rfl
    · have hr := if_p c1 hr
      refine lv_iconst (v := 1) hx hb dX2_rate_15 rfl ?_
      refine lv_goto (tgt := 20) hx hb dX2_rate_16 (by decide) ?_
      refine lv_iconst (v := 2) hx hb dX2_rate_20 rfl ?_
      cases hr
      exact kt_ref21 X htab hM q527 (Nat.le_of_ble_eq_true rfl) (Nat.le_of_ble_eq_true rfl) hl.1 (Nat.le_of_ble_eq_true rfl) dX2_rate_21 ⟨Nat.le_trans (Nat.le_add_right _ _) hcc, Nat.le_trans (Nat.le_add_right _ _) hcs⟩ rfl hcc hcs rfl rfl
def K_stopK (F : Nat) (N : Nat → Nat) (p0 : Int32) (p1 : Int32) (G : mMS) : Option (KO × Nat × Nat) :=
  (K_getForK F N p0 p1 0 G).bind fun r1 =>
  tk r1.2.1 r1.2.2 <|
  onL r1.1 fun o1 =>
  gd o1.1 (N 0) <|
  st (m_up o1.2 (iC o1.1) 6 ((o1.2 (iC o1.1) 6) ||| (1 <<< (p1 &&& 31)))) fun G1 =>
  gd p1 4 <|
  st (m_up G1 (tC o1.1) p1.toNatClampNeg 0) fun G2 =>
  (K_findStateI F N o1.1 G2).bind fun r3 =>
  tk r3.2.1 r3.2.2 <|
  tk (1 + gcC (hapN r3.1.2)) (4 + gcS (hapN r3.1.2)) <|
  st (hapG r3.1.2 3 p0 p1) fun G3 =>
  some (.inl (G3 (iC o1.1) 6, G3), 0, 0)
theorem k_K_stopK {F : Nat} {p0 : Int32} {p1 : Int32} {sz : Nat} {r : KO × Nat × Nat} (hr : K_stopK F N p0 p1 G = some r) (hmc : r.2.1 ≤ mc) (hms : r.2.2 ≤ ms) : KtI l D ca zb ow0 sz yX2_stop cX2_stop 4 (some .int) 8 mc ms [.ref (L 7), .int p0, .int p1] N L G (fun v => some (.int v)) (fun _ G' => kPost D ca zb ow0 sz N L G') r.1 := by
  refine kt_start (own := RX2) (by decide) rfl (Nat.le_of_ble_eq_true rfl) fun p e s m below meth c X htab ls hl hsz hM => ?_
  subst hsz
  have hl : lv_has ls 4 [(0, .ref (L 7)), (1, .int p0), (2, .int p1)] := hl
  have X2 := X.1
  obtain ⟨hx, hb, hml, hown, hts⟩ := X2
  have hcc : 0 + r.2.1 ≤ mc := by rw [Nat.zero_add]; exact hmc
  have hcs : 0 + r.2.2 ≤ ms := by rw [Nat.zero_add]; exact hms
  unfold K_stopK at hr
  refine lv_aload_n hx hb dX2_stop_0 rfl (lv_at hl 0 rfl) ?_
  refine lv_iload_n hx hb dX2_stop_1 rfl (lv_at hl 1 rfl) ?_
  refine lv_iload_n hx hb dX2_stop_2 rfl (lv_at hl 2 rfl) ?_
  refine lv_iconst (v := 0) hx hb dX2_stop_3 rfl ?_
  obtain ⟨r1, h1, hr⟩ := ob hr
  obtain ⟨r2, h9, e9⟩ := tkE hr
  subst e9
  have hr := h9
  clear h9
  refine kt_cVr (k9 := 3) X htab hM (rc_core X hM.r) (fun ow => k_K_getForK h1 (Nat.le_refl _) (Nat.le_refl _)) (lw_V q685 q687 qs9 q66 q688) rfl (by decide +kernel) ⟨Nat.le_of_ble_eq_true rfl, Nat.le_of_ble_eq_true rfl⟩ hl.1 rfl (Nat.le_of_ble_eq_true rfl) dX2_stop_4 ⟨Nat.le_trans (Nat.add_le_add_left (Nat.le_add_right _ _) _) hcc, Nat.le_trans (Nat.add_le_add_left (Nat.le_add_right _ _) _) hcs⟩ (fun a b e1 => ?_) (fun o1 e1 H locs hM => ?_)
  · have h9 := onL_r hr e1
    subst h9
    exact ⟨rfl, hcc, hcs⟩
  · have hr := onL_l hr e1
    have hcc := Nat.le_trans (Nat.le_of_eq (Nat.add_assoc _ _ _)) hcc
    have hcs := Nat.le_trans (Nat.le_of_eq (Nat.add_assoc _ _ _)) hcs
    obtain ⟨g1, hr⟩ := gs hr
    refine lv_astore_n (lv' := [(3, .ref (L (iC o1.1))), (0, .ref (L 7)), (1, .int p0), (2, .int p1)]) hx hb dX2_stop_7 rfl hl (by decide) rfl (fun ls hl => ?_)
    refine lv_aload_n hx hb dX2_stop_8 rfl (lv_at hl 0 rfl) ?_
    refine lv_dup hx hb dX2_stop_9 rfl ?_
    refine r_X6_6N X hM.r g1 q302 dX2_stop_10 ?_
    refine lv_iconst (v := 1) hx hb dX2_stop_13 rfl ?_
    refine lv_iload_n hx hb dX2_stop_14 rfl (lv_at hl 3 rfl) ?_
    refine lv_ishl hx hb dX2_stop_15 ?_
    refine lv_ior hx hb dX2_stop_16 ?_
    refine w_X6_6N X hM g1 q302 dX2_stop_17 (fun H locs G1 e2 hM => ?_)
    have hr := stE hr e2
    refine lv_aload_n hx hb dX2_stop_20 rfl (lv_at hl 0 rfl) ?_
    refine r_X6_3N X hM.r g1 q293 dX2_stop_21 ?_
    refine lv_iload_n hx hb dX2_stop_24 rfl (lv_at hl 3 rfl) ?_
    refine lv_iconst (v := 0) hx hb dX2_stop_25 rfl ?_
    obtain ⟨g2, hr⟩ := gs hr
    refine w_ast_t X hM g1 g2 dX2_stop_26 (fun H locs G2 e3 hM => ?_)
    have hr := stE hr e3
    refine lv_aload_n hx hb dX2_stop_27 rfl (lv_at hl 0 rfl) ?_
    obtain ⟨r3, h2, hr⟩ := ob hr
    obtain ⟨r4, h9, e9⟩ := tkE hr
    subst e9
    have hr := h9
    clear h9
    refine kw_cVv (k9 := 0) X hM (rc_inc X hM.r g1) (fun ow => k_K_findStateI g1 h2 (Nat.le_refl _) (Nat.le_refl _)) (lw_V q693 q694 q695 q75 q696) rfl (by decide +kernel) ⟨Nat.le_of_ble_eq_true rfl, Nat.le_of_ble_eq_true rfl⟩ hl.1 rfl (Nat.le_of_ble_eq_true rfl) dX2_stop_28 ⟨Nat.le_trans (Nat.add_le_add_left (Nat.le_add_right _ _) _) hcc, Nat.le_trans (Nat.add_le_add_left (Nat.le_add_right _ _) _) hcs⟩ (fun H locs hM => ?_)
    have hcc := Nat.le_trans (Nat.le_of_eq (Nat.add_assoc _ _ _)) hcc
    have hcs := Nat.le_trans (Nat.le_of_eq (Nat.add_assoc _ _ _)) hcs
    refine lv_aload_n hx hb dX2_stop_31 rfl (lv_at hl 1 rfl) ?_
    refine lv_iconst (v := 3) hx hb dX2_stop_32 rfl ?_
    refine lv_iload_n hx hb dX2_stop_33 rfl (lv_at hl 2 rfl) ?_
    refine lv_iload_n hx hb dX2_stop_34 rfl (lv_at hl 3 rfl) ?_
    obtain ⟨r6, h9, e9⟩ := tkE hr
    subst e9
    have hr := h9
    clear h9
    refine kw_cVv (k9 := 3) X hM (rc_core X hM.r) (fun ow => k_K_happens (Nat.le_refl _) (Nat.le_refl _)) (lw_V q672 q628 qs7 q66 q629) rfl (by decide +kernel) ⟨Nat.le_of_ble_eq_true rfl, Nat.le_of_ble_eq_true rfl⟩ hl.1 rfl (Nat.le_of_ble_eq_true rfl) dX2_stop_35 ⟨Nat.le_trans (Nat.add_le_add_left (Nat.le_add_right _ _) _) hcc, Nat.le_trans (Nat.add_le_add_left (Nat.le_add_right _ _) _) hcs⟩ (fun H locs hM => ?_)
    have hcc := Nat.le_trans (Nat.le_of_eq (Nat.add_assoc _ _ _)) hcc
    have hcs := Nat.le_trans (Nat.le_of_eq (Nat.add_assoc _ _ _)) hcs
    obtain ⟨G3, e4⟩ : ∃ z, z = hapG r3.1.2 3 p0 p1 := ⟨_, rfl⟩
    rw [← e4] at hM
    have hr := stE hr e4
    refine lv_aload_n hx hb dX2_stop_38 rfl (lv_at hl 0 rfl) ?_
    refine r_X6_6N X hM.r g1 q302 dX2_stop_39 ?_
    cases hr
    exact kt_iret X hM hcc hcs dX2_stop_42
def K_goK (F : Nat) (N : Nat → Nat) (p0 : Int32) (p1 : Int32) (G : mMS) : Option (KO × Nat × Nat) :=
  (K_getForK F N p0 p1 1 G).bind fun r1 =>
  tk r1.2.1 r1.2.2 <|
  onL r1.1 fun o1 =>
  gd o1.1 (N 0) <|
  (K_endI F N o1.1 p1 o1.2).bind fun r3 =>
  tk r3.2.1 r3.2.2 <|
  some (.inl (r3.1.2 (iC o1.1) 6, r3.1.2), 0, 0)
theorem k_K_goK {F : Nat} {p0 : Int32} {p1 : Int32} {sz : Nat} {r : KO × Nat × Nat} (hr : K_goK F N p0 p1 G = some r) (hmc : r.2.1 ≤ mc) (hms : r.2.2 ≤ ms) : KtI l D ca zb ow0 sz yX2_go cX2_go 4 (some .int) 9 mc ms [.ref (L 7), .int p0, .int p1] N L G (fun v => some (.int v)) (fun _ G' => kPost D ca zb ow0 sz N L G') r.1 := by
  refine kt_start (own := RX2) (by decide) rfl (Nat.le_of_ble_eq_true rfl) fun p e s m below meth c X htab ls hl hsz hM => ?_
  subst hsz
  have hl : lv_has ls 4 [(0, .ref (L 7)), (1, .int p0), (2, .int p1)] := hl
  have X2 := X.1
  obtain ⟨hx, hb, hml, hown, hts⟩ := X2
  have hcc : 0 + r.2.1 ≤ mc := by rw [Nat.zero_add]; exact hmc
  have hcs : 0 + r.2.2 ≤ ms := by rw [Nat.zero_add]; exact hms
  unfold K_goK at hr
  refine lv_aload_n hx hb dX2_go_0 rfl (lv_at hl 0 rfl) ?_
  refine lv_iload_n hx hb dX2_go_1 rfl (lv_at hl 1 rfl) ?_
  refine lv_iload_n hx hb dX2_go_2 rfl (lv_at hl 2 rfl) ?_
  refine lv_iconst (v := 1) hx hb dX2_go_3 rfl ?_
  obtain ⟨r1, h1, hr⟩ := ob hr
  obtain ⟨r2, h9, e9⟩ := tkE hr
  subst e9
  have hr := h9
  clear h9
  refine kt_cVr (k9 := 3) X htab hM (rc_core X hM.r) (fun ow => k_K_getForK h1 (Nat.le_refl _) (Nat.le_refl _)) (lw_V q685 q687 qs9 q66 q688) rfl (by decide +kernel) ⟨Nat.le_of_ble_eq_true rfl, Nat.le_of_ble_eq_true rfl⟩ hl.1 rfl (Nat.le_of_ble_eq_true rfl) dX2_go_4 ⟨Nat.le_trans (Nat.add_le_add_left (Nat.le_add_right _ _) _) hcc, Nat.le_trans (Nat.add_le_add_left (Nat.le_add_right _ _) _) hcs⟩ (fun a b e1 => ?_) (fun o1 e1 H locs hM => ?_)
  · have h9 := onL_r hr e1
    subst h9
    exact ⟨rfl, hcc, hcs⟩
  · have hr := onL_l hr e1
    have hcc := Nat.le_trans (Nat.le_of_eq (Nat.add_assoc _ _ _)) hcc
    have hcs := Nat.le_trans (Nat.le_of_eq (Nat.add_assoc _ _ _)) hcs
    obtain ⟨g1, hr⟩ := gs hr
    refine lv_astore_n (lv' := [(3, .ref (L (iC o1.1))), (0, .ref (L 7)), (1, .int p0), (2, .int p1)]) hx hb dX2_go_7 rfl hl (by decide) rfl (fun ls hl => ?_)
    refine lv_aload_n hx hb dX2_go_8 rfl (lv_at hl 0 rfl) ?_
    refine lv_iload_n hx hb dX2_go_9 rfl (lv_at hl 3 rfl) ?_
    obtain ⟨r3, h2, hr⟩ := ob hr
    obtain ⟨r4, h9, e9⟩ := tkE hr
    subst e9
    have hr := h9
    clear h9
    refine kw_cVv (k9 := 1) X hM (rc_inc X hM.r g1) (fun ow => k_K_endI g1 h2 (Nat.le_refl _) (Nat.le_refl _)) (lw_V q705 q706 q707 q75 q708) rfl (by decide +kernel) ⟨Nat.le_of_ble_eq_true rfl, Nat.le_of_ble_eq_true rfl⟩ hl.1 rfl (Nat.le_of_ble_eq_true rfl) dX2_go_10 ⟨Nat.le_trans (Nat.add_le_add_left (Nat.le_add_right _ _) _) hcc, Nat.le_trans (Nat.add_le_add_left (Nat.le_add_right _ _) _) hcs⟩ (fun H locs hM => ?_)
    have hcc := Nat.le_trans (Nat.le_of_eq (Nat.add_assoc _ _ _)) hcc
    have hcs := Nat.le_trans (Nat.le_of_eq (Nat.add_assoc _ _ _)) hcs
    refine lv_aload_n hx hb dX2_go_13 rfl (lv_at hl 0 rfl) ?_
    refine r_X6_6N X hM.r g1 q302 dX2_go_14 ?_
    cases hr
    exact kt_iret X hM hcc hcs dX2_go_17
def K_reopenK_70 (F : Nat) (N : Nat → Nat) : Nat → Int32 → Int32 → mMS → Option (KO × Nat × Nat)
  | 0, _, _, _ => none
  | f + 1, x2, x3, G =>
    if (G 0 2) ≤ x3 then
      (P_bitCount F x2).bind fun r1 =>
      some (.inl (r1, G), 0, 0)
    else
      (P_has F x2 x3).bind fun r2 =>
      if r2 = 0 then
        K_reopenK_70 F N f x2 (x3 + 1) G
      else
        gd x3 (N 0) <|
        (K_findStateI F N x3 G).bind fun r3 =>
        tk r3.2.1 r3.2.2 <|
        tk (1 + gcC (hapN r3.1.2)) (4 + gcS (hapN r3.1.2)) <|
        st (hapG r3.1.2 6 x3 0) fun G1 =>
        K_reopenK_70 F N f x2 (x3 + 1) G1
theorem w_K_reopenK_70 {F : Nat} (X : KX p s m args meth c RX2 cX2_reopen 4 (some .int) D ca) (htab : ∀ x ∈ c.exceptionTable.toList, False) : ∀ (f : Nat), ∀ (x2 : Int32) (x3 : Int32) (G : mMS) (r : KO × Nat × Nat), K_reopenK_70 F N f x2 x3 G = some r → ∀ (H : Heap) (locs : List Loc) (cells slots : Nat) (ls : Array Slot), lv_has ls 4 [(0, .ref (L 7)), (2, .int x2), (3, .int x3)] → kI D ca zb ow0 N L G s H locs → cells + r.2.1 ≤ mc → slots + r.2.2 ≤ ms → W p l e { frames := 8, cells := mc, slots := ms, locals := 40 * 8 } s m args below meth c H locs cells slots (vx_MQ below (ktQ (kA ow0 (L 7) s.heap.size) (fun v => some (.int v)) (fun _ G' => kPost D ca zb ow0 s.heap.size N L G') r.1) (ktX D (kA ow0 (L 7) s.heap.size) s.heap.size r.1) args s mc ms (kA ow0 (L 7) s.heap.size)) (F0 m 70 ls []) := by
  have X2 := X.1
  obtain ⟨hx, hb, hml, hown, hts⟩ := X2
  intro f
  induction f with
  | zero =>
    intro x2 x3 G r hr
    rw [K_reopenK_70] at hr
    cases hr
  | succ f ih =>
    intro x2 x3 G r hr H locs cells slots ls hl hM hcc hcs
    rw [K_reopenK_70] at hr
    refine lv_iload_n hx hb dX2_reopen_70 rfl (lv_at hl 2 rfl) ?_
    refine lv_aload_n hx hb dX2_reopen_71 rfl (lv_at hl 0 rfl) ?_
    refine r_X2_0 X hM.r q144 dX2_reopen_72 ?_
    refine kr_size X hM.r (j := 0) (by decide) q246 (Nat.le_of_ble_eq_true rfl) (Nat.le_of_ble_eq_true rfl) hl.1 (Nat.le_of_ble_eq_true rfl) dX2_reopen_75 ⟨Nat.le_trans (Nat.le_add_right _ _) hcc, Nat.le_trans (Nat.le_add_right _ _) hcs⟩ ?_
    refine lv_icmp_ge (tgt := 117) hx hb dX2_reopen_78 (by decide) (fun c1 => ?_) (fun c1 => ?_)
    · have hr := if_p c1 hr
      refine lv_iload_n hx hb dX2_reopen_117 rfl (lv_at hl 1 rfl) ?_
      obtain ⟨r1, h1, hr⟩ := ob hr
      refine p_cSi (k9 := 1) X.1 (k_P_bitCount h1) (lw_S q808 q809 q87 q810) rfl (by decide +kernel) ⟨Nat.le_of_ble_eq_true rfl, Nat.le_of_ble_eq_true rfl⟩ hl.1 rfl (Nat.le_of_ble_eq_true rfl) dX2_reopen_118 ⟨Nat.le_trans (Nat.le_add_right _ _) hcc, Nat.le_trans (Nat.le_add_right _ _) hcs⟩ ?_
      cases hr
      exact kt_iret X hM hcc hcs dX2_reopen_121
    · have hr := if_n c1 hr
      refine lv_iload_n hx hb dX2_reopen_81 rfl (lv_at hl 1 rfl) ?_
      refine lv_iload_n hx hb dX2_reopen_82 rfl (lv_at hl 2 rfl) ?_
      obtain ⟨r2, h2, hr⟩ := ob hr
      refine p_cSN (k9 := 2) X (k_P_has h2) q607 q608 q65 q609 rfl (by decide +kernel) ⟨Nat.le_of_ble_eq_true rfl, Nat.le_of_ble_eq_true rfl⟩ hl.1 rfl (Nat.le_of_ble_eq_true rfl) dX2_reopen_83 ⟨Nat.le_trans (Nat.le_add_right _ _) hcc, Nat.le_trans (Nat.le_add_right _ _) hcs⟩ ?_
      refine lv_if_eq (tgt := 111) hx hb dX2_reopen_86 (by decide) (fun c2 => ?_) (fun c2 => ?_)
      · have hr := if_p c2 hr
        refine lv_iinc (v := x3 + 1) (lv' := [(3, .int (x3 + 1)), (0, .ref (L 7)), (2, .int x2)]) hx hb dX2_reopen_111 hl (k := 2) rfl rfl (by decide) rfl (fun ls hl => ?_)
        refine lv_goto (tgt := 70) hx hb dX2_reopen_114 (by decide) ?_
        exact ih _ _ _ _ hr _ _ _ _ _ (lv_sub hl [1, 2, 0] rfl) hM hcc hcs
      · have hr := if_n c2 hr
        refine lv_aload_n hx hb dX2_reopen_89 rfl (lv_at hl 0 rfl) ?_
        refine r_X2_0 X hM.r q144 dX2_reopen_90 ?_
        refine lv_iload_n hx hb dX2_reopen_93 rfl (lv_at hl 2 rfl) ?_
        obtain ⟨g1, hr⟩ := gs hr
        refine kr_get X hM.r (j := 0) (by decide) g1 q250 (Nat.le_of_ble_eq_true rfl) (Nat.le_of_ble_eq_true rfl) hl.1 (Nat.le_of_ble_eq_true rfl) dX2_reopen_94 ⟨Nat.le_trans (Nat.le_add_right _ _) hcc, Nat.le_trans (Nat.le_add_right _ _) hcs⟩ ?_
        refine va_castS hx hb hown (hts _ q264) (X.2.2.2.1.1 2 _ rfl).2 (rc_inc X hM.r g1) dX2_reopen_97 ?_
        obtain ⟨r3, h3, hr⟩ := ob hr
        obtain ⟨r4, h9, e9⟩ := tkE hr
        subst e9
        have hr := h9
        clear h9
        refine kw_cVv (k9 := 0) X hM (rc_inc X hM.r g1) (fun ow => k_K_findStateI g1 h3 (Nat.le_refl _) (Nat.le_refl _)) (lw_V q693 q694 q695 q75 q696) rfl (by decide +kernel) ⟨Nat.le_of_ble_eq_true rfl, Nat.le_of_ble_eq_true rfl⟩ hl.1 rfl (Nat.le_of_ble_eq_true rfl) dX2_reopen_100 ⟨Nat.le_trans (Nat.add_le_add_left (Nat.le_add_right _ _) _) hcc, Nat.le_trans (Nat.add_le_add_left (Nat.le_add_right _ _) _) hcs⟩ (fun H locs hM => ?_)
        have hcc := Nat.le_trans (Nat.le_of_eq (Nat.add_assoc _ _ _)) hcc
        have hcs := Nat.le_trans (Nat.le_of_eq (Nat.add_assoc _ _ _)) hcs
        refine lv_aload_n hx hb dX2_reopen_103 rfl (lv_at hl 0 rfl) ?_
        refine lv_bipush (v := 6) hx hb dX2_reopen_104 rfl ?_
        refine lv_iload_n hx hb dX2_reopen_106 rfl (lv_at hl 2 rfl) ?_
        refine lv_iconst (v := 0) hx hb dX2_reopen_107 rfl ?_
        obtain ⟨r6, h9, e9⟩ := tkE hr
        subst e9
        have hr := h9
        clear h9
        refine kw_cVv (k9 := 3) X hM (rc_core X hM.r) (fun ow => k_K_happens (Nat.le_refl _) (Nat.le_refl _)) (lw_V q672 q628 qs7 q66 q629) rfl (by decide +kernel) ⟨Nat.le_of_ble_eq_true rfl, Nat.le_of_ble_eq_true rfl⟩ hl.1 rfl (Nat.le_of_ble_eq_true rfl) dX2_reopen_108 ⟨Nat.le_trans (Nat.add_le_add_left (Nat.le_add_right _ _) _) hcc, Nat.le_trans (Nat.add_le_add_left (Nat.le_add_right _ _) _) hcs⟩ (fun H locs hM => ?_)
        have hcc := Nat.le_trans (Nat.le_of_eq (Nat.add_assoc _ _ _)) hcc
        have hcs := Nat.le_trans (Nat.le_of_eq (Nat.add_assoc _ _ _)) hcs
        obtain ⟨G1, e1⟩ : ∃ z, z = hapG r3.1.2 6 x3 0 := ⟨_, rfl⟩
        rw [← e1] at hM
        have hr := stE hr e1
        refine lv_iinc (v := x3 + 1) (lv' := [(3, .int (x3 + 1)), (0, .ref (L 7)), (2, .int x2)]) hx hb dX2_reopen_111 hl (k := 2) rfl rfl (by decide) rfl (fun ls hl => ?_)
        refine lv_goto (tgt := 70) hx hb dX2_reopen_114 (by decide) ?_
        exact ih _ _ _ _ hr _ _ _ _ _ (lv_sub hl [1, 2, 0] rfl) hM hcc hcs
def K_reopenK_14 (F : Nat) (N : Nat → Nat) : Nat → Int32 → Int32 → mMS → Option (KO × Nat × Nat)
  | 0, _, _, _ => none
  | f + 1, x2, x3, G =>
    if (G 0 2) ≤ x3 then
      K_reopenK_70 F N F x2 0 G
    else
      (P_has F x2 x3).bind fun r1 =>
      if r1 = 0 then
        K_reopenK_14 F N f x2 (x3 + 1) G
      else
        gd x3 (N 0) <|
        if (G (iC x3) 14) = (-1) then
          K_reopenK_14 F N f x2 (x3 + 1) G
        else
          some (.inr (11, x3), 1, 8)
theorem w_K_reopenK_14 {F : Nat} (X : KX p s m args meth c RX2 cX2_reopen 4 (some .int) D ca) (htab : ∀ x ∈ c.exceptionTable.toList, False) : ∀ (f : Nat), ∀ (x2 : Int32) (x3 : Int32) (G : mMS) (r : KO × Nat × Nat), K_reopenK_14 F N f x2 x3 G = some r → ∀ (H : Heap) (locs : List Loc) (cells slots : Nat) (ls : Array Slot), lv_has ls 4 [(0, .ref (L 7)), (2, .int x2), (3, .int x3)] → kI D ca zb ow0 N L G s H locs → cells + r.2.1 ≤ mc → slots + r.2.2 ≤ ms → W p l e { frames := 8, cells := mc, slots := ms, locals := 40 * 8 } s m args below meth c H locs cells slots (vx_MQ below (ktQ (kA ow0 (L 7) s.heap.size) (fun v => some (.int v)) (fun _ G' => kPost D ca zb ow0 s.heap.size N L G') r.1) (ktX D (kA ow0 (L 7) s.heap.size) s.heap.size r.1) args s mc ms (kA ow0 (L 7) s.heap.size)) (F0 m 14 ls []) := by
  have X2 := X.1
  obtain ⟨hx, hb, hml, hown, hts⟩ := X2
  intro f
  induction f with
  | zero =>
    intro x2 x3 G r hr
    rw [K_reopenK_14] at hr
    cases hr
  | succ f ih =>
    intro x2 x3 G r hr H locs cells slots ls hl hM hcc hcs
    rw [K_reopenK_14] at hr
    refine lv_iload_n hx hb dX2_reopen_14 rfl (lv_at hl 2 rfl) ?_
    refine lv_aload_n hx hb dX2_reopen_15 rfl (lv_at hl 0 rfl) ?_
    refine r_X2_0 X hM.r q144 dX2_reopen_16 ?_
    refine kr_size X hM.r (j := 0) (by decide) q246 (Nat.le_of_ble_eq_true rfl) (Nat.le_of_ble_eq_true rfl) hl.1 (Nat.le_of_ble_eq_true rfl) dX2_reopen_19 ⟨Nat.le_trans (Nat.le_add_right _ _) hcc, Nat.le_trans (Nat.le_add_right _ _) hcs⟩ ?_
    refine lv_icmp_ge (tgt := 68) hx hb dX2_reopen_22 (by decide) (fun c1 => ?_) (fun c1 => ?_)
    · have hr := if_p c1 hr
      refine lv_iconst (v := 0) hx hb dX2_reopen_68 rfl ?_
      refine lv_istore_n (lv' := [(3, .int 0), (0, .ref (L 7)), (2, .int x2)]) hx hb dX2_reopen_69 rfl hl (by decide) rfl (fun ls hl => ?_)
      exact w_K_reopenK_70 X htab  _ _ _ _ _ hr _ _ _ _ _ (lv_sub hl [1, 2, 0] rfl) hM hcc hcs
    · have hr := if_n c1 hr
      refine lv_iload_n hx hb dX2_reopen_25 rfl (lv_at hl 1 rfl) ?_
      refine lv_iload_n hx hb dX2_reopen_26 rfl (lv_at hl 2 rfl) ?_
      obtain ⟨r1, h1, hr⟩ := ob hr
      refine p_cSN (k9 := 2) X (k_P_has h1) q607 q608 q65 q609 rfl (by decide +kernel) ⟨Nat.le_of_ble_eq_true rfl, Nat.le_of_ble_eq_true rfl⟩ hl.1 rfl (Nat.le_of_ble_eq_true rfl) dX2_reopen_27 ⟨Nat.le_trans (Nat.le_add_right _ _) hcc, Nat.le_trans (Nat.le_add_right _ _) hcs⟩ ?_
      refine lv_if_eq (tgt := 55) hx hb dX2_reopen_30 (by decide) (fun c2 => ?_) (fun c2 => ?_)
      · have hr := if_p c2 hr
        refine lv_iconst (v := 0) hx hb dX2_reopen_55 rfl ?_
        refine lv_bipush (v := 11) hx hb dX2_reopen_56 rfl ?_
        refine lv_iload_n hx hb dX2_reopen_58 rfl (lv_at hl 2 rfl) ?_
        refine kt_ref30 X hM q794 (Nat.le_of_ble_eq_true rfl) (Nat.le_of_ble_eq_true rfl) hl.1 (Nat.le_of_ble_eq_true rfl) dX2_reopen_59 ⟨Nat.le_trans (Nat.le_add_right _ _) hcc, Nat.le_trans (Nat.le_add_right _ _) hcs⟩ ?_
        refine lv_iinc (v := x3 + 1) (lv' := [(3, .int (x3 + 1)), (0, .ref (L 7)), (2, .int x2)]) hx hb dX2_reopen_62 hl (k := 2) rfl rfl (by decide) rfl (fun ls hl => ?_)
        refine lv_goto (tgt := 14) hx hb dX2_reopen_65 (by decide) ?_
        exact ih _ _ _ _ hr _ _ _ _ _ (lv_sub hl [1, 2, 0] rfl) hM hcc hcs
      · have hr := if_n c2 hr
        refine lv_aload_n hx hb dX2_reopen_33 rfl (lv_at hl 0 rfl) ?_
        refine r_X2_0 X hM.r q144 dX2_reopen_34 ?_
        refine lv_iload_n hx hb dX2_reopen_37 rfl (lv_at hl 2 rfl) ?_
        obtain ⟨g1, hr⟩ := gs hr
        refine kr_get X hM.r (j := 0) (by decide) g1 q250 (Nat.le_of_ble_eq_true rfl) (Nat.le_of_ble_eq_true rfl) hl.1 (Nat.le_of_ble_eq_true rfl) dX2_reopen_38 ⟨Nat.le_trans (Nat.le_add_right _ _) hcc, Nat.le_trans (Nat.le_add_right _ _) hcs⟩ ?_
        refine va_castS hx hb hown (hts _ q264) (X.2.2.2.1.1 2 _ rfl).2 (rc_inc X hM.r g1) dX2_reopen_41 ?_
        refine r_X6_14N X hM.r g1 q324 dX2_reopen_44 ?_
        refine lv_iconst (v := (-1)) hx hb dX2_reopen_47 rfl ?_
        refine lv_icmp_eq (tgt := 55) hx hb dX2_reopen_48 (by decide) (fun c3 => ?_) (fun c3 => ?_)
        · have hr := if_p c3 hr
          refine lv_iconst (v := 0) hx hb dX2_reopen_55 rfl ?_
          refine lv_bipush (v := 11) hx hb dX2_reopen_56 rfl ?_
          refine lv_iload_n hx hb dX2_reopen_58 rfl (lv_at hl 2 rfl) ?_
          refine kt_ref30 X hM q794 (Nat.le_of_ble_eq_true rfl) (Nat.le_of_ble_eq_true rfl) hl.1 (Nat.le_of_ble_eq_true rfl) dX2_reopen_59 ⟨Nat.le_trans (Nat.le_add_right _ _) hcc, Nat.le_trans (Nat.le_add_right _ _) hcs⟩ ?_
          refine lv_iinc (v := x3 + 1) (lv' := [(3, .int (x3 + 1)), (0, .ref (L 7)), (2, .int x2)]) hx hb dX2_reopen_62 hl (k := 2) rfl rfl (by decide) rfl (fun ls hl => ?_)
          refine lv_goto (tgt := 14) hx hb dX2_reopen_65 (by decide) ?_
          exact ih _ _ _ _ hr _ _ _ _ _ (lv_sub hl [1, 2, 0] rfl) hM hcc hcs
        · have hr := if_n c3 hr
          refine lv_iconst (v := 1) hx hb dX2_reopen_51 rfl ?_
          refine lv_goto (tgt := 56) hx hb dX2_reopen_52 (by decide) ?_
          refine lv_bipush (v := 11) hx hb dX2_reopen_56 rfl ?_
          refine lv_iload_n hx hb dX2_reopen_58 rfl (lv_at hl 2 rfl) ?_
          cases hr
          exact kt_ref31 X htab hM q794 (Nat.le_of_ble_eq_true rfl) (Nat.le_of_ble_eq_true rfl) hl.1 (Nat.le_of_ble_eq_true rfl) dX2_reopen_59 ⟨Nat.le_trans (Nat.le_add_right _ _) hcc, Nat.le_trans (Nat.le_add_right _ _) hcs⟩ rfl hcc hcs rfl rfl
def K_reopenK (F : Nat) (N : Nat → Nat) (p0 : Int32) (G : mMS) : Option (KO × Nat × Nat) :=
  (K_getResolvedK F N p0 G).bind fun r1 =>
  tk r1.2.1 r1.2.2 <|
  onL r1.1 fun o1 =>
  gd o1.1 (N 0) <|
  (K_resolvedAbove F N p0 o1.2).bind fun r3 =>
  K_reopenK_14 F N F r3 0 o1.2
theorem k_K_reopenK {F : Nat} {p0 : Int32} {sz : Nat} {r : KO × Nat × Nat} (hr : K_reopenK F N p0 G = some r) (hmc : r.2.1 ≤ mc) (hms : r.2.2 ≤ ms) : KtI l D ca zb ow0 sz yX2_reopen cX2_reopen 4 (some .int) 8 mc ms [.ref (L 7), .int p0] N L G (fun v => some (.int v)) (fun _ G' => kPost D ca zb ow0 sz N L G') r.1 := by
  refine kt_start (own := RX2) (by decide) rfl (Nat.le_of_ble_eq_true rfl) fun p e s m below meth c X htab ls hl hsz hM => ?_
  subst hsz
  have hl : lv_has ls 4 [(0, .ref (L 7)), (1, .int p0)] := hl
  have X2 := X.1
  obtain ⟨hx, hb, hml, hown, hts⟩ := X2
  have hcc : 0 + r.2.1 ≤ mc := by rw [Nat.zero_add]; exact hmc
  have hcs : 0 + r.2.2 ≤ ms := by rw [Nat.zero_add]; exact hms
  unfold K_reopenK at hr
  refine lv_aload_n hx hb dX2_reopen_0 rfl (lv_at hl 0 rfl) ?_
  refine lv_iload_n hx hb dX2_reopen_1 rfl (lv_at hl 1 rfl) ?_
  obtain ⟨r1, h1, hr⟩ := ob hr
  obtain ⟨r2, h9, e9⟩ := tkE hr
  subst e9
  have hr := h9
  clear h9
  refine kt_cVr (k9 := 1) X htab hM (rc_core X hM.r) (fun ow => k_K_getResolvedK h1 (Nat.le_refl _) (Nat.le_refl _)) (lw_V q800 q802 qs14 q66 q803) rfl (by decide +kernel) ⟨Nat.le_of_ble_eq_true rfl, Nat.le_of_ble_eq_true rfl⟩ hl.1 rfl (Nat.le_of_ble_eq_true rfl) dX2_reopen_2 ⟨Nat.le_trans (Nat.add_le_add_left (Nat.le_add_right _ _) _) hcc, Nat.le_trans (Nat.add_le_add_left (Nat.le_add_right _ _) _) hcs⟩ (fun a b e1 => ?_) (fun o1 e1 H locs hM => ?_)
  · have h9 := onL_r hr e1
    subst h9
    exact ⟨rfl, hcc, hcs⟩
  · have hr := onL_l hr e1
    have hcc := Nat.le_trans (Nat.le_of_eq (Nat.add_assoc _ _ _)) hcc
    have hcs := Nat.le_trans (Nat.le_of_eq (Nat.add_assoc _ _ _)) hcs
    obtain ⟨g1, hr⟩ := gs hr
    refine lv_pop hx hb dX2_reopen_5 rfl ?_
    refine lv_aload_n hx hb dX2_reopen_6 rfl (lv_at hl 0 rfl) ?_
    refine lv_iload_n hx hb dX2_reopen_7 rfl (lv_at hl 1 rfl) ?_
    obtain ⟨r3, h2, hr⟩ := ob hr
    refine kr_cVi (k9 := 1) X hM.r (rc_core X hM.r) (k_K_resolvedAbove h2) (lw_V q804 q806 qs15 q66 q807) rfl (by decide +kernel) ⟨Nat.le_of_ble_eq_true rfl, Nat.le_of_ble_eq_true rfl⟩ hl.1 rfl (Nat.le_of_ble_eq_true rfl) dX2_reopen_8 ⟨Nat.le_trans (Nat.le_add_right _ _) hcc, Nat.le_trans (Nat.le_add_right _ _) hcs⟩ ?_
    refine lv_istore_n (lv' := [(2, .int r3), (0, .ref (L 7)), (1, .int p0)]) hx hb dX2_reopen_11 rfl hl (by decide) rfl (fun ls hl => ?_)
    refine lv_iconst (v := 0) hx hb dX2_reopen_12 rfl ?_
    refine lv_istore_n (lv' := [(3, .int 0), (2, .int r3), (0, .ref (L 7)), (1, .int p0)]) hx hb dX2_reopen_13 rfl hl (by decide) rfl (fun ls hl => ?_)
    exact w_K_reopenK_14 X htab  _ _ _ _ _ hr _ _ _ _ _ (lv_sub hl [2, 1, 0] rfl) hM hcc hcs
def K_reviewK_157 (F : Nat) (N : Nat → Nat) : Nat → Int32 → Int32 → mMS → Option (KO × Nat × Nat)
  | 0, _, _, _ => none
  | f + 1, x1, x2, G =>
    if (G 0 2) ≤ x2 then
      gd (G 7 7) 8 <|
      st (m_up G 4 (G 7 7).toNatClampNeg x1) fun G1 =>
      st (m_up G1 7 7 ((G1 7 7) + 1)) fun G2 =>
      some (.inl ((G2 7 7) - 1, G2), 0, 0)
    else
      gd x2 (N 0) <|
      (P_has F x1 x2).bind fun r1 =>
      if r1 = 0 then
        st (m_up G (iC x2) 14 (G (iC x2) 14)) fun G3 =>
        K_reviewK_157 F N f x1 (x2 + 1) G3
      else
        st (m_up G (iC x2) 14 (G 7 7)) fun G4 =>
        K_reviewK_157 F N f x1 (x2 + 1) G4
theorem w_K_reviewK_157 {F : Nat} (X : KX p s m args meth c RX2 cX2_review 4 (some .int) D ca) (htab : ∀ x ∈ c.exceptionTable.toList, False) : ∀ (f : Nat), ∀ (x1 : Int32) (x2 : Int32) (G : mMS) (r : KO × Nat × Nat), K_reviewK_157 F N f x1 x2 G = some r → ∀ (H : Heap) (locs : List Loc) (cells slots : Nat) (ls : Array Slot), lv_has ls 4 [(0, .ref (L 7)), (1, .int x1), (2, .int x2)] → kI D ca zb ow0 N L G s H locs → cells + r.2.1 ≤ mc → slots + r.2.2 ≤ ms → W p l e { frames := 6, cells := mc, slots := ms, locals := 40 * 6 } s m args below meth c H locs cells slots (vx_MQ below (ktQ (kA ow0 (L 7) s.heap.size) (fun v => some (.int v)) (fun _ G' => kPost D ca zb ow0 s.heap.size N L G') r.1) (ktX D (kA ow0 (L 7) s.heap.size) s.heap.size r.1) args s mc ms (kA ow0 (L 7) s.heap.size)) (F0 m 157 ls []) := by
  have X2 := X.1
  obtain ⟨hx, hb, hml, hown, hts⟩ := X2
  intro f
  induction f with
  | zero =>
    intro x1 x2 G r hr
    rw [K_reviewK_157] at hr
    cases hr
  | succ f ih =>
    intro x1 x2 G r hr H locs cells slots ls hl hM hcc hcs
    rw [K_reviewK_157] at hr
    refine lv_iload_n hx hb dX2_review_157 rfl (lv_at hl 2 rfl) ?_
    refine lv_aload_n hx hb dX2_review_158 rfl (lv_at hl 0 rfl) ?_
    refine r_X2_0 X hM.r q144 dX2_review_159 ?_
    refine kr_size X hM.r (j := 0) (by decide) q246 (Nat.le_of_ble_eq_true rfl) (Nat.le_of_ble_eq_true rfl) hl.1 (Nat.le_of_ble_eq_true rfl) dX2_review_162 ⟨Nat.le_trans (Nat.le_add_right _ _) hcc, Nat.le_trans (Nat.le_add_right _ _) hcs⟩ ?_
    refine lv_icmp_ge (tgt := 209) hx hb dX2_review_165 (by decide) (fun c1 => ?_) (fun c1 => ?_)
    · have hr := if_p c1 hr
      refine lv_aload_n hx hb dX2_review_209 rfl (lv_at hl 0 rfl) ?_
      refine r_X2_4 X hM.r q154 dX2_review_210 ?_
      refine lv_aload_n hx hb dX2_review_213 rfl (lv_at hl 0 rfl) ?_
      refine r_X2_7 X hM.r q162 dX2_review_214 ?_
      refine lv_iload_n hx hb dX2_review_217 rfl (lv_at hl 1 rfl) ?_
      obtain ⟨g1, hr⟩ := gs hr
      refine w_ast_4 X hM g1 dX2_review_218 (fun H locs G1 e1 hM => ?_)
      have hr := stE hr e1
      refine lv_aload_n hx hb dX2_review_219 rfl (lv_at hl 0 rfl) ?_
      refine lv_dup hx hb dX2_review_220 rfl ?_
      refine r_X2_7 X hM.r q162 dX2_review_221 ?_
      refine lv_iconst (v := 1) hx hb dX2_review_224 rfl ?_
      refine lv_iadd hx hb dX2_review_225 ?_
      refine w_X2_7 X hM q162 dX2_review_226 (fun H locs G2 e2 hM => ?_)
      have hr := stE hr e2
      refine lv_aload_n hx hb dX2_review_229 rfl (lv_at hl 0 rfl) ?_
      refine r_X2_7 X hM.r q162 dX2_review_230 ?_
      refine lv_iconst (v := 1) hx hb dX2_review_233 rfl ?_
      refine lv_isub hx hb dX2_review_234 ?_
      cases hr
      exact kt_iret X hM hcc hcs dX2_review_235
    · have hr := if_n c1 hr
      refine lv_aload_n hx hb dX2_review_168 rfl (lv_at hl 0 rfl) ?_
      refine r_X2_0 X hM.r q144 dX2_review_169 ?_
      refine lv_iload_n hx hb dX2_review_172 rfl (lv_at hl 2 rfl) ?_
      obtain ⟨g2, hr⟩ := gs hr
      refine kr_get X hM.r (j := 0) (by decide) g2 q250 (Nat.le_of_ble_eq_true rfl) (Nat.le_of_ble_eq_true rfl) hl.1 (Nat.le_of_ble_eq_true rfl) dX2_review_173 ⟨Nat.le_trans (Nat.le_add_right _ _) hcc, Nat.le_trans (Nat.le_add_right _ _) hcs⟩ ?_
      refine va_castS hx hb hown (hts _ q264) (X.2.2.2.1.1 2 _ rfl).2 (rc_inc X hM.r g2) dX2_review_176 ?_
      refine lv_astore_n (lv' := [(3, .ref (L (iC x2))), (0, .ref (L 7)), (1, .int x1), (2, .int x2)]) hx hb dX2_review_179 rfl hl (by decide) rfl (fun ls hl => ?_)
      refine lv_aload_n hx hb dX2_review_180 rfl (lv_at hl 0 rfl) ?_
      refine lv_iload_n hx hb dX2_review_181 rfl (lv_at hl 2 rfl) ?_
      refine lv_iload_n hx hb dX2_review_182 rfl (lv_at hl 3 rfl) ?_
      obtain ⟨r1, h1, hr⟩ := ob hr
      refine p_cSN (k9 := 2) X (k_P_has h1) q607 q608 q65 q609 rfl (by decide +kernel) ⟨Nat.le_of_ble_eq_true rfl, Nat.le_of_ble_eq_true rfl⟩ hl.1 rfl (Nat.le_of_ble_eq_true rfl) dX2_review_183 ⟨Nat.le_trans (Nat.le_add_right _ _) hcc, Nat.le_trans (Nat.le_add_right _ _) hcs⟩ ?_
      refine lv_if_eq (tgt := 196) hx hb dX2_review_186 (by decide) (fun c2 => ?_) (fun c2 => ?_)
      · have hr := if_p c2 hr
        refine lv_aload_n hx hb dX2_review_196 rfl (lv_at hl 0 rfl) ?_
        refine r_X6_14N X hM.r g2 q324 dX2_review_197 ?_
        refine w_X6_14N X hM g2 q324 dX2_review_200 (fun H locs G3 e3 hM => ?_)
        have hr := stE hr e3
        refine lv_iinc (v := x2 + 1) (lv' := [(2, .int (x2 + 1)), (3, .ref (L (iC x2))), (0, .ref (L 7)), (1, .int x1)]) hx hb dX2_review_203 hl (k := 3) rfl rfl (by decide) rfl (fun ls hl => ?_)
        refine lv_goto (tgt := 157) hx hb dX2_review_206 (by decide) ?_
        exact ih _ _ _ _ hr _ _ _ _ _ (lv_sub hl [2, 3, 0] rfl) hM hcc hcs
      · have hr := if_n c2 hr
        refine lv_aload_n hx hb dX2_review_189 rfl (lv_at hl 1 rfl) ?_
        refine r_X2_7 X hM.r q162 dX2_review_190 ?_
        refine lv_goto (tgt := 200) hx hb dX2_review_193 (by decide) ?_
        refine w_X6_14N X hM g2 q324 dX2_review_200 (fun H locs G4 e4 hM => ?_)
        have hr := stE hr e4
        refine lv_iinc (v := x2 + 1) (lv' := [(2, .int (x2 + 1)), (3, .ref (L (iC x2))), (0, .ref (L 7)), (1, .int x1)]) hx hb dX2_review_203 hl (k := 3) rfl rfl (by decide) rfl (fun ls hl => ?_)
        refine lv_goto (tgt := 157) hx hb dX2_review_206 (by decide) ?_
        exact ih _ _ _ _ hr _ _ _ _ _ (lv_sub hl [2, 3, 0] rfl) hM hcc hcs
def K_reviewK_101 (F : Nat) (N : Nat → Nat) : Nat → Int32 → Int32 → mMS → Option (KO × Nat × Nat)
  | 0, _, _, _ => none
  | f + 1, x1, x2, G =>
    if (G 0 2) ≤ x2 then
      K_reviewK_157 F N F x1 0 G
    else
      (P_has F x1 x2).bind fun r1 =>
      if r1 = 0 then
        K_reviewK_101 F N f x1 (x2 + 1) G
      else
        gd x2 (N 0) <|
        if (G (iC x2) 14) = (-1) then
          K_reviewK_101 F N f x1 (x2 + 1) G
        else
          some (.inr (11, x2), 1, 8)
theorem w_K_reviewK_101 {F : Nat} (X : KX p s m args meth c RX2 cX2_review 4 (some .int) D ca) (htab : ∀ x ∈ c.exceptionTable.toList, False) : ∀ (f : Nat), ∀ (x1 : Int32) (x2 : Int32) (G : mMS) (r : KO × Nat × Nat), K_reviewK_101 F N f x1 x2 G = some r → ∀ (H : Heap) (locs : List Loc) (cells slots : Nat) (ls : Array Slot), lv_has ls 4 [(0, .ref (L 7)), (1, .int x1), (2, .int x2)] → kI D ca zb ow0 N L G s H locs → cells + r.2.1 ≤ mc → slots + r.2.2 ≤ ms → W p l e { frames := 6, cells := mc, slots := ms, locals := 40 * 6 } s m args below meth c H locs cells slots (vx_MQ below (ktQ (kA ow0 (L 7) s.heap.size) (fun v => some (.int v)) (fun _ G' => kPost D ca zb ow0 s.heap.size N L G') r.1) (ktX D (kA ow0 (L 7) s.heap.size) s.heap.size r.1) args s mc ms (kA ow0 (L 7) s.heap.size)) (F0 m 101 ls []) := by
  have X2 := X.1
  obtain ⟨hx, hb, hml, hown, hts⟩ := X2
  intro f
  induction f with
  | zero =>
    intro x1 x2 G r hr
    rw [K_reviewK_101] at hr
    cases hr
  | succ f ih =>
    intro x1 x2 G r hr H locs cells slots ls hl hM hcc hcs
    rw [K_reviewK_101] at hr
    refine lv_iload_n hx hb dX2_review_101 rfl (lv_at hl 2 rfl) ?_
    refine lv_aload_n hx hb dX2_review_102 rfl (lv_at hl 0 rfl) ?_
    refine r_X2_0 X hM.r q144 dX2_review_103 ?_
    refine kr_size X hM.r (j := 0) (by decide) q246 (Nat.le_of_ble_eq_true rfl) (Nat.le_of_ble_eq_true rfl) hl.1 (Nat.le_of_ble_eq_true rfl) dX2_review_106 ⟨Nat.le_trans (Nat.le_add_right _ _) hcc, Nat.le_trans (Nat.le_add_right _ _) hcs⟩ ?_
    refine lv_icmp_ge (tgt := 155) hx hb dX2_review_109 (by decide) (fun c1 => ?_) (fun c1 => ?_)
    · have hr := if_p c1 hr
      refine lv_iconst (v := 0) hx hb dX2_review_155 rfl ?_
      refine lv_istore_n (lv' := [(2, .int 0), (0, .ref (L 7)), (1, .int x1)]) hx hb dX2_review_156 rfl hl (by decide) rfl (fun ls hl => ?_)
      exact w_K_reviewK_157 X htab  _ _ _ _ _ hr _ _ _ _ _ (lv_sub hl [1, 2, 0] rfl) hM hcc hcs
    · have hr := if_n c1 hr
      refine lv_iload_n hx hb dX2_review_112 rfl (lv_at hl 1 rfl) ?_
      refine lv_iload_n hx hb dX2_review_113 rfl (lv_at hl 2 rfl) ?_
      obtain ⟨r1, h1, hr⟩ := ob hr
      refine p_cSN (k9 := 2) X (k_P_has h1) q607 q608 q65 q609 rfl (by decide +kernel) ⟨Nat.le_of_ble_eq_true rfl, Nat.le_of_ble_eq_true rfl⟩ hl.1 rfl (Nat.le_of_ble_eq_true rfl) dX2_review_114 ⟨Nat.le_trans (Nat.le_add_right _ _) hcc, Nat.le_trans (Nat.le_add_right _ _) hcs⟩ ?_
      refine lv_if_eq (tgt := 142) hx hb dX2_review_117 (by decide) (fun c2 => ?_) (fun c2 => ?_)
      · have hr := if_p c2 hr
        refine lv_iconst (v := 0) hx hb dX2_review_142 rfl ?_
        refine lv_bipush (v := 11) hx hb dX2_review_143 rfl ?_
        refine lv_iload_n hx hb dX2_review_145 rfl (lv_at hl 2 rfl) ?_
        refine kt_ref30 X hM q794 (Nat.le_of_ble_eq_true rfl) (Nat.le_of_ble_eq_true rfl) hl.1 (Nat.le_of_ble_eq_true rfl) dX2_review_146 ⟨Nat.le_trans (Nat.le_add_right _ _) hcc, Nat.le_trans (Nat.le_add_right _ _) hcs⟩ ?_
        refine lv_iinc (v := x2 + 1) (lv' := [(2, .int (x2 + 1)), (0, .ref (L 7)), (1, .int x1)]) hx hb dX2_review_149 hl (k := 2) rfl rfl (by decide) rfl (fun ls hl => ?_)
        refine lv_goto (tgt := 101) hx hb dX2_review_152 (by decide) ?_
        exact ih _ _ _ _ hr _ _ _ _ _ (lv_sub hl [1, 2, 0] rfl) hM hcc hcs
      · have hr := if_n c2 hr
        refine lv_aload_n hx hb dX2_review_120 rfl (lv_at hl 0 rfl) ?_
        refine r_X2_0 X hM.r q144 dX2_review_121 ?_
        refine lv_iload_n hx hb dX2_review_124 rfl (lv_at hl 2 rfl) ?_
        obtain ⟨g1, hr⟩ := gs hr
        refine kr_get X hM.r (j := 0) (by decide) g1 q250 (Nat.le_of_ble_eq_true rfl) (Nat.le_of_ble_eq_true rfl) hl.1 (Nat.le_of_ble_eq_true rfl) dX2_review_125 ⟨Nat.le_trans (Nat.le_add_right _ _) hcc, Nat.le_trans (Nat.le_add_right _ _) hcs⟩ ?_
        refine va_castS hx hb hown (hts _ q264) (X.2.2.2.1.1 2 _ rfl).2 (rc_inc X hM.r g1) dX2_review_128 ?_
        refine r_X6_14N X hM.r g1 q324 dX2_review_131 ?_
        refine lv_iconst (v := (-1)) hx hb dX2_review_134 rfl ?_
        refine lv_icmp_eq (tgt := 142) hx hb dX2_review_135 (by decide) (fun c3 => ?_) (fun c3 => ?_)
        · have hr := if_p c3 hr
          refine lv_iconst (v := 0) hx hb dX2_review_142 rfl ?_
          refine lv_bipush (v := 11) hx hb dX2_review_143 rfl ?_
          refine lv_iload_n hx hb dX2_review_145 rfl (lv_at hl 2 rfl) ?_
          refine kt_ref30 X hM q794 (Nat.le_of_ble_eq_true rfl) (Nat.le_of_ble_eq_true rfl) hl.1 (Nat.le_of_ble_eq_true rfl) dX2_review_146 ⟨Nat.le_trans (Nat.le_add_right _ _) hcc, Nat.le_trans (Nat.le_add_right _ _) hcs⟩ ?_
          refine lv_iinc (v := x2 + 1) (lv' := [(2, .int (x2 + 1)), (0, .ref (L 7)), (1, .int x1)]) hx hb dX2_review_149 hl (k := 2) rfl rfl (by decide) rfl (fun ls hl => ?_)
          refine lv_goto (tgt := 101) hx hb dX2_review_152 (by decide) ?_
          exact ih _ _ _ _ hr _ _ _ _ _ (lv_sub hl [1, 2, 0] rfl) hM hcc hcs
        · have hr := if_n c3 hr
          refine lv_iconst (v := 1) hx hb dX2_review_138 rfl ?_
          refine lv_goto (tgt := 143) hx hb dX2_review_139 (by decide) ?_
          refine lv_bipush (v := 11) hx hb dX2_review_143 rfl ?_
          refine lv_iload_n hx hb dX2_review_145 rfl (lv_at hl 2 rfl) ?_
          cases hr
          exact kt_ref31 X htab hM q794 (Nat.le_of_ble_eq_true rfl) (Nat.le_of_ble_eq_true rfl) hl.1 (Nat.le_of_ble_eq_true rfl) dX2_review_146 ⟨Nat.le_trans (Nat.le_add_right _ _) hcc, Nat.le_trans (Nat.le_add_right _ _) hcs⟩ rfl hcc hcs rfl rfl
def K_reviewK_46 (F : Nat) (N : Nat → Nat) : Nat → Int32 → Int32 → mMS → Option (KO × Nat × Nat)
  | 0, _, _, _ => none
  | f + 1, x1, x2, G =>
    if (G 0 2) ≤ x2 then
      K_reviewK_101 F N F x1 0 G
    else
      (P_has F x1 x2).bind fun r1 =>
      if r1 = 0 then
        K_reviewK_46 F N f x1 (x2 + 1) G
      else
        gd x2 (N 0) <|
        if (G (iC x2) 7) = 2 then
          K_reviewK_46 F N f x1 (x2 + 1) G
        else
          some (.inr (4, x2), 1, 8)
theorem w_K_reviewK_46 {F : Nat} (X : KX p s m args meth c RX2 cX2_review 4 (some .int) D ca) (htab : ∀ x ∈ c.exceptionTable.toList, False) : ∀ (f : Nat), ∀ (x1 : Int32) (x2 : Int32) (G : mMS) (r : KO × Nat × Nat), K_reviewK_46 F N f x1 x2 G = some r → ∀ (H : Heap) (locs : List Loc) (cells slots : Nat) (ls : Array Slot), lv_has ls 4 [(0, .ref (L 7)), (1, .int x1), (2, .int x2)] → kI D ca zb ow0 N L G s H locs → cells + r.2.1 ≤ mc → slots + r.2.2 ≤ ms → W p l e { frames := 6, cells := mc, slots := ms, locals := 40 * 6 } s m args below meth c H locs cells slots (vx_MQ below (ktQ (kA ow0 (L 7) s.heap.size) (fun v => some (.int v)) (fun _ G' => kPost D ca zb ow0 s.heap.size N L G') r.1) (ktX D (kA ow0 (L 7) s.heap.size) s.heap.size r.1) args s mc ms (kA ow0 (L 7) s.heap.size)) (F0 m 46 ls []) := by
  have X2 := X.1
  obtain ⟨hx, hb, hml, hown, hts⟩ := X2
  intro f
  induction f with
  | zero =>
    intro x1 x2 G r hr
    rw [K_reviewK_46] at hr
    cases hr
  | succ f ih =>
    intro x1 x2 G r hr H locs cells slots ls hl hM hcc hcs
    rw [K_reviewK_46] at hr
    refine lv_iload_n hx hb dX2_review_46 rfl (lv_at hl 2 rfl) ?_
    refine lv_aload_n hx hb dX2_review_47 rfl (lv_at hl 0 rfl) ?_
    refine r_X2_0 X hM.r q144 dX2_review_48 ?_
    refine kr_size X hM.r (j := 0) (by decide) q246 (Nat.le_of_ble_eq_true rfl) (Nat.le_of_ble_eq_true rfl) hl.1 (Nat.le_of_ble_eq_true rfl) dX2_review_51 ⟨Nat.le_trans (Nat.le_add_right _ _) hcc, Nat.le_trans (Nat.le_add_right _ _) hcs⟩ ?_
    refine lv_icmp_ge (tgt := 99) hx hb dX2_review_54 (by decide) (fun c1 => ?_) (fun c1 => ?_)
    · have hr := if_p c1 hr
      refine lv_iconst (v := 0) hx hb dX2_review_99 rfl ?_
      refine lv_istore_n (lv' := [(2, .int 0), (0, .ref (L 7)), (1, .int x1)]) hx hb dX2_review_100 rfl hl (by decide) rfl (fun ls hl => ?_)
      exact w_K_reviewK_101 X htab  _ _ _ _ _ hr _ _ _ _ _ (lv_sub hl [1, 2, 0] rfl) hM hcc hcs
    · have hr := if_n c1 hr
      refine lv_iload_n hx hb dX2_review_57 rfl (lv_at hl 1 rfl) ?_
      refine lv_iload_n hx hb dX2_review_58 rfl (lv_at hl 2 rfl) ?_
      obtain ⟨r1, h1, hr⟩ := ob hr
      refine p_cSN (k9 := 2) X (k_P_has h1) q607 q608 q65 q609 rfl (by decide +kernel) ⟨Nat.le_of_ble_eq_true rfl, Nat.le_of_ble_eq_true rfl⟩ hl.1 rfl (Nat.le_of_ble_eq_true rfl) dX2_review_59 ⟨Nat.le_trans (Nat.le_add_right _ _) hcc, Nat.le_trans (Nat.le_add_right _ _) hcs⟩ ?_
      refine lv_if_eq (tgt := 87) hx hb dX2_review_62 (by decide) (fun c2 => ?_) (fun c2 => ?_)
      · have hr := if_p c2 hr
        refine lv_iconst (v := 0) hx hb dX2_review_87 rfl ?_
        refine lv_iconst (v := 4) hx hb dX2_review_88 rfl ?_
        refine lv_iload_n hx hb dX2_review_89 rfl (lv_at hl 2 rfl) ?_
        refine kt_ref30 X hM q794 (Nat.le_of_ble_eq_true rfl) (Nat.le_of_ble_eq_true rfl) hl.1 (Nat.le_of_ble_eq_true rfl) dX2_review_90 ⟨Nat.le_trans (Nat.le_add_right _ _) hcc, Nat.le_trans (Nat.le_add_right _ _) hcs⟩ ?_
        refine lv_iinc (v := x2 + 1) (lv' := [(2, .int (x2 + 1)), (0, .ref (L 7)), (1, .int x1)]) hx hb dX2_review_93 hl (k := 2) rfl rfl (by decide) rfl (fun ls hl => ?_)
        refine lv_goto (tgt := 46) hx hb dX2_review_96 (by decide) ?_
        exact ih _ _ _ _ hr _ _ _ _ _ (lv_sub hl [1, 2, 0] rfl) hM hcc hcs
      · have hr := if_n c2 hr
        refine lv_aload_n hx hb dX2_review_65 rfl (lv_at hl 0 rfl) ?_
        refine r_X2_0 X hM.r q144 dX2_review_66 ?_
        refine lv_iload_n hx hb dX2_review_69 rfl (lv_at hl 2 rfl) ?_
        obtain ⟨g1, hr⟩ := gs hr
        refine kr_get X hM.r (j := 0) (by decide) g1 q250 (Nat.le_of_ble_eq_true rfl) (Nat.le_of_ble_eq_true rfl) hl.1 (Nat.le_of_ble_eq_true rfl) dX2_review_70 ⟨Nat.le_trans (Nat.le_add_right _ _) hcc, Nat.le_trans (Nat.le_add_right _ _) hcs⟩ ?_
        refine va_castS hx hb hown (hts _ q264) (X.2.2.2.1.1 2 _ rfl).2 (rc_inc X hM.r g1) dX2_review_73 ?_
        refine r_X6_7N X hM.r g1 q305 dX2_review_76 ?_
        refine lv_iconst (v := 2) hx hb dX2_review_79 rfl ?_
        refine lv_icmp_eq (tgt := 87) hx hb dX2_review_80 (by decide) (fun c3 => ?_) (fun c3 => ?_)
        · have hr := if_p c3 hr
          refine lv_iconst (v := 0) hx hb dX2_review_87 rfl ?_
          refine lv_iconst (v := 4) hx hb dX2_review_88 rfl ?_
          refine lv_iload_n hx hb dX2_review_89 rfl (lv_at hl 2 rfl) ?_
          refine kt_ref30 X hM q794 (Nat.le_of_ble_eq_true rfl) (Nat.le_of_ble_eq_true rfl) hl.1 (Nat.le_of_ble_eq_true rfl) dX2_review_90 ⟨Nat.le_trans (Nat.le_add_right _ _) hcc, Nat.le_trans (Nat.le_add_right _ _) hcs⟩ ?_
          refine lv_iinc (v := x2 + 1) (lv' := [(2, .int (x2 + 1)), (0, .ref (L 7)), (1, .int x1)]) hx hb dX2_review_93 hl (k := 2) rfl rfl (by decide) rfl (fun ls hl => ?_)
          refine lv_goto (tgt := 46) hx hb dX2_review_96 (by decide) ?_
          exact ih _ _ _ _ hr _ _ _ _ _ (lv_sub hl [1, 2, 0] rfl) hM hcc hcs
        · have hr := if_n c3 hr
          refine lv_iconst (v := 1) hx hb dX2_review_83 rfl ?_
          refine lv_goto (tgt := 88) hx hb dX2_review_84 (by decide) ?_
          refine lv_iconst (v := 4) hx hb dX2_review_88 rfl ?_
          refine lv_iload_n hx hb dX2_review_89 rfl (lv_at hl 2 rfl) ?_
          cases hr
          exact kt_ref31 X htab hM q794 (Nat.le_of_ble_eq_true rfl) (Nat.le_of_ble_eq_true rfl) hl.1 (Nat.le_of_ble_eq_true rfl) dX2_review_90 ⟨Nat.le_trans (Nat.le_add_right _ _) hcc, Nat.le_trans (Nat.le_add_right _ _) hcs⟩ rfl hcc hcs rfl rfl
def K_reviewK (F : Nat) (N : Nat → Nat) (p0 : Int32) (G : mMS) : Option (KO × Nat × Nat) :=
  if p0 ≤ 0 then
    some (.inr (2, 0), 1, 8)
  else
    if p0 < (1 <<< ((G 0 2) &&& 31)) then
      if (G 7 7) = 8 then
        some (.inr (3, 0), 1, 8)
      else
        K_reviewK_46 F N F p0 0 G
    else
      some (.inr (2, 0), 1, 8)
theorem k_K_reviewK {F : Nat} {p0 : Int32} {sz : Nat} {r : KO × Nat × Nat} (hr : K_reviewK F N p0 G = some r) (hmc : r.2.1 ≤ mc) (hms : r.2.2 ≤ ms) : KtI l D ca zb ow0 sz yX2_review cX2_review 4 (some .int) 6 mc ms [.ref (L 7), .int p0] N L G (fun v => some (.int v)) (fun _ G' => kPost D ca zb ow0 sz N L G') r.1 := by
  refine kt_start (own := RX2) (by decide) rfl (Nat.le_of_ble_eq_true rfl) fun p e s m below meth c X htab ls hl hsz hM => ?_
  subst hsz
  have hl : lv_has ls 4 [(0, .ref (L 7)), (1, .int p0)] := hl
  have X2 := X.1
  obtain ⟨hx, hb, hml, hown, hts⟩ := X2
  have hcc : 0 + r.2.1 ≤ mc := by rw [Nat.zero_add]; exact hmc
  have hcs : 0 + r.2.2 ≤ ms := by rw [Nat.zero_add]; exact hms
  unfold K_reviewK at hr
  refine lv_iload_n hx hb dX2_review_0 rfl (lv_at hl 1 rfl) ?_
  refine lv_if_le (tgt := 17) hx hb dX2_review_1 (by decide) (fun c1 => ?_) (fun c1 => ?_)
  · have hr := if_p c1 hr
    refine lv_iconst (v := 1) hx hb dX2_review_17 rfl ?_
    refine lv_goto (tgt := 22) hx hb dX2_review_18 (by decide) ?_
    refine lv_iconst (v := 2) hx hb dX2_review_22 rfl ?_
    cases hr
    exact kt_ref21 X htab hM q527 (Nat.le_of_ble_eq_true rfl) (Nat.le_of_ble_eq_true rfl) hl.1 (Nat.le_of_ble_eq_true rfl) dX2_review_23 ⟨Nat.le_trans (Nat.le_add_right _ _) hcc, Nat.le_trans (Nat.le_add_right _ _) hcs⟩ rfl hcc hcs rfl rfl
  · have hr := if_n c1 hr
    refine lv_iload_n hx hb dX2_review_4 rfl (lv_at hl 1 rfl) ?_
    refine lv_iconst (v := 1) hx hb dX2_review_5 rfl ?_
    refine lv_aload_n hx hb dX2_review_6 rfl (lv_at hl 0 rfl) ?_
    refine r_X2_0 X hM.r q144 dX2_review_7 ?_
    refine kr_size X hM.r (j := 0) (by decide) q246 (Nat.le_of_ble_eq_true rfl) (Nat.le_of_ble_eq_true rfl) hl.1 (Nat.le_of_ble_eq_true rfl) dX2_review_10 ⟨Nat.le_trans (Nat.le_add_right _ _) hcc, Nat.le_trans (Nat.le_add_right _ _) hcs⟩ ?_
    refine lv_ishl hx hb dX2_review_13 ?_
    refine lv_icmp_lt (tgt := 21) hx hb dX2_review_14 (by decide) (fun c2 => ?_) (fun c2 => ?_)
    · have hr := if_p c2 hr
      refine lv_iconst (v := 0) hx hb dX2_review_21 rfl ?_
      refine lv_iconst (v := 2) hx hb dX2_review_22 rfl ?_
      refine kt_ref20 X hM q527 (Nat.le_of_ble_eq_true rfl) (Nat.le_of_ble_eq_true rfl) hl.1 (Nat.le_of_ble_eq_true rfl) dX2_review_23 ⟨Nat.le_trans (Nat.le_add_right _ _) hcc, Nat.le_trans (Nat.le_add_right _ _) hcs⟩ ?_
      refine lv_aload_n hx hb dX2_review_26 rfl (lv_at hl 0 rfl) ?_
      refine r_X2_7 X hM.r q162 dX2_review_27 ?_
      refine lv_bipush (v := 8) hx hb dX2_review_30 rfl ?_
      refine lv_icmp_ne (tgt := 39) hx hb dX2_review_32 (by decide) (fun c3 => ?_) (fun c3 => ?_)
      · have hr := if_n c3 hr
        refine lv_iconst (v := 0) hx hb dX2_review_39 rfl ?_
        refine lv_iconst (v := 3) hx hb dX2_review_40 rfl ?_
        refine kt_ref20 X hM q527 (Nat.le_of_ble_eq_true rfl) (Nat.le_of_ble_eq_true rfl) hl.1 (Nat.le_of_ble_eq_true rfl) dX2_review_41 ⟨Nat.le_trans (Nat.le_add_right _ _) hcc, Nat.le_trans (Nat.le_add_right _ _) hcs⟩ ?_
        refine lv_iconst (v := 0) hx hb dX2_review_44 rfl ?_
        refine lv_istore_n (lv' := [(2, .int 0), (0, .ref (L 7)), (1, .int p0)]) hx hb dX2_review_45 rfl hl (by decide) rfl (fun ls hl => ?_)
        exact w_K_reviewK_46 X htab  _ _ _ _ _ hr _ _ _ _ _ (lv_sub hl [1, 2, 0] rfl) hM hcc hcs
      · have hr := if_p c3 hr
        refine lv_iconst (v := 1) hx hb dX2_review_35 rfl ?_
        refine lv_goto (tgt := 40) hx hb dX2_review_36 (by decide) ?_
        refine lv_iconst (v := 3) hx hb dX2_review_40 rfl ?_
        cases hr
        exact kt_ref21 X htab hM q527 (Nat.le_of_ble_eq_true rfl) (Nat.le_of_ble_eq_true rfl) hl.1 (Nat.le_of_ble_eq_true rfl) dX2_review_41 ⟨Nat.le_trans (Nat.le_add_right _ _) hcc, Nat.le_trans (Nat.le_add_right _ _) hcs⟩ rfl hcc hcs rfl rfl
    · have hr := if_n c2 hr
      refine lv_iconst (v := 1) hx hb dX2_review_17 rfl ?_
      refine lv_goto (tgt := 22) hx hb dX2_review_18 (by decide) ?_
      refine lv_iconst (v := 2) hx hb dX2_review_22 rfl ?_
      cases hr
      exact kt_ref21 X htab hM q527 (Nat.le_of_ble_eq_true rfl) (Nat.le_of_ble_eq_true rfl) hl.1 (Nat.le_of_ble_eq_true rfl) dX2_review_23 ⟨Nat.le_trans (Nat.le_add_right _ _) hcc, Nat.le_trans (Nat.le_add_right _ _) hcs⟩ rfl hcc hcs rfl rfl
def K_finishK_57 (F : Nat) (N : Nat → Nat) : Nat → Int32 → Int32 → Int32 → mMS → Option (KO × Nat × Nat)
  | 0, _, _, _, _ => none
  | f + 1, z2, x3, x4, G =>
    if (G 2 2) ≤ x4 then
      some (.inl (x3, G), 0, 0)
    else
      gd x4 (N 2) <|
      if (G (aC x4) 0) = (G (aC z2) 0) then
        gd x4 (N 2) <|
        if (G (aC x4) 3) = 0 then
          K_finishK_57 F N f z2 (x3 + 1) (x4 + 1) G
        else
          K_finishK_57 F N f z2 (x3 + 0) (x4 + 1) G
      else
        K_finishK_57 F N f z2 (x3 + 0) (x4 + 1) G
theorem w_K_finishK_57 {F : Nat} (X : KX p s m args meth c RX2 cX2_finish 5 (some .int) D ca) (htab : ∀ x ∈ c.exceptionTable.toList, False) : ∀ (f : Nat), ∀ (z2 : Int32) (x3 : Int32) (x4 : Int32) (G : mMS) (r : KO × Nat × Nat), K_finishK_57 F N f z2 x3 x4 G = some r → vp_in z2 (N 2) → ∀ (H : Heap) (locs : List Loc) (cells slots : Nat) (ls : Array Slot), lv_has ls 5 [(0, .ref (L 7)), (2, .ref (L (aC z2))), (3, .int x3), (4, .int x4)] → kI D ca zb ow0 N L G s H locs → cells + r.2.1 ≤ mc → slots + r.2.2 ≤ ms → W p l e { frames := 6, cells := mc, slots := ms, locals := 40 * 6 } s m args below meth c H locs cells slots (vx_MQ below (ktQ (kA ow0 (L 7) s.heap.size) (fun v => some (.int v)) (fun _ G' => kPost D ca zb ow0 s.heap.size N L G') r.1) (ktX D (kA ow0 (L 7) s.heap.size) s.heap.size r.1) args s mc ms (kA ow0 (L 7) s.heap.size)) (F0 m 57 ls []) := by
  have X2 := X.1
  obtain ⟨hx, hb, hml, hown, hts⟩ := X2
  intro f
  induction f with
  | zero =>
    intro z2 x3 x4 G r hr
    rw [K_finishK_57] at hr
    cases hr
  | succ f ih =>
    intro z2 x3 x4 G r hr hz2 H locs cells slots ls hl hM hcc hcs
    rw [K_finishK_57] at hr
    refine lv_iload hx hb dX2_finish_57 (lv_at hl 3 rfl) ?_
    refine lv_aload_n hx hb dX2_finish_59 rfl (lv_at hl 0 rfl) ?_
    refine r_X2_2 X hM.r q150 dX2_finish_60 ?_
    refine kr_size X hM.r (j := 2) (by decide) q246 (Nat.le_of_ble_eq_true rfl) (Nat.le_of_ble_eq_true rfl) hl.1 (Nat.le_of_ble_eq_true rfl) dX2_finish_63 ⟨Nat.le_trans (Nat.le_add_right _ _) hcc, Nat.le_trans (Nat.le_add_right _ _) hcs⟩ ?_
    refine lv_icmp_ge (tgt := 123) hx hb dX2_finish_66 (by decide) (fun c1 => ?_) (fun c1 => ?_)
    · have hr := if_p c1 hr
      refine lv_iload_n hx hb dX2_finish_123 rfl (lv_at hl 2 rfl) ?_
      cases hr
      exact kt_iret X hM hcc hcs dX2_finish_124
    · have hr := if_n c1 hr
      refine lv_iload_n hx hb dX2_finish_69 rfl (lv_at hl 2 rfl) ?_
      refine lv_aload_n hx hb dX2_finish_70 rfl (lv_at hl 0 rfl) ?_
      refine r_X2_2 X hM.r q150 dX2_finish_71 ?_
      refine lv_iload hx hb dX2_finish_74 (lv_at hl 3 rfl) ?_
      obtain ⟨g1, hr⟩ := gs hr
      refine kr_get X hM.r (j := 2) (by decide) g1 q250 (Nat.le_of_ble_eq_true rfl) (Nat.le_of_ble_eq_true rfl) hl.1 (Nat.le_of_ble_eq_true rfl) dX2_finish_76 ⟨Nat.le_trans (Nat.le_add_right _ _) hcc, Nat.le_trans (Nat.le_add_right _ _) hcs⟩ ?_
      refine va_castS hx hb hown (hts _ q445) (X.2.2.2.1.1 6 _ rfl).2 (rc_act X hM.r g1) dX2_finish_79 ?_
      refine r_X7_0N X hM.r g1 q457 dX2_finish_82 ?_
      refine lv_aload_n hx hb dX2_finish_85 rfl (lv_at hl 1 rfl) ?_
      refine r_X7_0N X hM.r hz2 q457 dX2_finish_86 ?_
      refine lv_icmp_ne (tgt := 114) hx hb dX2_finish_89 (by decide) (fun c2 => ?_) (fun c2 => ?_)
      · have hr := if_n c2 hr
        refine lv_iconst (v := 0) hx hb dX2_finish_114 rfl ?_
        refine lv_iadd hx hb dX2_finish_115 ?_
        refine lv_istore_n (lv' := [(3, .int (x3 + 0)), (0, .ref (L 7)), (2, .ref (L (aC z2))), (4, .int x4)]) hx hb dX2_finish_116 rfl hl (by decide) rfl (fun ls hl => ?_)
        refine lv_iinc (v := x4 + 1) (lv' := [(4, .int (x4 + 1)), (3, .int (x3 + 0)), (0, .ref (L 7)), (2, .ref (L (aC z2)))]) hx hb dX2_finish_117 hl (k := 3) rfl rfl (by decide) rfl (fun ls hl => ?_)
        refine lv_goto (tgt := 57) hx hb dX2_finish_120 (by decide) ?_
        exact ih _ _ _ _ _ hr hz2 _ _ _ _ _ (lv_sub hl [2, 3, 1, 0] rfl) hM hcc hcs
      · have hr := if_p c2 hr
        refine lv_aload_n hx hb dX2_finish_92 rfl (lv_at hl 0 rfl) ?_
        refine r_X2_2 X hM.r q150 dX2_finish_93 ?_
        refine lv_iload hx hb dX2_finish_96 (lv_at hl 3 rfl) ?_
        obtain ⟨g2, hr⟩ := gs hr
        refine kr_get X hM.r (j := 2) (by decide) g2 q250 (Nat.le_of_ble_eq_true rfl) (Nat.le_of_ble_eq_true rfl) hl.1 (Nat.le_of_ble_eq_true rfl) dX2_finish_98 ⟨Nat.le_trans (Nat.le_add_right _ _) hcc, Nat.le_trans (Nat.le_add_right _ _) hcs⟩ ?_
        refine va_castS hx hb hown (hts _ q445) (X.2.2.2.1.1 6 _ rfl).2 (rc_act X hM.r g2) dX2_finish_101 ?_
        refine r_X7_3N X hM.r g2 q464 dX2_finish_104 ?_
        refine lv_if_ne (tgt := 114) hx hb dX2_finish_107 (by decide) (fun c3 => ?_) (fun c3 => ?_)
        · have hr := if_n c3 hr
          refine lv_iconst (v := 0) hx hb dX2_finish_114 rfl ?_
          refine lv_iadd hx hb dX2_finish_115 ?_
          refine lv_istore_n (lv' := [(3, .int (x3 + 0)), (0, .ref (L 7)), (2, .ref (L (aC z2))), (4, .int x4)]) hx hb dX2_finish_116 rfl hl (by decide) rfl (fun ls hl => ?_)
          refine lv_iinc (v := x4 + 1) (lv' := [(4, .int (x4 + 1)), (3, .int (x3 + 0)), (0, .ref (L 7)), (2, .ref (L (aC z2)))]) hx hb dX2_finish_117 hl (k := 3) rfl rfl (by decide) rfl (fun ls hl => ?_)
          refine lv_goto (tgt := 57) hx hb dX2_finish_120 (by decide) ?_
          exact ih _ _ _ _ _ hr hz2 _ _ _ _ _ (lv_sub hl [2, 3, 1, 0] rfl) hM hcc hcs
        · have hr := if_p c3 hr
          refine lv_iconst (v := 1) hx hb dX2_finish_110 rfl ?_
          refine lv_goto (tgt := 115) hx hb dX2_finish_111 (by decide) ?_
          refine lv_iadd hx hb dX2_finish_115 ?_
          refine lv_istore_n (lv' := [(3, .int (x3 + 1)), (0, .ref (L 7)), (2, .ref (L (aC z2))), (4, .int x4)]) hx hb dX2_finish_116 rfl hl (by decide) rfl (fun ls hl => ?_)
          refine lv_iinc (v := x4 + 1) (lv' := [(4, .int (x4 + 1)), (3, .int (x3 + 1)), (0, .ref (L 7)), (2, .ref (L (aC z2)))]) hx hb dX2_finish_117 hl (k := 3) rfl rfl (by decide) rfl (fun ls hl => ?_)
          refine lv_goto (tgt := 57) hx hb dX2_finish_120 (by decide) ?_
          exact ih _ _ _ _ _ hr hz2 _ _ _ _ _ (lv_sub hl [2, 3, 1, 0] rfl) hM hcc hcs
def K_finishK (F : Nat) (N : Nat → Nat) (p0 : Int32) (G : mMS) : Option (KO × Nat × Nat) :=
  (P_isBetween F p0 0 ((G 2 2) - 1)).bind fun r1 =>
  if r1 = 0 then
    some (.inr (1, 0), 1, 8)
  else
    gd p0 (N 2) <|
    if (G (aC p0) 3) = 0 then
      st (m_up G (aC p0) 3 1) fun G1 =>
      K_finishK_57 F N F p0 0 0 G1
    else
      if (G (aC p0) 3) = 1 then
        some (.inr (13, 0), 1, 8)
      else
        none
theorem k_K_finishK {F : Nat} {p0 : Int32} {sz : Nat} {r : KO × Nat × Nat} (hr : K_finishK F N p0 G = some r) (hmc : r.2.1 ≤ mc) (hms : r.2.2 ≤ ms) : KtI l D ca zb ow0 sz yX2_finish cX2_finish 5 (some .int) 6 mc ms [.ref (L 7), .int p0] N L G (fun v => some (.int v)) (fun _ G' => kPost D ca zb ow0 sz N L G') r.1 := by
  refine kt_start (own := RX2) (by decide) rfl (Nat.le_of_ble_eq_true rfl) fun p e s m below meth c X htab ls hl hsz hM => ?_
  subst hsz
  have hl : lv_has ls 5 [(0, .ref (L 7)), (1, .int p0)] := hl
  have X2 := X.1
  obtain ⟨hx, hb, hml, hown, hts⟩ := X2
  have hcc : 0 + r.2.1 ≤ mc := by rw [Nat.zero_add]; exact hmc
  have hcs : 0 + r.2.2 ≤ ms := by rw [Nat.zero_add]; exact hms
  unfold K_finishK at hr
  refine lv_iload_n hx hb dX2_finish_0 rfl (lv_at hl 1 rfl) ?_
  refine lv_iconst (v := 0) hx hb dX2_finish_1 rfl ?_
  refine lv_aload_n hx hb dX2_finish_2 rfl (lv_at hl 0 rfl) ?_
  refine r_X2_2 X hM.r q150 dX2_finish_3 ?_
  refine kr_size X hM.r (j := 2) (by decide) q246 (Nat.le_of_ble_eq_true rfl) (Nat.le_of_ble_eq_true rfl) hl.1 (Nat.le_of_ble_eq_true rfl) dX2_finish_6 ⟨Nat.le_trans (Nat.le_add_right _ _) hcc, Nat.le_trans (Nat.le_add_right _ _) hcs⟩ ?_
  refine lv_iconst (v := 1) hx hb dX2_finish_9 rfl ?_
  refine lv_isub hx hb dX2_finish_10 ?_
  obtain ⟨r1, h1, hr⟩ := ob hr
  refine p_cSN (k9 := 3) X (k_P_isBetween h1) q671 q525 q65 q526 rfl (by decide +kernel) ⟨Nat.le_of_ble_eq_true rfl, Nat.le_of_ble_eq_true rfl⟩ hl.1 rfl (Nat.le_of_ble_eq_true rfl) dX2_finish_11 ⟨Nat.le_trans (Nat.le_add_right _ _) hcc, Nat.le_trans (Nat.le_add_right _ _) hcs⟩ ?_
  refine lv_if_ne (tgt := 21) hx hb dX2_finish_14 (by decide) (fun c1 => ?_) (fun c1 => ?_)
  · have hr := if_n c1 hr
    refine lv_iconst (v := 0) hx hb dX2_finish_21 rfl ?_
    refine lv_iconst (v := 1) hx hb dX2_finish_22 rfl ?_
    refine kt_ref20 X hM q527 (Nat.le_of_ble_eq_true rfl) (Nat.le_of_ble_eq_true rfl) hl.1 (Nat.le_of_ble_eq_true rfl) dX2_finish_23 ⟨Nat.le_trans (Nat.le_add_right _ _) hcc, Nat.le_trans (Nat.le_add_right _ _) hcs⟩ ?_
    refine lv_aload_n hx hb dX2_finish_26 rfl (lv_at hl 0 rfl) ?_
    refine r_X2_2 X hM.r q150 dX2_finish_27 ?_
    refine lv_iload_n hx hb dX2_finish_30 rfl (lv_at hl 1 rfl) ?_
    obtain ⟨g1, hr⟩ := gs hr
    refine kr_get X hM.r (j := 2) (by decide) g1 q250 (Nat.le_of_ble_eq_true rfl) (Nat.le_of_ble_eq_true rfl) hl.1 (Nat.le_of_ble_eq_true rfl) dX2_finish_31 ⟨Nat.le_trans (Nat.le_add_right _ _) hcc, Nat.le_trans (Nat.le_add_right _ _) hcs⟩ ?_
    refine va_castS hx hb hown (hts _ q445) (X.2.2.2.1.1 6 _ rfl).2 (rc_act X hM.r g1) dX2_finish_34 ?_
    refine lv_astore_n (lv' := [(2, .ref (L (aC p0))), (0, .ref (L 7)), (1, .int p0)]) hx hb dX2_finish_37 rfl hl (by decide) rfl (fun ls hl => ?_)
    refine lv_aload_n hx hb dX2_finish_38 rfl (lv_at hl 0 rfl) ?_
    refine r_X7_3N X hM.r g1 q464 dX2_finish_39 ?_
    refine lv_bipush (v := 13) hx hb dX2_finish_42 rfl ?_
    rcases Decidable.em ((G (aC p0) 3) = 0) with c2 | c2
    · have hr := if_p c2 hr
      refine W.eq (g2 := F0 m 44 ls [.int 13, .int 0]) (by rw [c2]) ?_
      refine kt_ref20 X hM q527 (Nat.le_of_ble_eq_true rfl) (Nat.le_of_ble_eq_true rfl) hl.1 (Nat.le_of_ble_eq_true rfl) dX2_finish_44 ⟨Nat.le_trans (Nat.le_add_right _ _) hcc, Nat.le_trans (Nat.le_add_right _ _) hcs⟩ ?_
      refine lv_aload_n hx hb dX2_finish_47 rfl (lv_at hl 0 rfl) ?_
      refine lv_iconst (v := 1) hx hb dX2_finish_48 rfl ?_
      refine w_X7_3N X hM g1 (by decide) q464 dX2_finish_49 (fun H locs G1 e1 hM => ?_)
      have hr := stE hr e1
      refine lv_iconst (v := 0) hx hb dX2_finish_52 rfl ?_
      refine lv_istore_n (lv' := [(3, .int 0), (2, .ref (L (aC p0))), (0, .ref (L 7)), (1, .int p0)]) hx hb dX2_finish_53 rfl hl (by decide) rfl (fun ls hl => ?_)
      refine lv_iconst (v := 0) hx hb dX2_finish_54 rfl ?_
      refine lv_istore (lv' := [(4, .int 0), (3, .int 0), (2, .ref (L (aC p0))), (0, .ref (L 7)), (1, .int p0)]) hx hb dX2_finish_55 hl (by decide) rfl (fun ls hl => ?_)
      exact w_K_finishK_57 X htab  _ _ _ _ _ _ hr g1 _ _ _ _ _ (lv_sub hl [3, 2, 1, 0] rfl) hM hcc hcs
    · have hr := if_n c2 hr
      rcases Decidable.em ((G (aC p0) 3) = 1) with c3 | c3
      · have hr := if_p c3 hr
        refine W.eq (g2 := F0 m 44 ls [.int 13, .int 1]) (by rw [c3]) ?_
        cases hr
        exact kt_ref21 X htab hM q527 (Nat.le_of_ble_eq_true rfl) (Nat.le_of_ble_eq_true rfl) hl.1 (Nat.le_of_ble_eq_true rfl) dX2_finish_44 ⟨Nat.le_trans (Nat.le_add_right _ _) hcc, Nat.le_trans (Nat.le_add_right _ _) hcs⟩ rfl hcc hcs rfl rfl
      · have hr := if_n c3 hr
        cases hr
  · have hr := if_p c1 hr
    refine lv_iconst (v := 1) hx hb dX2_finish_17 rfl ?_
    refine lv_goto (tgt := 22) hx hb dX2_finish_18 (by decide) ?_
    refine lv_iconst (v := 1) hx hb dX2_finish_22 rfl ?_
    cases hr
    exact kt_ref21 X htab hM q527 (Nat.le_of_ble_eq_true rfl) (Nat.le_of_ble_eq_true rfl) hl.1 (Nat.le_of_ble_eq_true rfl) dX2_finish_23 ⟨Nat.le_trans (Nat.le_add_right _ _) hcc, Nat.le_trans (Nat.le_add_right _ _) hcs⟩ rfl hcc hcs rfl rfl
def K_passK_42 (F : Nat) (N : Nat → Nat) (κ24 : Int32 → Int32 → Int32 → mMS → Option (KO × Nat × Nat)) : Nat → Int32 → Int32 → Int32 → Int32 → mMS → Option (KO × Nat × Nat)
  | 0, _, _, _, _, _ => none
  | f + 1, x1, x2, x3, x4, G =>
    if (G 0 2) ≤ x4 then
      κ24 x1 x2 (x3 + 1) G
    else
      gd x4 (N 0) <|
      (K_isActive F N x4 G).bind fun r1 =>
      if r1 = 0 then
        st (m_up G (iC x4) 11 ((G (iC x4) 11) + 1)) fun G1 =>
        K_passK_42 F N κ24 f x1 x2 x3 (x4 + 1) G1
      else
        (K_passesI F N x4 G).bind fun r2 =>
        tk r2.2.1 r2.2.2 <|
        K_passK_42 F N κ24 f x1 (x2 + r2.1.1) x3 (x4 + 1) r2.1.2
theorem w_K_passK_42 {F : Nat} {κ24 : Int32 → Int32 → Int32 → mMS → Option (KO × Nat × Nat)} (X : KX p s m args meth c RX2 cX2_pass 6 (some .int) D ca) (htab : ∀ x ∈ c.exceptionTable.toList, False) (hk24 : ∀ (x1 : Int32) (x2 : Int32) (x3 : Int32) (G : mMS) (r : KO × Nat × Nat), κ24 x1 x2 x3 G = some r → ∀ (H : Heap) (locs : List Loc) (cells slots : Nat) (ls : Array Slot), lv_has ls 6 [(0, .ref (L 7)), (1, .int x1), (2, .int x2), (3, .int x3)] → kI D ca zb ow0 N L G s H locs → cells + r.2.1 ≤ mc → slots + r.2.2 ≤ ms → W p l e { frames := 11, cells := mc, slots := ms, locals := 40 * 11 } s m args below meth c H locs cells slots (vx_MQ below (ktQ (kA ow0 (L 7) s.heap.size) (fun v => some (.int v)) (fun _ G' => kPost D ca zb ow0 s.heap.size N L G') r.1) (ktX D (kA ow0 (L 7) s.heap.size) s.heap.size r.1) args s mc ms (kA ow0 (L 7) s.heap.size)) (F0 m 24 ls [])) : ∀ (f : Nat), ∀ (x1 : Int32) (x2 : Int32) (x3 : Int32) (x4 : Int32) (G : mMS) (r : KO × Nat × Nat), K_passK_42 F N κ24 f x1 x2 x3 x4 G = some r → ∀ (H : Heap) (locs : List Loc) (cells slots : Nat) (ls : Array Slot), lv_has ls 6 [(0, .ref (L 7)), (1, .int x1), (2, .int x2), (3, .int x3), (4, .int x4)] → kI D ca zb ow0 N L G s H locs → cells + r.2.1 ≤ mc → slots + r.2.2 ≤ ms → W p l e { frames := 11, cells := mc, slots := ms, locals := 40 * 11 } s m args below meth c H locs cells slots (vx_MQ below (ktQ (kA ow0 (L 7) s.heap.size) (fun v => some (.int v)) (fun _ G' => kPost D ca zb ow0 s.heap.size N L G') r.1) (ktX D (kA ow0 (L 7) s.heap.size) s.heap.size r.1) args s mc ms (kA ow0 (L 7) s.heap.size)) (F0 m 42 ls []) := by
  have X2 := X.1
  obtain ⟨hx, hb, hml, hown, hts⟩ := X2
  intro f
  induction f with
  | zero =>
    intro x1 x2 x3 x4 G r hr
    rw [K_passK_42] at hr
    cases hr
  | succ f ih =>
    intro x1 x2 x3 x4 G r hr H locs cells slots ls hl hM hcc hcs
    rw [K_passK_42] at hr
    refine lv_iload hx hb dX2_pass_42 (lv_at hl 4 rfl) ?_
    refine lv_aload_n hx hb dX2_pass_44 rfl (lv_at hl 0 rfl) ?_
    refine r_X2_0 X hM.r q144 dX2_pass_45 ?_
    refine kr_size X hM.r (j := 0) (by decide) q246 (Nat.le_of_ble_eq_true rfl) (Nat.le_of_ble_eq_true rfl) hl.1 (Nat.le_of_ble_eq_true rfl) dX2_pass_48 ⟨Nat.le_trans (Nat.le_add_right _ _) hcc, Nat.le_trans (Nat.le_add_right _ _) hcs⟩ ?_
    refine lv_icmp_ge (tgt := 104) hx hb dX2_pass_51 (by decide) (fun c1 => ?_) (fun c1 => ?_)
    · have hr := if_p c1 hr
      refine lv_iinc (v := x3 + 1) (lv' := [(3, .int (x3 + 1)), (0, .ref (L 7)), (1, .int x1), (2, .int x2), (4, .int x4)]) hx hb dX2_pass_104 hl (k := 3) rfl rfl (by decide) rfl (fun ls hl => ?_)
      refine lv_goto (tgt := 24) hx hb dX2_pass_107 (by decide) ?_
      exact hk24 _ _ _ _ _ hr _ _ _ _ _ (lv_sub hl [1, 2, 3, 0] rfl) hM hcc hcs
    · have hr := if_n c1 hr
      refine lv_aload_n hx hb dX2_pass_54 rfl (lv_at hl 0 rfl) ?_
      refine r_X2_0 X hM.r q144 dX2_pass_55 ?_
      refine lv_iload hx hb dX2_pass_58 (lv_at hl 4 rfl) ?_
      obtain ⟨g1, hr⟩ := gs hr
      refine kr_get X hM.r (j := 0) (by decide) g1 q250 (Nat.le_of_ble_eq_true rfl) (Nat.le_of_ble_eq_true rfl) hl.1 (Nat.le_of_ble_eq_true rfl) dX2_pass_60 ⟨Nat.le_trans (Nat.le_add_right _ _) hcc, Nat.le_trans (Nat.le_add_right _ _) hcs⟩ ?_
      refine va_castS hx hb hown (hts _ q264) (X.2.2.2.1.1 2 _ rfl).2 (rc_inc X hM.r g1) dX2_pass_63 ?_
      refine lv_astore (lv' := [(5, .ref (L (iC x4))), (0, .ref (L 7)), (1, .int x1), (2, .int x2), (3, .int x3), (4, .int x4)]) hx hb dX2_pass_66 hl (by decide) rfl (fun ls hl => ?_)
      refine lv_aload hx hb dX2_pass_68 (lv_at hl 0 rfl) ?_
      obtain ⟨r1, h1, hr⟩ := ob hr
      refine kr_cVi (k9 := 0) X hM.r (rc_inc X hM.r g1) (k_K_isActive g1 h1) (lw_V q610 q611 q612 q75 q613) rfl (by decide +kernel) ⟨Nat.le_of_ble_eq_true rfl, Nat.le_of_ble_eq_true rfl⟩ hl.1 rfl (Nat.le_of_ble_eq_true rfl) dX2_pass_70 ⟨Nat.le_trans (Nat.le_add_right _ _) hcc, Nat.le_trans (Nat.le_add_right _ _) hcs⟩ ?_
      refine lv_if_eq (tgt := 87) hx hb dX2_pass_73 (by decide) (fun c2 => ?_) (fun c2 => ?_)
      · have hr := if_p c2 hr
        refine lv_aload hx hb dX2_pass_87 (lv_at hl 0 rfl) ?_
        refine lv_dup hx hb dX2_pass_89 rfl ?_
        refine r_X6_11N X hM.r g1 q314 dX2_pass_90 ?_
        refine lv_iconst (v := 1) hx hb dX2_pass_93 rfl ?_
        refine lv_iadd hx hb dX2_pass_94 ?_
        refine w_X6_11N X hM g1 q314 dX2_pass_95 (fun H locs G1 e1 hM => ?_)
        have hr := stE hr e1
        refine lv_iinc (v := x4 + 1) (lv' := [(4, .int (x4 + 1)), (5, .ref (L (iC x4))), (0, .ref (L 7)), (1, .int x1), (2, .int x2), (3, .int x3)]) hx hb dX2_pass_98 hl (k := 5) rfl rfl (by decide) rfl (fun ls hl => ?_)
        refine lv_goto (tgt := 42) hx hb dX2_pass_101 (by decide) ?_
        exact ih _ _ _ _ _ _ hr _ _ _ _ _ (lv_sub hl [2, 3, 4, 5, 0] rfl) hM hcc hcs
      · have hr := if_n c2 hr
        refine lv_iload_n hx hb dX2_pass_76 rfl (lv_at hl 3 rfl) ?_
        refine lv_aload hx hb dX2_pass_77 (lv_at hl 0 rfl) ?_
        obtain ⟨r2, h2, hr⟩ := ob hr
        obtain ⟨r3, h9, e9⟩ := tkE hr
        subst e9
        have hr := h9
        clear h9
        refine kw_cVi (k9 := 0) X hM (rc_inc X hM.r g1) (fun ow => k_K_passesI g1 h2 (Nat.le_refl _) (Nat.le_refl _)) (lw_V q830 q831 q832 q75 q833) rfl (by decide +kernel) ⟨Nat.le_of_ble_eq_true rfl, Nat.le_of_ble_eq_true rfl⟩ hl.1 rfl (Nat.le_of_ble_eq_true rfl) dX2_pass_79 ⟨Nat.le_trans (Nat.add_le_add_left (Nat.le_add_right _ _) _) hcc, Nat.le_trans (Nat.add_le_add_left (Nat.le_add_right _ _) _) hcs⟩ (fun H locs hM => ?_)
        have hcc := Nat.le_trans (Nat.le_of_eq (Nat.add_assoc _ _ _)) hcc
        have hcs := Nat.le_trans (Nat.le_of_eq (Nat.add_assoc _ _ _)) hcs
        refine lv_iadd hx hb dX2_pass_82 ?_
        refine lv_istore_n (lv' := [(2, .int (x2 + r2.1.1)), (5, .ref (L (iC x4))), (0, .ref (L 7)), (1, .int x1), (3, .int x3), (4, .int x4)]) hx hb dX2_pass_83 rfl hl (by decide) rfl (fun ls hl => ?_)
        refine lv_goto (tgt := 98) hx hb dX2_pass_84 (by decide) ?_
        refine lv_iinc (v := x4 + 1) (lv' := [(4, .int (x4 + 1)), (2, .int (x2 + r2.1.1)), (5, .ref (L (iC x4))), (0, .ref (L 7)), (1, .int x1), (3, .int x3)]) hx hb dX2_pass_98 hl (k := 5) rfl rfl (by decide) rfl (fun ls hl => ?_)
        refine lv_goto (tgt := 42) hx hb dX2_pass_101 (by decide) ?_
        exact ih _ _ _ _ _ _ hr _ _ _ _ _ (lv_sub hl [3, 4, 1, 5, 0] rfl) hM hcc hcs
def K_passK_24 (F : Nat) (N : Nat → Nat) : Nat → Int32 → Int32 → Int32 → mMS → Option (KO × Nat × Nat)
  | 0, _, _, _, _ => none
  | f + 1, x1, x2, x3, G =>
    if x1 ≤ x3 then
      some (.inl (x2, G), 0, 0)
    else
      st (m_up G 7 10 ((G 7 10) + 1)) fun G1 =>
      K_passK_42 F N (K_passK_24 F N f) F x1 x2 x3 0 G1
theorem w_K_passK_24 {F : Nat} (X : KX p s m args meth c RX2 cX2_pass 6 (some .int) D ca) (htab : ∀ x ∈ c.exceptionTable.toList, False) : ∀ (f : Nat), ∀ (x1 : Int32) (x2 : Int32) (x3 : Int32) (G : mMS) (r : KO × Nat × Nat), K_passK_24 F N f x1 x2 x3 G = some r → ∀ (H : Heap) (locs : List Loc) (cells slots : Nat) (ls : Array Slot), lv_has ls 6 [(0, .ref (L 7)), (1, .int x1), (2, .int x2), (3, .int x3)] → kI D ca zb ow0 N L G s H locs → cells + r.2.1 ≤ mc → slots + r.2.2 ≤ ms → W p l e { frames := 11, cells := mc, slots := ms, locals := 40 * 11 } s m args below meth c H locs cells slots (vx_MQ below (ktQ (kA ow0 (L 7) s.heap.size) (fun v => some (.int v)) (fun _ G' => kPost D ca zb ow0 s.heap.size N L G') r.1) (ktX D (kA ow0 (L 7) s.heap.size) s.heap.size r.1) args s mc ms (kA ow0 (L 7) s.heap.size)) (F0 m 24 ls []) := by
  have X2 := X.1
  obtain ⟨hx, hb, hml, hown, hts⟩ := X2
  intro f
  induction f with
  | zero =>
    intro x1 x2 x3 G r hr
    rw [K_passK_24] at hr
    cases hr
  | succ f ih =>
    intro x1 x2 x3 G r hr H locs cells slots ls hl hM hcc hcs
    rw [K_passK_24] at hr
    refine lv_iload_n hx hb dX2_pass_24 rfl (lv_at hl 3 rfl) ?_
    refine lv_iload_n hx hb dX2_pass_25 rfl (lv_at hl 1 rfl) ?_
    refine lv_icmp_ge (tgt := 110) hx hb dX2_pass_26 (by decide) (fun c1 => ?_) (fun c1 => ?_)
    · have hr := if_p c1 hr
      refine lv_iload_n hx hb dX2_pass_110 rfl (lv_at hl 2 rfl) ?_
      cases hr
      exact kt_iret X hM hcc hcs dX2_pass_111
    · have hr := if_n c1 hr
      refine lv_aload_n hx hb dX2_pass_29 rfl (lv_at hl 0 rfl) ?_
      refine lv_dup hx hb dX2_pass_30 rfl ?_
      refine r_X2_10 X hM.r q169 dX2_pass_31 ?_
      refine lv_iconst (v := 1) hx hb dX2_pass_34 rfl ?_
      refine lv_iadd hx hb dX2_pass_35 ?_
      refine w_X2_10 X hM q169 dX2_pass_36 (fun H locs G1 e1 hM => ?_)
      have hr := stE hr e1
      refine lv_iconst (v := 0) hx hb dX2_pass_39 rfl ?_
      refine lv_istore (lv' := [(4, .int 0), (0, .ref (L 7)), (1, .int x1), (2, .int x2), (3, .int x3)]) hx hb dX2_pass_40 hl (by decide) rfl (fun ls hl => ?_)
      exact w_K_passK_42 X htab ih _ _ _ _ _ _ _ hr _ _ _ _ _ (lv_sub hl [1, 2, 3, 4, 0] rfl) hM hcc hcs
def K_passK (F : Nat) (N : Nat → Nat) (p0 : Int32) (G : mMS) : Option (KO × Nat × Nat) :=
  (P_isBetween F p0 1 600).bind fun r1 =>
  if r1 = 0 then
    some (.inr (2, 0), 1, 8)
  else
    K_passK_24 F N F p0 0 0 G
theorem k_K_passK {F : Nat} {p0 : Int32} {sz : Nat} {r : KO × Nat × Nat} (hr : K_passK F N p0 G = some r) (hmc : r.2.1 ≤ mc) (hms : r.2.2 ≤ ms) : KtI l D ca zb ow0 sz yX2_pass cX2_pass 6 (some .int) 11 mc ms [.ref (L 7), .int p0] N L G (fun v => some (.int v)) (fun _ G' => kPost D ca zb ow0 sz N L G') r.1 := by
  refine kt_start (own := RX2) (by decide) rfl (Nat.le_of_ble_eq_true rfl) fun p e s m below meth c X htab ls hl hsz hM => ?_
  subst hsz
  have hl : lv_has ls 6 [(0, .ref (L 7)), (1, .int p0)] := hl
  have X2 := X.1
  obtain ⟨hx, hb, hml, hown, hts⟩ := X2
  have hcc : 0 + r.2.1 ≤ mc := by rw [Nat.zero_add]; exact hmc
  have hcs : 0 + r.2.2 ≤ ms := by rw [Nat.zero_add]; exact hms
  unfold K_passK at hr
  refine lv_iload_n hx hb dX2_pass_0 rfl (lv_at hl 1 rfl) ?_
  refine lv_iconst (v := 1) hx hb dX2_pass_1 rfl ?_
  refine lv_sipush (v := 600) hx hb dX2_pass_2 rfl ?_
  obtain ⟨r1, h1, hr⟩ := ob hr
  refine p_cSN (k9 := 3) X (k_P_isBetween h1) q671 q525 q65 q526 rfl (by decide +kernel) ⟨Nat.le_of_ble_eq_true rfl, Nat.le_of_ble_eq_true rfl⟩ hl.1 rfl (Nat.le_of_ble_eq_true rfl) dX2_pass_5 ⟨Nat.le_trans (Nat.le_add_right _ _) hcc, Nat.le_trans (Nat.le_add_right _ _) hcs⟩ ?_
  refine lv_if_ne (tgt := 15) hx hb dX2_pass_8 (by decide) (fun c1 => ?_) (fun c1 => ?_)
  · have hr := if_n c1 hr
    refine lv_iconst (v := 0) hx hb dX2_pass_15 rfl ?_
    refine lv_iconst (v := 2) hx hb dX2_pass_16 rfl ?_
    refine kt_ref20 X hM q527 (Nat.le_of_ble_eq_true rfl) (Nat.le_of_ble_eq_true rfl) hl.1 (Nat.le_of_ble_eq_true rfl) dX2_pass_17 ⟨Nat.le_trans (Nat.le_add_right _ _) hcc, Nat.le_trans (Nat.le_add_right _ _) hcs⟩ ?_
    refine lv_iconst (v := 0) hx hb dX2_pass_20 rfl ?_
    refine lv_istore_n (lv' := [(2, .int 0), (0, .ref (L 7)), (1, .int p0)]) hx hb dX2_pass_21 rfl hl (by decide) rfl (fun ls hl => ?_)
    refine lv_iconst (v := 0) hx hb dX2_pass_22 rfl ?_
    refine lv_istore_n (lv' := [(3, .int 0), (2, .int 0), (0, .ref (L 7)), (1, .int p0)]) hx hb dX2_pass_23 rfl hl (by decide) rfl (fun ls hl => ?_)
    exact w_K_passK_24 X htab  _ _ _ _ _ _ hr _ _ _ _ _ (lv_sub hl [2, 3, 1, 0] rfl) hM hcc hcs
  · have hr := if_p c1 hr
    refine lv_iconst (v := 1) hx hb dX2_pass_11 rfl ?_
    refine lv_goto (tgt := 16) hx hb dX2_pass_12 (by decide) ?_
    refine lv_iconst (v := 2) hx hb dX2_pass_16 rfl ?_
    cases hr
    exact kt_ref21 X htab hM q527 (Nat.le_of_ble_eq_true rfl) (Nat.le_of_ble_eq_true rfl) hl.1 (Nat.le_of_ble_eq_true rfl) dX2_pass_17 ⟨Nat.le_trans (Nat.le_add_right _ _) hcc, Nat.le_trans (Nat.le_add_right _ _) hcs⟩ rfl hcc hcs rfl rfl
end
