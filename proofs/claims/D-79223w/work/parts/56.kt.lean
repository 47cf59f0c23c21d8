section
variable {p : Program} {l : Launch} {e : Env} {s : State} {m : MethodId} {args : Array Value} {below : List Frame} {meth : Method} {c : Code} {D : va_G} {ca : Nat → ClassId} {zb N L : Nat → Nat} {mc ms : Nat} {ow0 : Nat → Nat × Nat} {G : mMS}
def K_noteK_36 (F : Nat) (N : Nat → Nat) (x1 : Int32) (x2 : Int32) (x3 : Int32) (y0 : Int32) (G : mMS) : Option (KO × Nat × Nat) :=
  if y0 = 0 then
    some (.inr (2, 0), 1, 8)
  else
    if (G 1 2) = 12 then
      some (.inr (3, 0), 1, 8)
    else
      if N 1 < 12 then
        some (.inl ((addJ G 1 (N 1) (300 + N 1) (g3F x1 x2 x3) (g3F x1 x2 x3)) 1 2 - 1, (addJ G 1 (N 1) (300 + N 1) (g3F x1 x2 x3) (g3F x1 x2 x3))), 1 + gcC (N 1), 3 + gcS (N 1))
      else
        none
theorem w_K_noteK_36 {F : Nat} (X : KX p s m args meth c RX2 cX2_note 5 (some .int) D ca) (htab : ∀ x ∈ c.exceptionTable.toList, False) : ∀ (x1 : Int32) (x2 : Int32) (x3 : Int32) (y0 : Int32) (G : mMS) (r : KO × Nat × Nat), K_noteK_36 F N x1 x2 x3 y0 G = some r → ∀ (H : Heap) (locs : List Loc) (cells slots : Nat) (ls : Array Slot), lv_has ls 5 [(0, .ref (L 7)), (1, .int x1), (2, .int x2), (3, .int x3)] → kI D ca zb ow0 N L G s H locs → cells + r.2.1 ≤ mc → slots + r.2.2 ≤ ms → W p l e { frames := 7, cells := mc, slots := ms, locals := 40 * 7 } s m args below meth c H locs cells slots (vx_MQ below (ktQ (kA ow0 (L 7) s.heap.size) (fun v => some (.int v)) (fun _ G' => kPostW D ca zb ow0 s.heap.size (L 7) G') r.1) (ktX D (kA ow0 (L 7) s.heap.size) s.heap.size r.1) args s mc ms (kA ow0 (L 7) s.heap.size)) (F0 m 36 ls [.int y0]) := by
  have X2 := X.1
  obtain ⟨hx, hb, hml, hown, hts⟩ := X2
  intro x1 x2 x3 y0 G r hr H locs cells slots ls hl hM hcc hcs
  unfold K_noteK_36 at hr
  refine lv_istore (lv' := [(4, .int y0), (0, .ref (L 7)), (1, .int x1), (2, .int x2), (3, .int x3)]) hx hb dX2_note_36 hl (by decide) rfl (fun ls hl => ?_)
  refine lv_iload hx hb dX2_note_38 (lv_at hl 0 rfl) ?_
  refine lv_if_ne (tgt := 47) hx hb dX2_note_40 (by decide) (fun c1 => ?_) (fun c1 => ?_)
  · have hr := if_n c1 hr
    refine lv_iconst (v := 0) hx hb dX2_note_47 rfl ?_
    refine lv_iconst (v := 2) hx hb dX2_note_48 rfl ?_
    refine kt_ref20 X hM q527 (Nat.le_of_ble_eq_true rfl) (Nat.le_of_ble_eq_true rfl) hl.1 (Nat.le_of_ble_eq_true rfl) dX2_note_49 ⟨Nat.le_trans (Nat.le_add_right _ _) hcc, Nat.le_trans (Nat.le_add_right _ _) hcs⟩ ?_
    refine lv_aload_n hx hb dX2_note_52 rfl (lv_at hl 1 rfl) ?_
    refine r_X2_1 X hM.r q148 dX2_note_53 ?_
    refine kr_size X hM.r (j := 1) (by decide) q246 (Nat.le_of_ble_eq_true rfl) (Nat.le_of_ble_eq_true rfl) hl.1 (Nat.le_of_ble_eq_true rfl) dX2_note_56 ⟨Nat.le_trans (Nat.le_add_right _ _) hcc, Nat.le_trans (Nat.le_add_right _ _) hcs⟩ ?_
    refine lv_bipush (v := 12) hx hb dX2_note_59 rfl ?_
    refine lv_icmp_ne (tgt := 68) hx hb dX2_note_61 (by decide) (fun c2 => ?_) (fun c2 => ?_)
    · have hr := if_n c2 hr
      refine lv_iconst (v := 0) hx hb dX2_note_68 rfl ?_
      refine lv_iconst (v := 3) hx hb dX2_note_69 rfl ?_
      refine kt_ref20 X hM q527 (Nat.le_of_ble_eq_true rfl) (Nat.le_of_ble_eq_true rfl) hl.1 (Nat.le_of_ble_eq_true rfl) dX2_note_70 ⟨Nat.le_trans (Nat.le_add_right _ _) hcc, Nat.le_trans (Nat.le_add_right _ _) hcs⟩ ?_
      rcases Decidable.em (N 1 < 12) with c3 | c3
      · have hr := if_p c3 hr
        cases hr
        exact k_noteT X hM c3 (by decide) (lv_sub hl [1, 2, 3, 4] rfl) hcc hcs
      · have hr := if_n c3 hr
        cases hr
    · have hr := if_p c2 hr
      refine lv_iconst (v := 1) hx hb dX2_note_64 rfl ?_
      refine lv_goto (tgt := 69) hx hb dX2_note_65 (by decide) ?_
      refine lv_iconst (v := 3) hx hb dX2_note_69 rfl ?_
      cases hr
      exact kt_ref21 X htab hM q527 (Nat.le_of_ble_eq_true rfl) (Nat.le_of_ble_eq_true rfl) hl.1 (Nat.le_of_ble_eq_true rfl) dX2_note_70 ⟨Nat.le_trans (Nat.le_add_right _ _) hcc, Nat.le_trans (Nat.le_add_right _ _) hcs⟩ rfl hcc hcs rfl rfl
  · have hr := if_p c1 hr
    refine lv_iconst (v := 1) hx hb dX2_note_43 rfl ?_
    refine lv_goto (tgt := 48) hx hb dX2_note_44 (by decide) ?_
    refine lv_iconst (v := 2) hx hb dX2_note_48 rfl ?_
    cases hr
    exact kt_ref21 X htab hM q527 (Nat.le_of_ble_eq_true rfl) (Nat.le_of_ble_eq_true rfl) hl.1 (Nat.le_of_ble_eq_true rfl) dX2_note_49 ⟨Nat.le_trans (Nat.le_add_right _ _) hcc, Nat.le_trans (Nat.le_add_right _ _) hcs⟩ rfl hcc hcs rfl rfl
def K_noteK (F : Nat) (N : Nat → Nat) (p0 : Int32) (p1 : Int32) (p2 : Int32) (G : mMS) : Option (KO × Nat × Nat) :=
  (P_isBetween F p0 0 4).bind fun r1 =>
  if r1 = 0 then
    K_noteK_36 F N p0 p1 p2 0 G
  else
    (P_isBetween F p1 0 (G 7 10)).bind fun r2 =>
    if r2 = 0 then
      K_noteK_36 F N p0 p1 p2 0 G
    else
      (P_isBetween F p2 1 99).bind fun r3 =>
      if r3 = 0 then
        K_noteK_36 F N p0 p1 p2 0 G
      else
        K_noteK_36 F N p0 p1 p2 1 G
theorem k_K_noteK {F : Nat} {p0 : Int32} {p1 : Int32} {p2 : Int32} {sz : Nat} {r : KO × Nat × Nat} (hr : K_noteK F N p0 p1 p2 G = some r) (hmc : r.2.1 ≤ mc) (hms : r.2.2 ≤ ms) : KtI l D ca zb ow0 sz yX2_note cX2_note 5 (some .int) 7 mc ms [.ref (L 7), .int p0, .int p1, .int p2] N L G (fun v => some (.int v)) (fun _ G' => kPostW D ca zb ow0 sz (L 7) G') r.1 := by
  refine kt_start (own := RX2) (by decide) rfl (Nat.le_of_ble_eq_true rfl) fun p e s m below meth c X htab ls hl hsz hM => ?_
  subst hsz
  have hl : lv_has ls 5 [(0, .ref (L 7)), (1, .int p0), (2, .int p1), (3, .int p2)] := hl
  have X2 := X.1
  obtain ⟨hx, hb, hml, hown, hts⟩ := X2
  have hcc : 0 + r.2.1 ≤ mc := by rw [Nat.zero_add]; exact hmc
  have hcs : 0 + r.2.2 ≤ ms := by rw [Nat.zero_add]; exact hms
  unfold K_noteK at hr
  refine lv_iload_n hx hb dX2_note_0 rfl (lv_at hl 1 rfl) ?_
  refine lv_iconst (v := 0) hx hb dX2_note_1 rfl ?_
  refine lv_iconst (v := 4) hx hb dX2_note_2 rfl ?_
  obtain ⟨r1, h1, hr⟩ := ob hr
  refine p_cSN (k9 := 3) X (k_P_isBetween h1) q671 q525 q65 q526 rfl (by decide +kernel) ⟨Nat.le_of_ble_eq_true rfl, Nat.le_of_ble_eq_true rfl⟩ hl.1 rfl (Nat.le_of_ble_eq_true rfl) dX2_note_3 ⟨Nat.le_trans (Nat.le_add_right _ _) hcc, Nat.le_trans (Nat.le_add_right _ _) hcs⟩ ?_
  refine lv_if_eq (tgt := 35) hx hb dX2_note_6 (by decide) (fun c1 => ?_) (fun c1 => ?_)
  · have hr := if_p c1 hr
    refine lv_iconst (v := 0) hx hb dX2_note_35 rfl ?_
    exact w_K_noteK_36 X htab  _ _ _ _ _ _ hr _ _ _ _ _ (lv_sub hl [0, 1, 2, 3] rfl) hM hcc hcs
  · have hr := if_n c1 hr
    refine lv_iload_n hx hb dX2_note_9 rfl (lv_at hl 2 rfl) ?_
    refine lv_iconst (v := 0) hx hb dX2_note_10 rfl ?_
    refine lv_aload_n hx hb dX2_note_11 rfl (lv_at hl 0 rfl) ?_
    refine r_X2_10 X hM.r q169 dX2_note_12 ?_
    obtain ⟨r2, h2, hr⟩ := ob hr
    refine p_cSN (k9 := 3) X (k_P_isBetween h2) q671 q525 q65 q526 rfl (by decide +kernel) ⟨Nat.le_of_ble_eq_true rfl, Nat.le_of_ble_eq_true rfl⟩ hl.1 rfl (Nat.le_of_ble_eq_true rfl) dX2_note_15 ⟨Nat.le_trans (Nat.le_add_right _ _) hcc, Nat.le_trans (Nat.le_add_right _ _) hcs⟩ ?_
    refine lv_if_eq (tgt := 35) hx hb dX2_note_18 (by decide) (fun c2 => ?_) (fun c2 => ?_)
    · have hr := if_p c2 hr
      refine lv_iconst (v := 0) hx hb dX2_note_35 rfl ?_
      exact w_K_noteK_36 X htab  _ _ _ _ _ _ hr _ _ _ _ _ (lv_sub hl [0, 1, 2, 3] rfl) hM hcc hcs
    · have hr := if_n c2 hr
      refine lv_iload_n hx hb dX2_note_21 rfl (lv_at hl 3 rfl) ?_
      refine lv_iconst (v := 1) hx hb dX2_note_22 rfl ?_
      refine lv_bipush (v := 99) hx hb dX2_note_23 rfl ?_
      obtain ⟨r3, h3, hr⟩ := ob hr
      refine p_cSN (k9 := 3) X (k_P_isBetween h3) q671 q525 q65 q526 rfl (by decide +kernel) ⟨Nat.le_of_ble_eq_true rfl, Nat.le_of_ble_eq_true rfl⟩ hl.1 rfl (Nat.le_of_ble_eq_true rfl) dX2_note_25 ⟨Nat.le_trans (Nat.le_add_right _ _) hcc, Nat.le_trans (Nat.le_add_right _ _) hcs⟩ ?_
      refine lv_if_eq (tgt := 35) hx hb dX2_note_28 (by decide) (fun c3 => ?_) (fun c3 => ?_)
      · have hr := if_p c3 hr
        refine lv_iconst (v := 0) hx hb dX2_note_35 rfl ?_
        exact w_K_noteK_36 X htab  _ _ _ _ _ _ hr _ _ _ _ _ (lv_sub hl [0, 1, 2, 3] rfl) hM hcc hcs
      · have hr := if_n c3 hr
        refine lv_iconst (v := 1) hx hb dX2_note_31 rfl ?_
        refine lv_goto (tgt := 36) hx hb dX2_note_32 (by decide) ?_
        exact w_K_noteK_36 X htab  _ _ _ _ _ _ hr _ _ _ _ _ (lv_sub hl [0, 1, 2, 3] rfl) hM hcc hcs
def K_actionK (F : Nat) (N : Nat → Nat) (p0 : Int32) (p1 : Int32) (p2 : Int32) (G : mMS) : Option (KO × Nat × Nat) :=
  (K_hasReview F N p0 G).bind fun r1 =>
  if r1 = 0 then
    some (.inr (1, 0), 1, 8)
  else
    (P_isPersonK F p1).bind fun r2 =>
    if r2 = 0 then
      some (.inr (1, 0), 1, 8)
    else
      (P_isBetween F p2 1 9).bind fun r3 =>
      if r3 = 0 then
        some (.inr (2, 0), 1, 8)
      else
        if (G 2 2) = 20 then
          some (.inr (3, 0), 1, 8)
        else
          if N 2 < 20 then
            some (.inl ((addJ G 2 (N 2) (400 + N 2) (evF p0 p1 p2 0) (evF p0 p1 p2 0)) 2 2 - 1, (addJ G 2 (N 2) (400 + N 2) (evF p0 p1 p2 0) (evF p0 p1 p2 0))), 1 + gcC (N 2), 4 + gcS (N 2))
          else
            none
theorem k_K_actionK {F : Nat} {p0 : Int32} {p1 : Int32} {p2 : Int32} {sz : Nat} {r : KO × Nat × Nat} (hr : K_actionK F N p0 p1 p2 G = some r) (hmc : r.2.1 ≤ mc) (hms : r.2.2 ≤ ms) : KtI l D ca zb ow0 sz yX2_action cX2_action 4 (some .int) 7 mc ms [.ref (L 7), .int p0, .int p1, .int p2] N L G (fun v => some (.int v)) (fun _ G' => kPostW D ca zb ow0 sz (L 7) G') r.1 := by
  refine kt_start (own := RX2) (by decide) rfl (Nat.le_of_ble_eq_true rfl) fun p e s m below meth c X htab ls hl hsz hM => ?_
  subst hsz
  have hl : lv_has ls 4 [(0, .ref (L 7)), (1, .int p0), (2, .int p1), (3, .int p2)] := hl
  have X2 := X.1
  obtain ⟨hx, hb, hml, hown, hts⟩ := X2
  have hcc : 0 + r.2.1 ≤ mc := by rw [Nat.zero_add]; exact hmc
  have hcs : 0 + r.2.2 ≤ ms := by rw [Nat.zero_add]; exact hms
  unfold K_actionK at hr
  refine lv_aload_n hx hb dX2_action_0 rfl (lv_at hl 0 rfl) ?_
  refine lv_iload_n hx hb dX2_action_1 rfl (lv_at hl 1 rfl) ?_
  obtain ⟨r1, h1, hr⟩ := ob hr
  refine kr_cVi (k9 := 1) X hM.r (rc_core X hM.r) (k_K_hasReview h1) (lw_V q935 q936 q937 q66 q938) rfl (by decide +kernel) ⟨Nat.le_of_ble_eq_true rfl, Nat.le_of_ble_eq_true rfl⟩ hl.1 rfl (Nat.le_of_ble_eq_true rfl) dX2_action_2 ⟨Nat.le_trans (Nat.le_add_right _ _) hcc, Nat.le_trans (Nat.le_add_right _ _) hcs⟩ ?_
  refine lv_if_eq (tgt := 15) hx hb dX2_action_5 (by decide) (fun c1 => ?_) (fun c1 => ?_)
  · have hr := if_p c1 hr
    refine lv_iconst (v := 1) hx hb dX2_action_15 rfl ?_
    refine lv_goto (tgt := 20) hx hb dX2_action_16 (by decide) ?_
    refine lv_iconst (v := 1) hx hb dX2_action_20 rfl ?_
    cases hr
    exact kt_ref21 X htab hM q527 (Nat.le_of_ble_eq_true rfl) (Nat.le_of_ble_eq_true rfl) hl.1 (Nat.le_of_ble_eq_true rfl) dX2_action_21 ⟨Nat.le_trans (Nat.le_add_right _ _) hcc, Nat.le_trans (Nat.le_add_right _ _) hcs⟩ rfl hcc hcs rfl rfl
  · have hr := if_n c1 hr
    refine lv_iload_n hx hb dX2_action_8 rfl (lv_at hl 2 rfl) ?_
    obtain ⟨r2, h2, hr⟩ := ob hr
    refine p_cSN (k9 := 1) X (k_P_isPersonK h2) q521 q522 q65 q523 rfl (by decide +kernel) ⟨Nat.le_of_ble_eq_true rfl, Nat.le_of_ble_eq_true rfl⟩ hl.1 rfl (Nat.le_of_ble_eq_true rfl) dX2_action_9 ⟨Nat.le_trans (Nat.le_add_right _ _) hcc, Nat.le_trans (Nat.le_add_right _ _) hcs⟩ ?_
    refine lv_if_ne (tgt := 19) hx hb dX2_action_12 (by decide) (fun c2 => ?_) (fun c2 => ?_)
    · have hr := if_n c2 hr
      refine lv_iconst (v := 0) hx hb dX2_action_19 rfl ?_
      refine lv_iconst (v := 1) hx hb dX2_action_20 rfl ?_
      refine kt_ref20 X hM q527 (Nat.le_of_ble_eq_true rfl) (Nat.le_of_ble_eq_true rfl) hl.1 (Nat.le_of_ble_eq_true rfl) dX2_action_21 ⟨Nat.le_trans (Nat.le_add_right _ _) hcc, Nat.le_trans (Nat.le_add_right _ _) hcs⟩ ?_
      refine lv_iload_n hx hb dX2_action_24 rfl (lv_at hl 3 rfl) ?_
      refine lv_iconst (v := 1) hx hb dX2_action_25 rfl ?_
      refine lv_bipush (v := 9) hx hb dX2_action_26 rfl ?_
      obtain ⟨r3, h3, hr⟩ := ob hr
      refine p_cSN (k9 := 3) X (k_P_isBetween h3) q671 q525 q65 q526 rfl (by decide +kernel) ⟨Nat.le_of_ble_eq_true rfl, Nat.le_of_ble_eq_true rfl⟩ hl.1 rfl (Nat.le_of_ble_eq_true rfl) dX2_action_28 ⟨Nat.le_trans (Nat.le_add_right _ _) hcc, Nat.le_trans (Nat.le_add_right _ _) hcs⟩ ?_
      refine lv_if_ne (tgt := 38) hx hb dX2_action_31 (by decide) (fun c3 => ?_) (fun c3 => ?_)
      · have hr := if_n c3 hr
        refine lv_iconst (v := 0) hx hb dX2_action_38 rfl ?_
        refine lv_iconst (v := 2) hx hb dX2_action_39 rfl ?_
        refine kt_ref20 X hM q527 (Nat.le_of_ble_eq_true rfl) (Nat.le_of_ble_eq_true rfl) hl.1 (Nat.le_of_ble_eq_true rfl) dX2_action_40 ⟨Nat.le_trans (Nat.le_add_right _ _) hcc, Nat.le_trans (Nat.le_add_right _ _) hcs⟩ ?_
        refine lv_aload_n hx hb dX2_action_43 rfl (lv_at hl 0 rfl) ?_
        refine r_X2_2 X hM.r q150 dX2_action_44 ?_
        refine kr_size X hM.r (j := 2) (by decide) q246 (Nat.le_of_ble_eq_true rfl) (Nat.le_of_ble_eq_true rfl) hl.1 (Nat.le_of_ble_eq_true rfl) dX2_action_47 ⟨Nat.le_trans (Nat.le_add_right _ _) hcc, Nat.le_trans (Nat.le_add_right _ _) hcs⟩ ?_
        refine lv_bipush (v := 20) hx hb dX2_action_50 rfl ?_
        refine lv_icmp_ne (tgt := 59) hx hb dX2_action_52 (by decide) (fun c4 => ?_) (fun c4 => ?_)
        · have hr := if_n c4 hr
          refine lv_iconst (v := 0) hx hb dX2_action_59 rfl ?_
          refine lv_iconst (v := 3) hx hb dX2_action_60 rfl ?_
          refine kt_ref20 X hM q527 (Nat.le_of_ble_eq_true rfl) (Nat.le_of_ble_eq_true rfl) hl.1 (Nat.le_of_ble_eq_true rfl) dX2_action_61 ⟨Nat.le_trans (Nat.le_add_right _ _) hcc, Nat.le_trans (Nat.le_add_right _ _) hcs⟩ ?_
          rcases Decidable.em (N 2 < 20) with c5 | c5
          · have hr := if_p c5 hr
            cases hr
            exact k_actionT X hM c5 (by decide) (lv_sub hl [0, 1, 2, 3] rfl) hcc hcs
          · have hr := if_n c5 hr
            cases hr
        · have hr := if_p c4 hr
          refine lv_iconst (v := 1) hx hb dX2_action_55 rfl ?_
          refine lv_goto (tgt := 60) hx hb dX2_action_56 (by decide) ?_
          refine lv_iconst (v := 3) hx hb dX2_action_60 rfl ?_
          cases hr
          exact kt_ref21 X htab hM q527 (Nat.le_of_ble_eq_true rfl) (Nat.le_of_ble_eq_true rfl) hl.1 (Nat.le_of_ble_eq_true rfl) dX2_action_61 ⟨Nat.le_trans (Nat.le_add_right _ _) hcc, Nat.le_trans (Nat.le_add_right _ _) hcs⟩ rfl hcc hcs rfl rfl
      · have hr := if_p c3 hr
        refine lv_iconst (v := 1) hx hb dX2_action_34 rfl ?_
        refine lv_goto (tgt := 39) hx hb dX2_action_35 (by decide) ?_
        refine lv_iconst (v := 2) hx hb dX2_action_39 rfl ?_
        cases hr
        exact kt_ref21 X htab hM q527 (Nat.le_of_ble_eq_true rfl) (Nat.le_of_ble_eq_true rfl) hl.1 (Nat.le_of_ble_eq_true rfl) dX2_action_40 ⟨Nat.le_trans (Nat.le_add_right _ _) hcc, Nat.le_trans (Nat.le_add_right _ _) hcs⟩ rfl hcc hcs rfl rfl
    · have hr := if_p c2 hr
      refine lv_iconst (v := 1) hx hb dX2_action_15 rfl ?_
      refine lv_goto (tgt := 20) hx hb dX2_action_16 (by decide) ?_
      refine lv_iconst (v := 1) hx hb dX2_action_20 rfl ?_
      cases hr
      exact kt_ref21 X htab hM q527 (Nat.le_of_ble_eq_true rfl) (Nat.le_of_ble_eq_true rfl) hl.1 (Nat.le_of_ble_eq_true rfl) dX2_action_21 ⟨Nat.le_trans (Nat.le_add_right _ _) hcc, Nat.le_trans (Nat.le_add_right _ _) hcs⟩ rfl hcc hcs rfl rfl
end
