section
variable {l : Launch} {D : va_G} {ca : Nat → ClassId} {zb : Nat → Nat}
theorem v_Entry_Change {sz : Nat} {h0 : Nat} {p0 p1 : Int32} {v2 : Value}  : VmI l D ca zb yX5_init cX5_init 3 none 1 0 0 [.ref h0, .int p0, .int p1] [(h0, .inr (4, [.int 0, .int 0, v2]))] (fun _ => True) sz (ι := Unit) (fun x9 => none) (fun x9 => [(h0, .inr (4, [.int p0, .int p1, v2]))]) := by
  refine v_start (own := RX5) (by decide) rfl (Nat.le_of_ble_eq_true rfl) fun p e s m below meth c A X hrt hlk hnm hKK hb0 hex hsz hAe ls hl hP hD hS hA => ?_
  have hl : lv_has ls 3 [(0, .ref h0), (1, .int p0), (2, .int p1)] := hl
  have X2 := X
  obtain ⟨hx, hb, hml, hown, hts⟩ := X2
  have hK := hKK.1
  obtain ⟨H, hH⟩ : ∃ H, H = s.heap := ⟨_, rfl⟩
  have hS : va_S A s.heap H [] := by rw [hH]; exact hS
  have hP : va_P D vwCl [(h0, .inr (4, [.int 0, .int 0, v2]))] H := by rw [hH]; exact hP
  rw [← hH]
  refine lv_aload_n hx hb dX5_init_0 rfl (lv_at hl 0 rfl) ?_
  refine W.objInit hx hb hown (hts _ q288) (hts _ q110) (hts _ q111) rfl (by rw [hml]; exact hl.1) rfl dX5_init_1 (Nat.le_of_ble_eq_true rfl) (Nat.le_of_ble_eq_true rfl) ?_
  refine W.eq (g2 := F0 m 4 ls []) rfl ?_
  refine lv_aload_n hx hb dX5_init_4 rfl (lv_at hl 0 rfl) ?_
  refine lv_iload_n hx hb dX5_init_5 rfl (lv_at hl 1 rfl) ?_
  refine va_putF (D := D) (ci := 4) (v := .int p0) (ty := .int) (C := RX12) (T := TX12) (N := 3) hx hb hts in_X12 tyX12 tyX12_ok nmX12 hown hK hP hD hS 0 rfl rfl 0 (by decide) (hts _ q331) (fun _ h9 => h9) rfl hnm rfl (by decide +kernel) rfl rfl (Nat.le_of_ble_eq_true rfl) dX5_init_6 (fun H locs hP hD hS => ?_)
  have hP : va_P D vwCl [(h0, .inr (4, [.int p0, .int 0, v2]))] H := hP
  have hD : va_D A [(h0, .inr (4, [.int p0, .int 0, v2]))] := hD
  refine lv_aload_n hx hb dX5_init_9 rfl (lv_at hl 0 rfl) ?_
  refine lv_iload_n hx hb dX5_init_10 rfl (lv_at hl 2 rfl) ?_
  refine va_putF (D := D) (ci := 4) (v := .int p1) (ty := .int) (C := RX12) (T := TX12) (N := 3) hx hb hts in_X12 tyX12 tyX12_ok nmX12 hown hK hP hD hS 0 rfl rfl 1 (by decide) (hts _ q332) (fun _ h9 => h9) rfl hnm rfl (by decide +kernel) rfl rfl (Nat.le_of_ble_eq_true rfl) dX5_init_11 (fun H locs hP hD hS => ?_)
  have hP : va_P D vwCl [(h0, .inr (4, [.int p0, .int p1, v2]))] H := hP
  have hD : va_D A [(h0, .inr (4, [.int p0, .int p1, v2]))] := hD
  refine W.widen (k := 0) (n := 0) (by first | decide | omega) (by first | decide | omega) ?_
  exact W.vret hx hb hrt (fun t ht hW => ⟨⟨(), rfl, by rw [ht]; exact hP, hD⟩, hS.F ht⟩) hS.2.2 dX5_init_14
theorem v_Change {sz : Nat} {h0 : Nat} {p0 p1 p2 : Int32}  : VmI l D ca zb yX12_init cX12_init 4 none 2 0 0 [.ref h0, .int p0, .int p1, .int p2] [(h0, .inr (4, [.int 0, .int 0, .int 0]))] (fun _ => True) sz (ι := Unit) (fun x9 => none) (fun x9 => [(h0, .inr (4, [.int p0, .int p1, .int p2]))]) := by
  refine v_start (own := RX12) (by decide) rfl (Nat.le_of_ble_eq_true rfl) fun p e s m below meth c A X hrt hlk hnm hKK hb0 hex hsz hAe ls hl hP hD hS hA => ?_
  have hl : lv_has ls 4 [(0, .ref h0), (1, .int p0), (2, .int p1), (3, .int p2)] := hl
  have X2 := X
  obtain ⟨hx, hb, hml, hown, hts⟩ := X2
  have hK := hKK.1
  obtain ⟨H, hH⟩ : ∃ H, H = s.heap := ⟨_, rfl⟩
  have hS : va_S A s.heap H [] := by rw [hH]; exact hS
  have hP : va_P D vwCl [(h0, .inr (4, [.int 0, .int 0, .int 0]))] H := by rw [hH]; exact hP
  rw [← hH]
  refine lv_aload_n hx hb dX12_init_0 rfl (lv_at hl 0 rfl) ?_
  refine lv_iload_n hx hb dX12_init_1 rfl (lv_at hl 1 rfl) ?_
  refine lv_iload_n hx hb dX12_init_2 rfl (lv_at hl 2 rfl) ?_
  have hPc := hP.sub (ws' := [(h0, .inr (4, [.int 0, .int 0, .int 0]))]) [0] rfl
  have hDc := hD.sub (ws' := [(h0, .inr (4, [.int 0, .int 0, .int 0]))]) [0] (by decide) rfl
  have hFc := va_free (wc := [(h0, .inr (4, [.int 0, .int 0, .int 0]))]) hD hS hA [0] rfl
  refine q_callE (va_runI (As := [.int p0, .int p1]) (rest := []) ⟨hx, hb, hml, hown, hts⟩ (v_Entry_Change (sz := H.size) (h0 := h0) (p0 := p0) (p1 := p1) (v2 := .int 0) ) (cwI 2 hts (lw_meth q287) rfl rfl rfl (hts _ q74) (hts _ q885) (hts _ q286) rfl (by decide +kernel) ⟨Nat.le_of_ble_eq_true rfl, Nat.le_of_ble_eq_true rfl⟩) ⟨v_blind (fun _ _ _ _ h => h), fun U hU hW => ⟨rfl, by rw [hU], by rw [hU]; exact hPc, hKK.go hS hb0 hU hW, hDc.weaken (fun _ _ _ _ => trivial), (fun q h => hb0 q (hFc q h)), trivial⟩⟩ rfl rfl hl.1 rfl (lv_room (Nat.le_of_ble_eq_true rfl)) dX12_init_3 ⟨by first | decide | (dsimp only; omega), by first | decide | (dsimp only; omega)⟩) hS (fun q _ h => hFc q h) hFc (fun x1 t H1 locs ht hvm hB hz1 hk1 hS => ?_)
  obtain ⟨hP1, hD1⟩ := hB
  rw [ht] at hP1
  cases x1
  obtain ⟨hP, hD⟩ := va_join (wr := []) (w1 := [(h0, .inr (4, [.int p0, .int p1, .int 0]))]) hP hD [0] [] rfl rfl (by decide) (by decide) hk1 hFc hP1 hD1
  generalize H1 = H at hP hS ⊢
  have hP : va_P D vwCl [(h0, .inr (4, [.int p0, .int p1, .int 0]))] H := hP
  have hD : va_D A [(h0, .inr (4, [.int p0, .int p1, .int 0]))] := hD
  refine W.eq (g2 := F0 m 6 ls []) rfl ?_
  refine lv_aload_n hx hb dX12_init_6 rfl (lv_at hl 0 rfl) ?_
  refine lv_iload_n hx hb dX12_init_7 rfl (lv_at hl 3 rfl) ?_
  refine va_putF (D := D) (ci := 4) (v := .int p2) (ty := .int) (C := RX12) (T := TX12) (N := 3) hx hb hts in_X12 tyX12 tyX12_ok nmX12 hown hK hP hD hS 0 rfl rfl 2 (by decide) (hts _ q886) (fun _ h9 => h9) rfl hnm rfl (by decide +kernel) rfl rfl (Nat.le_of_ble_eq_true rfl) dX12_init_8 (fun H locs hP hD hS => ?_)
  have hP : va_P D vwCl [(h0, .inr (4, [.int p0, .int p1, .int p2]))] H := hP
  have hD : va_D A [(h0, .inr (4, [.int p0, .int p1, .int p2]))] := hD
  refine W.widen (k := 0) (n := 0) (by first | decide | omega) (by first | decide | omega) ?_
  exact W.vret hx hb hrt (fun t ht hW => ⟨⟨(), rfl, by rw [ht]; exact hP, hD⟩, hS.F ht⟩) hS.2.2 dX12_init_11
theorem v_Event {sz : Nat} {h0 : Nat} {p0 p1 p2 p3 : Int32}  : VmI l D ca zb yX9_init cX9_init 5 none 1 0 0 [.ref h0, .int p0, .int p1, .int p2, .int p3] [(h0, .inr (5, [.int 0, .int 0, .int 0, .int 0]))] (fun _ => True) sz (ι := Unit) (fun x9 => none) (fun x9 => [(h0, .inr (5, [.int p0, .int p1, .int p2, .int p3]))]) := by
  refine v_start (own := RX9) (by decide) rfl (Nat.le_of_ble_eq_true rfl) fun p e s m below meth c A X hrt hlk hnm hKK hb0 hex hsz hAe ls hl hP hD hS hA => ?_
  have hl : lv_has ls 5 [(0, .ref h0), (1, .int p0), (2, .int p1), (3, .int p2), (4, .int p3)] := hl
  have X2 := X
  obtain ⟨hx, hb, hml, hown, hts⟩ := X2
  have hK := hKK.1
  obtain ⟨H, hH⟩ : ∃ H, H = s.heap := ⟨_, rfl⟩
  have hS : va_S A s.heap H [] := by rw [hH]; exact hS
  have hP : va_P D vwCl [(h0, .inr (5, [.int 0, .int 0, .int 0, .int 0]))] H := by rw [hH]; exact hP
  rw [← hH]
  refine lv_aload_n hx hb dX9_init_0 rfl (lv_at hl 0 rfl) ?_
  refine W.objInit hx hb hown (hts _ q643) (hts _ q110) (hts _ q111) rfl (by rw [hml]; exact hl.1) rfl dX9_init_1 (Nat.le_of_ble_eq_true rfl) (Nat.le_of_ble_eq_true rfl) ?_
  refine W.eq (g2 := F0 m 4 ls []) rfl ?_
  refine lv_aload_n hx hb dX9_init_4 rfl (lv_at hl 0 rfl) ?_
  refine lv_iload_n hx hb dX9_init_5 rfl (lv_at hl 1 rfl) ?_
  refine va_putF (D := D) (ci := 5) (v := .int p0) (ty := .int) (C := RX9) (T := TX9) (N := 4) hx hb hts in_X9 tyX9 tyX9_ok nmX9 hown hK hP hD hS 0 rfl rfl 0 (by decide) (hts _ q644) (fun _ h9 => h9) rfl hnm rfl (by decide +kernel) rfl rfl (Nat.le_of_ble_eq_true rfl) dX9_init_6 (fun H locs hP hD hS => ?_)
  have hP : va_P D vwCl [(h0, .inr (5, [.int p0, .int 0, .int 0, .int 0]))] H := hP
  have hD : va_D A [(h0, .inr (5, [.int p0, .int 0, .int 0, .int 0]))] := hD
  refine lv_aload_n hx hb dX9_init_9 rfl (lv_at hl 0 rfl) ?_
  refine lv_iload_n hx hb dX9_init_10 rfl (lv_at hl 2 rfl) ?_
  refine va_putF (D := D) (ci := 5) (v := .int p1) (ty := .int) (C := RX9) (T := TX9) (N := 4) hx hb hts in_X9 tyX9 tyX9_ok nmX9 hown hK hP hD hS 0 rfl rfl 1 (by decide) (hts _ q646) (fun _ h9 => h9) rfl hnm rfl (by decide +kernel) rfl rfl (Nat.le_of_ble_eq_true rfl) dX9_init_11 (fun H locs hP hD hS => ?_)
  have hP : va_P D vwCl [(h0, .inr (5, [.int p0, .int p1, .int 0, .int 0]))] H := hP
  have hD : va_D A [(h0, .inr (5, [.int p0, .int p1, .int 0, .int 0]))] := hD
  refine lv_aload_n hx hb dX9_init_14 rfl (lv_at hl 0 rfl) ?_
  refine lv_iload_n hx hb dX9_init_15 rfl (lv_at hl 3 rfl) ?_
  refine va_putF (D := D) (ci := 5) (v := .int p2) (ty := .int) (C := RX9) (T := TX9) (N := 4) hx hb hts in_X9 tyX9 tyX9_ok nmX9 hown hK hP hD hS 0 rfl rfl 2 (by decide) (hts _ q648) (fun _ h9 => h9) rfl hnm rfl (by decide +kernel) rfl rfl (Nat.le_of_ble_eq_true rfl) dX9_init_16 (fun H locs hP hD hS => ?_)
  have hP : va_P D vwCl [(h0, .inr (5, [.int p0, .int p1, .int p2, .int 0]))] H := hP
  have hD : va_D A [(h0, .inr (5, [.int p0, .int p1, .int p2, .int 0]))] := hD
  refine lv_aload_n hx hb dX9_init_19 rfl (lv_at hl 0 rfl) ?_
  refine lv_iload hx hb dX9_init_20 (lv_at hl 4 rfl) ?_
  refine va_putF (D := D) (ci := 5) (v := .int p3) (ty := .int) (C := RX9) (T := TX9) (N := 4) hx hb hts in_X9 tyX9 tyX9_ok nmX9 hown hK hP hD hS 0 rfl rfl 3 (by decide) (hts _ q650) (fun _ h9 => h9) rfl hnm rfl (by decide +kernel) rfl rfl (Nat.le_of_ble_eq_true rfl) dX9_init_22 (fun H locs hP hD hS => ?_)
  have hP : va_P D vwCl [(h0, .inr (5, [.int p0, .int p1, .int p2, .int p3]))] H := hP
  have hD : va_D A [(h0, .inr (5, [.int p0, .int p1, .int p2, .int p3]))] := hD
  refine W.widen (k := 0) (n := 0) (by first | decide | omega) (by first | decide | omega) ?_
  exact W.vret hx hb hrt (fun t ht hW => ⟨⟨(), rfl, by rw [ht]; exact hP, hD⟩, hS.F ht⟩) hS.2.2 dX9_init_25
theorem v_Action {sz : Nat} {h0 : Nat} {p0 p1 p2 : Int32}  : VmI l D ca zb yX7_init cX7_init 4 none 1 0 0 [.ref h0, .int p0, .int p1, .int p2] [(h0, .inr (6, [.int 0, .int 0, .int 0, .int 0]))] (fun _ => True) sz (ι := Unit) (fun x9 => none) (fun x9 => [(h0, .inr (6, [.int p0, .int p1, .int p2, .int 0]))]) := by
  refine v_start (own := RX7) (by decide) rfl (Nat.le_of_ble_eq_true rfl) fun p e s m below meth c A X hrt hlk hnm hKK hb0 hex hsz hAe ls hl hP hD hS hA => ?_
  have hl : lv_has ls 4 [(0, .ref h0), (1, .int p0), (2, .int p1), (3, .int p2)] := hl
  have X2 := X
  obtain ⟨hx, hb, hml, hown, hts⟩ := X2
  have hK := hKK.1
  obtain ⟨H, hH⟩ : ∃ H, H = s.heap := ⟨_, rfl⟩
  have hS : va_S A s.heap H [] := by rw [hH]; exact hS
  have hP : va_P D vwCl [(h0, .inr (6, [.int 0, .int 0, .int 0, .int 0]))] H := by rw [hH]; exact hP
  rw [← hH]
  refine lv_aload_n hx hb dX7_init_0 rfl (lv_at hl 0 rfl) ?_
  refine W.objInit hx hb hown (hts _ q455) (hts _ q110) (hts _ q111) rfl (by rw [hml]; exact hl.1) rfl dX7_init_1 (Nat.le_of_ble_eq_true rfl) (Nat.le_of_ble_eq_true rfl) ?_
  refine W.eq (g2 := F0 m 4 ls []) rfl ?_
  refine lv_aload_n hx hb dX7_init_4 rfl (lv_at hl 0 rfl) ?_
  refine lv_iload_n hx hb dX7_init_5 rfl (lv_at hl 1 rfl) ?_
  refine va_putF (D := D) (ci := 6) (v := .int p0) (ty := .int) (C := RX7) (T := TX7) (N := 4) hx hb hts in_X7 tyX7 tyX7_ok nmX7 hown hK hP hD hS 0 rfl rfl 0 (by decide) (hts _ q456) (fun _ h9 => h9) rfl hnm rfl (by decide +kernel) rfl rfl (Nat.le_of_ble_eq_true rfl) dX7_init_6 (fun H locs hP hD hS => ?_)
  have hP : va_P D vwCl [(h0, .inr (6, [.int p0, .int 0, .int 0, .int 0]))] H := hP
  have hD : va_D A [(h0, .inr (6, [.int p0, .int 0, .int 0, .int 0]))] := hD
  refine lv_aload_n hx hb dX7_init_9 rfl (lv_at hl 0 rfl) ?_
  refine lv_iload_n hx hb dX7_init_10 rfl (lv_at hl 2 rfl) ?_
  refine va_putF (D := D) (ci := 6) (v := .int p1) (ty := .int) (C := RX7) (T := TX7) (N := 4) hx hb hts in_X7 tyX7 tyX7_ok nmX7 hown hK hP hD hS 0 rfl rfl 1 (by decide) (hts _ q459) (fun _ h9 => h9) rfl hnm rfl (by decide +kernel) rfl rfl (Nat.le_of_ble_eq_true rfl) dX7_init_11 (fun H locs hP hD hS => ?_)
  have hP : va_P D vwCl [(h0, .inr (6, [.int p0, .int p1, .int 0, .int 0]))] H := hP
  have hD : va_D A [(h0, .inr (6, [.int p0, .int p1, .int 0, .int 0]))] := hD
  refine lv_aload_n hx hb dX7_init_14 rfl (lv_at hl 0 rfl) ?_
  refine lv_iload_n hx hb dX7_init_15 rfl (lv_at hl 3 rfl) ?_
  refine va_putF (D := D) (ci := 6) (v := .int p2) (ty := .int) (C := RX7) (T := TX7) (N := 4) hx hb hts in_X7 tyX7 tyX7_ok nmX7 hown hK hP hD hS 0 rfl rfl 2 (by decide) (hts _ q461) (fun _ h9 => h9) rfl hnm rfl (by decide +kernel) rfl rfl (Nat.le_of_ble_eq_true rfl) dX7_init_16 (fun H locs hP hD hS => ?_)
  have hP : va_P D vwCl [(h0, .inr (6, [.int p0, .int p1, .int p2, .int 0]))] H := hP
  have hD : va_D A [(h0, .inr (6, [.int p0, .int p1, .int p2, .int 0]))] := hD
  refine W.widen (k := 0) (n := 0) (by first | decide | omega) (by first | decide | omega) ?_
  exact W.vret hx hb hrt (fun t ht hW => ⟨⟨(), rfl, by rw [ht]; exact hP, hD⟩, hS.F ht⟩) hS.2.2 dX7_init_19
theorem v_Action_copy {sz : Nat} {h0 : Nat} {f0 f1 f2 f3 : Int32} (hz : f3 = 0 ∨ f3 = 1) : VmI l D ca zb yX7_copy cX7_copy 2 (some (.object "IncidentKeeper$Action")) 2 1 4 [.ref h0] [(h0, .inr (6, [.int f0, .int f1, .int f2, .int f3]))] (fun _ => True) sz (ι := Nat) (fun x9 => some (.ref x9)) (fun x9 => [(h0, .inr (6, [.int f0, .int f1, .int f2, .int f3])), (x9, .inr (6, [.int f0, .int f1, .int f2, .int f3]))]) := by
  refine v_start (own := RX7) (by decide) rfl (Nat.le_of_ble_eq_true rfl) fun p e s m below meth c A X hrt hlk hnm hKK hb0 hex hsz hAe ls hl hP hD hS hA => ?_
  have hl : lv_has ls 2 [(0, .ref h0)] := hl
  have X2 := X
  obtain ⟨hx, hb, hml, hown, hts⟩ := X2
  have hK := hKK.1
  obtain ⟨H, hH⟩ : ∃ H, H = s.heap := ⟨_, rfl⟩
  have hS : va_S A s.heap H [] := by rw [hH]; exact hS
  have hP : va_P D vwCl [(h0, .inr (6, [.int f0, .int f1, .int f2, .int f3]))] H := by rw [hH]; exact hP
  rw [← hH]
  refine va_new (ci := 6) (fs := [.int 0, .int 0, .int 0, .int 0]) (C := RX7) (T := TX7) (N := 4) hx hb hts in_X7 tyX7 tyX7_ok hown (hts _ q450) (hts _ q451) (hts _ q80) hK hP hD hS hA rfl (fun j hj => by rcases (show j = 0 ∨ j = 1 ∨ j = 2 ∨ j = 3 by omega) with rfl | rfl | rfl | rfl <;> rfl) (by first | decide | (dsimp only; omega)) (by first | decide | (dsimp only; omega)) dX7_copy_0 (fun q1 H hP hD hS => ?_)
  have hP : va_P D vwCl [(h0, .inr (6, [.int f0, .int f1, .int f2, .int f3])), (q1, .inr (6, [.int 0, .int 0, .int 0, .int 0]))] H := hP
  have hD : va_D A [(h0, .inr (6, [.int f0, .int f1, .int f2, .int f3])), (q1, .inr (6, [.int 0, .int 0, .int 0, .int 0]))] := hD
  refine lv_dup hx hb dX7_copy_3 rfl ?_
  refine lv_aload_n hx hb dX7_copy_4 rfl (lv_at hl 0 rfl) ?_
  refine va_get (D := D) (ci := 6) (v := .int f0) (C := RX7) (T := TX7) (N := 4) hx hb hts in_X7 hown hK hP 0 rfl rfl 0 (by decide) (hts _ q456) (fun _ h9 => h9) rfl dX7_copy_5 ?_
  refine lv_aload_n hx hb dX7_copy_8 rfl (lv_at hl 0 rfl) ?_
  refine va_get (D := D) (ci := 6) (v := .int f1) (C := RX7) (T := TX7) (N := 4) hx hb hts in_X7 hown hK hP 0 rfl rfl 1 (by decide) (hts _ q459) (fun _ h9 => h9) rfl dX7_copy_9 ?_
  refine lv_aload_n hx hb dX7_copy_12 rfl (lv_at hl 0 rfl) ?_
  refine va_get (D := D) (ci := 6) (v := .int f2) (C := RX7) (T := TX7) (N := 4) hx hb hts in_X7 hown hK hP 0 rfl rfl 2 (by decide) (hts _ q461) (fun _ h9 => h9) rfl dX7_copy_13 ?_
  have hPc := hP.sub (ws' := [(q1, .inr (6, [.int 0, .int 0, .int 0, .int 0]))]) [1] rfl
  have hDc := hD.sub (ws' := [(q1, .inr (6, [.int 0, .int 0, .int 0, .int 0]))]) [1] (by decide) rfl
  have hFc := va_free (wc := [(q1, .inr (6, [.int 0, .int 0, .int 0, .int 0]))]) hD hS hA [1] rfl
  refine q_callE (va_runI (As := [.int f0, .int f1, .int f2]) (rest := [.ref q1]) ⟨hx, hb, hml, hown, hts⟩ (v_Action (sz := H.size) (h0 := q1) (p0 := f0) (p1 := f1) (p2 := f2) ) (cwI 3 hts (lw_meth q454) rfl rfl rfl (hts _ q80) (hts _ q452) (hts _ q453) rfl (by decide +kernel) ⟨Nat.le_of_ble_eq_true rfl, Nat.le_of_ble_eq_true rfl⟩) ⟨v_blind (fun _ _ _ _ h => h), fun U hU hW => ⟨rfl, by rw [hU], by rw [hU]; exact hPc, hKK.go hS hb0 hU hW, hDc.weaken (fun _ _ _ _ => trivial), (fun q h => hb0 q (hFc q h)), trivial⟩⟩ rfl rfl hl.1 rfl (lv_room (Nat.le_of_ble_eq_true rfl)) dX7_copy_16 ⟨by first | decide | (dsimp only; omega), by first | decide | (dsimp only; omega)⟩) hS (fun q _ h => hFc q h) hFc (fun x1 t H1 locs ht hvm hB hz1 hk1 hS => ?_)
  obtain ⟨hP1, hD1⟩ := hB
  rw [ht] at hP1
  cases x1
  obtain ⟨hP, hD⟩ := va_join (wr := [(h0, .inr (6, [.int f0, .int f1, .int f2, .int f3]))]) (w1 := [(q1, .inr (6, [.int f0, .int f1, .int f2, .int 0]))]) hP hD [1] [0] rfl rfl (by decide) (by decide) hk1 hFc hP1 hD1
  generalize H1 = H at hP hS ⊢
  have hP : va_P D vwCl [(h0, .inr (6, [.int f0, .int f1, .int f2, .int f3])), (q1, .inr (6, [.int f0, .int f1, .int f2, .int 0]))] H := hP
  have hD : va_D A [(h0, .inr (6, [.int f0, .int f1, .int f2, .int f3])), (q1, .inr (6, [.int f0, .int f1, .int f2, .int 0]))] := hD
  refine W.eq (g2 := F0 m 19 ls [.ref q1]) rfl ?_
  refine lv_astore_n (lv' := [(1, .ref q1), (0, .ref h0)]) hx hb dX7_copy_19 rfl hl (by decide) rfl (fun ls hl => ?_)
  refine lv_aload_n hx hb dX7_copy_20 rfl (lv_at hl 0 rfl) ?_
  refine lv_aload_n hx hb dX7_copy_21 rfl (lv_at hl 1 rfl) ?_
  refine va_get (D := D) (ci := 6) (v := .int f3) (C := RX7) (T := TX7) (N := 4) hx hb hts in_X7 hown hK hP 0 rfl rfl 3 (by decide) (hts _ q463) (fun _ h9 => h9) rfl dX7_copy_22 ?_
  refine va_put (D := D) (ci := 6) (v := .int f3) (ty := .boolean) (C := RX7) (T := TX7) (N := 4) hx hb hts in_X7 tyX7 tyX7_ok nmX7 hown hK hP hD hS 1 rfl rfl 3 (by decide) (hts _ q463) (fun _ h9 => h9) rfl (by decide +kernel) (gb_n hz) (gb_f hz) (Nat.le_of_ble_eq_true rfl) dX7_copy_25 (fun H locs hP hD hS => ?_)
  have hP : va_P D vwCl [(h0, .inr (6, [.int f0, .int f1, .int f2, .int f3])), (q1, .inr (6, [.int f0, .int f1, .int f2, .int f3]))] H := hP
  have hD : va_D A [(h0, .inr (6, [.int f0, .int f1, .int f2, .int f3])), (q1, .inr (6, [.int f0, .int f1, .int f2, .int f3]))] := hD
  refine lv_aload_n hx hb dX7_copy_28 rfl (lv_at hl 0 rfl) ?_
  refine W.widen (k := 1) (n := 4) (by first | decide | omega) (by first | decide | omega) ?_
  exact W.aret (v := .ref q1) hx hb hrt (Or.inl ⟨_, rfl⟩) (Or.inr ⟨_, rfl⟩) (fun t ht hW => ⟨⟨q1, rfl, by rw [ht]; exact hP, hD⟩, hS.F ht⟩) hS.2.2 dX7_copy_29
theorem v_Call {sz : Nat} {h0 : Nat} {p0 p1 p2 p3 : Int32} (hk : narrow .char (.int p0) = .int p0 ∧ fits .char (.int p0) = true) : VmI l D ca zb yX13_init cX13_init 5 none 1 0 0 [.ref h0, .int p0, .int p1, .int p2, .int p3] [(h0, .inr (10, [.int 0, .int 0, .int 0, .int 0]))] (fun _ => True) sz (ι := Unit) (fun x9 => none) (fun x9 => [(h0, .inr (10, [.int p0, .int p1, .int p2, .int p3]))]) := by
  refine v_start (own := RX13) (by decide) rfl (Nat.le_of_ble_eq_true rfl) fun p e s m below meth c A X hrt hlk hnm hKK hb0 hex hsz hAe ls hl hP hD hS hA => ?_
  have hl : lv_has ls 5 [(0, .ref h0), (1, .int p0), (2, .int p1), (3, .int p2), (4, .int p3)] := hl
  have X2 := X
  obtain ⟨hx, hb, hml, hown, hts⟩ := X2
  have hK := hKK.1
  obtain ⟨H, hH⟩ : ∃ H, H = s.heap := ⟨_, rfl⟩
  have hS : va_S A s.heap H [] := by rw [hH]; exact hS
  have hP : va_P D vwCl [(h0, .inr (10, [.int 0, .int 0, .int 0, .int 0]))] H := by rw [hH]; exact hP
  rw [← hH]
  refine lv_aload_n hx hb dX13_init_0 rfl (lv_at hl 0 rfl) ?_
  refine W.objInit hx hb hown (hts _ q998) (hts _ q110) (hts _ q111) rfl (by rw [hml]; exact hl.1) rfl dX13_init_1 (Nat.le_of_ble_eq_true rfl) (Nat.le_of_ble_eq_true rfl) ?_
  refine W.eq (g2 := F0 m 4 ls []) rfl ?_
  refine lv_aload_n hx hb dX13_init_4 rfl (lv_at hl 0 rfl) ?_
  refine lv_iload_n hx hb dX13_init_5 rfl (lv_at hl 1 rfl) ?_
  refine va_putF (D := D) (ci := 10) (v := .int p0) (ty := .char) (C := RX13) (T := TX13) (N := 4) hx hb hts in_X13 tyX13 tyX13_ok nmX13 hown hK hP hD hS 0 rfl rfl 0 (by decide) (hts _ q999) (fun _ h9 => h9) rfl hnm rfl (by decide +kernel) hk.1 hk.2 (Nat.le_of_ble_eq_true rfl) dX13_init_6 (fun H locs hP hD hS => ?_)
  have hP : va_P D vwCl [(h0, .inr (10, [.int p0, .int 0, .int 0, .int 0]))] H := hP
  have hD : va_D A [(h0, .inr (10, [.int p0, .int 0, .int 0, .int 0]))] := hD
  refine lv_aload_n hx hb dX13_init_9 rfl (lv_at hl 0 rfl) ?_
  refine lv_iload_n hx hb dX13_init_10 rfl (lv_at hl 2 rfl) ?_
  refine va_putF (D := D) (ci := 10) (v := .int p1) (ty := .int) (C := RX13) (T := TX13) (N := 4) hx hb hts in_X13 tyX13 tyX13_ok nmX13 hown hK hP hD hS 0 rfl rfl 1 (by decide) (hts _ q1000) (fun _ h9 => h9) rfl hnm rfl (by decide +kernel) rfl rfl (Nat.le_of_ble_eq_true rfl) dX13_init_11 (fun H locs hP hD hS => ?_)
  have hP : va_P D vwCl [(h0, .inr (10, [.int p0, .int p1, .int 0, .int 0]))] H := hP
  have hD : va_D A [(h0, .inr (10, [.int p0, .int p1, .int 0, .int 0]))] := hD
  refine lv_aload_n hx hb dX13_init_14 rfl (lv_at hl 0 rfl) ?_
  refine lv_iload_n hx hb dX13_init_15 rfl (lv_at hl 3 rfl) ?_
  refine va_putF (D := D) (ci := 10) (v := .int p2) (ty := .int) (C := RX13) (T := TX13) (N := 4) hx hb hts in_X13 tyX13 tyX13_ok nmX13 hown hK hP hD hS 0 rfl rfl 2 (by decide) (hts _ q1001) (fun _ h9 => h9) rfl hnm rfl (by decide +kernel) rfl rfl (Nat.le_of_ble_eq_true rfl) dX13_init_16 (fun H locs hP hD hS => ?_)
  have hP : va_P D vwCl [(h0, .inr (10, [.int p0, .int p1, .int p2, .int 0]))] H := hP
  have hD : va_D A [(h0, .inr (10, [.int p0, .int p1, .int p2, .int 0]))] := hD
  refine lv_aload_n hx hb dX13_init_19 rfl (lv_at hl 0 rfl) ?_
  refine lv_iload hx hb dX13_init_20 (lv_at hl 4 rfl) ?_
  refine va_putF (D := D) (ci := 10) (v := .int p3) (ty := .int) (C := RX13) (T := TX13) (N := 4) hx hb hts in_X13 tyX13 tyX13_ok nmX13 hown hK hP hD hS 0 rfl rfl 3 (by decide) (hts _ q1002) (fun _ h9 => h9) rfl hnm rfl (by decide +kernel) rfl rfl (Nat.le_of_ble_eq_true rfl) dX13_init_22 (fun H locs hP hD hS => ?_)
  have hP : va_P D vwCl [(h0, .inr (10, [.int p0, .int p1, .int p2, .int p3]))] H := hP
  have hD : va_D A [(h0, .inr (10, [.int p0, .int p1, .int p2, .int p3]))] := hD
  refine W.widen (k := 0) (n := 0) (by first | decide | omega) (by first | decide | omega) ?_
  exact W.vret hx hb hrt (fun t ht hW => ⟨⟨(), rfl, by rw [ht]; exact hP, hD⟩, hS.F ht⟩) hS.2.2 dX13_init_25
theorem v_Duty {sz : Nat} {h0 k0 : Nat} {p0 p1 : Int32} (hz : p1 = 0 ∨ p1 = 1) : VmI l D ca zb yX4_init cX4_init 4 none 1 0 0 [.ref h0, .ref k0, .int p0, .int p1] [(h0, .inr (12, [.int 0, .int 0, .null]))] (fun _ => True) sz (ι := Unit) (fun x9 => none) (fun x9 => [(h0, .inr (12, [.int p0, .int p1, .ref k0]))]) := by
  refine v_start (own := RX4) (by decide) rfl (Nat.le_of_ble_eq_true rfl) fun p e s m below meth c A X hrt hlk hnm hKK hb0 hex hsz hAe ls hl hP hD hS hA => ?_
  have hl : lv_has ls 4 [(0, .ref h0), (1, .ref k0), (2, .int p0), (3, .int p1)] := hl
  have X2 := X
  obtain ⟨hx, hb, hml, hown, hts⟩ := X2
  have hK := hKK.1
  obtain ⟨H, hH⟩ : ∃ H, H = s.heap := ⟨_, rfl⟩
  have hS : va_S A s.heap H [] := by rw [hH]; exact hS
  have hP : va_P D vwCl [(h0, .inr (12, [.int 0, .int 0, .null]))] H := by rw [hH]; exact hP
  rw [← hH]
  refine lv_aload_n hx hb dX4_init_0 rfl (lv_at hl 0 rfl) ?_
  refine lv_aload_n hx hb dX4_init_1 rfl (lv_at hl 1 rfl) ?_
  refine va_putF (D := D) (ci := 12) (v := .ref k0) (ty := .object "IncidentKeeper") (C := RX4) (T := TX4) (N := 3) hx hb hts in_X4 tyX4 tyX4_ok nmX4 hown hK hP hD hS 0 rfl rfl 2 (by decide) (hts _ q494) (fun _ h9 => h9) rfl hnm rfl (by decide +kernel) rfl rfl (Nat.le_of_ble_eq_true rfl) dX4_init_2 (fun H locs hP hD hS => ?_)
  have hP : va_P D vwCl [(h0, .inr (12, [.int 0, .int 0, .ref k0]))] H := hP
  have hD : va_D A [(h0, .inr (12, [.int 0, .int 0, .ref k0]))] := hD
  refine lv_aload_n hx hb dX4_init_5 rfl (lv_at hl 0 rfl) ?_
  refine lv_iload_n hx hb dX4_init_6 rfl (lv_at hl 2 rfl) ?_
  refine va_putF (D := D) (ci := 12) (v := .int p0) (ty := .int) (C := RX4) (T := TX4) (N := 3) hx hb hts in_X4 tyX4 tyX4_ok nmX4 hown hK hP hD hS 0 rfl rfl 0 (by decide) (hts _ q492) (fun _ h9 => h9) rfl hnm rfl (by decide +kernel) rfl rfl (Nat.le_of_ble_eq_true rfl) dX4_init_7 (fun H locs hP hD hS => ?_)
  have hP : va_P D vwCl [(h0, .inr (12, [.int p0, .int 0, .ref k0]))] H := hP
  have hD : va_D A [(h0, .inr (12, [.int p0, .int 0, .ref k0]))] := hD
  refine lv_aload_n hx hb dX4_init_10 rfl (lv_at hl 0 rfl) ?_
  refine lv_iload_n hx hb dX4_init_11 rfl (lv_at hl 3 rfl) ?_
  refine va_putF (D := D) (ci := 12) (v := .int p1) (ty := .boolean) (C := RX4) (T := TX4) (N := 3) hx hb hts in_X4 tyX4 tyX4_ok nmX4 hown hK hP hD hS 0 rfl rfl 1 (by decide) (hts _ q493) (fun _ h9 => h9) rfl hnm rfl (by decide +kernel) (gb_n hz) (gb_f hz) (Nat.le_of_ble_eq_true rfl) dX4_init_12 (fun H locs hP hD hS => ?_)
  have hP : va_P D vwCl [(h0, .inr (12, [.int p0, .int p1, .ref k0]))] H := hP
  have hD : va_D A [(h0, .inr (12, [.int p0, .int p1, .ref k0]))] := hD
  refine lv_aload_n hx hb dX4_init_15 rfl (lv_at hl 0 rfl) ?_
  refine W.objInit hx hb hown (hts _ q491) (hts _ q110) (hts _ q111) rfl (by rw [hml]; exact hl.1) rfl dX4_init_16 (Nat.le_of_ble_eq_true rfl) (Nat.le_of_ble_eq_true rfl) ?_
  refine W.eq (g2 := F0 m 19 ls []) rfl ?_
  refine W.widen (k := 0) (n := 0) (by first | decide | omega) (by first | decide | omega) ?_
  exact W.vret hx hb hrt (fun t ht hW => ⟨⟨(), rfl, by rw [ht]; exact hP, hD⟩, hS.F ht⟩) hS.2.2 dX4_init_19
theorem v_Desc {sz : Nat} {h0 k0 : Nat} {p0 : Int32}  : VmI l D ca zb yX10_init cX10_init 3 none 1 0 0 [.ref h0, .ref k0, .int p0] [(h0, .inr (8, [.int 0, .null]))] (fun _ => True) sz (ι := Unit) (fun x9 => none) (fun x9 => [(h0, .inr (8, [.int p0, .ref k0]))]) := by
  refine v_start (own := RX10) (by decide) rfl (Nat.le_of_ble_eq_true rfl) fun p e s m below meth c A X hrt hlk hnm hKK hb0 hex hsz hAe ls hl hP hD hS hA => ?_
  have hl : lv_has ls 3 [(0, .ref h0), (1, .ref k0), (2, .int p0)] := hl
  have X2 := X
  obtain ⟨hx, hb, hml, hown, hts⟩ := X2
  have hK := hKK.1
  obtain ⟨H, hH⟩ : ∃ H, H = s.heap := ⟨_, rfl⟩
  have hS : va_S A s.heap H [] := by rw [hH]; exact hS
  have hP : va_P D vwCl [(h0, .inr (8, [.int 0, .null]))] H := by rw [hH]; exact hP
  rw [← hH]
  refine lv_aload_n hx hb dX10_init_0 rfl (lv_at hl 0 rfl) ?_
  refine lv_aload_n hx hb dX10_init_1 rfl (lv_at hl 1 rfl) ?_
  refine va_putF (D := D) (ci := 8) (v := .ref k0) (ty := .object "IncidentKeeper$Core") (C := RX10) (T := TX10) (N := 2) hx hb hts in_X10 tyX10 tyX10_ok nmX10 hown hK hP hD hS 0 rfl rfl 1 (by decide) (hts _ q734) (fun _ h9 => h9) rfl hnm rfl (by decide +kernel) rfl rfl (Nat.le_of_ble_eq_true rfl) dX10_init_2 (fun H locs hP hD hS => ?_)
  have hP : va_P D vwCl [(h0, .inr (8, [.int 0, .ref k0]))] H := hP
  have hD : va_D A [(h0, .inr (8, [.int 0, .ref k0]))] := hD
  refine lv_aload_n hx hb dX10_init_5 rfl (lv_at hl 0 rfl) ?_
  refine W.objInit hx hb hown (hts _ q731) (hts _ q110) (hts _ q111) rfl (by rw [hml]; exact hl.1) rfl dX10_init_6 (Nat.le_of_ble_eq_true rfl) (Nat.le_of_ble_eq_true rfl) ?_
  refine W.eq (g2 := F0 m 9 ls []) rfl ?_
  refine lv_aload_n hx hb dX10_init_9 rfl (lv_at hl 0 rfl) ?_
  refine lv_iload_n hx hb dX10_init_10 rfl (lv_at hl 2 rfl) ?_
  refine va_putF (D := D) (ci := 8) (v := .int p0) (ty := .int) (C := RX10) (T := TX10) (N := 2) hx hb hts in_X10 tyX10 tyX10_ok nmX10 hown hK hP hD hS 0 rfl rfl 0 (by decide) (hts _ q732) (fun _ h9 => h9) rfl hnm rfl (by decide +kernel) rfl rfl (Nat.le_of_ble_eq_true rfl) dX10_init_11 (fun H locs hP hD hS => ?_)
  have hP : va_P D vwCl [(h0, .inr (8, [.int p0, .ref k0]))] H := hP
  have hD : va_D A [(h0, .inr (8, [.int p0, .ref k0]))] := hD
  refine W.widen (k := 0) (n := 0) (by first | decide | omega) (by first | decide | omega) ?_
  exact W.vret hx hb hrt (fun t ht hW => ⟨⟨(), rfl, by rw [ht]; exact hP, hD⟩, hS.F ht⟩) hS.2.2 dX10_init_14
theorem v_L_init0 {sz : Nat} {la : Nat} {v0 v1 v2 : Value}  : VmI l D ca zb yJ0_init cJ0_init 1 none 1 0 0 [.ref la] [(la, .inr (7, [v0, v1, v2]))] (fun _ => True) sz (ι := Unit) (fun x9 => none) (fun x9 => [(la, .inr (7, [v0, v1, v2]))]) := by
  refine v_start (own := RJ0) (by decide) rfl (Nat.le_of_ble_eq_true rfl) fun p e s m below meth c A X hrt hlk hnm hKK hb0 hex hsz hAe ls hl hP hD hS hA => ?_
  have hl : lv_has ls 1 [(0, .ref la)] := hl
  have X2 := X
  obtain ⟨hx, hb, hml, hown, hts⟩ := X2
  have hK := hKK.1
  obtain ⟨H, hH⟩ : ∃ H, H = s.heap := ⟨_, rfl⟩
  have hS : va_S A s.heap H [] := by rw [hH]; exact hS
  have hP : va_P D vwCl [(la, .inr (7, [v0, v1, v2]))] H := by rw [hH]; exact hP
  rw [← hH]
  refine lv_aload_n hx hb dJ0_init_0 rfl (lv_at hl 0 rfl) ?_
  refine W.objInit hx hb hown (hts _ q129) (hts _ q110) (hts _ q111) rfl (by rw [hml]; exact hl.1) rfl dJ0_init_1 (Nat.le_of_ble_eq_true rfl) (Nat.le_of_ble_eq_true rfl) ?_
  refine W.eq (g2 := F0 m 4 ls []) rfl ?_
  refine W.widen (k := 0) (n := 0) (by first | decide | omega) (by first | decide | omega) ?_
  exact W.vret hx hb hrt (fun t ht hW => ⟨⟨(), rfl, by rw [ht]; exact hP, hD⟩, hS.F ht⟩) hS.2.2 dJ0_init_4
theorem v_L_init1 {sz : Nat} {la : Nat} {v1 v2 : Value}  : VmI l D ca zb yJ1_init cJ1_init 1 none 2 0 0 [.ref la] [(la, .inr (7, [.int 0, v1, v2]))] (fun _ => True) sz (ι := Unit) (fun x9 => none) (fun x9 => [(la, .inr (7, [.int 0, v1, v2]))]) := by
  refine v_start (own := RJ1) (by decide) rfl (Nat.le_of_ble_eq_true rfl) fun p e s m below meth c A X hrt hlk hnm hKK hb0 hex hsz hAe ls hl hP hD hS hA => ?_
  have hl : lv_has ls 1 [(0, .ref la)] := hl
  have X2 := X
  obtain ⟨hx, hb, hml, hown, hts⟩ := X2
  have hK := hKK.1
  obtain ⟨H, hH⟩ : ∃ H, H = s.heap := ⟨_, rfl⟩
  have hS : va_S A s.heap H [] := by rw [hH]; exact hS
  have hP : va_P D vwCl [(la, .inr (7, [.int 0, v1, v2]))] H := by rw [hH]; exact hP
  rw [← hH]
  refine lv_aload_n hx hb dJ1_init_0 rfl (lv_at hl 0 rfl) ?_
  have hPc := hP.sub (ws' := [(la, .inr (7, [.int 0, v1, v2]))]) [0] rfl
  have hDc := hD.sub (ws' := [(la, .inr (7, [.int 0, v1, v2]))]) [0] (by decide) rfl
  have hFc := va_free (wc := [(la, .inr (7, [.int 0, v1, v2]))]) hD hS hA [0] rfl
  refine q_callE (va_runI (As := []) (rest := []) ⟨hx, hb, hml, hown, hts⟩ (v_L_init0 (sz := H.size) (la := la) (v0 := .int 0) (v1 := v1) (v2 := v2) ) (cwI 0 hts (lw_meth q128) rfl rfl rfl (hts _ q67) (hts _ q126) (hts _ q127) rfl (by decide +kernel) ⟨Nat.le_of_ble_eq_true rfl, Nat.le_of_ble_eq_true rfl⟩) ⟨v_blind (fun _ _ _ _ h => h), fun U hU hW => ⟨rfl, by rw [hU], by rw [hU]; exact hPc, hKK.go hS hb0 hU hW, hDc.weaken (fun _ _ _ _ => trivial), (fun q h => hb0 q (hFc q h)), trivial⟩⟩ rfl rfl hl.1 rfl (lv_room (Nat.le_of_ble_eq_true rfl)) dJ1_init_1 ⟨by first | decide | (dsimp only; omega), by first | decide | (dsimp only; omega)⟩) hS (fun q _ h => hFc q h) hFc (fun x1 t H1 locs ht hvm hB hz1 hk1 hS => ?_)
  obtain ⟨hP1, hD1⟩ := hB
  rw [ht] at hP1
  cases x1
  obtain ⟨hP, hD⟩ := va_join (wr := []) (w1 := [(la, .inr (7, [.int 0, v1, v2]))]) hP hD [0] [] rfl rfl (by decide) (by decide) hk1 hFc hP1 hD1
  generalize H1 = H at hP hS ⊢
  have hP : va_P D vwCl [(la, .inr (7, [.int 0, v1, v2]))] H := hP
  have hD : va_D A [(la, .inr (7, [.int 0, v1, v2]))] := hD
  refine W.eq (g2 := F0 m 4 ls []) rfl ?_
  refine lv_aload_n hx hb dJ1_init_4 rfl (lv_at hl 0 rfl) ?_
  refine lv_iconst (v := 0) hx hb dJ1_init_5 rfl ?_
  refine va_put (D := D) (ci := 7) (v := .int 0) (ty := .int) (C := RJ2) (T := TJ2) (N := 3) hx hb hts in_J2 tyJ2 tyJ2_ok nmJ2 hown hK hP hD hS 0 rfl rfl 0 (by decide) (hts _ q134) (fun _ h9 => h9) rfl (by decide +kernel) rfl rfl (Nat.le_of_ble_eq_true rfl) dJ1_init_6 (fun H locs hP hD hS => ?_)
  have hP : va_P D vwCl [(la, .inr (7, [.int 0, v1, v2]))] H := hP
  have hD : va_D A [(la, .inr (7, [.int 0, v1, v2]))] := hD
  refine W.widen (k := 0) (n := 0) (by first | decide | omega) (by first | decide | omega) ?_
  exact W.vret hx hb hrt (fun t ht hW => ⟨⟨(), rfl, by rw [ht]; exact hP, hD⟩, hS.F ht⟩) hS.2.2 dJ1_init_9
theorem v_L_init {sz : Nat} {la : Nat}  : VmI l D ca zb yJ2_init cJ2_init 1 none 3 0 0 [.ref la] [(la, .inr (7, [.int 0, .null, .int 0]))] (fun _ => True) sz (ι := Unit) (fun x9 => none) (fun x9 => [(la, .inr (7, [.int 0, .ref (zb 0), .int 0]))]) := by
  refine v_start (own := RJ2) (by decide) rfl (Nat.le_of_ble_eq_true rfl) fun p e s m below meth c A X hrt hlk hnm hKK hb0 hex hsz hAe ls hl hP hD hS hA => ?_
  have hl : lv_has ls 1 [(0, .ref la)] := hl
  have X2 := X
  obtain ⟨hx, hb, hml, hown, hts⟩ := X2
  have hK := hKK.1
  obtain ⟨H, hH⟩ : ∃ H, H = s.heap := ⟨_, rfl⟩
  have hS : va_S A s.heap H [] := by rw [hH]; exact hS
  have hP : va_P D vwCl [(la, .inr (7, [.int 0, .null, .int 0]))] H := by rw [hH]; exact hP
  rw [← hH]
  refine lv_aload_n hx hb dJ2_init_0 rfl (lv_at hl 0 rfl) ?_
  have hPc := hP.sub (ws' := [(la, .inr (7, [.int 0, .null, .int 0]))]) [0] rfl
  have hDc := hD.sub (ws' := [(la, .inr (7, [.int 0, .null, .int 0]))]) [0] (by decide) rfl
  have hFc := va_free (wc := [(la, .inr (7, [.int 0, .null, .int 0]))]) hD hS hA [0] rfl
  refine q_callE (va_runI (As := []) (rest := []) ⟨hx, hb, hml, hown, hts⟩ (v_L_init1 (sz := H.size) (la := la) (v1 := .null) (v2 := .int 0) ) (cwI 0 hts (lw_meth q125) rfl rfl rfl (hts _ q68) (hts _ q123) (hts _ q124) rfl (by decide +kernel) ⟨Nat.le_of_ble_eq_true rfl, Nat.le_of_ble_eq_true rfl⟩) ⟨v_blind (fun _ _ _ _ h => h), fun U hU hW => ⟨rfl, by rw [hU], by rw [hU]; exact hPc, hKK.go hS hb0 hU hW, hDc.weaken (fun _ _ _ _ => trivial), (fun q h => hb0 q (hFc q h)), trivial⟩⟩ rfl rfl hl.1 rfl (lv_room (Nat.le_of_ble_eq_true rfl)) dJ2_init_1 ⟨by first | decide | (dsimp only; omega), by first | decide | (dsimp only; omega)⟩) hS (fun q _ h => hFc q h) hFc (fun x1 t H1 locs ht hvm hB hz1 hk1 hS => ?_)
  obtain ⟨hP1, hD1⟩ := hB
  rw [ht] at hP1
  cases x1
  obtain ⟨hP, hD⟩ := va_join (wr := []) (w1 := [(la, .inr (7, [.int 0, .null, .int 0]))]) hP hD [0] [] rfl rfl (by decide) (by decide) hk1 hFc hP1 hD1
  generalize H1 = H at hP hS ⊢
  have hP : va_P D vwCl [(la, .inr (7, [.int 0, .null, .int 0]))] H := hP
  have hD : va_D A [(la, .inr (7, [.int 0, .null, .int 0]))] := hD
  refine W.eq (g2 := F0 m 4 ls []) rfl ?_
  refine lv_aload_n hx hb dJ2_init_4 rfl (lv_at hl 0 rfl) ?_
  refine va_gets hx hb (hKK.2.2.1.narrow hb0) hS hown (hts _ q130) (fun _ h9 => h9) dJ2_init_5 ?_
  refine va_put (D := D) (ci := 7) (v := .ref (zb 0)) (ty := .array (.object "java/lang/Object")) (C := RJ2) (T := TJ2) (N := 3) hx hb hts in_J2 tyJ2 tyJ2_ok nmJ2 hown hK hP hD hS 0 rfl rfl 1 (by decide) (hts _ q132) (fun _ h9 => h9) rfl (by decide +kernel) rfl rfl (Nat.le_of_ble_eq_true rfl) dJ2_init_8 (fun H locs hP hD hS => ?_)
  have hP : va_P D vwCl [(la, .inr (7, [.int 0, .ref (zb 0), .int 0]))] H := hP
  have hD : va_D A [(la, .inr (7, [.int 0, .ref (zb 0), .int 0]))] := hD
  refine W.widen (k := 0) (n := 0) (by first | decide | omega) (by first | decide | omega) ?_
  exact W.vret hx hb hrt (fun t ht hW => ⟨⟨(), rfl, by rw [ht]; exact hP, hD⟩, hS.F ht⟩) hS.2.2 dJ2_init_11
theorem v_L_size {sz : Nat} {la : Nat} {v0 v1 : Value} {cn : Int32}  : VmI l D ca zb yJ2_size cJ2_size 1 (some .int) 0 0 0 [.ref la] [(la, .inr (7, [v0, v1, .int cn]))] (fun _ => True) sz (ι := Unit) (fun x9 => some (.int cn)) (fun x9 => [(la, .inr (7, [v0, v1, .int cn]))]) := by
  refine v_start (own := RJ2) (by decide) rfl (Nat.le_of_ble_eq_true rfl) fun p e s m below meth c A X hrt hlk hnm hKK hb0 hex hsz hAe ls hl hP hD hS hA => ?_
  have hl : lv_has ls 1 [(0, .ref la)] := hl
  have X2 := X
  obtain ⟨hx, hb, hml, hown, hts⟩ := X2
  have hK := hKK.1
  obtain ⟨H, hH⟩ : ∃ H, H = s.heap := ⟨_, rfl⟩
  have hS : va_S A s.heap H [] := by rw [hH]; exact hS
  have hP : va_P D vwCl [(la, .inr (7, [v0, v1, .int cn]))] H := by rw [hH]; exact hP
  rw [← hH]
  refine lv_aload_n hx hb dJ2_size_0 rfl (lv_at hl 0 rfl) ?_
  refine va_get (D := D) (ci := 7) (v := .int cn) (C := RJ2) (T := TJ2) (N := 3) hx hb hts in_J2 hown hK hP 0 rfl rfl 2 (by decide) (hts _ q133) (fun _ h9 => h9) rfl dJ2_size_1 ?_
  refine W.widen (k := 0) (n := 0) (by first | decide | omega) (by first | decide | omega) ?_
  exact W.iret (v := cn) hx hb hrt (fun t ht hW => ⟨⟨(), rfl, by rw [ht]; exact hP, hD⟩, hS.F ht⟩) hS.2.2 dJ2_size_4
theorem v_L_isE0 {sz : Nat} {la : Nat} {v0 v1 : Value}  : VmI l D ca zb yJ2_isEmpty cJ2_isEmpty 1 (some .boolean) 0 0 0 [.ref la] [(la, .inr (7, [v0, v1, .int 0]))] (fun _ => True) sz (ι := Unit) (fun x9 => some (.int 1)) (fun x9 => [(la, .inr (7, [v0, v1, .int 0]))]) := by
  refine v_start (own := RJ2) (by decide) rfl (Nat.le_of_ble_eq_true rfl) fun p e s m below meth c A X hrt hlk hnm hKK hb0 hex hsz hAe ls hl hP hD hS hA => ?_
  have hl : lv_has ls 1 [(0, .ref la)] := hl
  have X2 := X
  obtain ⟨hx, hb, hml, hown, hts⟩ := X2
  have hK := hKK.1
  obtain ⟨H, hH⟩ : ∃ H, H = s.heap := ⟨_, rfl⟩
  have hS : va_S A s.heap H [] := by rw [hH]; exact hS
  have hP : va_P D vwCl [(la, .inr (7, [v0, v1, .int 0]))] H := by rw [hH]; exact hP
  rw [← hH]
  refine lv_aload_n hx hb dJ2_isEmpty_0 rfl (lv_at hl 0 rfl) ?_
  refine va_get (D := D) (ci := 7) (v := .int 0) (C := RJ2) (T := TJ2) (N := 3) hx hb hts in_J2 hown hK hP 0 rfl rfl 2 (by decide) (hts _ q133) (fun _ h9 => h9) rfl dJ2_isEmpty_1 ?_
  refine lv_if_ne (tgt := 11) hx hb dJ2_isEmpty_4 (by decide) (fun z9 => absurd (rfl) z9) (fun _ => ?_)
  refine lv_iconst (v := 1) hx hb dJ2_isEmpty_7 rfl ?_
  refine lv_goto (tgt := 12) hx hb dJ2_isEmpty_8 (by decide) ?_
  refine W.widen (k := 0) (n := 0) (by first | decide | omega) (by first | decide | omega) ?_
  exact W.zret (v := 1) hx hb hrt (gb_n (Or.inr rfl)) (fun t ht hW => ⟨⟨(), rfl, by rw [ht]; exact hP, hD⟩, hS.F ht⟩) hS.2.2 dJ2_isEmpty_12
theorem v_L_isE1 {sz : Nat} {la : Nat} {v0 v1 : Value} {cn : Int32} (hc : ¬ cn = 0) : VmI l D ca zb yJ2_isEmpty cJ2_isEmpty 1 (some .boolean) 0 0 0 [.ref la] [(la, .inr (7, [v0, v1, .int cn]))] (fun _ => True) sz (ι := Unit) (fun x9 => some (.int 0)) (fun x9 => [(la, .inr (7, [v0, v1, .int cn]))]) := by
  refine v_start (own := RJ2) (by decide) rfl (Nat.le_of_ble_eq_true rfl) fun p e s m below meth c A X hrt hlk hnm hKK hb0 hex hsz hAe ls hl hP hD hS hA => ?_
  have hl : lv_has ls 1 [(0, .ref la)] := hl
  have X2 := X
  obtain ⟨hx, hb, hml, hown, hts⟩ := X2
  have hK := hKK.1
  obtain ⟨H, hH⟩ : ∃ H, H = s.heap := ⟨_, rfl⟩
  have hS : va_S A s.heap H [] := by rw [hH]; exact hS
  have hP : va_P D vwCl [(la, .inr (7, [v0, v1, .int cn]))] H := by rw [hH]; exact hP
  rw [← hH]
  refine lv_aload_n hx hb dJ2_isEmpty_0 rfl (lv_at hl 0 rfl) ?_
  refine va_get (D := D) (ci := 7) (v := .int cn) (C := RJ2) (T := TJ2) (N := 3) hx hb hts in_J2 hown hK hP 0 rfl rfl 2 (by decide) (hts _ q133) (fun _ h9 => h9) rfl dJ2_isEmpty_1 ?_
  refine lv_if_ne (tgt := 11) hx hb dJ2_isEmpty_4 (by decide) (fun _ => ?_) (fun z9 => absurd z9 (hc))
  refine lv_iconst (v := 0) hx hb dJ2_isEmpty_11 rfl ?_
  refine W.widen (k := 0) (n := 0) (by first | decide | omega) (by first | decide | omega) ?_
  exact W.zret (v := 0) hx hb hrt (gb_n (Or.inl rfl)) (fun t ht hW => ⟨⟨(), rfl, by rw [ht]; exact hP, hD⟩, hS.F ht⟩) hS.2.2 dJ2_isEmpty_12
theorem v_L_chk4 {sz : Nat} {ix cn : Int32} (h0 : ¬ ix < 0) (h1 : ix < cn) : VmI l D ca zb yJ4_checkIndex cJ4_checkIndex 3 (some .int) 0 0 0 [.int ix, .int cn, .null] [] (fun _ => True) sz (ι := Unit) (fun x9 => some (.int ix)) (fun x9 => []) := by
  refine v_start (own := RJ4) (by decide) rfl (Nat.le_of_ble_eq_true rfl) fun p e s m below meth c A X hrt hlk hnm hKK hb0 hex hsz hAe ls hl hP hD hS hA => ?_
  have hl : lv_has ls 3 [(0, .int ix), (1, .int cn), (2, .null)] := hl
  have X2 := X
  obtain ⟨hx, hb, hml, hown, hts⟩ := X2
  have hK := hKK.1
  obtain ⟨H, hH⟩ : ∃ H, H = s.heap := ⟨_, rfl⟩
  have hS : va_S A s.heap H [] := by rw [hH]; exact hS
  have hP : va_P D vwCl [] H := by rw [hH]; exact hP
  rw [← hH]
  refine lv_iload_n hx hb dJ4_checkIndex_0 rfl (lv_at hl 0 rfl) ?_
  refine lv_if_lt (tgt := 9) hx hb dJ4_checkIndex_1 (by decide) (fun z9 => absurd z9 (h0)) (fun _ => ?_)
  refine lv_iload_n hx hb dJ4_checkIndex_4 rfl (lv_at hl 0 rfl) ?_
  refine lv_iload_n hx hb dJ4_checkIndex_5 rfl (lv_at hl 1 rfl) ?_
  refine lv_icmp_lt (tgt := 16) hx hb dJ4_checkIndex_6 (by decide) (fun _ => ?_) (fun z9 => absurd (h1) z9)
  refine lv_iload_n hx hb dJ4_checkIndex_16 rfl (lv_at hl 0 rfl) ?_
  refine W.widen (k := 0) (n := 0) (by first | decide | omega) (by first | decide | omega) ?_
  exact W.iret (v := ix) hx hb hrt (fun t ht hW => ⟨⟨(), rfl, by rw [ht]; exact hP, hD⟩, hS.F ht⟩) hS.2.2 dJ4_checkIndex_17
theorem v_L_chk {sz : Nat} {ix cn : Int32} (h0 : ¬ ix < 0) (h1 : ix < cn) : VmI l D ca zb yJ3_checkIndex cJ3_checkIndex 2 (some .int) 1 0 0 [.int ix, .int cn] [] (fun _ => True) sz (ι := Unit) (fun x9 => some (.int ix)) (fun x9 => []) := by
  refine v_start (own := RJ3) (by decide) rfl (Nat.le_of_ble_eq_true rfl) fun p e s m below meth c A X hrt hlk hnm hKK hb0 hex hsz hAe ls hl hP hD hS hA => ?_
  have hl : lv_has ls 2 [(0, .int ix), (1, .int cn)] := hl
  have X2 := X
  obtain ⟨hx, hb, hml, hown, hts⟩ := X2
  have hK := hKK.1
  obtain ⟨H, hH⟩ : ∃ H, H = s.heap := ⟨_, rfl⟩
  have hS : va_S A s.heap H [] := by rw [hH]; exact hS
  have hP : va_P D vwCl [] H := by rw [hH]; exact hP
  rw [← hH]
  refine lv_iload_n hx hb dJ3_checkIndex_0 rfl (lv_at hl 0 rfl) ?_
  refine lv_iload_n hx hb dJ3_checkIndex_1 rfl (lv_at hl 1 rfl) ?_
  refine lv_null hx hb dJ3_checkIndex_2 ?_
  have hPc := hP.sub (ws' := []) [] rfl
  have hDc := hD.sub (ws' := []) [] (by decide) rfl
  have hFc := va_free (wc := []) hD hS hA [] rfl
  refine q_callE (va_runS (As := [.int ix, .int cn, .null]) (rest := []) ⟨hx, hb, hml, hown, hts⟩ (v_L_chk4 (sz := H.size) (ix := ix) (cn := cn) h0 h1) (va_cwS 3 hts (lw_S q257 q258 q73 q259) rfl rfl rfl (by decide +kernel) ⟨Nat.le_of_ble_eq_true rfl, Nat.le_of_ble_eq_true rfl⟩) ⟨v_blind (fun _ _ _ _ h => h), fun U hU hW => ⟨rfl, by rw [hU], by rw [hU]; exact hPc, hKK.go hS hb0 hU hW, hDc.weaken (fun _ _ _ _ => trivial), (fun q h => hb0 q (hFc q h)), trivial⟩⟩ rfl rfl hl.1 rfl (lv_room (Nat.le_of_ble_eq_true rfl)) dJ3_checkIndex_3 ⟨by first | decide | (dsimp only; omega), by first | decide | (dsimp only; omega)⟩) hS (fun q _ h => hFc q h) hFc (fun x1 t H1 locs ht hvm hB hz1 hk1 hS => ?_)
  obtain ⟨hP1, hD1⟩ := hB
  rw [ht] at hP1
  cases x1
  obtain ⟨hP, hD⟩ := va_join (wr := []) (w1 := []) hP hD [] [] rfl rfl (by decide) (by decide) hk1 hFc hP1 hD1
  generalize H1 = H at hP hS ⊢
  have hP : va_P D vwCl [] H := hP
  have hD : va_D A [] := hD
  refine W.eq (g2 := F0 m 6 ls [.int ix]) rfl ?_
  refine W.widen (k := 0) (n := 0) (by first | decide | omega) (by first | decide | omega) ?_
  exact W.iret (v := ix) hx hb hrt (fun t ht hW => ⟨⟨(), rfl, by rw [ht]; exact hP, hD⟩, hS.F ht⟩) hS.2.2 dJ3_checkIndex_6
theorem v_L_elem {sz : Nat} {la ea y n : Nat} {v0 v2 : Value} {ix : Int32} {f : Nat → Option Nat} (hi : vp_in ix n) (hy : f ix.toNatClampNeg = some y) : VmI l D ca zb yJ2_elementData cJ2_elementData 2 (some (.object "java/lang/Object")) 0 0 0 [.ref la, .int ix] [(la, .inr (7, [v0, .ref ea, v2])), (ea, .inl (ca 1, n, .inr (.inr (.inr (.inr f)))))] (fun _ => True) sz (ι := Unit) (fun x9 => some (.ref y)) (fun x9 => [(la, .inr (7, [v0, .ref ea, v2])), (ea, .inl (ca 1, n, .inr (.inr (.inr (.inr f)))))]) := by
  refine v_start (own := RJ2) (by decide) rfl (Nat.le_of_ble_eq_true rfl) fun p e s m below meth c A X hrt hlk hnm hKK hb0 hex hsz hAe ls hl hP hD hS hA => ?_
  have hl : lv_has ls 2 [(0, .ref la), (1, .int ix)] := hl
  have X2 := X
  obtain ⟨hx, hb, hml, hown, hts⟩ := X2
  have hK := hKK.1
  obtain ⟨H, hH⟩ : ∃ H, H = s.heap := ⟨_, rfl⟩
  have hS : va_S A s.heap H [] := by rw [hH]; exact hS
  have hP : va_P D vwCl [(la, .inr (7, [v0, .ref ea, v2])), (ea, .inl (ca 1, n, .inr (.inr (.inr (.inr f)))))] H := by rw [hH]; exact hP
  rw [← hH]
  refine lv_aload_n hx hb dJ2_elementData_0 rfl (lv_at hl 0 rfl) ?_
  refine va_get (D := D) (ci := 7) (v := .ref ea) (C := RJ2) (T := TJ2) (N := 3) hx hb hts in_J2 hown hK hP 0 rfl rfl 1 (by decide) (hts _ q132) (fun _ h9 => h9) rfl dJ2_elementData_1 ?_
  refine lv_iload_n hx hb dJ2_elementData_4 rfl (lv_at hl 1 rfl) ?_
  refine va_aldq hx hb hK hP 1 1 rfl rfl hi dJ2_elementData_5 ?_
  rw [hy]
  refine W.widen (k := 0) (n := 0) (by first | decide | omega) (by first | decide | omega) ?_
  exact W.aret (v := .ref y) hx hb hrt (Or.inl ⟨_, rfl⟩) (Or.inr ⟨_, rfl⟩) (fun t ht hW => ⟨⟨(), rfl, by rw [ht]; exact hP, hD⟩, hS.F ht⟩) hS.2.2 dJ2_elementData_6
theorem v_L_get {sz : Nat} {la ea y n : Nat} {v0 : Value} {ix cn : Int32} {f : Nat → Option Nat} (h0 : ¬ ix < 0) (h1 : ix < cn) (hi : vp_in ix n) (hy : f ix.toNatClampNeg = some y) : VmI l D ca zb yJ2_get cJ2_get 2 (some (.object "java/lang/Object")) 2 0 0 [.ref la, .int ix] [(la, .inr (7, [v0, .ref ea, .int cn])), (ea, .inl (ca 1, n, .inr (.inr (.inr (.inr f)))))] (fun _ => True) sz (ι := Unit) (fun x9 => some (.ref y)) (fun x9 => [(la, .inr (7, [v0, .ref ea, .int cn])), (ea, .inl (ca 1, n, .inr (.inr (.inr (.inr f)))))]) := by
  refine v_start (own := RJ2) (by decide) rfl (Nat.le_of_ble_eq_true rfl) fun p e s m below meth c A X hrt hlk hnm hKK hb0 hex hsz hAe ls hl hP hD hS hA => ?_
  have hl : lv_has ls 2 [(0, .ref la), (1, .int ix)] := hl
  have X2 := X
  obtain ⟨hx, hb, hml, hown, hts⟩ := X2
  have hK := hKK.1
  obtain ⟨H, hH⟩ : ∃ H, H = s.heap := ⟨_, rfl⟩
  have hS : va_S A s.heap H [] := by rw [hH]; exact hS
  have hP : va_P D vwCl [(la, .inr (7, [v0, .ref ea, .int cn])), (ea, .inl (ca 1, n, .inr (.inr (.inr (.inr f)))))] H := by rw [hH]; exact hP
  rw [← hH]
  refine lv_iload_n hx hb dJ2_get_0 rfl (lv_at hl 1 rfl) ?_
  refine lv_aload_n hx hb dJ2_get_1 rfl (lv_at hl 0 rfl) ?_
  refine va_get (D := D) (ci := 7) (v := .int cn) (C := RJ2) (T := TJ2) (N := 3) hx hb hts in_J2 hown hK hP 0 rfl rfl 2 (by decide) (hts _ q133) (fun _ h9 => h9) rfl dJ2_get_2 ?_
  have hPc := hP.sub (ws' := []) [] rfl
  have hDc := hD.sub (ws' := []) [] (by decide) rfl
  have hFc := va_free (wc := []) hD hS hA [] rfl
  refine q_callE (va_runS (As := [.int ix, .int cn]) (rest := []) ⟨hx, hb, hml, hown, hts⟩ (v_L_chk (sz := H.size) (ix := ix) (cn := cn) h0 h1) (va_cwS 2 hts (lw_S q254 q255 q72 q256) rfl rfl rfl (by decide +kernel) ⟨Nat.le_of_ble_eq_true rfl, Nat.le_of_ble_eq_true rfl⟩) ⟨v_blind (fun _ _ _ _ h => h), fun U hU hW => ⟨rfl, by rw [hU], by rw [hU]; exact hPc, hKK.go hS hb0 hU hW, hDc.weaken (fun _ _ _ _ => trivial), (fun q h => hb0 q (hFc q h)), trivial⟩⟩ rfl rfl hl.1 rfl (lv_room (Nat.le_of_ble_eq_true rfl)) dJ2_get_5 ⟨by first | decide | (dsimp only; omega), by first | decide | (dsimp only; omega)⟩) hS (fun q _ h => hFc q h) hFc (fun x1 t H1 locs ht hvm hB hz1 hk1 hS => ?_)
  obtain ⟨hP1, hD1⟩ := hB
  rw [ht] at hP1
  cases x1
  obtain ⟨hP, hD⟩ := va_join (wr := [(la, .inr (7, [v0, .ref ea, .int cn])), (ea, .inl (ca 1, n, .inr (.inr (.inr (.inr f)))))]) (w1 := []) hP hD [] [0, 1] rfl rfl (by decide) (by decide) hk1 hFc hP1 hD1
  generalize H1 = H at hP hS ⊢
  have hP : va_P D vwCl [(la, .inr (7, [v0, .ref ea, .int cn])), (ea, .inl (ca 1, n, .inr (.inr (.inr (.inr f)))))] H := hP
  have hD : va_D A [(la, .inr (7, [v0, .ref ea, .int cn])), (ea, .inl (ca 1, n, .inr (.inr (.inr (.inr f)))))] := hD
  refine W.eq (g2 := F0 m 8 ls [.int ix]) rfl ?_
  refine lv_pop hx hb dJ2_get_8 rfl ?_
  refine lv_aload_n hx hb dJ2_get_9 rfl (lv_at hl 0 rfl) ?_
  refine lv_iload_n hx hb dJ2_get_10 rfl (lv_at hl 1 rfl) ?_
  have hPc := hP.sub (ws' := [(la, .inr (7, [v0, .ref ea, .int cn])), (ea, .inl (ca 1, n, .inr (.inr (.inr (.inr f)))))]) [0, 1] rfl
  have hDc := hD.sub (ws' := [(la, .inr (7, [v0, .ref ea, .int cn])), (ea, .inl (ca 1, n, .inr (.inr (.inr (.inr f)))))]) [0, 1] (by decide) rfl
  have hFc := va_free (wc := [(la, .inr (7, [v0, .ref ea, .int cn])), (ea, .inl (ca 1, n, .inr (.inr (.inr (.inr f)))))]) hD hS hA [0, 1] rfl
  refine q_callE (va_runV (As := [.int ix]) (rest := []) ⟨hx, hb, hml, hown, hts⟩ (v_L_elem (sz := H.size) (la := la) (ea := ea) (y := y) (n := n) (v0 := v0) (v2 := .int cn) (ix := ix) (f := f) hi hy) (cwV 1 hts (lw_V q260 q261 q262 q69 q263) rfl rfl rfl (by decide +kernel) ⟨Nat.le_of_ble_eq_true rfl, Nat.le_of_ble_eq_true rfl⟩) ⟨v_blind (fun _ _ _ _ h => h), va_recv hK hPc (ci := 7) (q0 := 0) rfl rfl, fun U hU hW => ⟨rfl, by rw [hU], by rw [hU]; exact hPc, hKK.go hS hb0 hU hW, hDc.weaken (fun _ _ _ _ => trivial), (fun q h => hb0 q (hFc q h)), trivial⟩⟩ rfl rfl hl.1 rfl (lv_room (Nat.le_of_ble_eq_true rfl)) dJ2_get_11 ⟨by first | decide | (dsimp only; omega), by first | decide | (dsimp only; omega)⟩) hS (fun q _ h => hFc q h) hFc (fun x2 t H1 locs ht hvm hB hz1 hk1 hS => ?_)
  obtain ⟨hP1, hD1⟩ := hB
  rw [ht] at hP1
  cases x2
  obtain ⟨hP, hD⟩ := va_join (wr := []) (w1 := [(la, .inr (7, [v0, .ref ea, .int cn])), (ea, .inl (ca 1, n, .inr (.inr (.inr (.inr f)))))]) hP hD [0, 1] [] rfl rfl (by decide) (by decide) hk1 hFc hP1 hD1
  generalize H1 = H at hP hS ⊢
  have hP : va_P D vwCl [(la, .inr (7, [v0, .ref ea, .int cn])), (ea, .inl (ca 1, n, .inr (.inr (.inr (.inr f)))))] H := hP
  have hD : va_D A [(la, .inr (7, [v0, .ref ea, .int cn])), (ea, .inl (ca 1, n, .inr (.inr (.inr (.inr f)))))] := hD
  refine W.eq (g2 := F0 m 14 ls [.ref y]) rfl ?_
  refine W.widen (k := 0) (n := 0) (by first | decide | omega) (by first | decide | omega) ?_
  exact W.aret (v := .ref y) hx hb hrt (Or.inl ⟨_, rfl⟩) (Or.inr ⟨_, rfl⟩) (fun t ht hW => ⟨⟨(), rfl, by rw [ht]; exact hP, hD⟩, hS.F ht⟩) hS.2.2 dJ2_get_14
theorem v_L_newLen {sz : Nat} {o a b : Int32} (h1 : ¬ o + (if a < b then b else a) ≤ 0) (h2 : ¬ 2147483639 < o + (if a < b then b else a)) : VmI l D ca zb yJ5_newLength cJ5_newLength 4 (some .int) 1 0 0 [.int o, .int a, .int b] [] (fun _ => True) sz (ι := Unit) (fun x9 => some (.int (o + (if a < b then b else a)))) (fun x9 => []) := by
  refine v_start (own := RJ5) (by decide) rfl (Nat.le_of_ble_eq_true rfl) fun p e s m below meth c A X hrt hlk hnm hKK hb0 hex hsz hAe ls hl hP hD hS hA => ?_
  have hl : lv_has ls 4 [(0, .int o), (1, .int a), (2, .int b)] := hl
  have X2 := X
  obtain ⟨hx, hb, hml, hown, hts⟩ := X2
  have hK := hKK.1
  obtain ⟨H, hH⟩ : ∃ H, H = s.heap := ⟨_, rfl⟩
  have hS : va_S A s.heap H [] := by rw [hH]; exact hS
  have hP : va_P D vwCl [] H := by rw [hH]; exact hP
  rw [← hH]
  refine lv_iload_n hx hb dJ5_newLength_0 rfl (lv_at hl 0 rfl) ?_
  refine lv_iload_n hx hb dJ5_newLength_1 rfl (lv_at hl 1 rfl) ?_
  refine lv_iload_n hx hb dJ5_newLength_2 rfl (lv_at hl 2 rfl) ?_
  refine va_mmax hx hb (hml.trans hl.1.symm) hown (hts _ q389) (hts _ q390) (hts _ q77) (hts _ q391) (Nat.le_of_ble_eq_true rfl) (Nat.le_of_ble_eq_true rfl) (by first | decide | (dsimp only; omega)) (by first | decide | (dsimp only; omega)) dJ5_newLength_3 ?_
  refine lv_iadd hx hb dJ5_newLength_6 ?_
  refine lv_istore_n (lv' := [(3, .int (o + (if a < b then b else a))), (0, .int o), (1, .int a), (2, .int b)]) hx hb dJ5_newLength_7 rfl hl (by decide) rfl (fun ls hl => ?_)
  refine lv_iconst (v := 0) hx hb dJ5_newLength_8 rfl ?_
  refine lv_iload_n hx hb dJ5_newLength_9 rfl (lv_at hl 0 rfl) ?_
  refine lv_icmp_ge (tgt := 21) hx hb dJ5_newLength_10 (by decide) (fun z9 => absurd z9 (h1)) (fun _ => ?_)
  refine lv_iload_n hx hb dJ5_newLength_13 rfl (lv_at hl 0 rfl) ?_
  refine lv_ldc (v := 2147483639) hx hb hown (hts _ q392) dJ5_newLength_14 ?_
  refine lv_icmp_gt (tgt := 21) hx hb dJ5_newLength_16 (by decide) (fun z9 => absurd z9 (h2)) (fun _ => ?_)
  refine lv_iload_n hx hb dJ5_newLength_19 rfl (lv_at hl 0 rfl) ?_
  refine W.widen (k := 0) (n := 0) (by first | decide | omega) (by first | decide | omega) ?_
  exact W.iret (v := o + (if a < b then b else a)) hx hb hrt (fun t ht hW => ⟨⟨(), rfl, by rw [ht]; exact hP, hD⟩, hS.F ht⟩) hS.2.2 dJ5_newLength_20
theorem v_L_copyOf2 {sz : Nat} {ea n n2 : Nat} {f : Nat → Option Nat} (hn : n ≤ n2) (h2 : n2 ≤ 134217728) : VmI l D ca zb yJ7_copyOf_2 cJ7_copyOf_2 4 (some (.array (.object "java/lang/Object"))) 1 1 n2 [.ref ea, .int (nI n2), .ref (zb 2)] [(ea, .inl (ca 1, n, .inr (.inr (.inr (.inr f)))))] (fun U => ∀ i y : Nat, i < n → f i = some y → va_Any "java/lang/Object" U U.heap y ∧ ¬ va_A [(ea, .inl (ca 1, n, .inr (.inr (.inr (.inr f)))))] sz y) sz (ι := Nat) (fun x9 => some (.ref x9)) (fun x9 => [(ea, .inl (ca 1, n, .inr (.inr (.inr (.inr f))))), (x9, .inl (ca 1, n2, .inr (.inr (.inr (.inr (va_cpy f (fun _ => none) 0 0 n))))))]) := by
  refine v_start (own := RJ7) (by decide) rfl (Nat.le_of_ble_eq_true rfl) fun p e s m below meth c A X hrt hlk hnm hKK hb0 hex hsz hAe ls hl hP hD hS hA => ?_
  have hl : lv_has ls 4 [(0, .ref ea), (1, .int (nI n2)), (2, .ref (zb 2))] := hl
  have X2 := X
  obtain ⟨hx, hb, hml, hown, hts⟩ := X2
  have hK := hKK.1
  obtain ⟨H, hH⟩ : ∃ H, H = s.heap := ⟨_, rfl⟩
  have hS : va_S A s.heap H [] := by rw [hH]; exact hS
  have hP : va_P D vwCl [(ea, .inl (ca 1, n, .inr (.inr (.inr (.inr f)))))] H := by rw [hH]; exact hP
  rw [← hH]
  refine lv_aload_n hx hb dJ7_copyOf_2_0 rfl (lv_at hl 2 rfl) ?_
  refine va_ldcM hx hb hown (hts _ q428) hKK.2.2.2.2.2.2.2.2.2.2.2 dJ7_copyOf_2_1 ?_
  refine lv_acmp_ne (rx := some (zb 2)) (ry := some (zb 2)) (tgt := 13) hx hb dJ7_copyOf_2_3 (by decide) (fun z9 => absurd (rfl) z9) (fun _ => ?_)
  refine lv_iload_n hx hb dJ7_copyOf_2_6 rfl (lv_at hl 1 rfl) ?_
  refine va_newq (C := "java/lang/Object") hx hb hown (hts _ q430) hKK.2.1.2.1 hK hP hD hS hA (nI_pos (by omega)) (nI_clamp (by omega)) (by omega) (by first | decide | (dsimp only; omega)) (by first | decide | (dsimp only; omega)) dJ7_copyOf_2_7 (fun q1 cA H hKn hP hD hS => ?_)
  obtain rfl := arr_eq1 hKn
  have hP : va_P D vwCl [(ea, .inl (ca 1, n, .inr (.inr (.inr (.inr f))))), (q1, .inl (ca 1, n2, .inr (.inr (.inr (.inr (fun _ => none))))))] H := hP
  have hD : va_D A [(ea, .inl (ca 1, n, .inr (.inr (.inr (.inr f))))), (q1, .inl (ca 1, n2, .inr (.inr (.inr (.inr (fun _ => none))))))] := hD
  refine lv_goto (tgt := 24) hx hb dJ7_copyOf_2_10 (by decide) ?_
  refine lv_astore_n (lv' := [(3, .ref q1), (0, .ref ea), (1, .int (nI n2)), (2, .ref (zb 2))]) hx hb dJ7_copyOf_2_24 rfl hl (by decide) rfl (fun ls hl => ?_)
  refine lv_aload_n hx hb dJ7_copyOf_2_25 rfl (lv_at hl 1 rfl) ?_
  refine lv_iconst (v := 0) hx hb dJ7_copyOf_2_26 rfl ?_
  refine lv_aload_n hx hb dJ7_copyOf_2_27 rfl (lv_at hl 0 rfl) ?_
  refine lv_iconst (v := 0) hx hb dJ7_copyOf_2_28 rfl ?_
  refine lv_aload_n hx hb dJ7_copyOf_2_29 rfl (lv_at hl 1 rfl) ?_
  refine va_alen (v := nI n) hx hb hK hP 0 1 rfl rfl rfl dJ7_copyOf_2_30 ?_
  refine lv_iload_n hx hb dJ7_copyOf_2_31 rfl (lv_at hl 2 rfl) ?_
  refine va_mmin hx hb (hml.trans hl.1.symm) hown (hts _ q431) (hts _ q432) (hts _ q77) (hts _ q433) (Nat.le_of_ble_eq_true rfl) (Nat.le_of_ble_eq_true rfl) (by first | decide | (dsimp only; omega)) (by first | decide | (dsimp only; omega)) dJ7_copyOf_2_32 ?_
  refine W.eq (g2 := F0 m 35 ls [.int (nI n), .int 0, .ref q1, .int 0, .ref ea]) (by rw [if_neg (nI_nlt hn (by omega))]) ?_
  refine va_copyM (E1 := "java/lang/Object") hx hb (hml.trans hl.1.symm) hown (hts _ q434) (hts _ q436) (hts _ q435) (hts _ q79) hK hP hD hS 0 1 1 1 rfl rfl rfl rfl (by decide) (by decide) (nI_pos (by omega)) (by rw [sb_cl0, nI_clamp (by omega)]; omega) (by rw [sb_cl0, nI_clamp (by omega)]; omega) (fun i hi y hy => by rw [sb_cl0, Nat.zero_add] at hy; rw [nI_clamp (by omega)] at hi; exact any_at (hex i y hi hy).1 (by rw [hAe]; exact (hex i y hi hy).2) hS) (Nat.le_of_ble_eq_true rfl) (Nat.le_of_ble_eq_true rfl) dJ7_copyOf_2_35 (fun H locs hP hD hS => ?_)
  rw [sb_cl0, nI_clamp (show n < 2 ^ 31 by omega)] at hP hD
  have hP : va_P D vwCl [(ea, .inl (ca 1, n, .inr (.inr (.inr (.inr f))))), (q1, .inl (ca 1, n2, .inr (.inr (.inr (.inr (va_cpy f (fun _ => none) 0 0 n))))))] H := hP
  have hD : va_D A [(ea, .inl (ca 1, n, .inr (.inr (.inr (.inr f))))), (q1, .inl (ca 1, n2, .inr (.inr (.inr (.inr (va_cpy f (fun _ => none) 0 0 n))))))] := hD
  refine lv_aload_n hx hb dJ7_copyOf_2_38 rfl (lv_at hl 0 rfl) ?_
  refine W.widen (k := 1) (n := n2) (by first | decide | omega) (by first | decide | omega) ?_
  exact W.aret (v := .ref q1) hx hb hrt (Or.inr ⟨_, rfl⟩) (Or.inr ⟨_, rfl⟩) (fun t ht hW => ⟨⟨q1, rfl, by rw [ht]; exact hP, hD⟩, hS.F ht⟩) hS.2.2 dJ7_copyOf_2_39
theorem v_L_copyOf {sz : Nat} {ea n n2 : Nat} {f : Nat → Option Nat} (hn : n ≤ n2) (h2 : n2 ≤ 134217728) : VmI l D ca zb yJ7_copyOf cJ7_copyOf 2 (some (.array (.object "java/lang/Object"))) 2 1 n2 [.ref ea, .int (nI n2)] [(ea, .inl (ca 1, n, .inr (.inr (.inr (.inr f)))))] (fun U => ∀ i y : Nat, i < n → f i = some y → va_Any "java/lang/Object" U U.heap y ∧ ¬ va_A [(ea, .inl (ca 1, n, .inr (.inr (.inr (.inr f)))))] sz y) sz (ι := Nat) (fun x9 => some (.ref x9)) (fun x9 => [(ea, .inl (ca 1, n, .inr (.inr (.inr (.inr f))))), (x9, .inl (ca 1, n2, .inr (.inr (.inr (.inr (va_cpy f (fun _ => none) 0 0 n))))))]) := by
  refine v_start (own := RJ7) (by decide) rfl (Nat.le_of_ble_eq_true rfl) fun p e s m below meth c A X hrt hlk hnm hKK hb0 hex hsz hAe ls hl hP hD hS hA => ?_
  have hl : lv_has ls 2 [(0, .ref ea), (1, .int (nI n2))] := hl
  have X2 := X
  obtain ⟨hx, hb, hml, hown, hts⟩ := X2
  have hK := hKK.1
  obtain ⟨H, hH⟩ : ∃ H, H = s.heap := ⟨_, rfl⟩
  have hS : va_S A s.heap H [] := by rw [hH]; exact hS
  have hP : va_P D vwCl [(ea, .inl (ca 1, n, .inr (.inr (.inr (.inr f)))))] H := by rw [hH]; exact hP
  rw [← hH]
  refine lv_aload_n hx hb dJ7_copyOf_0 rfl (lv_at hl 0 rfl) ?_
  refine lv_iload_n hx hb dJ7_copyOf_1 rfl (lv_at hl 1 rfl) ?_
  refine lv_aload_n hx hb dJ7_copyOf_2 rfl (lv_at hl 0 rfl) ?_
  refine va_getC (C := "[Ljava/lang/Object;") (mi := zb 2) hx hb (hml.trans hl.1.symm) hown (hts _ q399) (va_Dc.use (va_Dc.of (hKK.nw q2090 rfl))) (hts _ q2089) (hts _ q400) (hts _ q424) hKK.2.2.2.2.2.2.2.2.2.2.2 ⟨_, hP 0 _ rfl, rfl, va_nmO (hK.2 1 _ rfl).2 rfl⟩ (Nat.le_of_ble_eq_true rfl) (Nat.le_of_ble_eq_true rfl) dJ7_copyOf_3 ?_
  have hPc := hP.sub (ws' := [(ea, .inl (ca 1, n, .inr (.inr (.inr (.inr f)))))]) [0] rfl
  have hDc := hD.sub (ws' := [(ea, .inl (ca 1, n, .inr (.inr (.inr (.inr f)))))]) [0] (by decide) rfl
  have hFc := va_free (wc := [(ea, .inl (ca 1, n, .inr (.inr (.inr (.inr f)))))]) hD hS hA [0] rfl
  refine q_callE (va_runS (As := [.ref ea, .int (nI n2), .ref (zb 2)]) (rest := []) ⟨hx, hb, hml, hown, hts⟩ (v_L_copyOf2 (sz := H.size) (ea := ea) (n := n) (n2 := n2) (f := f) hn h2) (va_cwS 3 hts (lw_S q425 q426 q78 q427) rfl rfl rfl (by decide +kernel) ⟨Nat.le_of_ble_eq_true rfl, Nat.le_of_ble_eq_true rfl⟩) ⟨v_blind (fun _ _ _ _ h => h), fun U hU hW => ⟨rfl, by rw [hU], by rw [hU]; exact hPc, hKK.go hS hb0 hU hW, hDc.weaken (fun _ _ _ _ => trivial), (fun q h => hb0 q (hFc q h)), (fun i y hi hy => ⟨any_go (hex i y hi hy).1 (by rw [hAe]; exact (hex i y hi hy).2) hS hU hW, fun h => (hex i y hi hy).2 (by rw [← hAe]; exact hFc y h)⟩)⟩⟩ rfl rfl hl.1 rfl (lv_room (Nat.le_of_ble_eq_true rfl)) dJ7_copyOf_6 ⟨by first | decide | (dsimp only; omega), by first | decide | (dsimp only; omega)⟩) hS (fun q _ h => hFc q h) hFc (fun x1 t H1 locs ht hvm hB hz1 hk1 hS => ?_)
  obtain ⟨hP1, hD1⟩ := hB
  rw [ht] at hP1
  obtain ⟨q1, rfl⟩ : ∃ z, z = x1 := ⟨_, rfl⟩
  obtain ⟨hP, hD⟩ := va_join (wr := []) (w1 := [(ea, .inl (ca 1, n, .inr (.inr (.inr (.inr f))))), (q1, .inl (ca 1, n2, .inr (.inr (.inr (.inr (va_cpy f (fun _ => none) 0 0 n))))))]) hP hD [0] [] rfl rfl (by decide) (by decide) hk1 hFc hP1 hD1
  generalize H1 = H at hP hS ⊢
  have hP : va_P D vwCl [(ea, .inl (ca 1, n, .inr (.inr (.inr (.inr f))))), (q1, .inl (ca 1, n2, .inr (.inr (.inr (.inr (va_cpy f (fun _ => none) 0 0 n))))))] H := hP
  have hD : va_D A [(ea, .inl (ca 1, n, .inr (.inr (.inr (.inr f))))), (q1, .inl (ca 1, n2, .inr (.inr (.inr (.inr (va_cpy f (fun _ => none) 0 0 n))))))] := hD
  refine W.eq (g2 := F0 m 9 ls [.ref q1]) rfl ?_
  refine W.widen (k := 1) (n := n2) (by first | decide | omega) (by first | decide | omega) ?_
  exact W.aret (v := .ref q1) hx hb hrt (Or.inr ⟨_, rfl⟩) (Or.inr ⟨_, rfl⟩) (fun t ht hW => ⟨⟨q1, rfl, by rw [ht]; exact hP, hD⟩, hS.F ht⟩) hS.2.2 dJ7_copyOf_9
theorem v_L_grow2 {sz : Nat} {la ea n : Nat} {v0 v2 : Value} {f : Nat → Option Nat} (h1 : 2 ≤ n) (h2 : n ≤ 80000000) : VmI l D ca zb yJ2_grow_2 cJ2_grow_2 4 (some (.array (.object "java/lang/Object"))) 3 1 (n + n / 2) [.ref la, .int (nI (n + 1))] [(la, .inr (7, [v0, .ref ea, v2])), (ea, .inl (ca 1, n, .inr (.inr (.inr (.inr f)))))] (fun U => ∀ i y : Nat, i < n → f i = some y → va_Any "java/lang/Object" U U.heap y ∧ ¬ va_A [(la, .inr (7, [v0, .ref ea, v2])), (ea, .inl (ca 1, n, .inr (.inr (.inr (.inr f)))))] sz y) sz (ι := Nat) (fun x9 => some (.ref x9)) (fun x9 => [(la, .inr (7, [v0, .ref x9, v2])), (ea, .inl (ca 1, n, .inr (.inr (.inr (.inr f))))), (x9, .inl (ca 1, (n + n / 2), .inr (.inr (.inr (.inr (va_cpy f (fun _ => none) 0 0 n))))))]) := by
  refine v_start (own := RJ2) (by decide) rfl (Nat.le_of_ble_eq_true rfl) fun p e s m below meth c A X hrt hlk hnm hKK hb0 hex hsz hAe ls hl hP hD hS hA => ?_
  have hl : lv_has ls 4 [(0, .ref la), (1, .int (nI (n + 1)))] := hl
  have X2 := X
  obtain ⟨hx, hb, hml, hown, hts⟩ := X2
  have hK := hKK.1
  obtain ⟨H, hH⟩ : ∃ H, H = s.heap := ⟨_, rfl⟩
  have hS : va_S A s.heap H [] := by rw [hH]; exact hS
  have hP : va_P D vwCl [(la, .inr (7, [v0, .ref ea, v2])), (ea, .inl (ca 1, n, .inr (.inr (.inr (.inr f)))))] H := by rw [hH]; exact hP
  rw [← hH]
  refine lv_aload_n hx hb dJ2_grow_2_0 rfl (lv_at hl 0 rfl) ?_
  refine va_get (D := D) (ci := 7) (v := .ref ea) (C := RJ2) (T := TJ2) (N := 3) hx hb hts in_J2 hown hK hP 0 rfl rfl 1 (by decide) (hts _ q132) (fun _ h9 => h9) rfl dJ2_grow_2_1 ?_
  refine va_alen (v := nI n) hx hb hK hP 1 1 rfl rfl rfl dJ2_grow_2_4 ?_
  refine lv_istore_n (lv' := [(2, .int (nI n)), (0, .ref la), (1, .int (nI (n + 1)))]) hx hb dJ2_grow_2_5 rfl hl (by decide) rfl (fun ls hl => ?_)
  refine lv_iload_n hx hb dJ2_grow_2_6 rfl (lv_at hl 0 rfl) ?_
  refine lv_if_gt (tgt := 20) hx hb dJ2_grow_2_7 (by decide) (fun _ => ?_) (fun z9 => absurd (nI_lt (a := 0) (by omega) (by omega)) z9)
  refine lv_iload_n hx hb dJ2_grow_2_20 rfl (lv_at hl 0 rfl) ?_
  refine lv_iload_n hx hb dJ2_grow_2_21 rfl (lv_at hl 2 rfl) ?_
  refine lv_iload_n hx hb dJ2_grow_2_22 rfl (lv_at hl 0 rfl) ?_
  refine lv_isub hx hb dJ2_grow_2_23 ?_
  refine lv_iload_n hx hb dJ2_grow_2_24 rfl (lv_at hl 0 rfl) ?_
  refine lv_iconst (v := 1) hx hb dJ2_grow_2_25 rfl ?_
  refine lv_ishr hx hb dJ2_grow_2_26 ?_
  have hPc := hP.sub (ws' := []) [] rfl
  have hDc := hD.sub (ws' := []) [] (by decide) rfl
  have hFc := va_free (wc := []) hD hS hA [] rfl
  refine q_callE (va_runS (As := [.int (nI n), .int ((nI (n + 1)) - (nI n)), .int ((nI n) >>> (1 &&& 31))]) (rest := []) ⟨hx, hb, hml, hown, hts⟩ (v_L_newLen (sz := H.size) (o := nI n) (a := nI (n + 1) - nI n) (b := nI n >>> (1 &&& 31)) (by rw [grow_eq h1 h2]; exact nI_nle (by omega) (by omega)) (by rw [grow_eq h1 h2]; exact grow_max h2)) (va_cwS 3 hts (lw_S q386 q387 q76 q388) rfl rfl rfl (by decide +kernel) ⟨Nat.le_of_ble_eq_true rfl, Nat.le_of_ble_eq_true rfl⟩) ⟨v_blind (fun _ _ _ _ h => h), fun U hU hW => ⟨rfl, by rw [hU], by rw [hU]; exact hPc, hKK.go hS hb0 hU hW, hDc.weaken (fun _ _ _ _ => trivial), (fun q h => hb0 q (hFc q h)), trivial⟩⟩ rfl rfl hl.1 rfl (lv_room (Nat.le_of_ble_eq_true rfl)) dJ2_grow_2_27 ⟨by first | decide | (dsimp only; omega), by first | decide | (dsimp only; omega)⟩) hS (fun q _ h => hFc q h) hFc (fun x1 t H1 locs ht hvm hB hz1 hk1 hS => ?_)
  obtain ⟨hP1, hD1⟩ := hB
  rw [ht] at hP1
  cases x1
  obtain ⟨hP, hD⟩ := va_join (wr := [(la, .inr (7, [v0, .ref ea, v2])), (ea, .inl (ca 1, n, .inr (.inr (.inr (.inr f)))))]) (w1 := []) hP hD [] [0, 1] rfl rfl (by decide) (by decide) hk1 hFc hP1 hD1
  generalize H1 = H at hP hS ⊢
  have hP : va_P D vwCl [(la, .inr (7, [v0, .ref ea, v2])), (ea, .inl (ca 1, n, .inr (.inr (.inr (.inr f)))))] H := hP
  have hD : va_D A [(la, .inr (7, [v0, .ref ea, v2])), (ea, .inl (ca 1, n, .inr (.inr (.inr (.inr f)))))] := hD
  refine W.eq (g2 := F0 m 30 ls [.int ((nI n) + (if (nI (n + 1) - nI n) < (nI n >>> (1 &&& 31)) then (nI n >>> (1 &&& 31)) else (nI (n + 1) - nI n)))]) rfl ?_
  refine W.eq (g2 := F0 m 30 ls [.int (nI (n + n / 2))]) (by rw [grow_eq h1 h2]) ?_
  refine lv_istore_n (lv' := [(3, .int (nI (n + n / 2))), (2, .int (nI n)), (0, .ref la), (1, .int (nI (n + 1)))]) hx hb dJ2_grow_2_30 rfl hl (by decide) rfl (fun ls hl => ?_)
  refine lv_aload_n hx hb dJ2_grow_2_31 rfl (lv_at hl 2 rfl) ?_
  refine lv_aload_n hx hb dJ2_grow_2_32 rfl (lv_at hl 2 rfl) ?_
  refine va_get (D := D) (ci := 7) (v := .ref ea) (C := RJ2) (T := TJ2) (N := 3) hx hb hts in_J2 hown hK hP 0 rfl rfl 1 (by decide) (hts _ q132) (fun _ h9 => h9) rfl dJ2_grow_2_33 ?_
  refine lv_iload_n hx hb dJ2_grow_2_36 rfl (lv_at hl 0 rfl) ?_
  have hPc := hP.sub (ws' := [(ea, .inl (ca 1, n, .inr (.inr (.inr (.inr f)))))]) [1] rfl
  have hDc := hD.sub (ws' := [(ea, .inl (ca 1, n, .inr (.inr (.inr (.inr f)))))]) [1] (by decide) rfl
  have hFc := va_free (wc := [(ea, .inl (ca 1, n, .inr (.inr (.inr (.inr f)))))]) hD hS hA [1] rfl
  refine q_callE (va_runS (As := [.ref ea, .int (nI (n + n / 2))]) (rest := [.ref la]) ⟨hx, hb, hml, hown, hts⟩ (v_L_copyOf (sz := H.size) (ea := ea) (n := n) (n2 := n + n / 2) (f := f) (by omega) (by omega)) (va_cwS 2 hts (lw_S q396 q397 q78 q398) rfl rfl rfl (by decide +kernel) ⟨Nat.le_of_ble_eq_true rfl, Nat.le_of_ble_eq_true rfl⟩) ⟨v_blind (fun _ _ _ _ h => h), fun U hU hW => ⟨rfl, by rw [hU], by rw [hU]; exact hPc, hKK.go hS hb0 hU hW, hDc.weaken (fun _ _ _ _ => trivial), (fun q h => hb0 q (hFc q h)), (fun i y hi hy => ⟨any_go (hex i y hi hy).1 (by rw [hAe]; exact (hex i y hi hy).2) hS hU hW, fun h => (hex i y hi hy).2 (by rw [← hAe]; exact hFc y h)⟩)⟩⟩ rfl rfl hl.1 rfl (lv_room (Nat.le_of_ble_eq_true rfl)) dJ2_grow_2_37 ⟨by first | decide | (dsimp only; omega), by first | decide | (dsimp only; omega)⟩) hS (fun q _ h => hFc q h) hFc (fun x2 t H1 locs ht hvm hB hz1 hk1 hS => ?_)
  obtain ⟨hP1, hD1⟩ := hB
  rw [ht] at hP1
  obtain ⟨q1, rfl⟩ : ∃ z, z = x2 := ⟨_, rfl⟩
  obtain ⟨hP, hD⟩ := va_join (wr := [(la, .inr (7, [v0, .ref ea, v2]))]) (w1 := [(ea, .inl (ca 1, n, .inr (.inr (.inr (.inr f))))), (q1, .inl (ca 1, (n + n / 2), .inr (.inr (.inr (.inr (va_cpy f (fun _ => none) 0 0 n))))))]) hP hD [1] [0] rfl rfl (by decide) (by decide) hk1 hFc hP1 hD1
  generalize H1 = H at hP hS ⊢
  have hP : va_P D vwCl [(la, .inr (7, [v0, .ref ea, v2])), (ea, .inl (ca 1, n, .inr (.inr (.inr (.inr f))))), (q1, .inl (ca 1, (n + n / 2), .inr (.inr (.inr (.inr (va_cpy f (fun _ => none) 0 0 n))))))] H := hP
  have hD : va_D A [(la, .inr (7, [v0, .ref ea, v2])), (ea, .inl (ca 1, n, .inr (.inr (.inr (.inr f))))), (q1, .inl (ca 1, (n + n / 2), .inr (.inr (.inr (.inr (va_cpy f (fun _ => none) 0 0 n))))))] := hD
  refine W.eq (g2 := F0 m 40 ls [.ref q1, .ref la]) rfl ?_
  refine lv_dup_x1 hx hb dJ2_grow_2_40 rfl rfl ?_
  refine va_put (D := D) (ci := 7) (v := .ref q1) (ty := .array (.object "java/lang/Object")) (C := RJ2) (T := TJ2) (N := 3) hx hb hts in_J2 tyJ2 tyJ2_ok nmJ2 hown hK hP hD hS 0 rfl rfl 1 (by decide) (hts _ q132) (fun _ h9 => h9) rfl (by decide +kernel) rfl rfl (Nat.le_of_ble_eq_true rfl) dJ2_grow_2_41 (fun H locs hP hD hS => ?_)
  have hP : va_P D vwCl [(la, .inr (7, [v0, .ref q1, v2])), (ea, .inl (ca 1, n, .inr (.inr (.inr (.inr f))))), (q1, .inl (ca 1, (n + n / 2), .inr (.inr (.inr (.inr (va_cpy f (fun _ => none) 0 0 n))))))] H := hP
  have hD : va_D A [(la, .inr (7, [v0, .ref q1, v2])), (ea, .inl (ca 1, n, .inr (.inr (.inr (.inr f))))), (q1, .inl (ca 1, (n + n / 2), .inr (.inr (.inr (.inr (va_cpy f (fun _ => none) 0 0 n))))))] := hD
  refine W.widen (k := 1) (n := n + n / 2) (by first | decide | omega) (by first | decide | omega) ?_
  exact W.aret (v := .ref q1) hx hb hrt (Or.inr ⟨_, rfl⟩) (Or.inr ⟨_, rfl⟩) (fun t ht hW => ⟨⟨q1, rfl, by rw [ht]; exact hP, hD⟩, hS.F ht⟩) hS.2.2 dJ2_grow_2_44
theorem v_L_grow {sz : Nat} {la ea n : Nat} {v0 : Value} {f : Nat → Option Nat} (h1 : 2 ≤ n) (h2 : n ≤ 80000000) : VmI l D ca zb yJ2_grow cJ2_grow 1 (some (.array (.object "java/lang/Object"))) 4 1 (n + n / 2) [.ref la] [(la, .inr (7, [v0, .ref ea, .int (nI n)])), (ea, .inl (ca 1, n, .inr (.inr (.inr (.inr f)))))] (fun U => ∀ i y : Nat, i < n → f i = some y → va_Any "java/lang/Object" U U.heap y ∧ ¬ va_A [(la, .inr (7, [v0, .ref ea, .int (nI n)])), (ea, .inl (ca 1, n, .inr (.inr (.inr (.inr f)))))] sz y) sz (ι := Nat) (fun x9 => some (.ref x9)) (fun x9 => [(la, .inr (7, [v0, .ref x9, .int (nI n)])), (ea, .inl (ca 1, n, .inr (.inr (.inr (.inr f))))), (x9, .inl (ca 1, (n + n / 2), .inr (.inr (.inr (.inr (va_cpy f (fun _ => none) 0 0 n))))))]) := by
  refine v_start (own := RJ2) (by decide) rfl (Nat.le_of_ble_eq_true rfl) fun p e s m below meth c A X hrt hlk hnm hKK hb0 hex hsz hAe ls hl hP hD hS hA => ?_
  have hl : lv_has ls 1 [(0, .ref la)] := hl
  have X2 := X
  obtain ⟨hx, hb, hml, hown, hts⟩ := X2
  have hK := hKK.1
  obtain ⟨H, hH⟩ : ∃ H, H = s.heap := ⟨_, rfl⟩
  have hS : va_S A s.heap H [] := by rw [hH]; exact hS
  have hP : va_P D vwCl [(la, .inr (7, [v0, .ref ea, .int (nI n)])), (ea, .inl (ca 1, n, .inr (.inr (.inr (.inr f)))))] H := by rw [hH]; exact hP
  rw [← hH]
  refine lv_aload_n hx hb dJ2_grow_0 rfl (lv_at hl 0 rfl) ?_
  refine lv_aload_n hx hb dJ2_grow_1 rfl (lv_at hl 0 rfl) ?_
  refine va_get (D := D) (ci := 7) (v := .int (nI n)) (C := RJ2) (T := TJ2) (N := 3) hx hb hts in_J2 hown hK hP 0 rfl rfl 2 (by decide) (hts _ q133) (fun _ h9 => h9) rfl dJ2_grow_2 ?_
  refine lv_iconst (v := 1) hx hb dJ2_grow_5 rfl ?_
  refine lv_iadd hx hb dJ2_grow_6 ?_
  refine W.eq (g2 := F0 m 7 ls [.int (nI (n + 1)), .ref la]) (by rw [nI_1]) ?_
  have hPc := hP.sub (ws' := [(la, .inr (7, [v0, .ref ea, .int (nI n)])), (ea, .inl (ca 1, n, .inr (.inr (.inr (.inr f)))))]) [0, 1] rfl
  have hDc := hD.sub (ws' := [(la, .inr (7, [v0, .ref ea, .int (nI n)])), (ea, .inl (ca 1, n, .inr (.inr (.inr (.inr f)))))]) [0, 1] (by decide) rfl
  have hFc := va_free (wc := [(la, .inr (7, [v0, .ref ea, .int (nI n)])), (ea, .inl (ca 1, n, .inr (.inr (.inr (.inr f)))))]) hD hS hA [0, 1] rfl
  refine q_callE (va_runV (As := [.int (nI (n + 1))]) (rest := []) ⟨hx, hb, hml, hown, hts⟩ (v_L_grow2 (sz := H.size) (la := la) (ea := ea) (n := n) (v0 := v0) (v2 := .int (nI n)) (f := f) h1 h2) (cwV 1 hts (lw_V q382 q384 qs3 q69 q385) rfl rfl rfl (by decide +kernel) ⟨Nat.le_of_ble_eq_true rfl, Nat.le_of_ble_eq_true rfl⟩) ⟨v_blind (fun _ _ _ _ h => h), va_recv hK hPc (ci := 7) (q0 := 0) rfl rfl, fun U hU hW => ⟨rfl, by rw [hU], by rw [hU]; exact hPc, hKK.go hS hb0 hU hW, hDc.weaken (fun _ _ _ _ => trivial), (fun q h => hb0 q (hFc q h)), (fun i y hi hy => ⟨any_go (hex i y hi hy).1 (by rw [hAe]; exact (hex i y hi hy).2) hS hU hW, fun h => (hex i y hi hy).2 (by rw [← hAe]; exact hFc y h)⟩)⟩⟩ rfl rfl hl.1 rfl (lv_room (Nat.le_of_ble_eq_true rfl)) dJ2_grow_7 ⟨by first | decide | (dsimp only; omega), by first | decide | (dsimp only; omega)⟩) hS (fun q _ h => hFc q h) hFc (fun x1 t H1 locs ht hvm hB hz1 hk1 hS => ?_)
  obtain ⟨hP1, hD1⟩ := hB
  rw [ht] at hP1
  obtain ⟨q1, rfl⟩ : ∃ z, z = x1 := ⟨_, rfl⟩
  obtain ⟨hP, hD⟩ := va_join (wr := []) (w1 := [(la, .inr (7, [v0, .ref q1, .int (nI n)])), (ea, .inl (ca 1, n, .inr (.inr (.inr (.inr f))))), (q1, .inl (ca 1, (n + n / 2), .inr (.inr (.inr (.inr (va_cpy f (fun _ => none) 0 0 n))))))]) hP hD [0, 1] [] rfl rfl (by decide) (by decide) hk1 hFc hP1 hD1
  generalize H1 = H at hP hS ⊢
  have hP : va_P D vwCl [(la, .inr (7, [v0, .ref q1, .int (nI n)])), (ea, .inl (ca 1, n, .inr (.inr (.inr (.inr f))))), (q1, .inl (ca 1, (n + n / 2), .inr (.inr (.inr (.inr (va_cpy f (fun _ => none) 0 0 n))))))] H := hP
  have hD : va_D A [(la, .inr (7, [v0, .ref q1, .int (nI n)])), (ea, .inl (ca 1, n, .inr (.inr (.inr (.inr f))))), (q1, .inl (ca 1, (n + n / 2), .inr (.inr (.inr (.inr (va_cpy f (fun _ => none) 0 0 n))))))] := hD
  refine W.eq (g2 := F0 m 10 ls [.ref q1]) rfl ?_
  refine W.widen (k := 1) (n := n + n / 2) (by first | decide | omega) (by first | decide | omega) ?_
  exact W.aret (v := .ref q1) hx hb hrt (Or.inr ⟨_, rfl⟩) (Or.inr ⟨_, rfl⟩) (fun t ht hW => ⟨⟨q1, rfl, by rw [ht]; exact hP, hD⟩, hS.F ht⟩) hS.2.2 dJ2_grow_10
theorem v_L_addR2 {sz : Nat} {la ea n k x : Nat} {v0 : Value} {f : Nat → Option Nat} (hk : k < n) (hn : n < 2147483648) : VmI l D ca zb yJ2_add_2 cJ2_add_2 4 none 0 0 0 [.ref la, .ref x, .ref ea, .int (nI k)] [(la, .inr (7, [v0, .ref ea, .int (nI k)])), (ea, .inl (ca 1, n, .inr (.inr (.inr (.inr f)))))] (fun U => va_Any "java/lang/Object" U U.heap x ∧ ¬ va_A [(la, .inr (7, [v0, .ref ea, .int (nI k)])), (ea, .inl (ca 1, n, .inr (.inr (.inr (.inr f)))))] sz x) sz (ι := Unit) (fun x9 => none) (fun x9 => [(la, .inr (7, [v0, .ref ea, .int (nI (k + 1))])), (ea, .inl (ca 1, n, .inr (.inr (.inr (.inr (va_up f k (some x)))))))]) := by
  refine v_start (own := RJ2) (by decide) rfl (Nat.le_of_ble_eq_true rfl) fun p e s m below meth c A X hrt hlk hnm hKK hb0 hex hsz hAe ls hl hP hD hS hA => ?_
  have hl : lv_has ls 4 [(0, .ref la), (1, .ref x), (2, .ref ea), (3, .int (nI k))] := hl
  have X2 := X
  obtain ⟨hx, hb, hml, hown, hts⟩ := X2
  have hK := hKK.1
  obtain ⟨H, hH⟩ : ∃ H, H = s.heap := ⟨_, rfl⟩
  have hS : va_S A s.heap H [] := by rw [hH]; exact hS
  have hP : va_P D vwCl [(la, .inr (7, [v0, .ref ea, .int (nI k)])), (ea, .inl (ca 1, n, .inr (.inr (.inr (.inr f)))))] H := by rw [hH]; exact hP
  rw [← hH]
  refine lv_iload_n hx hb dJ2_add_2_0 rfl (lv_at hl 3 rfl) ?_
  refine lv_aload_n hx hb dJ2_add_2_1 rfl (lv_at hl 2 rfl) ?_
  refine va_alen (v := nI n) hx hb hK hP 1 1 rfl rfl rfl dJ2_add_2_2 ?_
  refine lv_icmp_ne (tgt := 11) hx hb dJ2_add_2_3 (by decide) (fun _ => ?_) (fun z9 => absurd z9 (fun z => absurd ((nI_eq (by omega) (by omega)).mp z) (by omega)))
  refine lv_aload_n hx hb dJ2_add_2_11 rfl (lv_at hl 2 rfl) ?_
  refine lv_iload_n hx hb dJ2_add_2_12 rfl (lv_at hl 3 rfl) ?_
  refine lv_aload_n hx hb dJ2_add_2_13 rfl (lv_at hl 1 rfl) ?_
  refine va_astqM hx hb hK hP hD hS 1 1 rfl rfl (any_at hex.1 (by rw [hAe]; exact hex.2) hS) (vp_in_nI hk (by omega)) dJ2_add_2_14 (fun H locs hP hD hS => ?_)
  rw [nI_clamp (show k < 2 ^ 31 by omega)] at hP hD
  have hP : va_P D vwCl [(la, .inr (7, [v0, .ref ea, .int (nI k)])), (ea, .inl (ca 1, n, .inr (.inr (.inr (.inr (va_up f k (some x)))))))] H := hP
  have hD : va_D A [(la, .inr (7, [v0, .ref ea, .int (nI k)])), (ea, .inl (ca 1, n, .inr (.inr (.inr (.inr (va_up f k (some x)))))))] := hD
  refine lv_aload_n hx hb dJ2_add_2_15 rfl (lv_at hl 0 rfl) ?_
  refine lv_iload_n hx hb dJ2_add_2_16 rfl (lv_at hl 3 rfl) ?_
  refine lv_iconst (v := 1) hx hb dJ2_add_2_17 rfl ?_
  refine lv_iadd hx hb dJ2_add_2_18 ?_
  refine W.eq (g2 := F0 m 19 ls [.int (nI (k + 1)), .ref la]) (by rw [nI_1]) ?_
  refine va_put (D := D) (ci := 7) (v := .int (nI (k + 1))) (ty := .int) (C := RJ2) (T := TJ2) (N := 3) hx hb hts in_J2 tyJ2 tyJ2_ok nmJ2 hown hK hP hD hS 0 rfl rfl 2 (by decide) (hts _ q133) (fun _ h9 => h9) rfl (by decide +kernel) rfl rfl (Nat.le_of_ble_eq_true rfl) dJ2_add_2_19 (fun H locs hP hD hS => ?_)
  have hP : va_P D vwCl [(la, .inr (7, [v0, .ref ea, .int (nI (k + 1))])), (ea, .inl (ca 1, n, .inr (.inr (.inr (.inr (va_up f k (some x)))))))] H := hP
  have hD : va_D A [(la, .inr (7, [v0, .ref ea, .int (nI (k + 1))])), (ea, .inl (ca 1, n, .inr (.inr (.inr (.inr (va_up f k (some x)))))))] := hD
  refine W.widen (k := 0) (n := 0) (by first | decide | omega) (by first | decide | omega) ?_
  exact W.vret hx hb hrt (fun t ht hW => ⟨⟨(), rfl, by rw [ht]; exact hP, hD⟩, hS.F ht⟩) hS.2.2 dJ2_add_2_22
theorem v_L_addR {sz : Nat} {la ea n k x : Nat} {μ : Int32} {f : Nat → Option Nat} (hk : k < n) (hn : n < 2147483648) : VmI l D ca zb yJ2_add cJ2_add 2 (some .boolean) 1 0 0 [.ref la, .ref x] [(la, .inr (7, [.int μ, .ref ea, .int (nI k)])), (ea, .inl (ca 1, n, .inr (.inr (.inr (.inr f)))))] (fun U => va_Any "java/lang/Object" U U.heap x ∧ ¬ va_A [(la, .inr (7, [.int μ, .ref ea, .int (nI k)])), (ea, .inl (ca 1, n, .inr (.inr (.inr (.inr f)))))] sz x) sz (ι := Unit) (fun x9 => some (.int 1)) (fun x9 => [(la, .inr (7, [.int (μ + 1), .ref ea, .int (nI (k + 1))])), (ea, .inl (ca 1, n, .inr (.inr (.inr (.inr (va_up f k (some x)))))))]) := by
  refine v_start (own := RJ2) (by decide) rfl (Nat.le_of_ble_eq_true rfl) fun p e s m below meth c A X hrt hlk hnm hKK hb0 hex hsz hAe ls hl hP hD hS hA => ?_
  have hl : lv_has ls 2 [(0, .ref la), (1, .ref x)] := hl
  have X2 := X
  obtain ⟨hx, hb, hml, hown, hts⟩ := X2
  have hK := hKK.1
  obtain ⟨H, hH⟩ : ∃ H, H = s.heap := ⟨_, rfl⟩
  have hS : va_S A s.heap H [] := by rw [hH]; exact hS
  have hP : va_P D vwCl [(la, .inr (7, [.int μ, .ref ea, .int (nI k)])), (ea, .inl (ca 1, n, .inr (.inr (.inr (.inr f)))))] H := by rw [hH]; exact hP
  rw [← hH]
  refine lv_aload_n hx hb dJ2_add_0 rfl (lv_at hl 0 rfl) ?_
  refine lv_dup hx hb dJ2_add_1 rfl ?_
  refine va_get (D := D) (ci := 7) (v := .int μ) (C := RJ2) (T := TJ2) (N := 3) hx hb hts in_J2 hown hK hP 0 rfl rfl 0 (by decide) (hts _ q135) (fun x9 h9 => u_same (hts _ q136) x9 h9) rfl dJ2_add_2 ?_
  refine lv_iconst (v := 1) hx hb dJ2_add_5 rfl ?_
  refine lv_iadd hx hb dJ2_add_6 ?_
  refine va_put (D := D) (ci := 7) (v := .int (μ + 1)) (ty := .int) (C := RJ2) (T := TJ2) (N := 3) hx hb hts in_J2 tyJ2 tyJ2_ok nmJ2 hown hK hP hD hS 0 rfl rfl 0 (by decide) (hts _ q135) (fun x9 h9 => u_same (hts _ q136) x9 h9) rfl (by decide +kernel) rfl rfl (Nat.le_of_ble_eq_true rfl) dJ2_add_7 (fun H locs hP hD hS => ?_)
  have hP : va_P D vwCl [(la, .inr (7, [.int (μ + 1), .ref ea, .int (nI k)])), (ea, .inl (ca 1, n, .inr (.inr (.inr (.inr f)))))] H := hP
  have hD : va_D A [(la, .inr (7, [.int (μ + 1), .ref ea, .int (nI k)])), (ea, .inl (ca 1, n, .inr (.inr (.inr (.inr f)))))] := hD
  refine lv_aload_n hx hb dJ2_add_10 rfl (lv_at hl 0 rfl) ?_
  refine lv_aload_n hx hb dJ2_add_11 rfl (lv_at hl 1 rfl) ?_
  refine lv_aload_n hx hb dJ2_add_12 rfl (lv_at hl 0 rfl) ?_
  refine va_get (D := D) (ci := 7) (v := .ref ea) (C := RJ2) (T := TJ2) (N := 3) hx hb hts in_J2 hown hK hP 0 rfl rfl 1 (by decide) (hts _ q132) (fun _ h9 => h9) rfl dJ2_add_13 ?_
  refine lv_aload_n hx hb dJ2_add_16 rfl (lv_at hl 0 rfl) ?_
  refine va_get (D := D) (ci := 7) (v := .int (nI k)) (C := RJ2) (T := TJ2) (N := 3) hx hb hts in_J2 hown hK hP 0 rfl rfl 2 (by decide) (hts _ q133) (fun _ h9 => h9) rfl dJ2_add_17 ?_
  have hPc := hP.sub (ws' := [(la, .inr (7, [.int (μ + 1), .ref ea, .int (nI k)])), (ea, .inl (ca 1, n, .inr (.inr (.inr (.inr f)))))]) [0, 1] rfl
  have hDc := hD.sub (ws' := [(la, .inr (7, [.int (μ + 1), .ref ea, .int (nI k)])), (ea, .inl (ca 1, n, .inr (.inr (.inr (.inr f)))))]) [0, 1] (by decide) rfl
  have hFc := va_free (wc := [(la, .inr (7, [.int (μ + 1), .ref ea, .int (nI k)])), (ea, .inl (ca 1, n, .inr (.inr (.inr (.inr f)))))]) hD hS hA [0, 1] rfl
  refine q_callE (va_runV (As := [.ref x, .ref ea, .int (nI k)]) (rest := []) ⟨hx, hb, hml, hown, hts⟩ (v_L_addR2 (sz := H.size) (la := la) (ea := ea) (n := n) (k := k) (x := x) (v0 := .int (μ + 1)) (f := f) hk hn) (cwV 3 hts (lw_V q374 q376 qs1 q69 q377) rfl rfl rfl (by decide +kernel) ⟨Nat.le_of_ble_eq_true rfl, Nat.le_of_ble_eq_true rfl⟩) ⟨v_blind (fun _ _ _ _ h => h), va_recv hK hPc (ci := 7) (q0 := 0) rfl rfl, fun U hU hW => ⟨rfl, by rw [hU], by rw [hU]; exact hPc, hKK.go hS hb0 hU hW, hDc.weaken (fun _ _ _ _ => trivial), (fun q h => hb0 q (hFc q h)), ⟨any_go hex.1 (by rw [hAe]; exact hex.2) hS hU hW, fun h => hex.2 (by rw [← hAe]; exact hFc x h)⟩⟩⟩ rfl rfl hl.1 rfl (lv_room (Nat.le_of_ble_eq_true rfl)) dJ2_add_20 ⟨by first | decide | (dsimp only; omega), by first | decide | (dsimp only; omega)⟩) hS (fun q _ h => hFc q h) hFc (fun x1 t H1 locs ht hvm hB hz1 hk1 hS => ?_)
  obtain ⟨hP1, hD1⟩ := hB
  rw [ht] at hP1
  cases x1
  obtain ⟨hP, hD⟩ := va_join (wr := []) (w1 := [(la, .inr (7, [.int (μ + 1), .ref ea, .int (nI (k + 1))])), (ea, .inl (ca 1, n, .inr (.inr (.inr (.inr (va_up f k (some x)))))))]) hP hD [0, 1] [] rfl rfl (by decide) (by decide) hk1 hFc hP1 hD1
  generalize H1 = H at hP hS ⊢
  have hP : va_P D vwCl [(la, .inr (7, [.int (μ + 1), .ref ea, .int (nI (k + 1))])), (ea, .inl (ca 1, n, .inr (.inr (.inr (.inr (va_up f k (some x)))))))] H := hP
  have hD : va_D A [(la, .inr (7, [.int (μ + 1), .ref ea, .int (nI (k + 1))])), (ea, .inl (ca 1, n, .inr (.inr (.inr (.inr (va_up f k (some x)))))))] := hD
  refine W.eq (g2 := F0 m 23 ls []) rfl ?_
  refine lv_iconst (v := 1) hx hb dJ2_add_23 rfl ?_
  refine W.widen (k := 0) (n := 0) (by first | decide | omega) (by first | decide | omega) ?_
  exact W.zret (v := 1) hx hb hrt (gb_n (Or.inr rfl)) (fun t ht hW => ⟨⟨(), rfl, by rw [ht]; exact hP, hD⟩, hS.F ht⟩) hS.2.2 dJ2_add_24
theorem v_L_addG2 {sz : Nat} {la ea n x : Nat} {v0 : Value} {f : Nat → Option Nat} (h1 : 2 ≤ n) (h2 : n ≤ 80000000) : VmI l D ca zb yJ2_add_2 cJ2_add_2 4 none 5 1 (n + n / 2) [.ref la, .ref x, .ref ea, .int (nI n)] [(la, .inr (7, [v0, .ref ea, .int (nI n)])), (ea, .inl (ca 1, n, .inr (.inr (.inr (.inr f)))))] (fun U => (va_Any "java/lang/Object" U U.heap x ∧ ¬ va_A [(la, .inr (7, [v0, .ref ea, .int (nI n)])), (ea, .inl (ca 1, n, .inr (.inr (.inr (.inr f)))))] sz x) ∧ ∀ i y : Nat, i < n → f i = some y → va_Any "java/lang/Object" U U.heap y ∧ ¬ va_A [(la, .inr (7, [v0, .ref ea, .int (nI n)])), (ea, .inl (ca 1, n, .inr (.inr (.inr (.inr f)))))] sz y) sz (ι := Nat) (fun x9 => none) (fun x9 => [(la, .inr (7, [v0, .ref x9, .int (nI (n + 1))])), (ea, .inl (ca 1, n, .inr (.inr (.inr (.inr f))))), (x9, .inl (ca 1, (n + n / 2), .inr (.inr (.inr (.inr (va_up (va_cpy f (fun _ => none) 0 0 n) n (some x)))))))]) := by
  refine v_start (own := RJ2) (by decide) rfl (Nat.le_of_ble_eq_true rfl) fun p e s m below meth c A X hrt hlk hnm hKK hb0 hex hsz hAe ls hl hP hD hS hA => ?_
  have hl : lv_has ls 4 [(0, .ref la), (1, .ref x), (2, .ref ea), (3, .int (nI n))] := hl
  have X2 := X
  obtain ⟨hx, hb, hml, hown, hts⟩ := X2
  have hK := hKK.1
  obtain ⟨H, hH⟩ : ∃ H, H = s.heap := ⟨_, rfl⟩
  have hS : va_S A s.heap H [] := by rw [hH]; exact hS
  have hP : va_P D vwCl [(la, .inr (7, [v0, .ref ea, .int (nI n)])), (ea, .inl (ca 1, n, .inr (.inr (.inr (.inr f)))))] H := by rw [hH]; exact hP
  rw [← hH]
  refine lv_iload_n hx hb dJ2_add_2_0 rfl (lv_at hl 3 rfl) ?_
  refine lv_aload_n hx hb dJ2_add_2_1 rfl (lv_at hl 2 rfl) ?_
  refine va_alen (v := nI n) hx hb hK hP 1 1 rfl rfl rfl dJ2_add_2_2 ?_
  refine lv_icmp_ne (tgt := 11) hx hb dJ2_add_2_3 (by decide) (fun z9 => absurd (rfl) z9) (fun _ => ?_)
  refine lv_aload_n hx hb dJ2_add_2_6 rfl (lv_at hl 0 rfl) ?_
  have hPc := hP.sub (ws' := [(la, .inr (7, [v0, .ref ea, .int (nI n)])), (ea, .inl (ca 1, n, .inr (.inr (.inr (.inr f)))))]) [0, 1] rfl
  have hDc := hD.sub (ws' := [(la, .inr (7, [v0, .ref ea, .int (nI n)])), (ea, .inl (ca 1, n, .inr (.inr (.inr (.inr f)))))]) [0, 1] (by decide) rfl
  have hFc := va_free (wc := [(la, .inr (7, [v0, .ref ea, .int (nI n)])), (ea, .inl (ca 1, n, .inr (.inr (.inr (.inr f)))))]) hD hS hA [0, 1] rfl
  refine q_callE (va_runV (As := []) (rest := []) ⟨hx, hb, hml, hown, hts⟩ (v_L_grow (sz := H.size) (la := la) (ea := ea) (n := n) (v0 := v0) (f := f) h1 h2) (cwV 0 hts (lw_V q378 q380 qs2 q69 q381) rfl rfl rfl (by decide +kernel) ⟨Nat.le_of_ble_eq_true rfl, Nat.le_of_ble_eq_true rfl⟩) ⟨v_blind (fun _ _ _ _ h => h), va_recv hK hPc (ci := 7) (q0 := 0) rfl rfl, fun U hU hW => ⟨rfl, by rw [hU], by rw [hU]; exact hPc, hKK.go hS hb0 hU hW, hDc.weaken (fun _ _ _ _ => trivial), (fun q h => hb0 q (hFc q h)), (fun i y hi hy => ⟨any_go (hex.2 i y hi hy).1 (by rw [hAe]; exact (hex.2 i y hi hy).2) hS hU hW, fun h => (hex.2 i y hi hy).2 (by rw [← hAe]; exact hFc y h)⟩)⟩⟩ rfl rfl hl.1 rfl (lv_room (Nat.le_of_ble_eq_true rfl)) dJ2_add_2_7 ⟨by first | decide | (dsimp only; omega), by first | decide | (dsimp only; omega)⟩) hS (fun q _ h => hFc q h) hFc (fun x1 t H1 locs ht hvm hB hz1 hk1 hS => ?_)
  obtain ⟨hP1, hD1⟩ := hB
  rw [ht] at hP1
  obtain ⟨q1, rfl⟩ : ∃ z, z = x1 := ⟨_, rfl⟩
  obtain ⟨hP, hD⟩ := va_join (wr := []) (w1 := [(la, .inr (7, [v0, .ref q1, .int (nI n)])), (ea, .inl (ca 1, n, .inr (.inr (.inr (.inr f))))), (q1, .inl (ca 1, (n + n / 2), .inr (.inr (.inr (.inr (va_cpy f (fun _ => none) 0 0 n))))))]) hP hD [0, 1] [] rfl rfl (by decide) (by decide) hk1 hFc hP1 hD1
  generalize H1 = H at hP hS ⊢
  have hP : va_P D vwCl [(la, .inr (7, [v0, .ref q1, .int (nI n)])), (ea, .inl (ca 1, n, .inr (.inr (.inr (.inr f))))), (q1, .inl (ca 1, (n + n / 2), .inr (.inr (.inr (.inr (va_cpy f (fun _ => none) 0 0 n))))))] H := hP
  have hD : va_D A [(la, .inr (7, [v0, .ref q1, .int (nI n)])), (ea, .inl (ca 1, n, .inr (.inr (.inr (.inr f))))), (q1, .inl (ca 1, (n + n / 2), .inr (.inr (.inr (.inr (va_cpy f (fun _ => none) 0 0 n))))))] := hD
  refine W.eq (g2 := F0 m 10 ls [.ref q1]) rfl ?_
  refine lv_astore_n (lv' := [(2, .ref q1), (0, .ref la), (1, .ref x), (3, .int (nI n))]) hx hb dJ2_add_2_10 rfl hl (by decide) rfl (fun ls hl => ?_)
  refine lv_aload_n hx hb dJ2_add_2_11 rfl (lv_at hl 0 rfl) ?_
  refine lv_iload_n hx hb dJ2_add_2_12 rfl (lv_at hl 3 rfl) ?_
  refine lv_aload_n hx hb dJ2_add_2_13 rfl (lv_at hl 2 rfl) ?_
  refine va_astqM hx hb hK hP hD hS 2 1 rfl rfl (any_at hex.1.1 (by rw [hAe]; exact hex.1.2) hS) (vp_in_nI (show n < n + n / 2 by omega) (by omega)) dJ2_add_2_14 (fun H locs hP hD hS => ?_)
  rw [nI_clamp (show n < 2 ^ 31 by omega)] at hP hD
  have hP : va_P D vwCl [(la, .inr (7, [v0, .ref q1, .int (nI n)])), (ea, .inl (ca 1, n, .inr (.inr (.inr (.inr f))))), (q1, .inl (ca 1, (n + n / 2), .inr (.inr (.inr (.inr (va_up (va_cpy f (fun _ => none) 0 0 n) n (some x)))))))] H := hP
  have hD : va_D A [(la, .inr (7, [v0, .ref q1, .int (nI n)])), (ea, .inl (ca 1, n, .inr (.inr (.inr (.inr f))))), (q1, .inl (ca 1, (n + n / 2), .inr (.inr (.inr (.inr (va_up (va_cpy f (fun _ => none) 0 0 n) n (some x)))))))] := hD
  refine lv_aload_n hx hb dJ2_add_2_15 rfl (lv_at hl 1 rfl) ?_
  refine lv_iload_n hx hb dJ2_add_2_16 rfl (lv_at hl 3 rfl) ?_
  refine lv_iconst (v := 1) hx hb dJ2_add_2_17 rfl ?_
  refine lv_iadd hx hb dJ2_add_2_18 ?_
  refine W.eq (g2 := F0 m 19 ls [.int (nI (n + 1)), .ref la]) (by rw [nI_1]) ?_
  refine va_put (D := D) (ci := 7) (v := .int (nI (n + 1))) (ty := .int) (C := RJ2) (T := TJ2) (N := 3) hx hb hts in_J2 tyJ2 tyJ2_ok nmJ2 hown hK hP hD hS 0 rfl rfl 2 (by decide) (hts _ q133) (fun _ h9 => h9) rfl (by decide +kernel) rfl rfl (Nat.le_of_ble_eq_true rfl) dJ2_add_2_19 (fun H locs hP hD hS => ?_)
  have hP : va_P D vwCl [(la, .inr (7, [v0, .ref q1, .int (nI (n + 1))])), (ea, .inl (ca 1, n, .inr (.inr (.inr (.inr f))))), (q1, .inl (ca 1, (n + n / 2), .inr (.inr (.inr (.inr (va_up (va_cpy f (fun _ => none) 0 0 n) n (some x)))))))] H := hP
  have hD : va_D A [(la, .inr (7, [v0, .ref q1, .int (nI (n + 1))])), (ea, .inl (ca 1, n, .inr (.inr (.inr (.inr f))))), (q1, .inl (ca 1, (n + n / 2), .inr (.inr (.inr (.inr (va_up (va_cpy f (fun _ => none) 0 0 n) n (some x)))))))] := hD
  refine W.widen (k := 1) (n := n + n / 2) (by first | decide | omega) (by first | decide | omega) ?_
  exact W.vret hx hb hrt (fun t ht hW => ⟨⟨q1, rfl, by rw [ht]; exact hP, hD⟩, hS.F ht⟩) hS.2.2 dJ2_add_2_22
theorem v_L_addG {sz : Nat} {la ea n x : Nat} {μ : Int32} {f : Nat → Option Nat} (h1 : 2 ≤ n) (h2 : n ≤ 80000000) : VmI l D ca zb yJ2_add cJ2_add 2 (some .boolean) 6 1 (n + n / 2) [.ref la, .ref x] [(la, .inr (7, [.int μ, .ref ea, .int (nI n)])), (ea, .inl (ca 1, n, .inr (.inr (.inr (.inr f)))))] (fun U => (va_Any "java/lang/Object" U U.heap x ∧ ¬ va_A [(la, .inr (7, [.int μ, .ref ea, .int (nI n)])), (ea, .inl (ca 1, n, .inr (.inr (.inr (.inr f)))))] sz x) ∧ ∀ i y : Nat, i < n → f i = some y → va_Any "java/lang/Object" U U.heap y ∧ ¬ va_A [(la, .inr (7, [.int μ, .ref ea, .int (nI n)])), (ea, .inl (ca 1, n, .inr (.inr (.inr (.inr f)))))] sz y) sz (ι := Nat) (fun x9 => some (.int 1)) (fun x9 => [(la, .inr (7, [.int (μ + 1), .ref x9, .int (nI (n + 1))])), (ea, .inl (ca 1, n, .inr (.inr (.inr (.inr f))))), (x9, .inl (ca 1, (n + n / 2), .inr (.inr (.inr (.inr (va_up (va_cpy f (fun _ => none) 0 0 n) n (some x)))))))]) := by
  refine v_start (own := RJ2) (by decide) rfl (Nat.le_of_ble_eq_true rfl) fun p e s m below meth c A X hrt hlk hnm hKK hb0 hex hsz hAe ls hl hP hD hS hA => ?_
  have hl : lv_has ls 2 [(0, .ref la), (1, .ref x)] := hl
  have X2 := X
  obtain ⟨hx, hb, hml, hown, hts⟩ := X2
  have hK := hKK.1
  obtain ⟨H, hH⟩ : ∃ H, H = s.heap := ⟨_, rfl⟩
  have hS : va_S A s.heap H [] := by rw [hH]; exact hS
  have hP : va_P D vwCl [(la, .inr (7, [.int μ, .ref ea, .int (nI n)])), (ea, .inl (ca 1, n, .inr (.inr (.inr (.inr f)))))] H := by rw [hH]; exact hP
  rw [← hH]
  refine lv_aload_n hx hb dJ2_add_0 rfl (lv_at hl 0 rfl) ?_
  refine lv_dup hx hb dJ2_add_1 rfl ?_
  refine va_get (D := D) (ci := 7) (v := .int μ) (C := RJ2) (T := TJ2) (N := 3) hx hb hts in_J2 hown hK hP 0 rfl rfl 0 (by decide) (hts _ q135) (fun x9 h9 => u_same (hts _ q136) x9 h9) rfl dJ2_add_2 ?_
  refine lv_iconst (v := 1) hx hb dJ2_add_5 rfl ?_
  refine lv_iadd hx hb dJ2_add_6 ?_
  refine va_put (D := D) (ci := 7) (v := .int (μ + 1)) (ty := .int) (C := RJ2) (T := TJ2) (N := 3) hx hb hts in_J2 tyJ2 tyJ2_ok nmJ2 hown hK hP hD hS 0 rfl rfl 0 (by decide) (hts _ q135) (fun x9 h9 => u_same (hts _ q136) x9 h9) rfl (by decide +kernel) rfl rfl (Nat.le_of_ble_eq_true rfl) dJ2_add_7 (fun H locs hP hD hS => ?_)
  have hP : va_P D vwCl [(la, .inr (7, [.int (μ + 1), .ref ea, .int (nI n)])), (ea, .inl (ca 1, n, .inr (.inr (.inr (.inr f)))))] H := hP
  have hD : va_D A [(la, .inr (7, [.int (μ + 1), .ref ea, .int (nI n)])), (ea, .inl (ca 1, n, .inr (.inr (.inr (.inr f)))))] := hD
  refine lv_aload_n hx hb dJ2_add_10 rfl (lv_at hl 0 rfl) ?_
  refine lv_aload_n hx hb dJ2_add_11 rfl (lv_at hl 1 rfl) ?_
  refine lv_aload_n hx hb dJ2_add_12 rfl (lv_at hl 0 rfl) ?_
  refine va_get (D := D) (ci := 7) (v := .ref ea) (C := RJ2) (T := TJ2) (N := 3) hx hb hts in_J2 hown hK hP 0 rfl rfl 1 (by decide) (hts _ q132) (fun _ h9 => h9) rfl dJ2_add_13 ?_
  refine lv_aload_n hx hb dJ2_add_16 rfl (lv_at hl 0 rfl) ?_
  refine va_get (D := D) (ci := 7) (v := .int (nI n)) (C := RJ2) (T := TJ2) (N := 3) hx hb hts in_J2 hown hK hP 0 rfl rfl 2 (by decide) (hts _ q133) (fun _ h9 => h9) rfl dJ2_add_17 ?_
  have hPc := hP.sub (ws' := [(la, .inr (7, [.int (μ + 1), .ref ea, .int (nI n)])), (ea, .inl (ca 1, n, .inr (.inr (.inr (.inr f)))))]) [0, 1] rfl
  have hDc := hD.sub (ws' := [(la, .inr (7, [.int (μ + 1), .ref ea, .int (nI n)])), (ea, .inl (ca 1, n, .inr (.inr (.inr (.inr f)))))]) [0, 1] (by decide) rfl
  have hFc := va_free (wc := [(la, .inr (7, [.int (μ + 1), .ref ea, .int (nI n)])), (ea, .inl (ca 1, n, .inr (.inr (.inr (.inr f)))))]) hD hS hA [0, 1] rfl
  refine q_callE (va_runV (As := [.ref x, .ref ea, .int (nI n)]) (rest := []) ⟨hx, hb, hml, hown, hts⟩ (v_L_addG2 (sz := H.size) (la := la) (ea := ea) (n := n) (x := x) (v0 := .int (μ + 1)) (f := f) h1 h2) (cwV 3 hts (lw_V q374 q376 qs1 q69 q377) rfl rfl rfl (by decide +kernel) ⟨Nat.le_of_ble_eq_true rfl, Nat.le_of_ble_eq_true rfl⟩) ⟨v_blind (fun _ _ _ _ h => h), va_recv hK hPc (ci := 7) (q0 := 0) rfl rfl, fun U hU hW => ⟨rfl, by rw [hU], by rw [hU]; exact hPc, hKK.go hS hb0 hU hW, hDc.weaken (fun _ _ _ _ => trivial), (fun q h => hb0 q (hFc q h)), ⟨⟨any_go hex.1.1 (by rw [hAe]; exact hex.1.2) hS hU hW, fun h => hex.1.2 (by rw [← hAe]; exact hFc x h)⟩, (fun i y hi hy => ⟨any_go (hex.2 i y hi hy).1 (by rw [hAe]; exact (hex.2 i y hi hy).2) hS hU hW, fun h => (hex.2 i y hi hy).2 (by rw [← hAe]; exact hFc y h)⟩)⟩⟩⟩ rfl rfl hl.1 rfl (lv_room (Nat.le_of_ble_eq_true rfl)) dJ2_add_20 ⟨by first | decide | (dsimp only; omega), by first | decide | (dsimp only; omega)⟩) hS (fun q _ h => hFc q h) hFc (fun x1 t H1 locs ht hvm hB hz1 hk1 hS => ?_)
  obtain ⟨hP1, hD1⟩ := hB
  rw [ht] at hP1
  obtain ⟨q1, rfl⟩ : ∃ z, z = x1 := ⟨_, rfl⟩
  obtain ⟨hP, hD⟩ := va_join (wr := []) (w1 := [(la, .inr (7, [.int (μ + 1), .ref q1, .int (nI (n + 1))])), (ea, .inl (ca 1, n, .inr (.inr (.inr (.inr f))))), (q1, .inl (ca 1, (n + n / 2), .inr (.inr (.inr (.inr (va_up (va_cpy f (fun _ => none) 0 0 n) n (some x)))))))]) hP hD [0, 1] [] rfl rfl (by decide) (by decide) hk1 hFc hP1 hD1
  generalize H1 = H at hP hS ⊢
  have hP : va_P D vwCl [(la, .inr (7, [.int (μ + 1), .ref q1, .int (nI (n + 1))])), (ea, .inl (ca 1, n, .inr (.inr (.inr (.inr f))))), (q1, .inl (ca 1, (n + n / 2), .inr (.inr (.inr (.inr (va_up (va_cpy f (fun _ => none) 0 0 n) n (some x)))))))] H := hP
  have hD : va_D A [(la, .inr (7, [.int (μ + 1), .ref q1, .int (nI (n + 1))])), (ea, .inl (ca 1, n, .inr (.inr (.inr (.inr f))))), (q1, .inl (ca 1, (n + n / 2), .inr (.inr (.inr (.inr (va_up (va_cpy f (fun _ => none) 0 0 n) n (some x)))))))] := hD
  refine W.eq (g2 := F0 m 23 ls []) rfl ?_
  refine lv_iconst (v := 1) hx hb dJ2_add_23 rfl ?_
  refine W.widen (k := 1) (n := n + n / 2) (by first | decide | omega) (by first | decide | omega) ?_
  exact W.zret (v := 1) hx hb hrt (gb_n (Or.inr rfl)) (fun t ht hW => ⟨⟨q1, rfl, by rw [ht]; exact hP, hD⟩, hS.F ht⟩) hS.2.2 dJ2_add_24
theorem v_L_growF2 {sz : Nat} {la : Nat} {v0 v2 : Value}  : VmI l D ca zb yJ2_grow_2 cJ2_grow_2 4 (some (.array (.object "java/lang/Object"))) 1 1 10 [.ref la, .int 1] [(la, .inr (7, [v0, .ref (zb 0), v2]))] (fun _ => True) sz (ι := Nat) (fun x9 => some (.ref x9)) (fun x9 => [(la, .inr (7, [v0, .ref x9, v2])), (x9, .inl (ca 1, 10, .inr (.inr (.inr (.inr (fun _ => none))))))]) := by
  refine v_start (own := RJ2) (by decide) rfl (Nat.le_of_ble_eq_true rfl) fun p e s m below meth c A X hrt hlk hnm hKK hb0 hex hsz hAe ls hl hP hD hS hA => ?_
  have hl : lv_has ls 4 [(0, .ref la), (1, .int 1)] := hl
  have X2 := X
  obtain ⟨hx, hb, hml, hown, hts⟩ := X2
  have hK := hKK.1
  obtain ⟨H, hH⟩ : ∃ H, H = s.heap := ⟨_, rfl⟩
  have hS : va_S A s.heap H [] := by rw [hH]; exact hS
  have hP : va_P D vwCl [(la, .inr (7, [v0, .ref (zb 0), v2]))] H := by rw [hH]; exact hP
  rw [← hH]
  refine lv_aload_n hx hb dJ2_grow_2_0 rfl (lv_at hl 0 rfl) ?_
  refine va_get (D := D) (ci := 7) (v := .ref (zb 0)) (C := RJ2) (T := TJ2) (N := 3) hx hb hts in_J2 hown hK hP 0 rfl rfl 1 (by decide) (hts _ q132) (fun _ h9 => h9) rfl dJ2_grow_2_1 ?_
  refine va_tlen (v := 0) hx hb (hKK.2.2.2.1.narrow hb0) hS rfl dJ2_grow_2_4 ?_
  refine lv_istore_n (lv' := [(2, .int 0), (0, .ref la), (1, .int 1)]) hx hb dJ2_grow_2_5 rfl hl (by decide) rfl (fun ls hl => ?_)
  refine lv_iload_n hx hb dJ2_grow_2_6 rfl (lv_at hl 0 rfl) ?_
  refine lv_if_gt (tgt := 20) hx hb dJ2_grow_2_7 (by decide) (fun z9 => absurd z9 (by decide)) (fun _ => ?_)
  refine lv_aload_n hx hb dJ2_grow_2_10 rfl (lv_at hl 1 rfl) ?_
  refine va_get (D := D) (ci := 7) (v := .ref (zb 0)) (C := RJ2) (T := TJ2) (N := 3) hx hb hts in_J2 hown hK hP 0 rfl rfl 1 (by decide) (hts _ q132) (fun _ h9 => h9) rfl dJ2_grow_2_11 ?_
  refine va_gets hx hb (hKK.2.2.1.narrow hb0) hS hown (hts _ q130) (fun _ h9 => h9) dJ2_grow_2_14 ?_
  refine lv_acmp_eq (rx := some (zb 0)) (ry := some (zb 0)) (tgt := 45) hx hb dJ2_grow_2_17 (by decide) (fun _ => ?_) (fun z9 => absurd (rfl) z9)
  refine lv_aload_n hx hb dJ2_grow_2_45 rfl (lv_at hl 1 rfl) ?_
  refine lv_bipush (v := 10) hx hb dJ2_grow_2_46 rfl ?_
  refine lv_iload_n hx hb dJ2_grow_2_48 rfl (lv_at hl 2 rfl) ?_
  refine va_mmax hx hb (hml.trans hl.1.symm) hown (hts _ q437) (hts _ q390) (hts _ q77) (hts _ q391) (Nat.le_of_ble_eq_true rfl) (Nat.le_of_ble_eq_true rfl) (by first | decide | (dsimp only; omega)) (by first | decide | (dsimp only; omega)) dJ2_grow_2_49 ?_
  refine W.eq (g2 := F0 m 52 ls [.int 10, .ref la]) (by rw [if_neg (by decide)]) ?_
  refine va_newq (C := "java/lang/Object") hx hb hown (hts _ q438) hKK.2.1.2.1 hK hP hD hS hA (by decide) rfl (by decide) (by first | decide | (dsimp only; omega)) (by first | decide | (dsimp only; omega)) dJ2_grow_2_52 (fun q1 cA H hKn hP hD hS => ?_)
  obtain rfl := arr_eq1 hKn
  have hP : va_P D vwCl [(la, .inr (7, [v0, .ref (zb 0), v2])), (q1, .inl (ca 1, 10, .inr (.inr (.inr (.inr (fun _ => none))))))] H := hP
  have hD : va_D A [(la, .inr (7, [v0, .ref (zb 0), v2])), (q1, .inl (ca 1, 10, .inr (.inr (.inr (.inr (fun _ => none))))))] := hD
  refine lv_dup_x1 hx hb dJ2_grow_2_55 rfl rfl ?_
  refine va_put (D := D) (ci := 7) (v := .ref q1) (ty := .array (.object "java/lang/Object")) (C := RJ2) (T := TJ2) (N := 3) hx hb hts in_J2 tyJ2 tyJ2_ok nmJ2 hown hK hP hD hS 0 rfl rfl 1 (by decide) (hts _ q132) (fun _ h9 => h9) rfl (by decide +kernel) rfl rfl (Nat.le_of_ble_eq_true rfl) dJ2_grow_2_56 (fun H locs hP hD hS => ?_)
  have hP : va_P D vwCl [(la, .inr (7, [v0, .ref q1, v2])), (q1, .inl (ca 1, 10, .inr (.inr (.inr (.inr (fun _ => none))))))] H := hP
  have hD : va_D A [(la, .inr (7, [v0, .ref q1, v2])), (q1, .inl (ca 1, 10, .inr (.inr (.inr (.inr (fun _ => none))))))] := hD
  refine W.widen (k := 1) (n := 10) (by first | decide | omega) (by first | decide | omega) ?_
  exact W.aret (v := .ref q1) hx hb hrt (Or.inr ⟨_, rfl⟩) (Or.inr ⟨_, rfl⟩) (fun t ht hW => ⟨⟨q1, rfl, by rw [ht]; exact hP, hD⟩, hS.F ht⟩) hS.2.2 dJ2_grow_2_59
theorem v_L_growF {sz : Nat} {la : Nat} {v0 : Value}  : VmI l D ca zb yJ2_grow cJ2_grow 1 (some (.array (.object "java/lang/Object"))) 2 1 10 [.ref la] [(la, .inr (7, [v0, .ref (zb 0), .int 0]))] (fun _ => True) sz (ι := Nat) (fun x9 => some (.ref x9)) (fun x9 => [(la, .inr (7, [v0, .ref x9, .int 0])), (x9, .inl (ca 1, 10, .inr (.inr (.inr (.inr (fun _ => none))))))]) := by
  refine v_start (own := RJ2) (by decide) rfl (Nat.le_of_ble_eq_true rfl) fun p e s m below meth c A X hrt hlk hnm hKK hb0 hex hsz hAe ls hl hP hD hS hA => ?_
  have hl : lv_has ls 1 [(0, .ref la)] := hl
  have X2 := X
  obtain ⟨hx, hb, hml, hown, hts⟩ := X2
  have hK := hKK.1
  obtain ⟨H, hH⟩ : ∃ H, H = s.heap := ⟨_, rfl⟩
  have hS : va_S A s.heap H [] := by rw [hH]; exact hS
  have hP : va_P D vwCl [(la, .inr (7, [v0, .ref (zb 0), .int 0]))] H := by rw [hH]; exact hP
  rw [← hH]
  refine lv_aload_n hx hb dJ2_grow_0 rfl (lv_at hl 0 rfl) ?_
  refine lv_aload_n hx hb dJ2_grow_1 rfl (lv_at hl 0 rfl) ?_
  refine va_get (D := D) (ci := 7) (v := .int 0) (C := RJ2) (T := TJ2) (N := 3) hx hb hts in_J2 hown hK hP 0 rfl rfl 2 (by decide) (hts _ q133) (fun _ h9 => h9) rfl dJ2_grow_2 ?_
  refine lv_iconst (v := 1) hx hb dJ2_grow_5 rfl ?_
  refine lv_iadd hx hb dJ2_grow_6 ?_
  refine W.eq (g2 := F0 m 7 ls [.int 1, .ref la]) (rfl) ?_
  have hPc := hP.sub (ws' := [(la, .inr (7, [v0, .ref (zb 0), .int 0]))]) [0] rfl
  have hDc := hD.sub (ws' := [(la, .inr (7, [v0, .ref (zb 0), .int 0]))]) [0] (by decide) rfl
  have hFc := va_free (wc := [(la, .inr (7, [v0, .ref (zb 0), .int 0]))]) hD hS hA [0] rfl
  refine q_callE (va_runV (As := [.int 1]) (rest := []) ⟨hx, hb, hml, hown, hts⟩ (v_L_growF2 (sz := H.size) (la := la) (v0 := v0) (v2 := .int 0) ) (cwV 1 hts (lw_V q382 q384 qs3 q69 q385) rfl rfl rfl (by decide +kernel) ⟨Nat.le_of_ble_eq_true rfl, Nat.le_of_ble_eq_true rfl⟩) ⟨v_blind (fun _ _ _ _ h => h), va_recv hK hPc (ci := 7) (q0 := 0) rfl rfl, fun U hU hW => ⟨rfl, by rw [hU], by rw [hU]; exact hPc, hKK.go hS hb0 hU hW, hDc.weaken (fun _ _ _ _ => trivial), (fun q h => hb0 q (hFc q h)), trivial⟩⟩ rfl rfl hl.1 rfl (lv_room (Nat.le_of_ble_eq_true rfl)) dJ2_grow_7 ⟨by first | decide | (dsimp only; omega), by first | decide | (dsimp only; omega)⟩) hS (fun q _ h => hFc q h) hFc (fun x1 t H1 locs ht hvm hB hz1 hk1 hS => ?_)
  obtain ⟨hP1, hD1⟩ := hB
  rw [ht] at hP1
  obtain ⟨q1, rfl⟩ : ∃ z, z = x1 := ⟨_, rfl⟩
  obtain ⟨hP, hD⟩ := va_join (wr := []) (w1 := [(la, .inr (7, [v0, .ref q1, .int 0])), (q1, .inl (ca 1, 10, .inr (.inr (.inr (.inr (fun _ => none))))))]) hP hD [0] [] rfl rfl (by decide) (by decide) hk1 hFc hP1 hD1
  generalize H1 = H at hP hS ⊢
  have hP : va_P D vwCl [(la, .inr (7, [v0, .ref q1, .int 0])), (q1, .inl (ca 1, 10, .inr (.inr (.inr (.inr (fun _ => none))))))] H := hP
  have hD : va_D A [(la, .inr (7, [v0, .ref q1, .int 0])), (q1, .inl (ca 1, 10, .inr (.inr (.inr (.inr (fun _ => none))))))] := hD
  refine W.eq (g2 := F0 m 10 ls [.ref q1]) rfl ?_
  refine W.widen (k := 1) (n := 10) (by first | decide | omega) (by first | decide | omega) ?_
  exact W.aret (v := .ref q1) hx hb hrt (Or.inr ⟨_, rfl⟩) (Or.inr ⟨_, rfl⟩) (fun t ht hW => ⟨⟨q1, rfl, by rw [ht]; exact hP, hD⟩, hS.F ht⟩) hS.2.2 dJ2_grow_10
theorem v_L_addF2 {sz : Nat} {la x : Nat} {v0 : Value}  : VmI l D ca zb yJ2_add_2 cJ2_add_2 4 none 3 1 10 [.ref la, .ref x, .ref (zb 0), .int 0] [(la, .inr (7, [v0, .ref (zb 0), .int 0]))] (fun U => va_Any "java/lang/Object" U U.heap x ∧ ¬ va_A [(la, .inr (7, [v0, .ref (zb 0), .int 0]))] sz x) sz (ι := Nat) (fun x9 => none) (fun x9 => [(la, .inr (7, [v0, .ref x9, .int 1])), (x9, .inl (ca 1, 10, .inr (.inr (.inr (.inr (va_up (fun _ => none) 0 (some x)))))))]) := by
  refine v_start (own := RJ2) (by decide) rfl (Nat.le_of_ble_eq_true rfl) fun p e s m below meth c A X hrt hlk hnm hKK hb0 hex hsz hAe ls hl hP hD hS hA => ?_
  have hl : lv_has ls 4 [(0, .ref la), (1, .ref x), (2, .ref (zb 0)), (3, .int 0)] := hl
  have X2 := X
  obtain ⟨hx, hb, hml, hown, hts⟩ := X2
  have hK := hKK.1
  obtain ⟨H, hH⟩ : ∃ H, H = s.heap := ⟨_, rfl⟩
  have hS : va_S A s.heap H [] := by rw [hH]; exact hS
  have hP : va_P D vwCl [(la, .inr (7, [v0, .ref (zb 0), .int 0]))] H := by rw [hH]; exact hP
  rw [← hH]
  refine lv_iload_n hx hb dJ2_add_2_0 rfl (lv_at hl 3 rfl) ?_
  refine lv_aload_n hx hb dJ2_add_2_1 rfl (lv_at hl 2 rfl) ?_
  refine va_tlen (v := 0) hx hb (hKK.2.2.2.1.narrow hb0) hS rfl dJ2_add_2_2 ?_
  refine lv_icmp_ne (tgt := 11) hx hb dJ2_add_2_3 (by decide) (fun z9 => absurd (rfl) z9) (fun _ => ?_)
  refine lv_aload_n hx hb dJ2_add_2_6 rfl (lv_at hl 0 rfl) ?_
  have hPc := hP.sub (ws' := [(la, .inr (7, [v0, .ref (zb 0), .int 0]))]) [0] rfl
  have hDc := hD.sub (ws' := [(la, .inr (7, [v0, .ref (zb 0), .int 0]))]) [0] (by decide) rfl
  have hFc := va_free (wc := [(la, .inr (7, [v0, .ref (zb 0), .int 0]))]) hD hS hA [0] rfl
  refine q_callE (va_runV (As := []) (rest := []) ⟨hx, hb, hml, hown, hts⟩ (v_L_growF (sz := H.size) (la := la) (v0 := v0) ) (cwV 0 hts (lw_V q378 q380 qs2 q69 q381) rfl rfl rfl (by decide +kernel) ⟨Nat.le_of_ble_eq_true rfl, Nat.le_of_ble_eq_true rfl⟩) ⟨v_blind (fun _ _ _ _ h => h), va_recv hK hPc (ci := 7) (q0 := 0) rfl rfl, fun U hU hW => ⟨rfl, by rw [hU], by rw [hU]; exact hPc, hKK.go hS hb0 hU hW, hDc.weaken (fun _ _ _ _ => trivial), (fun q h => hb0 q (hFc q h)), trivial⟩⟩ rfl rfl hl.1 rfl (lv_room (Nat.le_of_ble_eq_true rfl)) dJ2_add_2_7 ⟨by first | decide | (dsimp only; omega), by first | decide | (dsimp only; omega)⟩) hS (fun q _ h => hFc q h) hFc (fun x1 t H1 locs ht hvm hB hz1 hk1 hS => ?_)
  obtain ⟨hP1, hD1⟩ := hB
  rw [ht] at hP1
  obtain ⟨q1, rfl⟩ : ∃ z, z = x1 := ⟨_, rfl⟩
  obtain ⟨hP, hD⟩ := va_join (wr := []) (w1 := [(la, .inr (7, [v0, .ref q1, .int 0])), (q1, .inl (ca 1, 10, .inr (.inr (.inr (.inr (fun _ => none))))))]) hP hD [0] [] rfl rfl (by decide) (by decide) hk1 hFc hP1 hD1
  generalize H1 = H at hP hS ⊢
  have hP : va_P D vwCl [(la, .inr (7, [v0, .ref q1, .int 0])), (q1, .inl (ca 1, 10, .inr (.inr (.inr (.inr (fun _ => none))))))] H := hP
  have hD : va_D A [(la, .inr (7, [v0, .ref q1, .int 0])), (q1, .inl (ca 1, 10, .inr (.inr (.inr (.inr (fun _ => none))))))] := hD
  refine W.eq (g2 := F0 m 10 ls [.ref q1]) rfl ?_
  refine lv_astore_n (lv' := [(2, .ref q1), (0, .ref la), (1, .ref x), (3, .int 0)]) hx hb dJ2_add_2_10 rfl hl (by decide) rfl (fun ls hl => ?_)
  refine lv_aload_n hx hb dJ2_add_2_11 rfl (lv_at hl 0 rfl) ?_
  refine lv_iload_n hx hb dJ2_add_2_12 rfl (lv_at hl 3 rfl) ?_
  refine lv_aload_n hx hb dJ2_add_2_13 rfl (lv_at hl 2 rfl) ?_
  refine va_astqM hx hb hK hP hD hS 1 1 rfl rfl (any_at hex.1 (by rw [hAe]; exact hex.2) hS) (by unfold vp_in; decide) dJ2_add_2_14 (fun H locs hP hD hS => ?_)
  have hP : va_P D vwCl [(la, .inr (7, [v0, .ref q1, .int 0])), (q1, .inl (ca 1, 10, .inr (.inr (.inr (.inr (va_up (fun _ => none) 0 (some x)))))))] H := hP
  have hD : va_D A [(la, .inr (7, [v0, .ref q1, .int 0])), (q1, .inl (ca 1, 10, .inr (.inr (.inr (.inr (va_up (fun _ => none) 0 (some x)))))))] := hD
  refine lv_aload_n hx hb dJ2_add_2_15 rfl (lv_at hl 1 rfl) ?_
  refine lv_iload_n hx hb dJ2_add_2_16 rfl (lv_at hl 3 rfl) ?_
  refine lv_iconst (v := 1) hx hb dJ2_add_2_17 rfl ?_
  refine lv_iadd hx hb dJ2_add_2_18 ?_
  refine W.eq (g2 := F0 m 19 ls [.int 1, .ref la]) (rfl) ?_
  refine va_put (D := D) (ci := 7) (v := .int 1) (ty := .int) (C := RJ2) (T := TJ2) (N := 3) hx hb hts in_J2 tyJ2 tyJ2_ok nmJ2 hown hK hP hD hS 0 rfl rfl 2 (by decide) (hts _ q133) (fun _ h9 => h9) rfl (by decide +kernel) rfl rfl (Nat.le_of_ble_eq_true rfl) dJ2_add_2_19 (fun H locs hP hD hS => ?_)
  have hP : va_P D vwCl [(la, .inr (7, [v0, .ref q1, .int 1])), (q1, .inl (ca 1, 10, .inr (.inr (.inr (.inr (va_up (fun _ => none) 0 (some x)))))))] H := hP
  have hD : va_D A [(la, .inr (7, [v0, .ref q1, .int 1])), (q1, .inl (ca 1, 10, .inr (.inr (.inr (.inr (va_up (fun _ => none) 0 (some x)))))))] := hD
  refine W.widen (k := 1) (n := 10) (by first | decide | omega) (by first | decide | omega) ?_
  exact W.vret hx hb hrt (fun t ht hW => ⟨⟨q1, rfl, by rw [ht]; exact hP, hD⟩, hS.F ht⟩) hS.2.2 dJ2_add_2_22
theorem v_L_addF {sz : Nat} {la x : Nat} {μ : Int32}  : VmI l D ca zb yJ2_add cJ2_add 2 (some .boolean) 4 1 10 [.ref la, .ref x] [(la, .inr (7, [.int μ, .ref (zb 0), .int 0]))] (fun U => va_Any "java/lang/Object" U U.heap x ∧ ¬ va_A [(la, .inr (7, [.int μ, .ref (zb 0), .int 0]))] sz x) sz (ι := Nat) (fun x9 => some (.int 1)) (fun x9 => [(la, .inr (7, [.int (μ + 1), .ref x9, .int 1])), (x9, .inl (ca 1, 10, .inr (.inr (.inr (.inr (va_up (fun _ => none) 0 (some x)))))))]) := by
  refine v_start (own := RJ2) (by decide) rfl (Nat.le_of_ble_eq_true rfl) fun p e s m below meth c A X hrt hlk hnm hKK hb0 hex hsz hAe ls hl hP hD hS hA => ?_
  have hl : lv_has ls 2 [(0, .ref la), (1, .ref x)] := hl
  have X2 := X
  obtain ⟨hx, hb, hml, hown, hts⟩ := X2
  have hK := hKK.1
  obtain ⟨H, hH⟩ : ∃ H, H = s.heap := ⟨_, rfl⟩
  have hS : va_S A s.heap H [] := by rw [hH]; exact hS
  have hP : va_P D vwCl [(la, .inr (7, [.int μ, .ref (zb 0), .int 0]))] H := by rw [hH]; exact hP
  rw [← hH]
  refine lv_aload_n hx hb dJ2_add_0 rfl (lv_at hl 0 rfl) ?_
  refine lv_dup hx hb dJ2_add_1 rfl ?_
  refine va_get (D := D) (ci := 7) (v := .int μ) (C := RJ2) (T := TJ2) (N := 3) hx hb hts in_J2 hown hK hP 0 rfl rfl 0 (by decide) (hts _ q135) (fun x9 h9 => u_same (hts _ q136) x9 h9) rfl dJ2_add_2 ?_
  refine lv_iconst (v := 1) hx hb dJ2_add_5 rfl ?_
  refine lv_iadd hx hb dJ2_add_6 ?_
  refine va_put (D := D) (ci := 7) (v := .int (μ + 1)) (ty := .int) (C := RJ2) (T := TJ2) (N := 3) hx hb hts in_J2 tyJ2 tyJ2_ok nmJ2 hown hK hP hD hS 0 rfl rfl 0 (by decide) (hts _ q135) (fun x9 h9 => u_same (hts _ q136) x9 h9) rfl (by decide +kernel) rfl rfl (Nat.le_of_ble_eq_true rfl) dJ2_add_7 (fun H locs hP hD hS => ?_)
  have hP : va_P D vwCl [(la, .inr (7, [.int (μ + 1), .ref (zb 0), .int 0]))] H := hP
  have hD : va_D A [(la, .inr (7, [.int (μ + 1), .ref (zb 0), .int 0]))] := hD
  refine lv_aload_n hx hb dJ2_add_10 rfl (lv_at hl 0 rfl) ?_
  refine lv_aload_n hx hb dJ2_add_11 rfl (lv_at hl 1 rfl) ?_
  refine lv_aload_n hx hb dJ2_add_12 rfl (lv_at hl 0 rfl) ?_
  refine va_get (D := D) (ci := 7) (v := .ref (zb 0)) (C := RJ2) (T := TJ2) (N := 3) hx hb hts in_J2 hown hK hP 0 rfl rfl 1 (by decide) (hts _ q132) (fun _ h9 => h9) rfl dJ2_add_13 ?_
  refine lv_aload_n hx hb dJ2_add_16 rfl (lv_at hl 0 rfl) ?_
  refine va_get (D := D) (ci := 7) (v := .int 0) (C := RJ2) (T := TJ2) (N := 3) hx hb hts in_J2 hown hK hP 0 rfl rfl 2 (by decide) (hts _ q133) (fun _ h9 => h9) rfl dJ2_add_17 ?_
  have hPc := hP.sub (ws' := [(la, .inr (7, [.int (μ + 1), .ref (zb 0), .int 0]))]) [0] rfl
  have hDc := hD.sub (ws' := [(la, .inr (7, [.int (μ + 1), .ref (zb 0), .int 0]))]) [0] (by decide) rfl
  have hFc := va_free (wc := [(la, .inr (7, [.int (μ + 1), .ref (zb 0), .int 0]))]) hD hS hA [0] rfl
  refine q_callE (va_runV (As := [.ref x, .ref (zb 0), .int 0]) (rest := []) ⟨hx, hb, hml, hown, hts⟩ (v_L_addF2 (sz := H.size) (la := la) (x := x) (v0 := .int (μ + 1)) ) (cwV 3 hts (lw_V q374 q376 qs1 q69 q377) rfl rfl rfl (by decide +kernel) ⟨Nat.le_of_ble_eq_true rfl, Nat.le_of_ble_eq_true rfl⟩) ⟨v_blind (fun _ _ _ _ h => h), va_recv hK hPc (ci := 7) (q0 := 0) rfl rfl, fun U hU hW => ⟨rfl, by rw [hU], by rw [hU]; exact hPc, hKK.go hS hb0 hU hW, hDc.weaken (fun _ _ _ _ => trivial), (fun q h => hb0 q (hFc q h)), ⟨any_go hex.1 (by rw [hAe]; exact hex.2) hS hU hW, fun h => hex.2 (by rw [← hAe]; exact hFc x h)⟩⟩⟩ rfl rfl hl.1 rfl (lv_room (Nat.le_of_ble_eq_true rfl)) dJ2_add_20 ⟨by first | decide | (dsimp only; omega), by first | decide | (dsimp only; omega)⟩) hS (fun q _ h => hFc q h) hFc (fun x1 t H1 locs ht hvm hB hz1 hk1 hS => ?_)
  obtain ⟨hP1, hD1⟩ := hB
  rw [ht] at hP1
  obtain ⟨q1, rfl⟩ : ∃ z, z = x1 := ⟨_, rfl⟩
  obtain ⟨hP, hD⟩ := va_join (wr := []) (w1 := [(la, .inr (7, [.int (μ + 1), .ref q1, .int 1])), (q1, .inl (ca 1, 10, .inr (.inr (.inr (.inr (va_up (fun _ => none) 0 (some x)))))))]) hP hD [0] [] rfl rfl (by decide) (by decide) hk1 hFc hP1 hD1
  generalize H1 = H at hP hS ⊢
  have hP : va_P D vwCl [(la, .inr (7, [.int (μ + 1), .ref q1, .int 1])), (q1, .inl (ca 1, 10, .inr (.inr (.inr (.inr (va_up (fun _ => none) 0 (some x)))))))] H := hP
  have hD : va_D A [(la, .inr (7, [.int (μ + 1), .ref q1, .int 1])), (q1, .inl (ca 1, 10, .inr (.inr (.inr (.inr (va_up (fun _ => none) 0 (some x)))))))] := hD
  refine W.eq (g2 := F0 m 23 ls []) rfl ?_
  refine lv_iconst (v := 1) hx hb dJ2_add_23 rfl ?_
  refine W.widen (k := 1) (n := 10) (by first | decide | omega) (by first | decide | omega) ?_
  exact W.zret (v := 1) hx hb hrt (gb_n (Or.inr rfl)) (fun t ht hW => ⟨⟨q1, rfl, by rw [ht]; exact hP, hD⟩, hS.F ht⟩) hS.2.2 dJ2_add_24
theorem v_L_fastA {sz : Nat} {la ea n k : Nat} {μ : Int32} {f : Nat → Option Nat} (hk : 0 < k) (hkn : k < n) (hn : n < 2147483648) : VmI l D ca zb yJ2_fastRemove cJ2_fastRemove 4 none 1 0 0 [.ref la, .ref ea, .int 0] [(la, .inr (7, [.int μ, .ref ea, .int (nI (k + 1))])), (ea, .inl (ca 1, n, .inr (.inr (.inr (.inr f)))))] (fun U => ∀ i y : Nat, i < n → f i = some y → va_Any "java/lang/Object" U U.heap y ∧ ¬ va_A [(la, .inr (7, [.int μ, .ref ea, .int (nI (k + 1))])), (ea, .inl (ca 1, n, .inr (.inr (.inr (.inr f)))))] sz y) sz (ι := Unit) (fun x9 => none) (fun x9 => [(la, .inr (7, [.int (μ + 1), .ref ea, .int (nI k)])), (ea, .inl (ca 1, n, .inr (.inr (.inr (.inr (va_up (va_cpy f f 1 0 k) k (none)))))))]) := by
  refine v_start (own := RJ2) (by decide) rfl (Nat.le_of_ble_eq_true rfl) fun p e s m below meth c A X hrt hlk hnm hKK hb0 hex hsz hAe ls hl hP hD hS hA => ?_
  have hl : lv_has ls 4 [(0, .ref la), (1, .ref ea), (2, .int 0)] := hl
  have X2 := X
  obtain ⟨hx, hb, hml, hown, hts⟩ := X2
  have hK := hKK.1
  obtain ⟨H, hH⟩ : ∃ H, H = s.heap := ⟨_, rfl⟩
  have hS : va_S A s.heap H [] := by rw [hH]; exact hS
  have hP : va_P D vwCl [(la, .inr (7, [.int μ, .ref ea, .int (nI (k + 1))])), (ea, .inl (ca 1, n, .inr (.inr (.inr (.inr f)))))] H := by rw [hH]; exact hP
  rw [← hH]
  refine lv_aload_n hx hb dJ2_fastRemove_0 rfl (lv_at hl 0 rfl) ?_
  refine lv_dup hx hb dJ2_fastRemove_1 rfl ?_
  refine va_get (D := D) (ci := 7) (v := .int μ) (C := RJ2) (T := TJ2) (N := 3) hx hb hts in_J2 hown hK hP 0 rfl rfl 0 (by decide) (hts _ q135) (fun x9 h9 => u_same (hts _ q136) x9 h9) rfl dJ2_fastRemove_2 ?_
  refine lv_iconst (v := 1) hx hb dJ2_fastRemove_5 rfl ?_
  refine lv_iadd hx hb dJ2_fastRemove_6 ?_
  refine va_put (D := D) (ci := 7) (v := .int (μ + 1)) (ty := .int) (C := RJ2) (T := TJ2) (N := 3) hx hb hts in_J2 tyJ2 tyJ2_ok nmJ2 hown hK hP hD hS 0 rfl rfl 0 (by decide) (hts _ q135) (fun x9 h9 => u_same (hts _ q136) x9 h9) rfl (by decide +kernel) rfl rfl (Nat.le_of_ble_eq_true rfl) dJ2_fastRemove_7 (fun H locs hP hD hS => ?_)
  have hP : va_P D vwCl [(la, .inr (7, [.int (μ + 1), .ref ea, .int (nI (k + 1))])), (ea, .inl (ca 1, n, .inr (.inr (.inr (.inr f)))))] H := hP
  have hD : va_D A [(la, .inr (7, [.int (μ + 1), .ref ea, .int (nI (k + 1))])), (ea, .inl (ca 1, n, .inr (.inr (.inr (.inr f)))))] := hD
  refine lv_aload_n hx hb dJ2_fastRemove_10 rfl (lv_at hl 0 rfl) ?_
  refine va_get (D := D) (ci := 7) (v := .int (nI (k + 1))) (C := RJ2) (T := TJ2) (N := 3) hx hb hts in_J2 hown hK hP 0 rfl rfl 2 (by decide) (hts _ q133) (fun _ h9 => h9) rfl dJ2_fastRemove_11 ?_
  refine lv_iconst (v := 1) hx hb dJ2_fastRemove_14 rfl ?_
  refine lv_isub hx hb dJ2_fastRemove_15 ?_
  refine W.eq (g2 := F0 m 16 ls [.int (nI k)]) (by rw [nI_pred]) ?_
  refine lv_dup hx hb dJ2_fastRemove_16 rfl ?_
  refine lv_istore_n (lv' := [(3, .int (nI k)), (0, .ref la), (1, .ref ea), (2, .int 0)]) hx hb dJ2_fastRemove_17 rfl hl (by decide) rfl (fun ls hl => ?_)
  refine lv_iload_n hx hb dJ2_fastRemove_18 rfl (lv_at hl 3 rfl) ?_
  refine lv_icmp_le (tgt := 34) hx hb dJ2_fastRemove_19 (by decide) (fun z9 => absurd z9 (nI_nle hk (by omega))) (fun _ => ?_)
  refine lv_aload_n hx hb dJ2_fastRemove_22 rfl (lv_at hl 2 rfl) ?_
  refine lv_iload_n hx hb dJ2_fastRemove_23 rfl (lv_at hl 3 rfl) ?_
  refine lv_iconst (v := 1) hx hb dJ2_fastRemove_24 rfl ?_
  refine lv_iadd hx hb dJ2_fastRemove_25 ?_
  refine W.eq (g2 := F0 m 26 ls [.int 1, .ref ea]) (rfl) ?_
  refine lv_aload_n hx hb dJ2_fastRemove_26 rfl (lv_at hl 2 rfl) ?_
  refine lv_iload_n hx hb dJ2_fastRemove_27 rfl (lv_at hl 3 rfl) ?_
  refine lv_iload_n hx hb dJ2_fastRemove_28 rfl (lv_at hl 0 rfl) ?_
  refine lv_iload_n hx hb dJ2_fastRemove_29 rfl (lv_at hl 3 rfl) ?_
  refine lv_isub hx hb dJ2_fastRemove_30 ?_
  refine W.eq (g2 := F0 m 31 ls [.int (nI k), .int 0, .ref ea, .int 1, .ref ea]) (by rw [Int32.sub_zero]) ?_
  refine va_copyM (E1 := "java/lang/Object") hx hb (hml.trans hl.1.symm) hown (hts _ q638) (hts _ q436) (hts _ q435) (hts _ q79) hK hP hD hS 1 1 1 1 rfl rfl rfl rfl (by decide) (by decide) (nI_pos (by omega)) (by rw [nI_clamp (show k < 2 ^ 31 by omega), show (1 : Int32).toNatClampNeg = 1 from rfl]; omega) (by rw [nI_clamp (show k < 2 ^ 31 by omega), sb_cl0]; omega) (fun i hi y hy => by rw [nI_clamp (show k < 2 ^ 31 by omega)] at hi; rw [show (1 : Int32).toNatClampNeg = 1 from rfl] at hy; exact any_at (hex (1 + i) y (by omega) hy).1 (by rw [hAe]; exact (hex (1 + i) y (by omega) hy).2) hS) (Nat.le_of_ble_eq_true rfl) (Nat.le_of_ble_eq_true rfl) dJ2_fastRemove_31 (fun H locs hP hD hS => ?_)
  rw [sb_cl0, nI_clamp (show k < 2 ^ 31 by omega), show (1 : Int32).toNatClampNeg = 1 from rfl] at hP hD
  have hP : va_P D vwCl [(la, .inr (7, [.int (μ + 1), .ref ea, .int (nI (k + 1))])), (ea, .inl (ca 1, n, .inr (.inr (.inr (.inr (va_cpy f f 1 0 k))))))] H := hP
  have hD : va_D A [(la, .inr (7, [.int (μ + 1), .ref ea, .int (nI (k + 1))])), (ea, .inl (ca 1, n, .inr (.inr (.inr (.inr (va_cpy f f 1 0 k))))))] := hD
  refine lv_aload_n hx hb dJ2_fastRemove_34 rfl (lv_at hl 2 rfl) ?_
  refine lv_aload_n hx hb dJ2_fastRemove_35 rfl (lv_at hl 1 rfl) ?_
  refine lv_iload_n hx hb dJ2_fastRemove_36 rfl (lv_at hl 0 rfl) ?_
  refine lv_dup_x1 hx hb dJ2_fastRemove_37 rfl rfl ?_
  refine va_put (D := D) (ci := 7) (v := .int (nI k)) (ty := .int) (C := RJ2) (T := TJ2) (N := 3) hx hb hts in_J2 tyJ2 tyJ2_ok nmJ2 hown hK hP hD hS 0 rfl rfl 2 (by decide) (hts _ q133) (fun _ h9 => h9) rfl (by decide +kernel) rfl rfl (Nat.le_of_ble_eq_true rfl) dJ2_fastRemove_38 (fun H locs hP hD hS => ?_)
  have hP : va_P D vwCl [(la, .inr (7, [.int (μ + 1), .ref ea, .int (nI k)])), (ea, .inl (ca 1, n, .inr (.inr (.inr (.inr (va_cpy f f 1 0 k))))))] H := hP
  have hD : va_D A [(la, .inr (7, [.int (μ + 1), .ref ea, .int (nI k)])), (ea, .inl (ca 1, n, .inr (.inr (.inr (.inr (va_cpy f f 1 0 k))))))] := hD
  refine lv_null hx hb dJ2_fastRemove_41 ?_
  refine va_astqN hx hb hK hP hD hS 1 1 rfl rfl (vp_in_nI hkn (by omega)) dJ2_fastRemove_42 (fun H locs hP hD hS => ?_)
  rw [nI_clamp (show k < 2 ^ 31 by omega)] at hP hD
  have hP : va_P D vwCl [(la, .inr (7, [.int (μ + 1), .ref ea, .int (nI k)])), (ea, .inl (ca 1, n, .inr (.inr (.inr (.inr (va_up (va_cpy f f 1 0 k) k (none)))))))] H := hP
  have hD : va_D A [(la, .inr (7, [.int (μ + 1), .ref ea, .int (nI k)])), (ea, .inl (ca 1, n, .inr (.inr (.inr (.inr (va_up (va_cpy f f 1 0 k) k (none)))))))] := hD
  refine W.widen (k := 0) (n := 0) (by first | decide | omega) (by first | decide | omega) ?_
  exact W.vret hx hb hrt (fun t ht hW => ⟨⟨(), rfl, by rw [ht]; exact hP, hD⟩, hS.F ht⟩) hS.2.2 dJ2_fastRemove_43
theorem v_L_remA {sz : Nat} {la ea n k y : Nat} {μ : Int32} {f : Nat → Option Nat} (hk : 0 < k) (hkn : k < n) (hn : n < 2147483648) (hy : f 0 = some y) : VmI l D ca zb yJ2_remove cJ2_remove 4 (some (.object "java/lang/Object")) 2 0 0 [.ref la, .int 0] [(la, .inr (7, [.int μ, .ref ea, .int (nI (k + 1))])), (ea, .inl (ca 1, n, .inr (.inr (.inr (.inr f)))))] (fun U => ∀ i y : Nat, i < n → f i = some y → va_Any "java/lang/Object" U U.heap y ∧ ¬ va_A [(la, .inr (7, [.int μ, .ref ea, .int (nI (k + 1))])), (ea, .inl (ca 1, n, .inr (.inr (.inr (.inr f)))))] sz y) sz (ι := Unit) (fun x9 => some (.ref y)) (fun x9 => [(la, .inr (7, [.int (μ + 1), .ref ea, .int (nI k)])), (ea, .inl (ca 1, n, .inr (.inr (.inr (.inr (va_up (va_cpy f f 1 0 k) k (none)))))))]) := by
  refine v_start (own := RJ2) (by decide) rfl (Nat.le_of_ble_eq_true rfl) fun p e s m below meth c A X hrt hlk hnm hKK hb0 hex hsz hAe ls hl hP hD hS hA => ?_
  have hl : lv_has ls 4 [(0, .ref la), (1, .int 0)] := hl
  have X2 := X
  obtain ⟨hx, hb, hml, hown, hts⟩ := X2
  have hK := hKK.1
  obtain ⟨H, hH⟩ : ∃ H, H = s.heap := ⟨_, rfl⟩
  have hS : va_S A s.heap H [] := by rw [hH]; exact hS
  have hP : va_P D vwCl [(la, .inr (7, [.int μ, .ref ea, .int (nI (k + 1))])), (ea, .inl (ca 1, n, .inr (.inr (.inr (.inr f)))))] H := by rw [hH]; exact hP
  rw [← hH]
  refine lv_iload_n hx hb dJ2_remove_0 rfl (lv_at hl 1 rfl) ?_
  refine lv_aload_n hx hb dJ2_remove_1 rfl (lv_at hl 0 rfl) ?_
  refine va_get (D := D) (ci := 7) (v := .int (nI (k + 1))) (C := RJ2) (T := TJ2) (N := 3) hx hb hts in_J2 hown hK hP 0 rfl rfl 2 (by decide) (hts _ q133) (fun _ h9 => h9) rfl dJ2_remove_2 ?_
  have hPc := hP.sub (ws' := []) [] rfl
  have hDc := hD.sub (ws' := []) [] (by decide) rfl
  have hFc := va_free (wc := []) hD hS hA [] rfl
  refine q_callE (va_runS (As := [.int 0, .int (nI (k + 1))]) (rest := []) ⟨hx, hb, hml, hown, hts⟩ (v_L_chk (sz := H.size) (ix := 0) (cn := nI (k + 1)) (by decide) (nI_lt (a := 0) (by omega) (by omega))) (va_cwS 2 hts (lw_S q254 q255 q72 q256) rfl rfl rfl (by decide +kernel) ⟨Nat.le_of_ble_eq_true rfl, Nat.le_of_ble_eq_true rfl⟩) ⟨v_blind (fun _ _ _ _ h => h), fun U hU hW => ⟨rfl, by rw [hU], by rw [hU]; exact hPc, hKK.go hS hb0 hU hW, hDc.weaken (fun _ _ _ _ => trivial), (fun q h => hb0 q (hFc q h)), trivial⟩⟩ rfl rfl hl.1 rfl (lv_room (Nat.le_of_ble_eq_true rfl)) dJ2_remove_5 ⟨by first | decide | (dsimp only; omega), by first | decide | (dsimp only; omega)⟩) hS (fun q _ h => hFc q h) hFc (fun x1 t H1 locs ht hvm hB hz1 hk1 hS => ?_)
  obtain ⟨hP1, hD1⟩ := hB
  rw [ht] at hP1
  cases x1
  obtain ⟨hP, hD⟩ := va_join (wr := [(la, .inr (7, [.int μ, .ref ea, .int (nI (k + 1))])), (ea, .inl (ca 1, n, .inr (.inr (.inr (.inr f)))))]) (w1 := []) hP hD [] [0, 1] rfl rfl (by decide) (by decide) hk1 hFc hP1 hD1
  generalize H1 = H at hP hS ⊢
  have hP : va_P D vwCl [(la, .inr (7, [.int μ, .ref ea, .int (nI (k + 1))])), (ea, .inl (ca 1, n, .inr (.inr (.inr (.inr f)))))] H := hP
  have hD : va_D A [(la, .inr (7, [.int μ, .ref ea, .int (nI (k + 1))])), (ea, .inl (ca 1, n, .inr (.inr (.inr (.inr f)))))] := hD
  refine W.eq (g2 := F0 m 8 ls [.int 0]) rfl ?_
  refine lv_pop hx hb dJ2_remove_8 rfl ?_
  refine lv_aload_n hx hb dJ2_remove_9 rfl (lv_at hl 0 rfl) ?_
  refine va_get (D := D) (ci := 7) (v := .ref ea) (C := RJ2) (T := TJ2) (N := 3) hx hb hts in_J2 hown hK hP 0 rfl rfl 1 (by decide) (hts _ q132) (fun _ h9 => h9) rfl dJ2_remove_10 ?_
  refine lv_astore_n (lv' := [(2, .ref ea), (0, .ref la), (1, .int 0)]) hx hb dJ2_remove_13 rfl hl (by decide) rfl (fun ls hl => ?_)
  refine lv_aload_n hx hb dJ2_remove_14 rfl (lv_at hl 0 rfl) ?_
  refine lv_iload_n hx hb dJ2_remove_15 rfl (lv_at hl 2 rfl) ?_
  refine va_aldq hx hb hK hP 1 1 rfl rfl (vp_in_nI (n := 0) (by omega) (by omega)) dJ2_remove_16 ?_
  rw [sb_cl0, hy]
  refine lv_astore_n (lv' := [(3, .ref y), (2, .ref ea), (0, .ref la), (1, .int 0)]) hx hb dJ2_remove_17 rfl hl (by decide) rfl (fun ls hl => ?_)
  refine lv_aload_n hx hb dJ2_remove_18 rfl (lv_at hl 2 rfl) ?_
  refine lv_aload_n hx hb dJ2_remove_19 rfl (lv_at hl 1 rfl) ?_
  refine lv_iload_n hx hb dJ2_remove_20 rfl (lv_at hl 3 rfl) ?_
  have hPc := hP.sub (ws' := [(la, .inr (7, [.int μ, .ref ea, .int (nI (k + 1))])), (ea, .inl (ca 1, n, .inr (.inr (.inr (.inr f)))))]) [0, 1] rfl
  have hDc := hD.sub (ws' := [(la, .inr (7, [.int μ, .ref ea, .int (nI (k + 1))])), (ea, .inl (ca 1, n, .inr (.inr (.inr (.inr f)))))]) [0, 1] (by decide) rfl
  have hFc := va_free (wc := [(la, .inr (7, [.int μ, .ref ea, .int (nI (k + 1))])), (ea, .inl (ca 1, n, .inr (.inr (.inr (.inr f)))))]) hD hS hA [0, 1] rfl
  refine q_callE (va_runV (As := [.ref ea, .int 0]) (rest := []) ⟨hx, hb, hml, hown, hts⟩ (v_L_fastA (sz := H.size) (la := la) (ea := ea) (n := n) (k := k) (μ := μ) (f := f) hk hkn hn) (cwV 2 hts (lw_V q634 q636 qs8 q69 q637) rfl rfl rfl (by decide +kernel) ⟨Nat.le_of_ble_eq_true rfl, Nat.le_of_ble_eq_true rfl⟩) ⟨v_blind (fun _ _ _ _ h => h), va_recv hK hPc (ci := 7) (q0 := 0) rfl rfl, fun U hU hW => ⟨rfl, by rw [hU], by rw [hU]; exact hPc, hKK.go hS hb0 hU hW, hDc.weaken (fun _ _ _ _ => trivial), (fun q h => hb0 q (hFc q h)), (fun i y hi hy => ⟨any_go (hex i y hi hy).1 (by rw [hAe]; exact (hex i y hi hy).2) hS hU hW, fun h => (hex i y hi hy).2 (by rw [← hAe]; exact hFc y h)⟩)⟩⟩ rfl rfl hl.1 rfl (lv_room (Nat.le_of_ble_eq_true rfl)) dJ2_remove_21 ⟨by first | decide | (dsimp only; omega), by first | decide | (dsimp only; omega)⟩) hS (fun q _ h => hFc q h) hFc (fun x2 t H1 locs ht hvm hB hz1 hk1 hS => ?_)
  obtain ⟨hP1, hD1⟩ := hB
  rw [ht] at hP1
  cases x2
  obtain ⟨hP, hD⟩ := va_join (wr := []) (w1 := [(la, .inr (7, [.int (μ + 1), .ref ea, .int (nI k)])), (ea, .inl (ca 1, n, .inr (.inr (.inr (.inr (va_up (va_cpy f f 1 0 k) k (none)))))))]) hP hD [0, 1] [] rfl rfl (by decide) (by decide) hk1 hFc hP1 hD1
  generalize H1 = H at hP hS ⊢
  have hP : va_P D vwCl [(la, .inr (7, [.int (μ + 1), .ref ea, .int (nI k)])), (ea, .inl (ca 1, n, .inr (.inr (.inr (.inr (va_up (va_cpy f f 1 0 k) k (none)))))))] H := hP
  have hD : va_D A [(la, .inr (7, [.int (μ + 1), .ref ea, .int (nI k)])), (ea, .inl (ca 1, n, .inr (.inr (.inr (.inr (va_up (va_cpy f f 1 0 k) k (none)))))))] := hD
  refine W.eq (g2 := F0 m 24 ls []) rfl ?_
  refine lv_aload_n hx hb dJ2_remove_24 rfl (lv_at hl 0 rfl) ?_
  refine W.widen (k := 0) (n := 0) (by first | decide | omega) (by first | decide | omega) ?_
  exact W.aret (v := .ref y) hx hb hrt (Or.inl ⟨_, rfl⟩) (Or.inr ⟨_, rfl⟩) (fun t ht hW => ⟨⟨(), rfl, by rw [ht]; exact hP, hD⟩, hS.F ht⟩) hS.2.2 dJ2_remove_25
theorem v_L_fastB {sz : Nat} {la ea n k : Nat} {μ : Int32} {f : Nat → Option Nat} (hkn : k < n) (hn : n < 2147483648) : VmI l D ca zb yJ2_fastRemove cJ2_fastRemove 4 none 0 0 0 [.ref la, .ref ea, .int (nI k)] [(la, .inr (7, [.int μ, .ref ea, .int (nI (k + 1))])), (ea, .inl (ca 1, n, .inr (.inr (.inr (.inr f)))))] (fun _ => True) sz (ι := Unit) (fun x9 => none) (fun x9 => [(la, .inr (7, [.int (μ + 1), .ref ea, .int (nI k)])), (ea, .inl (ca 1, n, .inr (.inr (.inr (.inr (va_up f k (none)))))))]) := by
  refine v_start (own := RJ2) (by decide) rfl (Nat.le_of_ble_eq_true rfl) fun p e s m below meth c A X hrt hlk hnm hKK hb0 hex hsz hAe ls hl hP hD hS hA => ?_
  have hl : lv_has ls 4 [(0, .ref la), (1, .ref ea), (2, .int (nI k))] := hl
  have X2 := X
  obtain ⟨hx, hb, hml, hown, hts⟩ := X2
  have hK := hKK.1
  obtain ⟨H, hH⟩ : ∃ H, H = s.heap := ⟨_, rfl⟩
  have hS : va_S A s.heap H [] := by rw [hH]; exact hS
  have hP : va_P D vwCl [(la, .inr (7, [.int μ, .ref ea, .int (nI (k + 1))])), (ea, .inl (ca 1, n, .inr (.inr (.inr (.inr f)))))] H := by rw [hH]; exact hP
  rw [← hH]
  refine lv_aload_n hx hb dJ2_fastRemove_0 rfl (lv_at hl 0 rfl) ?_
  refine lv_dup hx hb dJ2_fastRemove_1 rfl ?_
  refine va_get (D := D) (ci := 7) (v := .int μ) (C := RJ2) (T := TJ2) (N := 3) hx hb hts in_J2 hown hK hP 0 rfl rfl 0 (by decide) (hts _ q135) (fun x9 h9 => u_same (hts _ q136) x9 h9) rfl dJ2_fastRemove_2 ?_
  refine lv_iconst (v := 1) hx hb dJ2_fastRemove_5 rfl ?_
  refine lv_iadd hx hb dJ2_fastRemove_6 ?_
  refine va_put (D := D) (ci := 7) (v := .int (μ + 1)) (ty := .int) (C := RJ2) (T := TJ2) (N := 3) hx hb hts in_J2 tyJ2 tyJ2_ok nmJ2 hown hK hP hD hS 0 rfl rfl 0 (by decide) (hts _ q135) (fun x9 h9 => u_same (hts _ q136) x9 h9) rfl (by decide +kernel) rfl rfl (Nat.le_of_ble_eq_true rfl) dJ2_fastRemove_7 (fun H locs hP hD hS => ?_)
  have hP : va_P D vwCl [(la, .inr (7, [.int (μ + 1), .ref ea, .int (nI (k + 1))])), (ea, .inl (ca 1, n, .inr (.inr (.inr (.inr f)))))] H := hP
  have hD : va_D A [(la, .inr (7, [.int (μ + 1), .ref ea, .int (nI (k + 1))])), (ea, .inl (ca 1, n, .inr (.inr (.inr (.inr f)))))] := hD
  refine lv_aload_n hx hb dJ2_fastRemove_10 rfl (lv_at hl 0 rfl) ?_
  refine va_get (D := D) (ci := 7) (v := .int (nI (k + 1))) (C := RJ2) (T := TJ2) (N := 3) hx hb hts in_J2 hown hK hP 0 rfl rfl 2 (by decide) (hts _ q133) (fun _ h9 => h9) rfl dJ2_fastRemove_11 ?_
  refine lv_iconst (v := 1) hx hb dJ2_fastRemove_14 rfl ?_
  refine lv_isub hx hb dJ2_fastRemove_15 ?_
  refine W.eq (g2 := F0 m 16 ls [.int (nI k)]) (by rw [nI_pred]) ?_
  refine lv_dup hx hb dJ2_fastRemove_16 rfl ?_
  refine lv_istore_n (lv' := [(3, .int (nI k)), (0, .ref la), (1, .ref ea), (2, .int (nI k))]) hx hb dJ2_fastRemove_17 rfl hl (by decide) rfl (fun ls hl => ?_)
  refine lv_iload_n hx hb dJ2_fastRemove_18 rfl (lv_at hl 3 rfl) ?_
  refine lv_icmp_le (tgt := 34) hx hb dJ2_fastRemove_19 (by decide) (fun _ => ?_) (fun z9 => absurd (Int32.le_refl _) z9)
  refine lv_aload_n hx hb dJ2_fastRemove_34 rfl (lv_at hl 2 rfl) ?_
  refine lv_aload_n hx hb dJ2_fastRemove_35 rfl (lv_at hl 1 rfl) ?_
  refine lv_iload_n hx hb dJ2_fastRemove_36 rfl (lv_at hl 0 rfl) ?_
  refine lv_dup_x1 hx hb dJ2_fastRemove_37 rfl rfl ?_
  refine va_put (D := D) (ci := 7) (v := .int (nI k)) (ty := .int) (C := RJ2) (T := TJ2) (N := 3) hx hb hts in_J2 tyJ2 tyJ2_ok nmJ2 hown hK hP hD hS 0 rfl rfl 2 (by decide) (hts _ q133) (fun _ h9 => h9) rfl (by decide +kernel) rfl rfl (Nat.le_of_ble_eq_true rfl) dJ2_fastRemove_38 (fun H locs hP hD hS => ?_)
  have hP : va_P D vwCl [(la, .inr (7, [.int (μ + 1), .ref ea, .int (nI k)])), (ea, .inl (ca 1, n, .inr (.inr (.inr (.inr f)))))] H := hP
  have hD : va_D A [(la, .inr (7, [.int (μ + 1), .ref ea, .int (nI k)])), (ea, .inl (ca 1, n, .inr (.inr (.inr (.inr f)))))] := hD
  refine lv_null hx hb dJ2_fastRemove_41 ?_
  refine va_astqN hx hb hK hP hD hS 1 1 rfl rfl (vp_in_nI hkn (by omega)) dJ2_fastRemove_42 (fun H locs hP hD hS => ?_)
  rw [nI_clamp (show k < 2 ^ 31 by omega)] at hP hD
  have hP : va_P D vwCl [(la, .inr (7, [.int (μ + 1), .ref ea, .int (nI k)])), (ea, .inl (ca 1, n, .inr (.inr (.inr (.inr (va_up f k (none)))))))] H := hP
  have hD : va_D A [(la, .inr (7, [.int (μ + 1), .ref ea, .int (nI k)])), (ea, .inl (ca 1, n, .inr (.inr (.inr (.inr (va_up f k (none)))))))] := hD
  refine W.widen (k := 0) (n := 0) (by first | decide | omega) (by first | decide | omega) ?_
  exact W.vret hx hb hrt (fun t ht hW => ⟨⟨(), rfl, by rw [ht]; exact hP, hD⟩, hS.F ht⟩) hS.2.2 dJ2_fastRemove_43
theorem v_L_remB {sz : Nat} {la ea n k y : Nat} {μ : Int32} {f : Nat → Option Nat} (hkn : k < n) (hn : n < 2147483648) (hy : f k = some y) : VmI l D ca zb yJ2_remove cJ2_remove 4 (some (.object "java/lang/Object")) 2 0 0 [.ref la, .int (nI k)] [(la, .inr (7, [.int μ, .ref ea, .int (nI (k + 1))])), (ea, .inl (ca 1, n, .inr (.inr (.inr (.inr f)))))] (fun _ => True) sz (ι := Unit) (fun x9 => some (.ref y)) (fun x9 => [(la, .inr (7, [.int (μ + 1), .ref ea, .int (nI k)])), (ea, .inl (ca 1, n, .inr (.inr (.inr (.inr (va_up f k (none)))))))]) := by
  refine v_start (own := RJ2) (by decide) rfl (Nat.le_of_ble_eq_true rfl) fun p e s m below meth c A X hrt hlk hnm hKK hb0 hex hsz hAe ls hl hP hD hS hA => ?_
  have hl : lv_has ls 4 [(0, .ref la), (1, .int (nI k))] := hl
  have X2 := X
  obtain ⟨hx, hb, hml, hown, hts⟩ := X2
  have hK := hKK.1
  obtain ⟨H, hH⟩ : ∃ H, H = s.heap := ⟨_, rfl⟩
  have hS : va_S A s.heap H [] := by rw [hH]; exact hS
  have hP : va_P D vwCl [(la, .inr (7, [.int μ, .ref ea, .int (nI (k + 1))])), (ea, .inl (ca 1, n, .inr (.inr (.inr (.inr f)))))] H := by rw [hH]; exact hP
  rw [← hH]
  refine lv_iload_n hx hb dJ2_remove_0 rfl (lv_at hl 1 rfl) ?_
  refine lv_aload_n hx hb dJ2_remove_1 rfl (lv_at hl 0 rfl) ?_
  refine va_get (D := D) (ci := 7) (v := .int (nI (k + 1))) (C := RJ2) (T := TJ2) (N := 3) hx hb hts in_J2 hown hK hP 0 rfl rfl 2 (by decide) (hts _ q133) (fun _ h9 => h9) rfl dJ2_remove_2 ?_
  have hPc := hP.sub (ws' := []) [] rfl
  have hDc := hD.sub (ws' := []) [] (by decide) rfl
  have hFc := va_free (wc := []) hD hS hA [] rfl
  refine q_callE (va_runS (As := [.int (nI k), .int (nI (k + 1))]) (rest := []) ⟨hx, hb, hml, hown, hts⟩ (v_L_chk (sz := H.size) (ix := nI k) (cn := nI (k + 1)) (nI_pos (by omega)) (nI_lt (by omega) (by omega))) (va_cwS 2 hts (lw_S q254 q255 q72 q256) rfl rfl rfl (by decide +kernel) ⟨Nat.le_of_ble_eq_true rfl, Nat.le_of_ble_eq_true rfl⟩) ⟨v_blind (fun _ _ _ _ h => h), fun U hU hW => ⟨rfl, by rw [hU], by rw [hU]; exact hPc, hKK.go hS hb0 hU hW, hDc.weaken (fun _ _ _ _ => trivial), (fun q h => hb0 q (hFc q h)), trivial⟩⟩ rfl rfl hl.1 rfl (lv_room (Nat.le_of_ble_eq_true rfl)) dJ2_remove_5 ⟨by first | decide | (dsimp only; omega), by first | decide | (dsimp only; omega)⟩) hS (fun q _ h => hFc q h) hFc (fun x1 t H1 locs ht hvm hB hz1 hk1 hS => ?_)
  obtain ⟨hP1, hD1⟩ := hB
  rw [ht] at hP1
  cases x1
  obtain ⟨hP, hD⟩ := va_join (wr := [(la, .inr (7, [.int μ, .ref ea, .int (nI (k + 1))])), (ea, .inl (ca 1, n, .inr (.inr (.inr (.inr f)))))]) (w1 := []) hP hD [] [0, 1] rfl rfl (by decide) (by decide) hk1 hFc hP1 hD1
  generalize H1 = H at hP hS ⊢
  have hP : va_P D vwCl [(la, .inr (7, [.int μ, .ref ea, .int (nI (k + 1))])), (ea, .inl (ca 1, n, .inr (.inr (.inr (.inr f)))))] H := hP
  have hD : va_D A [(la, .inr (7, [.int μ, .ref ea, .int (nI (k + 1))])), (ea, .inl (ca 1, n, .inr (.inr (.inr (.inr f)))))] := hD
  refine W.eq (g2 := F0 m 8 ls [.int (nI k)]) rfl ?_
  refine lv_pop hx hb dJ2_remove_8 rfl ?_
  refine lv_aload_n hx hb dJ2_remove_9 rfl (lv_at hl 0 rfl) ?_
  refine va_get (D := D) (ci := 7) (v := .ref ea) (C := RJ2) (T := TJ2) (N := 3) hx hb hts in_J2 hown hK hP 0 rfl rfl 1 (by decide) (hts _ q132) (fun _ h9 => h9) rfl dJ2_remove_10 ?_
  refine lv_astore_n (lv' := [(2, .ref ea), (0, .ref la), (1, .int (nI k))]) hx hb dJ2_remove_13 rfl hl (by decide) rfl (fun ls hl => ?_)
  refine lv_aload_n hx hb dJ2_remove_14 rfl (lv_at hl 0 rfl) ?_
  refine lv_iload_n hx hb dJ2_remove_15 rfl (lv_at hl 2 rfl) ?_
  refine va_aldq hx hb hK hP 1 1 rfl rfl (vp_in_nI hkn (by omega)) dJ2_remove_16 ?_
  rw [nI_clamp (show k < 2 ^ 31 by omega), hy]
  refine lv_astore_n (lv' := [(3, .ref y), (2, .ref ea), (0, .ref la), (1, .int (nI k))]) hx hb dJ2_remove_17 rfl hl (by decide) rfl (fun ls hl => ?_)
  refine lv_aload_n hx hb dJ2_remove_18 rfl (lv_at hl 2 rfl) ?_
  refine lv_aload_n hx hb dJ2_remove_19 rfl (lv_at hl 1 rfl) ?_
  refine lv_iload_n hx hb dJ2_remove_20 rfl (lv_at hl 3 rfl) ?_
  have hPc := hP.sub (ws' := [(la, .inr (7, [.int μ, .ref ea, .int (nI (k + 1))])), (ea, .inl (ca 1, n, .inr (.inr (.inr (.inr f)))))]) [0, 1] rfl
  have hDc := hD.sub (ws' := [(la, .inr (7, [.int μ, .ref ea, .int (nI (k + 1))])), (ea, .inl (ca 1, n, .inr (.inr (.inr (.inr f)))))]) [0, 1] (by decide) rfl
  have hFc := va_free (wc := [(la, .inr (7, [.int μ, .ref ea, .int (nI (k + 1))])), (ea, .inl (ca 1, n, .inr (.inr (.inr (.inr f)))))]) hD hS hA [0, 1] rfl
  refine q_callE (va_runV (As := [.ref ea, .int (nI k)]) (rest := []) ⟨hx, hb, hml, hown, hts⟩ (v_L_fastB (sz := H.size) (la := la) (ea := ea) (n := n) (k := k) (μ := μ) (f := f) hkn hn) (cwV 2 hts (lw_V q634 q636 qs8 q69 q637) rfl rfl rfl (by decide +kernel) ⟨Nat.le_of_ble_eq_true rfl, Nat.le_of_ble_eq_true rfl⟩) ⟨v_blind (fun _ _ _ _ h => h), va_recv hK hPc (ci := 7) (q0 := 0) rfl rfl, fun U hU hW => ⟨rfl, by rw [hU], by rw [hU]; exact hPc, hKK.go hS hb0 hU hW, hDc.weaken (fun _ _ _ _ => trivial), (fun q h => hb0 q (hFc q h)), trivial⟩⟩ rfl rfl hl.1 rfl (lv_room (Nat.le_of_ble_eq_true rfl)) dJ2_remove_21 ⟨by first | decide | (dsimp only; omega), by first | decide | (dsimp only; omega)⟩) hS (fun q _ h => hFc q h) hFc (fun x2 t H1 locs ht hvm hB hz1 hk1 hS => ?_)
  obtain ⟨hP1, hD1⟩ := hB
  rw [ht] at hP1
  cases x2
  obtain ⟨hP, hD⟩ := va_join (wr := []) (w1 := [(la, .inr (7, [.int (μ + 1), .ref ea, .int (nI k)])), (ea, .inl (ca 1, n, .inr (.inr (.inr (.inr (va_up f k (none)))))))]) hP hD [0, 1] [] rfl rfl (by decide) (by decide) hk1 hFc hP1 hD1
  generalize H1 = H at hP hS ⊢
  have hP : va_P D vwCl [(la, .inr (7, [.int (μ + 1), .ref ea, .int (nI k)])), (ea, .inl (ca 1, n, .inr (.inr (.inr (.inr (va_up f k (none)))))))] H := hP
  have hD : va_D A [(la, .inr (7, [.int (μ + 1), .ref ea, .int (nI k)])), (ea, .inl (ca 1, n, .inr (.inr (.inr (.inr (va_up f k (none)))))))] := hD
  refine W.eq (g2 := F0 m 24 ls []) rfl ?_
  refine lv_aload_n hx hb dJ2_remove_24 rfl (lv_at hl 0 rfl) ?_
  refine W.widen (k := 0) (n := 0) (by first | decide | omega) (by first | decide | omega) ?_
  exact W.aret (v := .ref y) hx hb hrt (Or.inl ⟨_, rfl⟩) (Or.inr ⟨_, rfl⟩) (fun t ht hW => ⟨⟨(), rfl, by rw [ht]; exact hP, hD⟩, hS.F ht⟩) hS.2.2 dJ2_remove_25
theorem v_Thr_R {sz : Nat} {h0 : Nat}  : VmI l D ca zb yJ8_init_2 cJ8_init_2 5 none 1 0 0 [.ref h0, .null, .null, .int 0, .int 0] [(h0, .inr (13, [.null, .null, .null, .null, .null, .int 0, .int 0, .int 0]))] (fun _ => True) sz (ι := Unit) (fun x9 => none) (fun x9 => [(h0, .inr (13, [.null, .null, .null, .null, .null, .int 0, .int 0, .int 0]))]) := by
  refine v_start (own := RJ8) (by decide) rfl (Nat.le_of_ble_eq_true rfl) fun p e s m below meth c A X hrt hlk hnm hKK hb0 hex hsz hAe ls hl hP hD hS hA => ?_
  have hl : lv_has ls 5 [(0, .ref h0), (1, .null), (2, .null), (3, .int 0), (4, .int 0)] := hl
  have X2 := X
  obtain ⟨hx, hb, hml, hown, hts⟩ := X2
  have hK := hKK.1
  obtain ⟨H, hH⟩ : ∃ H, H = s.heap := ⟨_, rfl⟩
  have hS : va_S A s.heap H [] := by rw [hH]; exact hS
  have hP : va_P D vwCl [(h0, .inr (13, [.null, .null, .null, .null, .null, .int 0, .int 0, .int 0]))] H := by rw [hH]; exact hP
  rw [← hH]
  refine lv_aload_n hx hb dJ8_init_2_0 rfl (lv_at hl 0 rfl) ?_
  refine W.objInit hx hb hown (hts _ q555) (hts _ q110) (hts _ q111) rfl (by rw [hml]; exact hl.1) rfl dJ8_init_2_1 (Nat.le_of_ble_eq_true rfl) (Nat.le_of_ble_eq_true rfl) ?_
  refine W.eq (g2 := F0 m 4 ls []) rfl ?_
  refine lv_aload_n hx hb dJ8_init_2_4 rfl (lv_at hl 0 rfl) ?_
  refine lv_aload_n hx hb dJ8_init_2_5 rfl (lv_at hl 0 rfl) ?_
  refine va_put (D := D) (ci := 13) (v := .ref h0) (ty := .object "java/lang/Throwable") (C := RX8) (T := TX8) (N := 8) hx hb hts in_X8 tyX8 tyX8_ok nmX8 hown hK hP hD hS 0 rfl rfl 0 (by decide) (hts _ q592) (fun _ h9 => h9) rfl (by decide +kernel) rfl rfl (Nat.le_of_ble_eq_true rfl) dJ8_init_2_6 (fun H locs hP hD hS => ?_)
  have hP : va_P D vwCl [(h0, .inr (13, [.ref h0, .null, .null, .null, .null, .int 0, .int 0, .int 0]))] H := hP
  have hD : va_D A [(h0, .inr (13, [.ref h0, .null, .null, .null, .null, .int 0, .int 0, .int 0]))] := hD
  refine lv_aload_n hx hb dJ8_init_2_9 rfl (lv_at hl 0 rfl) ?_
  obtain ⟨r1, hz1⟩ := zq_any (hKK.2.2.2.2.1.1.narrow hb0)
  refine va_gets hx hb hz1 hS hown (hts _ q556) (fun _ h9 => h9) dJ8_init_2_10 ?_
  refine va_put (D := D) (ci := 13) (v := va_rf r1) (ty := .array (.object "java/lang/StackTraceElement")) (C := RX8) (T := TX8) (N := 8) hx hb hts in_X8 tyX8 tyX8_ok nmX8 hown hK hP hD hS 0 rfl rfl 1 (by decide) (hts _ q593) (fun _ h9 => h9) rfl (by decide +kernel) (by cases r1 <;> rfl) (by cases r1 <;> rfl) (Nat.le_of_ble_eq_true rfl) dJ8_init_2_13 (fun H locs hP hD hS => ?_)
  have hP : va_P D vwCl [(h0, .inr (13, [.ref h0, va_rf r1, .null, .null, .null, .int 0, .int 0, .int 0]))] H := hP
  have hD : va_D A [(h0, .inr (13, [.ref h0, va_rf r1, .null, .null, .null, .int 0, .int 0, .int 0]))] := hD
  refine lv_aload_n hx hb dJ8_init_2_16 rfl (lv_at hl 0 rfl) ?_
  obtain ⟨r2, hz2⟩ := zq_any (hKK.2.2.2.2.2.1.1.narrow hb0)
  refine va_gets hx hb hz2 hS hown (hts _ q558) (fun _ h9 => h9) dJ8_init_2_17 ?_
  refine va_put (D := D) (ci := 13) (v := va_rf r2) (ty := .object "java/util/List") (C := RX8) (T := TX8) (N := 8) hx hb hts in_X8 tyX8 tyX8_ok nmX8 hown hK hP hD hS 0 rfl rfl 2 (by decide) (hts _ q594) (fun _ h9 => h9) rfl (by decide +kernel) (by cases r2 <;> rfl) (by cases r2 <;> rfl) (Nat.le_of_ble_eq_true rfl) dJ8_init_2_20 (fun H locs hP hD hS => ?_)
  have hP : va_P D vwCl [(h0, .inr (13, [.ref h0, va_rf r1, va_rf r2, .null, .null, .int 0, .int 0, .int 0]))] H := hP
  have hD : va_D A [(h0, .inr (13, [.ref h0, va_rf r1, va_rf r2, .null, .null, .int 0, .int 0, .int 0]))] := hD
  refine lv_iload hx hb dJ8_init_2_23 (lv_at hl 4 rfl) ?_
  refine lv_if_eq (tgt := 36) hx hb dJ8_init_2_25 (by decide) (fun _ => ?_) (fun z9 => absurd (rfl) z9)
  refine lv_aload_n hx hb dJ8_init_2_36 rfl (lv_at hl 0 rfl) ?_
  refine lv_null hx hb dJ8_init_2_37 ?_
  refine va_put (D := D) (ci := 13) (v := .null) (ty := .array (.object "java/lang/StackTraceElement")) (C := RX8) (T := TX8) (N := 8) hx hb hts in_X8 tyX8 tyX8_ok nmX8 hown hK hP hD hS 0 rfl rfl 1 (by decide) (hts _ q593) (fun _ h9 => h9) rfl (by decide +kernel) rfl rfl (Nat.le_of_ble_eq_true rfl) dJ8_init_2_38 (fun H locs hP hD hS => ?_)
  have hP : va_P D vwCl [(h0, .inr (13, [.ref h0, .null, va_rf r2, .null, .null, .int 0, .int 0, .int 0]))] H := hP
  have hD : va_D A [(h0, .inr (13, [.ref h0, .null, va_rf r2, .null, .null, .int 0, .int 0, .int 0]))] := hD
  refine lv_aload_n hx hb dJ8_init_2_41 rfl (lv_at hl 0 rfl) ?_
  refine lv_aload_nN hx hb dJ8_init_2_42 rfl (lv_at hl 1 rfl) ?_
  refine va_put (D := D) (ci := 13) (v := .null) (ty := .object "java/lang/String") (C := RX8) (T := TX8) (N := 8) hx hb hts in_X8 tyX8 tyX8_ok nmX8 hown hK hP hD hS 0 rfl rfl 3 (by decide) (hts _ q591) (fun _ h9 => h9) rfl (by decide +kernel) rfl rfl (Nat.le_of_ble_eq_true rfl) dJ8_init_2_43 (fun H locs hP hD hS => ?_)
  have hP : va_P D vwCl [(h0, .inr (13, [.ref h0, .null, va_rf r2, .null, .null, .int 0, .int 0, .int 0]))] H := hP
  have hD : va_D A [(h0, .inr (13, [.ref h0, .null, va_rf r2, .null, .null, .int 0, .int 0, .int 0]))] := hD
  refine lv_aload_n hx hb dJ8_init_2_46 rfl (lv_at hl 0 rfl) ?_
  refine lv_aload_nN hx hb dJ8_init_2_47 rfl (lv_at hl 2 rfl) ?_
  refine va_put (D := D) (ci := 13) (v := .null) (ty := .object "java/lang/Throwable") (C := RX8) (T := TX8) (N := 8) hx hb hts in_X8 tyX8 tyX8_ok nmX8 hown hK hP hD hS 0 rfl rfl 0 (by decide) (hts _ q592) (fun _ h9 => h9) rfl (by decide +kernel) rfl rfl (Nat.le_of_ble_eq_true rfl) dJ8_init_2_48 (fun H locs hP hD hS => ?_)
  have hP : va_P D vwCl [(h0, .inr (13, [.null, .null, va_rf r2, .null, .null, .int 0, .int 0, .int 0]))] H := hP
  have hD : va_D A [(h0, .inr (13, [.null, .null, va_rf r2, .null, .null, .int 0, .int 0, .int 0]))] := hD
  refine lv_iload_n hx hb dJ8_init_2_51 rfl (lv_at hl 3 rfl) ?_
  refine lv_if_ne (tgt := 60) hx hb dJ8_init_2_52 (by decide) (fun z9 => absurd (rfl) z9) (fun _ => ?_)
  refine lv_aload_n hx hb dJ8_init_2_55 rfl (lv_at hl 0 rfl) ?_
  refine lv_null hx hb dJ8_init_2_56 ?_
  refine va_put (D := D) (ci := 13) (v := .null) (ty := .object "java/util/List") (C := RX8) (T := TX8) (N := 8) hx hb hts in_X8 tyX8 tyX8_ok nmX8 hown hK hP hD hS 0 rfl rfl 2 (by decide) (hts _ q594) (fun _ h9 => h9) rfl (by decide +kernel) rfl rfl (Nat.le_of_ble_eq_true rfl) dJ8_init_2_57 (fun H locs hP hD hS => ?_)
  have hP : va_P D vwCl [(h0, .inr (13, [.null, .null, .null, .null, .null, .int 0, .int 0, .int 0]))] H := hP
  have hD : va_D A [(h0, .inr (13, [.null, .null, .null, .null, .null, .int 0, .int 0, .int 0]))] := hD
  refine W.widen (k := 0) (n := 0) (by first | decide | omega) (by first | decide | omega) ?_
  exact W.vret hx hb hrt (fun t ht hW => ⟨⟨(), rfl, by rw [ht]; exact hP, hD⟩, hS.F ht⟩) hS.2.2 dJ8_init_2_60
theorem v_Exc_R {sz : Nat} {h0 : Nat}  : VmI l D ca zb yJ9_init cJ9_init 5 none 2 0 0 [.ref h0, .null, .null, .int 0, .int 0] [(h0, .inr (13, [.null, .null, .null, .null, .null, .int 0, .int 0, .int 0]))] (fun _ => True) sz (ι := Unit) (fun x9 => none) (fun x9 => [(h0, .inr (13, [.null, .null, .null, .null, .null, .int 0, .int 0, .int 0]))]) := by
  refine v_start (own := RJ9) (by decide) rfl (Nat.le_of_ble_eq_true rfl) fun p e s m below meth c A X hrt hlk hnm hKK hb0 hex hsz hAe ls hl hP hD hS hA => ?_
  have hl : lv_has ls 5 [(0, .ref h0), (1, .null), (2, .null), (3, .int 0), (4, .int 0)] := hl
  have X2 := X
  obtain ⟨hx, hb, hml, hown, hts⟩ := X2
  have hK := hKK.1
  obtain ⟨H, hH⟩ : ∃ H, H = s.heap := ⟨_, rfl⟩
  have hS : va_S A s.heap H [] := by rw [hH]; exact hS
  have hP : va_P D vwCl [(h0, .inr (13, [.null, .null, .null, .null, .null, .int 0, .int 0, .int 0]))] H := by rw [hH]; exact hP
  rw [← hH]
  refine lv_aload_n hx hb dJ9_init_0 rfl (lv_at hl 0 rfl) ?_
  refine lv_aload_nN hx hb dJ9_init_1 rfl (lv_at hl 1 rfl) ?_
  refine lv_aload_nN hx hb dJ9_init_2 rfl (lv_at hl 2 rfl) ?_
  refine lv_iload_n hx hb dJ9_init_3 rfl (lv_at hl 3 rfl) ?_
  refine lv_iload hx hb dJ9_init_4 (lv_at hl 4 rfl) ?_
  have hPc := hP.sub (ws' := [(h0, .inr (13, [.null, .null, .null, .null, .null, .int 0, .int 0, .int 0]))]) [0] rfl
  have hDc := hD.sub (ws' := [(h0, .inr (13, [.null, .null, .null, .null, .null, .int 0, .int 0, .int 0]))]) [0] (by decide) rfl
  have hFc := va_free (wc := [(h0, .inr (13, [.null, .null, .null, .null, .null, .int 0, .int 0, .int 0]))]) hD hS hA [0] rfl
  refine q_callE (va_runI (As := [.null, .null, .int 0, .int 0]) (rest := []) ⟨hx, hb, hml, hown, hts⟩ (v_Thr_R (sz := H.size) (h0 := h0) ) (cwI 4 hts (lw_meth q585) rfl rfl rfl (hts _ q81) (hts _ q583) (hts _ q584) rfl (by decide +kernel) ⟨Nat.le_of_ble_eq_true rfl, Nat.le_of_ble_eq_true rfl⟩) ⟨v_blind (fun _ _ _ _ h => h), fun U hU hW => ⟨rfl, by rw [hU], by rw [hU]; exact hPc, hKK.go hS hb0 hU hW, hDc.weaken (fun _ _ _ _ => trivial), (fun q h => hb0 q (hFc q h)), trivial⟩⟩ rfl rfl hl.1 rfl (lv_room (Nat.le_of_ble_eq_true rfl)) dJ9_init_6 ⟨by first | decide | (dsimp only; omega), by first | decide | (dsimp only; omega)⟩) hS (fun q _ h => hFc q h) hFc (fun x1 t H1 locs ht hvm hB hz1 hk1 hS => ?_)
  obtain ⟨hP1, hD1⟩ := hB
  rw [ht] at hP1
  cases x1
  obtain ⟨hP, hD⟩ := va_join (wr := []) (w1 := [(h0, .inr (13, [.null, .null, .null, .null, .null, .int 0, .int 0, .int 0]))]) hP hD [0] [] rfl rfl (by decide) (by decide) hk1 hFc hP1 hD1
  generalize H1 = H at hP hS ⊢
  have hP : va_P D vwCl [(h0, .inr (13, [.null, .null, .null, .null, .null, .int 0, .int 0, .int 0]))] H := hP
  have hD : va_D A [(h0, .inr (13, [.null, .null, .null, .null, .null, .int 0, .int 0, .int 0]))] := hD
  refine W.eq (g2 := F0 m 9 ls []) rfl ?_
  refine W.widen (k := 0) (n := 0) (by first | decide | omega) (by first | decide | omega) ?_
  exact W.vret hx hb hrt (fun t ht hW => ⟨⟨(), rfl, by rw [ht]; exact hP, hD⟩, hS.F ht⟩) hS.2.2 dJ9_init_9
theorem v_Thr_F {sz : Nat} {h0 : Nat}  : VmI l D ca zb yJ8_init_2 cJ8_init_2 5 none 1 0 0 [.ref h0, .null, .null, .int 0, .int 0] [(h0, .inr (14, [.null, .null, .null, .null, .null, .int 0, .int 0]))] (fun _ => True) sz (ι := Unit) (fun x9 => none) (fun x9 => [(h0, .inr (14, [.null, .null, .null, .null, .null, .int 0, .int 0]))]) := by
  refine v_start (own := RJ8) (by decide) rfl (Nat.le_of_ble_eq_true rfl) fun p e s m below meth c A X hrt hlk hnm hKK hb0 hex hsz hAe ls hl hP hD hS hA => ?_
  have hl : lv_has ls 5 [(0, .ref h0), (1, .null), (2, .null), (3, .int 0), (4, .int 0)] := hl
  have X2 := X
  obtain ⟨hx, hb, hml, hown, hts⟩ := X2
  have hK := hKK.1
  obtain ⟨H, hH⟩ : ∃ H, H = s.heap := ⟨_, rfl⟩
  have hS : va_S A s.heap H [] := by rw [hH]; exact hS
  have hP : va_P D vwCl [(h0, .inr (14, [.null, .null, .null, .null, .null, .int 0, .int 0]))] H := by rw [hH]; exact hP
  rw [← hH]
  refine lv_aload_n hx hb dJ8_init_2_0 rfl (lv_at hl 0 rfl) ?_
  refine W.objInit hx hb hown (hts _ q555) (hts _ q110) (hts _ q111) rfl (by rw [hml]; exact hl.1) rfl dJ8_init_2_1 (Nat.le_of_ble_eq_true rfl) (Nat.le_of_ble_eq_true rfl) ?_
  refine W.eq (g2 := F0 m 4 ls []) rfl ?_
  refine lv_aload_n hx hb dJ8_init_2_4 rfl (lv_at hl 0 rfl) ?_
  refine lv_aload_n hx hb dJ8_init_2_5 rfl (lv_at hl 0 rfl) ?_
  refine va_put (D := D) (ci := 14) (v := .ref h0) (ty := .object "java/lang/Throwable") (C := RX15) (T := TX15) (N := 7) hx hb hts in_X15 tyX15 tyX15_ok nmX15 hown hK hP hD hS 0 rfl rfl 0 (by decide) (hts _ q592) (fun _ h9 => h9) rfl (by decide +kernel) rfl rfl (Nat.le_of_ble_eq_true rfl) dJ8_init_2_6 (fun H locs hP hD hS => ?_)
  have hP : va_P D vwCl [(h0, .inr (14, [.ref h0, .null, .null, .null, .null, .int 0, .int 0]))] H := hP
  have hD : va_D A [(h0, .inr (14, [.ref h0, .null, .null, .null, .null, .int 0, .int 0]))] := hD
  refine lv_aload_n hx hb dJ8_init_2_9 rfl (lv_at hl 0 rfl) ?_
  obtain ⟨r1, hz1⟩ := zq_any (hKK.2.2.2.2.1.1.narrow hb0)
  refine va_gets hx hb hz1 hS hown (hts _ q556) (fun _ h9 => h9) dJ8_init_2_10 ?_
  refine va_put (D := D) (ci := 14) (v := va_rf r1) (ty := .array (.object "java/lang/StackTraceElement")) (C := RX15) (T := TX15) (N := 7) hx hb hts in_X15 tyX15 tyX15_ok nmX15 hown hK hP hD hS 0 rfl rfl 1 (by decide) (hts _ q593) (fun _ h9 => h9) rfl (by decide +kernel) (by cases r1 <;> rfl) (by cases r1 <;> rfl) (Nat.le_of_ble_eq_true rfl) dJ8_init_2_13 (fun H locs hP hD hS => ?_)
  have hP : va_P D vwCl [(h0, .inr (14, [.ref h0, va_rf r1, .null, .null, .null, .int 0, .int 0]))] H := hP
  have hD : va_D A [(h0, .inr (14, [.ref h0, va_rf r1, .null, .null, .null, .int 0, .int 0]))] := hD
  refine lv_aload_n hx hb dJ8_init_2_16 rfl (lv_at hl 0 rfl) ?_
  obtain ⟨r2, hz2⟩ := zq_any (hKK.2.2.2.2.2.1.1.narrow hb0)
  refine va_gets hx hb hz2 hS hown (hts _ q558) (fun _ h9 => h9) dJ8_init_2_17 ?_
  refine va_put (D := D) (ci := 14) (v := va_rf r2) (ty := .object "java/util/List") (C := RX15) (T := TX15) (N := 7) hx hb hts in_X15 tyX15 tyX15_ok nmX15 hown hK hP hD hS 0 rfl rfl 2 (by decide) (hts _ q594) (fun _ h9 => h9) rfl (by decide +kernel) (by cases r2 <;> rfl) (by cases r2 <;> rfl) (Nat.le_of_ble_eq_true rfl) dJ8_init_2_20 (fun H locs hP hD hS => ?_)
  have hP : va_P D vwCl [(h0, .inr (14, [.ref h0, va_rf r1, va_rf r2, .null, .null, .int 0, .int 0]))] H := hP
  have hD : va_D A [(h0, .inr (14, [.ref h0, va_rf r1, va_rf r2, .null, .null, .int 0, .int 0]))] := hD
  refine lv_iload hx hb dJ8_init_2_23 (lv_at hl 4 rfl) ?_
  refine lv_if_eq (tgt := 36) hx hb dJ8_init_2_25 (by decide) (fun _ => ?_) (fun z9 => absurd (rfl) z9)
  refine lv_aload_n hx hb dJ8_init_2_36 rfl (lv_at hl 0 rfl) ?_
  refine lv_null hx hb dJ8_init_2_37 ?_
  refine va_put (D := D) (ci := 14) (v := .null) (ty := .array (.object "java/lang/StackTraceElement")) (C := RX15) (T := TX15) (N := 7) hx hb hts in_X15 tyX15 tyX15_ok nmX15 hown hK hP hD hS 0 rfl rfl 1 (by decide) (hts _ q593) (fun _ h9 => h9) rfl (by decide +kernel) rfl rfl (Nat.le_of_ble_eq_true rfl) dJ8_init_2_38 (fun H locs hP hD hS => ?_)
  have hP : va_P D vwCl [(h0, .inr (14, [.ref h0, .null, va_rf r2, .null, .null, .int 0, .int 0]))] H := hP
  have hD : va_D A [(h0, .inr (14, [.ref h0, .null, va_rf r2, .null, .null, .int 0, .int 0]))] := hD
  refine lv_aload_n hx hb dJ8_init_2_41 rfl (lv_at hl 0 rfl) ?_
  refine lv_aload_nN hx hb dJ8_init_2_42 rfl (lv_at hl 1 rfl) ?_
  refine va_put (D := D) (ci := 14) (v := .null) (ty := .object "java/lang/String") (C := RX15) (T := TX15) (N := 7) hx hb hts in_X15 tyX15 tyX15_ok nmX15 hown hK hP hD hS 0 rfl rfl 3 (by decide) (hts _ q591) (fun _ h9 => h9) rfl (by decide +kernel) rfl rfl (Nat.le_of_ble_eq_true rfl) dJ8_init_2_43 (fun H locs hP hD hS => ?_)
  have hP : va_P D vwCl [(h0, .inr (14, [.ref h0, .null, va_rf r2, .null, .null, .int 0, .int 0]))] H := hP
  have hD : va_D A [(h0, .inr (14, [.ref h0, .null, va_rf r2, .null, .null, .int 0, .int 0]))] := hD
  refine lv_aload_n hx hb dJ8_init_2_46 rfl (lv_at hl 0 rfl) ?_
  refine lv_aload_nN hx hb dJ8_init_2_47 rfl (lv_at hl 2 rfl) ?_
  refine va_put (D := D) (ci := 14) (v := .null) (ty := .object "java/lang/Throwable") (C := RX15) (T := TX15) (N := 7) hx hb hts in_X15 tyX15 tyX15_ok nmX15 hown hK hP hD hS 0 rfl rfl 0 (by decide) (hts _ q592) (fun _ h9 => h9) rfl (by decide +kernel) rfl rfl (Nat.le_of_ble_eq_true rfl) dJ8_init_2_48 (fun H locs hP hD hS => ?_)
  have hP : va_P D vwCl [(h0, .inr (14, [.null, .null, va_rf r2, .null, .null, .int 0, .int 0]))] H := hP
  have hD : va_D A [(h0, .inr (14, [.null, .null, va_rf r2, .null, .null, .int 0, .int 0]))] := hD
  refine lv_iload_n hx hb dJ8_init_2_51 rfl (lv_at hl 3 rfl) ?_
  refine lv_if_ne (tgt := 60) hx hb dJ8_init_2_52 (by decide) (fun z9 => absurd (rfl) z9) (fun _ => ?_)
  refine lv_aload_n hx hb dJ8_init_2_55 rfl (lv_at hl 0 rfl) ?_
  refine lv_null hx hb dJ8_init_2_56 ?_
  refine va_put (D := D) (ci := 14) (v := .null) (ty := .object "java/util/List") (C := RX15) (T := TX15) (N := 7) hx hb hts in_X15 tyX15 tyX15_ok nmX15 hown hK hP hD hS 0 rfl rfl 2 (by decide) (hts _ q594) (fun _ h9 => h9) rfl (by decide +kernel) rfl rfl (Nat.le_of_ble_eq_true rfl) dJ8_init_2_57 (fun H locs hP hD hS => ?_)
  have hP : va_P D vwCl [(h0, .inr (14, [.null, .null, .null, .null, .null, .int 0, .int 0]))] H := hP
  have hD : va_D A [(h0, .inr (14, [.null, .null, .null, .null, .null, .int 0, .int 0]))] := hD
  refine W.widen (k := 0) (n := 0) (by first | decide | omega) (by first | decide | omega) ?_
  exact W.vret hx hb hrt (fun t ht hW => ⟨⟨(), rfl, by rw [ht]; exact hP, hD⟩, hS.F ht⟩) hS.2.2 dJ8_init_2_60
theorem v_Exc_F {sz : Nat} {h0 : Nat}  : VmI l D ca zb yJ9_init cJ9_init 5 none 2 0 0 [.ref h0, .null, .null, .int 0, .int 0] [(h0, .inr (14, [.null, .null, .null, .null, .null, .int 0, .int 0]))] (fun _ => True) sz (ι := Unit) (fun x9 => none) (fun x9 => [(h0, .inr (14, [.null, .null, .null, .null, .null, .int 0, .int 0]))]) := by
  refine v_start (own := RJ9) (by decide) rfl (Nat.le_of_ble_eq_true rfl) fun p e s m below meth c A X hrt hlk hnm hKK hb0 hex hsz hAe ls hl hP hD hS hA => ?_
  have hl : lv_has ls 5 [(0, .ref h0), (1, .null), (2, .null), (3, .int 0), (4, .int 0)] := hl
  have X2 := X
  obtain ⟨hx, hb, hml, hown, hts⟩ := X2
  have hK := hKK.1
  obtain ⟨H, hH⟩ : ∃ H, H = s.heap := ⟨_, rfl⟩
  have hS : va_S A s.heap H [] := by rw [hH]; exact hS
  have hP : va_P D vwCl [(h0, .inr (14, [.null, .null, .null, .null, .null, .int 0, .int 0]))] H := by rw [hH]; exact hP
  rw [← hH]
  refine lv_aload_n hx hb dJ9_init_0 rfl (lv_at hl 0 rfl) ?_
  refine lv_aload_nN hx hb dJ9_init_1 rfl (lv_at hl 1 rfl) ?_
  refine lv_aload_nN hx hb dJ9_init_2 rfl (lv_at hl 2 rfl) ?_
  refine lv_iload_n hx hb dJ9_init_3 rfl (lv_at hl 3 rfl) ?_
  refine lv_iload hx hb dJ9_init_4 (lv_at hl 4 rfl) ?_
  have hPc := hP.sub (ws' := [(h0, .inr (14, [.null, .null, .null, .null, .null, .int 0, .int 0]))]) [0] rfl
  have hDc := hD.sub (ws' := [(h0, .inr (14, [.null, .null, .null, .null, .null, .int 0, .int 0]))]) [0] (by decide) rfl
  have hFc := va_free (wc := [(h0, .inr (14, [.null, .null, .null, .null, .null, .int 0, .int 0]))]) hD hS hA [0] rfl
  refine q_callE (va_runI (As := [.null, .null, .int 0, .int 0]) (rest := []) ⟨hx, hb, hml, hown, hts⟩ (v_Thr_F (sz := H.size) (h0 := h0) ) (cwI 4 hts (lw_meth q585) rfl rfl rfl (hts _ q81) (hts _ q583) (hts _ q584) rfl (by decide +kernel) ⟨Nat.le_of_ble_eq_true rfl, Nat.le_of_ble_eq_true rfl⟩) ⟨v_blind (fun _ _ _ _ h => h), fun U hU hW => ⟨rfl, by rw [hU], by rw [hU]; exact hPc, hKK.go hS hb0 hU hW, hDc.weaken (fun _ _ _ _ => trivial), (fun q h => hb0 q (hFc q h)), trivial⟩⟩ rfl rfl hl.1 rfl (lv_room (Nat.le_of_ble_eq_true rfl)) dJ9_init_6 ⟨by first | decide | (dsimp only; omega), by first | decide | (dsimp only; omega)⟩) hS (fun q _ h => hFc q h) hFc (fun x1 t H1 locs ht hvm hB hz1 hk1 hS => ?_)
  obtain ⟨hP1, hD1⟩ := hB
  rw [ht] at hP1
  cases x1
  obtain ⟨hP, hD⟩ := va_join (wr := []) (w1 := [(h0, .inr (14, [.null, .null, .null, .null, .null, .int 0, .int 0]))]) hP hD [0] [] rfl rfl (by decide) (by decide) hk1 hFc hP1 hD1
  generalize H1 = H at hP hS ⊢
  have hP : va_P D vwCl [(h0, .inr (14, [.null, .null, .null, .null, .null, .int 0, .int 0]))] H := hP
  have hD : va_D A [(h0, .inr (14, [.null, .null, .null, .null, .null, .int 0, .int 0]))] := hD
  refine W.eq (g2 := F0 m 9 ls []) rfl ?_
  refine W.widen (k := 0) (n := 0) (by first | decide | omega) (by first | decide | omega) ?_
  exact W.vret hx hb hrt (fun t ht hW => ⟨⟨(), rfl, by rw [ht]; exact hP, hD⟩, hS.F ht⟩) hS.2.2 dJ9_init_9
theorem v_Refused {sz : Nat} {h0 : Nat} {p0 p1 : Int32}  : VmI l D ca zb yX8_init cX8_init 3 none 3 0 0 [.ref h0, .int p0, .int p1] [(h0, .inr (13, [.null, .null, .null, .null, .null, .int 0, .int 0, .int 0]))] (fun _ => True) sz (ι := Unit) (fun x9 => none) (fun x9 => [(h0, .inr (13, [.null, .null, .null, .null, .null, .int 0, .int p0, .int p1]))]) := by
  refine v_start (own := RX8) (by decide) rfl (Nat.le_of_ble_eq_true rfl) fun p e s m below meth c A X hrt hlk hnm hKK hb0 hex hsz hAe ls hl hP hD hS hA => ?_
  have hl : lv_has ls 3 [(0, .ref h0), (1, .int p0), (2, .int p1)] := hl
  have X2 := X
  obtain ⟨hx, hb, hml, hown, hts⟩ := X2
  have hK := hKK.1
  obtain ⟨H, hH⟩ : ∃ H, H = s.heap := ⟨_, rfl⟩
  have hS : va_S A s.heap H [] := by rw [hH]; exact hS
  have hP : va_P D vwCl [(h0, .inr (13, [.null, .null, .null, .null, .null, .int 0, .int 0, .int 0]))] H := by rw [hH]; exact hP
  rw [← hH]
  refine lv_aload_n hx hb dX8_init_0 rfl (lv_at hl 0 rfl) ?_
  refine lv_null hx hb dX8_init_1 ?_
  refine lv_null hx hb dX8_init_2 ?_
  refine lv_iconst (v := 0) hx hb dX8_init_3 rfl ?_
  refine lv_iconst (v := 0) hx hb dX8_init_4 rfl ?_
  have hPc := hP.sub (ws' := [(h0, .inr (13, [.null, .null, .null, .null, .null, .int 0, .int 0, .int 0]))]) [0] rfl
  have hDc := hD.sub (ws' := [(h0, .inr (13, [.null, .null, .null, .null, .null, .int 0, .int 0, .int 0]))]) [0] (by decide) rfl
  have hFc := va_free (wc := [(h0, .inr (13, [.null, .null, .null, .null, .null, .int 0, .int 0, .int 0]))]) hD hS hA [0] rfl
  refine q_callE (va_runI (As := [.null, .null, .int 0, .int 0]) (rest := []) ⟨hx, hb, hml, hown, hts⟩ (v_Exc_R (sz := H.size) (h0 := h0) ) (cwI 4 hts (lw_meth q582) rfl rfl rfl (hts _ q82) (hts _ q580) (hts _ q581) rfl (by decide +kernel) ⟨Nat.le_of_ble_eq_true rfl, Nat.le_of_ble_eq_true rfl⟩) ⟨v_blind (fun _ _ _ _ h => h), fun U hU hW => ⟨rfl, by rw [hU], by rw [hU]; exact hPc, hKK.go hS hb0 hU hW, hDc.weaken (fun _ _ _ _ => trivial), (fun q h => hb0 q (hFc q h)), trivial⟩⟩ rfl rfl hl.1 rfl (lv_room (Nat.le_of_ble_eq_true rfl)) dX8_init_5 ⟨by first | decide | (dsimp only; omega), by first | decide | (dsimp only; omega)⟩) hS (fun q _ h => hFc q h) hFc (fun x1 t H1 locs ht hvm hB hz1 hk1 hS => ?_)
  obtain ⟨hP1, hD1⟩ := hB
  rw [ht] at hP1
  cases x1
  obtain ⟨hP, hD⟩ := va_join (wr := []) (w1 := [(h0, .inr (13, [.null, .null, .null, .null, .null, .int 0, .int 0, .int 0]))]) hP hD [0] [] rfl rfl (by decide) (by decide) hk1 hFc hP1 hD1
  generalize H1 = H at hP hS ⊢
  have hP : va_P D vwCl [(h0, .inr (13, [.null, .null, .null, .null, .null, .int 0, .int 0, .int 0]))] H := hP
  have hD : va_D A [(h0, .inr (13, [.null, .null, .null, .null, .null, .int 0, .int 0, .int 0]))] := hD
  refine W.eq (g2 := F0 m 8 ls []) rfl ?_
  refine lv_aload_n hx hb dX8_init_8 rfl (lv_at hl 0 rfl) ?_
  refine lv_iload_n hx hb dX8_init_9 rfl (lv_at hl 1 rfl) ?_
  refine va_putF (D := D) (ci := 13) (v := .int p0) (ty := .int) (C := RX8) (T := TX8) (N := 8) hx hb hts in_X8 tyX8 tyX8_ok nmX8 hown hK hP hD hS 0 rfl rfl 6 (by decide) (hts _ q586) (fun _ h9 => h9) rfl hnm rfl (by decide +kernel) rfl rfl (Nat.le_of_ble_eq_true rfl) dX8_init_10 (fun H locs hP hD hS => ?_)
  have hP : va_P D vwCl [(h0, .inr (13, [.null, .null, .null, .null, .null, .int 0, .int p0, .int 0]))] H := hP
  have hD : va_D A [(h0, .inr (13, [.null, .null, .null, .null, .null, .int 0, .int p0, .int 0]))] := hD
  refine lv_aload_n hx hb dX8_init_13 rfl (lv_at hl 0 rfl) ?_
  refine lv_iload_n hx hb dX8_init_14 rfl (lv_at hl 2 rfl) ?_
  refine va_putF (D := D) (ci := 13) (v := .int p1) (ty := .int) (C := RX8) (T := TX8) (N := 8) hx hb hts in_X8 tyX8 tyX8_ok nmX8 hown hK hP hD hS 0 rfl rfl 7 (by decide) (hts _ q588) (fun _ h9 => h9) rfl hnm rfl (by decide +kernel) rfl rfl (Nat.le_of_ble_eq_true rfl) dX8_init_15 (fun H locs hP hD hS => ?_)
  have hP : va_P D vwCl [(h0, .inr (13, [.null, .null, .null, .null, .null, .int 0, .int p0, .int p1]))] H := hP
  have hD : va_D A [(h0, .inr (13, [.null, .null, .null, .null, .null, .int 0, .int p0, .int p1]))] := hD
  refine W.widen (k := 0) (n := 0) (by first | decide | omega) (by first | decide | omega) ?_
  exact W.vret hx hb hrt (fun t ht hW => ⟨⟨(), rfl, by rw [ht]; exact hP, hD⟩, hS.F ht⟩) hS.2.2 dX8_init_18
theorem v_Fault {sz : Nat} {h0 : Nat} {p0 : Int32}  : VmI l D ca zb yX15_init cX15_init 2 none 3 0 0 [.ref h0, .int p0] [(h0, .inr (14, [.null, .null, .null, .null, .null, .int 0, .int 0]))] (fun _ => True) sz (ι := Unit) (fun x9 => none) (fun x9 => [(h0, .inr (14, [.null, .null, .null, .null, .null, .int 0, .int p0]))]) := by
  refine v_start (own := RX15) (by decide) rfl (Nat.le_of_ble_eq_true rfl) fun p e s m below meth c A X hrt hlk hnm hKK hb0 hex hsz hAe ls hl hP hD hS hA => ?_
  have hl : lv_has ls 2 [(0, .ref h0), (1, .int p0)] := hl
  have X2 := X
  obtain ⟨hx, hb, hml, hown, hts⟩ := X2
  have hK := hKK.1
  obtain ⟨H, hH⟩ : ∃ H, H = s.heap := ⟨_, rfl⟩
  have hS : va_S A s.heap H [] := by rw [hH]; exact hS
  have hP : va_P D vwCl [(h0, .inr (14, [.null, .null, .null, .null, .null, .int 0, .int 0]))] H := by rw [hH]; exact hP
  rw [← hH]
  refine lv_aload_n hx hb dX15_init_0 rfl (lv_at hl 0 rfl) ?_
  refine lv_null hx hb dX15_init_1 ?_
  refine lv_null hx hb dX15_init_2 ?_
  refine lv_iconst (v := 0) hx hb dX15_init_3 rfl ?_
  refine lv_iconst (v := 0) hx hb dX15_init_4 rfl ?_
  have hPc := hP.sub (ws' := [(h0, .inr (14, [.null, .null, .null, .null, .null, .int 0, .int 0]))]) [0] rfl
  have hDc := hD.sub (ws' := [(h0, .inr (14, [.null, .null, .null, .null, .null, .int 0, .int 0]))]) [0] (by decide) rfl
  have hFc := va_free (wc := [(h0, .inr (14, [.null, .null, .null, .null, .null, .int 0, .int 0]))]) hD hS hA [0] rfl
  refine q_callE (va_runI (As := [.null, .null, .int 0, .int 0]) (rest := []) ⟨hx, hb, hml, hown, hts⟩ (v_Exc_F (sz := H.size) (h0 := h0) ) (cwI 4 hts (lw_meth q582) rfl rfl rfl (hts _ q82) (hts _ q1291) (hts _ q581) rfl (by decide +kernel) ⟨Nat.le_of_ble_eq_true rfl, Nat.le_of_ble_eq_true rfl⟩) ⟨v_blind (fun _ _ _ _ h => h), fun U hU hW => ⟨rfl, by rw [hU], by rw [hU]; exact hPc, hKK.go hS hb0 hU hW, hDc.weaken (fun _ _ _ _ => trivial), (fun q h => hb0 q (hFc q h)), trivial⟩⟩ rfl rfl hl.1 rfl (lv_room (Nat.le_of_ble_eq_true rfl)) dX15_init_5 ⟨by first | decide | (dsimp only; omega), by first | decide | (dsimp only; omega)⟩) hS (fun q _ h => hFc q h) hFc (fun x1 t H1 locs ht hvm hB hz1 hk1 hS => ?_)
  obtain ⟨hP1, hD1⟩ := hB
  rw [ht] at hP1
  cases x1
  obtain ⟨hP, hD⟩ := va_join (wr := []) (w1 := [(h0, .inr (14, [.null, .null, .null, .null, .null, .int 0, .int 0]))]) hP hD [0] [] rfl rfl (by decide) (by decide) hk1 hFc hP1 hD1
  generalize H1 = H at hP hS ⊢
  have hP : va_P D vwCl [(h0, .inr (14, [.null, .null, .null, .null, .null, .int 0, .int 0]))] H := hP
  have hD : va_D A [(h0, .inr (14, [.null, .null, .null, .null, .null, .int 0, .int 0]))] := hD
  refine W.eq (g2 := F0 m 8 ls []) rfl ?_
  refine lv_aload_n hx hb dX15_init_8 rfl (lv_at hl 0 rfl) ?_
  refine lv_iload_n hx hb dX15_init_9 rfl (lv_at hl 1 rfl) ?_
  refine va_putF (D := D) (ci := 14) (v := .int p0) (ty := .int) (C := RX15) (T := TX15) (N := 7) hx hb hts in_X15 tyX15 tyX15_ok nmX15 hown hK hP hD hS 0 rfl rfl 6 (by decide) (hts _ q1292) (fun _ h9 => h9) rfl hnm rfl (by decide +kernel) rfl rfl (Nat.le_of_ble_eq_true rfl) dX15_init_10 (fun H locs hP hD hS => ?_)
  have hP : va_P D vwCl [(h0, .inr (14, [.null, .null, .null, .null, .null, .int 0, .int p0]))] H := hP
  have hD : va_D A [(h0, .inr (14, [.null, .null, .null, .null, .null, .int 0, .int p0]))] := hD
  refine W.widen (k := 0) (n := 0) (by first | decide | omega) (by first | decide | omega) ?_
  exact W.vret hx hb hrt (fun t ht hW => ⟨⟨(), rfl, by rw [ht]; exact hP, hD⟩, hS.F ht⟩) hS.2.2 dX15_init_13
theorem v_R_size {la : Nat} {v0 v1 : Value} {cn : Int32}  : VrI l D ca zb yJ2_size cJ2_size 1 (some .int) 0 [.ref la] [(la, .inr (7, [v0, v1, .int cn]))] (some (.int cn)) := by
  refine vr_start (own := RJ2) (by decide) rfl (Nat.le_of_ble_eq_true rfl) fun p e s m below meth c X hrt hlk hKK ls hl hP => ?_
  have hl : lv_has ls 1 [(0, .ref la)] := hl
  have X2 := X
  obtain ⟨hx, hb, hml, hown, hts⟩ := X2
  have hK := hKK.1
  obtain ⟨H, hH⟩ : ∃ H, H = s.heap := ⟨_, rfl⟩
  have hP : va_P D vwCl [(la, .inr (7, [v0, v1, .int cn]))] H := by rw [hH]; exact hP
  rw [← hH]
  refine lv_aload_n hx hb dJ2_size_0 rfl (lv_at hl 0 rfl) ?_
  refine va_get (D := D) (ci := 7) (v := .int cn) (C := RJ2) (T := TJ2) (N := 3) hx hb hts in_J2 hown hK hP 0 rfl rfl 2 (by decide) (hts _ q133) (fun _ h9 => h9) rfl dJ2_size_1 ?_
  exact W.iret (v := cn) hx hb hrt (fun t ht hW => ⟨rfl, by rw [ht, hH]⟩) (fun q h => by cases h) dJ2_size_4
theorem v_R_isE0 {la : Nat} {v0 v1 : Value}  : VrI l D ca zb yJ2_isEmpty cJ2_isEmpty 1 (some .boolean) 0 [.ref la] [(la, .inr (7, [v0, v1, .int 0]))] (some (.int 1)) := by
  refine vr_start (own := RJ2) (by decide) rfl (Nat.le_of_ble_eq_true rfl) fun p e s m below meth c X hrt hlk hKK ls hl hP => ?_
  have hl : lv_has ls 1 [(0, .ref la)] := hl
  have X2 := X
  obtain ⟨hx, hb, hml, hown, hts⟩ := X2
  have hK := hKK.1
  obtain ⟨H, hH⟩ : ∃ H, H = s.heap := ⟨_, rfl⟩
  have hP : va_P D vwCl [(la, .inr (7, [v0, v1, .int 0]))] H := by rw [hH]; exact hP
  rw [← hH]
  refine lv_aload_n hx hb dJ2_isEmpty_0 rfl (lv_at hl 0 rfl) ?_
  refine va_get (D := D) (ci := 7) (v := .int 0) (C := RJ2) (T := TJ2) (N := 3) hx hb hts in_J2 hown hK hP 0 rfl rfl 2 (by decide) (hts _ q133) (fun _ h9 => h9) rfl dJ2_isEmpty_1 ?_
  refine lv_if_ne (tgt := 11) hx hb dJ2_isEmpty_4 (by decide) (fun z9 => absurd (rfl) z9) (fun _ => ?_)
  refine lv_iconst (v := 1) hx hb dJ2_isEmpty_7 rfl ?_
  refine lv_goto (tgt := 12) hx hb dJ2_isEmpty_8 (by decide) ?_
  exact W.zret (v := 1) hx hb hrt (gb_n (Or.inr rfl)) (fun t ht hW => ⟨rfl, by rw [ht, hH]⟩) (fun q h => by cases h) dJ2_isEmpty_12
theorem v_R_isE1 {la : Nat} {v0 v1 : Value} {cn : Int32} (hc : ¬ cn = 0) : VrI l D ca zb yJ2_isEmpty cJ2_isEmpty 1 (some .boolean) 0 [.ref la] [(la, .inr (7, [v0, v1, .int cn]))] (some (.int 0)) := by
  refine vr_start (own := RJ2) (by decide) rfl (Nat.le_of_ble_eq_true rfl) fun p e s m below meth c X hrt hlk hKK ls hl hP => ?_
  have hl : lv_has ls 1 [(0, .ref la)] := hl
  have X2 := X
  obtain ⟨hx, hb, hml, hown, hts⟩ := X2
  have hK := hKK.1
  obtain ⟨H, hH⟩ : ∃ H, H = s.heap := ⟨_, rfl⟩
  have hP : va_P D vwCl [(la, .inr (7, [v0, v1, .int cn]))] H := by rw [hH]; exact hP
  rw [← hH]
  refine lv_aload_n hx hb dJ2_isEmpty_0 rfl (lv_at hl 0 rfl) ?_
  refine va_get (D := D) (ci := 7) (v := .int cn) (C := RJ2) (T := TJ2) (N := 3) hx hb hts in_J2 hown hK hP 0 rfl rfl 2 (by decide) (hts _ q133) (fun _ h9 => h9) rfl dJ2_isEmpty_1 ?_
  refine lv_if_ne (tgt := 11) hx hb dJ2_isEmpty_4 (by decide) (fun _ => ?_) (fun z9 => absurd z9 (hc))
  refine lv_iconst (v := 0) hx hb dJ2_isEmpty_11 rfl ?_
  exact W.zret (v := 0) hx hb hrt (gb_n (Or.inl rfl)) (fun t ht hW => ⟨rfl, by rw [ht, hH]⟩) (fun q h => by cases h) dJ2_isEmpty_12
theorem v_R_chk4 {ix cn : Int32} (h0 : ¬ ix < 0) (h1 : ix < cn) : VrI l D ca zb yJ4_checkIndex cJ4_checkIndex 3 (some .int) 0 [.int ix, .int cn, .null] [] (some (.int ix)) := by
  refine vr_start (own := RJ4) (by decide) rfl (Nat.le_of_ble_eq_true rfl) fun p e s m below meth c X hrt hlk hKK ls hl hP => ?_
  have hl : lv_has ls 3 [(0, .int ix), (1, .int cn), (2, .null)] := hl
  have X2 := X
  obtain ⟨hx, hb, hml, hown, hts⟩ := X2
  have hK := hKK.1
  obtain ⟨H, hH⟩ : ∃ H, H = s.heap := ⟨_, rfl⟩
  have hP : va_P D vwCl [] H := by rw [hH]; exact hP
  rw [← hH]
  refine lv_iload_n hx hb dJ4_checkIndex_0 rfl (lv_at hl 0 rfl) ?_
  refine lv_if_lt (tgt := 9) hx hb dJ4_checkIndex_1 (by decide) (fun z9 => absurd z9 (h0)) (fun _ => ?_)
  refine lv_iload_n hx hb dJ4_checkIndex_4 rfl (lv_at hl 0 rfl) ?_
  refine lv_iload_n hx hb dJ4_checkIndex_5 rfl (lv_at hl 1 rfl) ?_
  refine lv_icmp_lt (tgt := 16) hx hb dJ4_checkIndex_6 (by decide) (fun _ => ?_) (fun z9 => absurd (h1) z9)
  refine lv_iload_n hx hb dJ4_checkIndex_16 rfl (lv_at hl 0 rfl) ?_
  exact W.iret (v := ix) hx hb hrt (fun t ht hW => ⟨rfl, by rw [ht, hH]⟩) (fun q h => by cases h) dJ4_checkIndex_17
theorem v_R_chk {ix cn : Int32} (h0 : ¬ ix < 0) (h1 : ix < cn) : VrI l D ca zb yJ3_checkIndex cJ3_checkIndex 2 (some .int) 1 [.int ix, .int cn] [] (some (.int ix)) := by
  refine vr_start (own := RJ3) (by decide) rfl (Nat.le_of_ble_eq_true rfl) fun p e s m below meth c X hrt hlk hKK ls hl hP => ?_
  have hl : lv_has ls 2 [(0, .int ix), (1, .int cn)] := hl
  have X2 := X
  obtain ⟨hx, hb, hml, hown, hts⟩ := X2
  have hK := hKK.1
  obtain ⟨H, hH⟩ : ∃ H, H = s.heap := ⟨_, rfl⟩
  have hP : va_P D vwCl [] H := by rw [hH]; exact hP
  rw [← hH]
  refine lv_iload_n hx hb dJ3_checkIndex_0 rfl (lv_at hl 0 rfl) ?_
  refine lv_iload_n hx hb dJ3_checkIndex_1 rfl (lv_at hl 1 rfl) ?_
  refine lv_null hx hb dJ3_checkIndex_2 ?_
  have hPc := hP.sub (ws' := []) [] rfl
  refine q_callS (va_runS (As := [.int ix, .int cn, .null]) (rest := []) ⟨hx, hb, hml, hown, hts⟩ (v_R_chk4 (D := D) (ca := ca) (zb := zb) (ix := ix) (cn := cn) h0 h1) (va_cwS 3 hts (lw_S q257 q258 q73 q259) rfl rfl rfl (by decide +kernel) ⟨Nat.le_of_ble_eq_true rfl, Nat.le_of_ble_eq_true rfl⟩) ⟨vr_blind, fun U hU hW => ⟨rfl, by rw [hU]; exact hPc, hKK.ro (hU.trans hH) hW⟩⟩ rfl rfl hl.1 rfl (lv_room (Nat.le_of_ble_eq_true rfl)) dJ3_checkIndex_3 ⟨by first | decide | (dsimp only; omega), by first | decide | (dsimp only; omega)⟩) ?_
  refine W.eq (g2 := F0 m 6 ls [.int ix]) rfl ?_
  exact W.iret (v := ix) hx hb hrt (fun t ht hW => ⟨rfl, by rw [ht, hH]⟩) (fun q h => by cases h) dJ3_checkIndex_6
theorem v_R_elem {la ea y n : Nat} {v0 v2 : Value} {ix : Int32} {f : Nat → Option Nat} (hi : vp_in ix n) (hy : f ix.toNatClampNeg = some y) : VrI l D ca zb yJ2_elementData cJ2_elementData 2 (some (.object "java/lang/Object")) 0 [.ref la, .int ix] [(la, .inr (7, [v0, .ref ea, v2])), (ea, .inl (ca 1, n, .inr (.inr (.inr (.inr f)))))] (some (.ref y)) := by
  refine vr_start (own := RJ2) (by decide) rfl (Nat.le_of_ble_eq_true rfl) fun p e s m below meth c X hrt hlk hKK ls hl hP => ?_
  have hl : lv_has ls 2 [(0, .ref la), (1, .int ix)] := hl
  have X2 := X
  obtain ⟨hx, hb, hml, hown, hts⟩ := X2
  have hK := hKK.1
  obtain ⟨H, hH⟩ : ∃ H, H = s.heap := ⟨_, rfl⟩
  have hP : va_P D vwCl [(la, .inr (7, [v0, .ref ea, v2])), (ea, .inl (ca 1, n, .inr (.inr (.inr (.inr f)))))] H := by rw [hH]; exact hP
  rw [← hH]
  refine lv_aload_n hx hb dJ2_elementData_0 rfl (lv_at hl 0 rfl) ?_
  refine va_get (D := D) (ci := 7) (v := .ref ea) (C := RJ2) (T := TJ2) (N := 3) hx hb hts in_J2 hown hK hP 0 rfl rfl 1 (by decide) (hts _ q132) (fun _ h9 => h9) rfl dJ2_elementData_1 ?_
  refine lv_iload_n hx hb dJ2_elementData_4 rfl (lv_at hl 1 rfl) ?_
  refine va_aldq hx hb hK hP 1 1 rfl rfl hi dJ2_elementData_5 ?_
  rw [hy]
  exact W.aret (v := .ref y) hx hb hrt (Or.inl ⟨_, rfl⟩) (Or.inr ⟨_, rfl⟩) (fun t ht hW => ⟨rfl, by rw [ht, hH]⟩) (fun q h => by cases h) dJ2_elementData_6
theorem v_R_get {la ea y n : Nat} {v0 : Value} {ix cn : Int32} {f : Nat → Option Nat} (h0 : ¬ ix < 0) (h1 : ix < cn) (hi : vp_in ix n) (hy : f ix.toNatClampNeg = some y) : VrI l D ca zb yJ2_get cJ2_get 2 (some (.object "java/lang/Object")) 2 [.ref la, .int ix] [(la, .inr (7, [v0, .ref ea, .int cn])), (ea, .inl (ca 1, n, .inr (.inr (.inr (.inr f)))))] (some (.ref y)) := by
  refine vr_start (own := RJ2) (by decide) rfl (Nat.le_of_ble_eq_true rfl) fun p e s m below meth c X hrt hlk hKK ls hl hP => ?_
  have hl : lv_has ls 2 [(0, .ref la), (1, .int ix)] := hl
  have X2 := X
  obtain ⟨hx, hb, hml, hown, hts⟩ := X2
  have hK := hKK.1
  obtain ⟨H, hH⟩ : ∃ H, H = s.heap := ⟨_, rfl⟩
  have hP : va_P D vwCl [(la, .inr (7, [v0, .ref ea, .int cn])), (ea, .inl (ca 1, n, .inr (.inr (.inr (.inr f)))))] H := by rw [hH]; exact hP
  rw [← hH]
  refine lv_iload_n hx hb dJ2_get_0 rfl (lv_at hl 1 rfl) ?_
  refine lv_aload_n hx hb dJ2_get_1 rfl (lv_at hl 0 rfl) ?_
  refine va_get (D := D) (ci := 7) (v := .int cn) (C := RJ2) (T := TJ2) (N := 3) hx hb hts in_J2 hown hK hP 0 rfl rfl 2 (by decide) (hts _ q133) (fun _ h9 => h9) rfl dJ2_get_2 ?_
  have hPc := hP.sub (ws' := []) [] rfl
  refine q_callS (va_runS (As := [.int ix, .int cn]) (rest := []) ⟨hx, hb, hml, hown, hts⟩ (v_R_chk (D := D) (ca := ca) (zb := zb) (ix := ix) (cn := cn) h0 h1) (va_cwS 2 hts (lw_S q254 q255 q72 q256) rfl rfl rfl (by decide +kernel) ⟨Nat.le_of_ble_eq_true rfl, Nat.le_of_ble_eq_true rfl⟩) ⟨vr_blind, fun U hU hW => ⟨rfl, by rw [hU]; exact hPc, hKK.ro (hU.trans hH) hW⟩⟩ rfl rfl hl.1 rfl (lv_room (Nat.le_of_ble_eq_true rfl)) dJ2_get_5 ⟨by first | decide | (dsimp only; omega), by first | decide | (dsimp only; omega)⟩) ?_
  refine W.eq (g2 := F0 m 8 ls [.int ix]) rfl ?_
  refine lv_pop hx hb dJ2_get_8 rfl ?_
  refine lv_aload_n hx hb dJ2_get_9 rfl (lv_at hl 0 rfl) ?_
  refine lv_iload_n hx hb dJ2_get_10 rfl (lv_at hl 1 rfl) ?_
  have hPc := hP.sub (ws' := [(la, .inr (7, [v0, .ref ea, .int cn])), (ea, .inl (ca 1, n, .inr (.inr (.inr (.inr f)))))]) [0, 1] rfl
  refine q_callS (va_runV (As := [.int ix]) (rest := []) ⟨hx, hb, hml, hown, hts⟩ (v_R_elem (D := D) (ca := ca) (zb := zb) (la := la) (ea := ea) (y := y) (n := n) (v0 := v0) (v2 := .int cn) (ix := ix) (f := f) hi hy) (cwV 1 hts (lw_V q260 q261 q262 q69 q263) rfl rfl rfl (by decide +kernel) ⟨Nat.le_of_ble_eq_true rfl, Nat.le_of_ble_eq_true rfl⟩) ⟨vr_blind, va_recv hK hPc (ci := 7) (q0 := 0) rfl rfl, fun U hU hW => ⟨rfl, by rw [hU]; exact hPc, hKK.ro (hU.trans hH) hW⟩⟩ rfl rfl hl.1 rfl (lv_room (Nat.le_of_ble_eq_true rfl)) dJ2_get_11 ⟨by first | decide | (dsimp only; omega), by first | decide | (dsimp only; omega)⟩) ?_
  refine W.eq (g2 := F0 m 14 ls [.ref y]) rfl ?_
  exact W.aret (v := .ref y) hx hb hrt (Or.inl ⟨_, rfl⟩) (Or.inr ⟨_, rfl⟩) (fun t ht hW => ⟨rfl, by rw [ht, hH]⟩) (fun q h => by cases h) dJ2_get_14
end
