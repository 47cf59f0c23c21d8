section
variable {l : Launch} {D : va_G} {ca : Nat → ClassId} {zb : Nat → Nat}
theorem v_Entry_Inc {sz : Nat} {h0 k0 : Nat} {p0 p1 : Int32}  : VmI l D ca zb yX5_init cX5_init 3 none 1 0 0 [.ref h0, .int p0, .int p1] [(h0, .inr (2, [.int 0, .int 0, .int 0, .null, .int 0, .int 0, .int 0, .int 0, .int 0, .int 0, .int 0, .int 0, .int 0, .int 0, .int 0, .int 0, .int 0, .ref k0]))] (fun _ => True) sz (ι := Unit) (fun x9 => none) (fun x9 => [(h0, .inr (2, [.int p0, .int p1, .int 0, .null, .int 0, .int 0, .int 0, .int 0, .int 0, .int 0, .int 0, .int 0, .int 0, .int 0, .int 0, .int 0, .int 0, .ref k0]))]) := by
  refine v_start (own := RX5) (by decide) rfl (Nat.le_of_ble_eq_true rfl) fun p e s m below meth c A X hrt hlk hnm hKK hb0 hex hsz hAe ls hl hP hD hS hA => ?_
  have hl : lv_has ls 3 [(0, .ref h0), (1, .int p0), (2, .int p1)] := hl
  have X2 := X
  obtain ⟨hx, hb, hml, hown, hts⟩ := X2
  have hK := hKK.1
  obtain ⟨H, hH⟩ : ∃ H, H = s.heap := ⟨_, rfl⟩
  have hS : va_S A s.heap H [] := by rw [hH]; exact hS
  have hP : va_P D vwCl [(h0, .inr (2, [.int 0, .int 0, .int 0, .null, .int 0, .int 0, .int 0, .int 0, .int 0, .int 0, .int 0, .int 0, .int 0, .int 0, .int 0, .int 0, .int 0, .ref k0]))] H := by rw [hH]; exact hP
  rw [← hH]
  refine lv_aload_n hx hb dX5_init_0 rfl (lv_at hl 0 rfl) ?_
  refine W.objInit hx hb hown (hts _ q288) (hts _ q110) (hts _ q111) rfl (by rw [hml]; exact hl.1) rfl dX5_init_1 (Nat.le_of_ble_eq_true rfl) (Nat.le_of_ble_eq_true rfl) ?_
  refine W.eq (g2 := F0 m 4 ls []) rfl ?_
  refine lv_aload_n hx hb dX5_init_4 rfl (lv_at hl 0 rfl) ?_
  refine lv_iload_n hx hb dX5_init_5 rfl (lv_at hl 1 rfl) ?_
  refine va_putF (D := D) (ci := 2) (v := .int p0) (ty := .int) (C := RX6) (T := TX6) (N := 18) hx hb hts in_X6 tyX6 tyX6_ok nmX6 hown hK hP hD hS 0 rfl rfl 0 (by decide) (hts _ q331) (fun _ h9 => h9) rfl hnm rfl (by decide +kernel) rfl rfl (Nat.le_of_ble_eq_true rfl) dX5_init_6 (fun H locs hP hD hS => ?_)
  have hP : va_P D vwCl [(h0, .inr (2, [.int p0, .int 0, .int 0, .null, .int 0, .int 0, .int 0, .int 0, .int 0, .int 0, .int 0, .int 0, .int 0, .int 0, .int 0, .int 0, .int 0, .ref k0]))] H := hP
  have hD : va_D A [(h0, .inr (2, [.int p0, .int 0, .int 0, .null, .int 0, .int 0, .int 0, .int 0, .int 0, .int 0, .int 0, .int 0, .int 0, .int 0, .int 0, .int 0, .int 0, .ref k0]))] := hD
  refine lv_aload_n hx hb dX5_init_9 rfl (lv_at hl 0 rfl) ?_
  refine lv_iload_n hx hb dX5_init_10 rfl (lv_at hl 2 rfl) ?_
  refine va_putF (D := D) (ci := 2) (v := .int p1) (ty := .int) (C := RX6) (T := TX6) (N := 18) hx hb hts in_X6 tyX6 tyX6_ok nmX6 hown hK hP hD hS 0 rfl rfl 1 (by decide) (hts _ q332) (fun _ h9 => h9) rfl hnm rfl (by decide +kernel) rfl rfl (Nat.le_of_ble_eq_true rfl) dX5_init_11 (fun H locs hP hD hS => ?_)
  have hP : va_P D vwCl [(h0, .inr (2, [.int p0, .int p1, .int 0, .null, .int 0, .int 0, .int 0, .int 0, .int 0, .int 0, .int 0, .int 0, .int 0, .int 0, .int 0, .int 0, .int 0, .ref k0]))] H := hP
  have hD : va_D A [(h0, .inr (2, [.int p0, .int p1, .int 0, .null, .int 0, .int 0, .int 0, .int 0, .int 0, .int 0, .int 0, .int 0, .int 0, .int 0, .int 0, .int 0, .int 0, .ref k0]))] := hD
  refine W.widen (k := 0) (n := 0) (by first | decide | omega) (by first | decide | omega) ?_
  exact W.vret hx hb hrt (fun t ht hW => ⟨⟨(), rfl, by rw [ht]; exact hP, hD⟩, hS.F ht⟩) hS.2.2 dX5_init_14
theorem v_Inc {sz : Nat} {h0 k0 : Nat} {p0 p1 p2 : Int32}  : VmI l D ca zb yX6_init cX6_init 5 none 2 1 4 [.ref h0, .ref k0, .int p0, .int p1, .int p2] [(h0, .inr (2, [.int 0, .int 0, .int 0, .null, .int 0, .int 0, .int 0, .int 0, .int 0, .int 0, .int 0, .int 0, .int 0, .int 0, .int 0, .int 0, .int 0, .null]))] (fun _ => True) sz (ι := Nat) (fun x9 => none) (fun x9 => [(h0, .inr (2, [.int p1, .int p2, .int p0, .ref x9, .int 0, .int 0, .int 0, .int 0, .int 0, .int 0, .int 0, .int 0, .int (-1), .int (-1), .int (-1), .int 0, .int 0, .ref k0])), (x9, .inl (ca 0, 4, .inl (fun _ => 0)))]) := by
  refine v_start (own := RX6) (by decide) rfl (Nat.le_of_ble_eq_true rfl) fun p e s m below meth c A X hrt hlk hnm hKK hb0 hex hsz hAe ls hl hP hD hS hA => ?_
  have hl : lv_has ls 5 [(0, .ref h0), (1, .ref k0), (2, .int p0), (3, .int p1), (4, .int p2)] := hl
  have X2 := X
  obtain ⟨hx, hb, hml, hown, hts⟩ := X2
  have hK := hKK.1
  obtain ⟨H, hH⟩ : ∃ H, H = s.heap := ⟨_, rfl⟩
  have hS : va_S A s.heap H [] := by rw [hH]; exact hS
  have hP : va_P D vwCl [(h0, .inr (2, [.int 0, .int 0, .int 0, .null, .int 0, .int 0, .int 0, .int 0, .int 0, .int 0, .int 0, .int 0, .int 0, .int 0, .int 0, .int 0, .int 0, .null]))] H := by rw [hH]; exact hP
  rw [← hH]
  refine lv_aload_n hx hb dX6_init_0 rfl (lv_at hl 0 rfl) ?_
  refine lv_aload_n hx hb dX6_init_1 rfl (lv_at hl 1 rfl) ?_
  refine va_putF (D := D) (ci := 2) (v := .ref k0) (ty := .object "IncidentKeeper$Core") (C := RX6) (T := TX6) (N := 18) hx hb hts in_X6 tyX6 tyX6_ok nmX6 hown hK hP hD hS 0 rfl rfl 17 (by decide) (hts _ q330) (fun _ h9 => h9) rfl hnm rfl (by decide +kernel) rfl rfl (Nat.le_of_ble_eq_true rfl) dX6_init_2 (fun H locs hP hD hS => ?_)
  have hP : va_P D vwCl [(h0, .inr (2, [.int 0, .int 0, .int 0, .null, .int 0, .int 0, .int 0, .int 0, .int 0, .int 0, .int 0, .int 0, .int 0, .int 0, .int 0, .int 0, .int 0, .ref k0]))] H := hP
  have hD : va_D A [(h0, .inr (2, [.int 0, .int 0, .int 0, .null, .int 0, .int 0, .int 0, .int 0, .int 0, .int 0, .int 0, .int 0, .int 0, .int 0, .int 0, .int 0, .int 0, .ref k0]))] := hD
  refine lv_aload_n hx hb dX6_init_5 rfl (lv_at hl 0 rfl) ?_
  refine lv_iload_n hx hb dX6_init_6 rfl (lv_at hl 3 rfl) ?_
  refine lv_iload hx hb dX6_init_7 (lv_at hl 4 rfl) ?_
  have hPc := hP.sub (ws' := [(h0, .inr (2, [.int 0, .int 0, .int 0, .null, .int 0, .int 0, .int 0, .int 0, .int 0, .int 0, .int 0, .int 0, .int 0, .int 0, .int 0, .int 0, .int 0, .ref k0]))]) [0] rfl
  have hDc := hD.sub (ws' := [(h0, .inr (2, [.int 0, .int 0, .int 0, .null, .int 0, .int 0, .int 0, .int 0, .int 0, .int 0, .int 0, .int 0, .int 0, .int 0, .int 0, .int 0, .int 0, .ref k0]))]) [0] (by decide) rfl
  have hFc := va_free (wc := [(h0, .inr (2, [.int 0, .int 0, .int 0, .null, .int 0, .int 0, .int 0, .int 0, .int 0, .int 0, .int 0, .int 0, .int 0, .int 0, .int 0, .int 0, .int 0, .ref k0]))]) hD hS hA [0] rfl
  refine q_callE (va_runI (As := [.int p1, .int p2]) (rest := []) ⟨hx, hb, hml, hown, hts⟩ (v_Entry_Inc (sz := H.size) (h0 := h0) (k0 := k0) (p0 := p1) (p1 := p2) ) (cwI 2 hts (lw_meth q287) rfl rfl rfl (hts _ q74) (hts _ q285) (hts _ q286) rfl (by decide +kernel) ⟨Nat.le_of_ble_eq_true rfl, Nat.le_of_ble_eq_true rfl⟩) ⟨v_blind (fun _ _ _ _ h => h), fun U hU hW => ⟨rfl, by rw [hU], by rw [hU]; exact hPc, hKK.go hS hb0 hU hW, hDc.weaken (fun _ _ _ _ => trivial), (fun q h => hb0 q (hFc q h)), trivial⟩⟩ rfl rfl hl.1 rfl (lv_room (Nat.le_of_ble_eq_true rfl)) dX6_init_9 ⟨by first | decide | (dsimp only; omega), by first | decide | (dsimp only; omega)⟩) hS (fun q _ h => hFc q h) hFc (fun x1 t H1 locs ht hvm hB hz1 hk1 hS => ?_)
  obtain ⟨hP1, hD1⟩ := hB
  rw [ht] at hP1
  cases x1
  obtain ⟨hP, hD⟩ := va_join (wr := []) (w1 := [(h0, .inr (2, [.int p1, .int p2, .int 0, .null, .int 0, .int 0, .int 0, .int 0, .int 0, .int 0, .int 0, .int 0, .int 0, .int 0, .int 0, .int 0, .int 0, .ref k0]))]) hP hD [0] [] rfl rfl (by decide) (by decide) hk1 hFc hP1 hD1
  generalize H1 = H at hP hS ⊢
  have hP : va_P D vwCl [(h0, .inr (2, [.int p1, .int p2, .int 0, .null, .int 0, .int 0, .int 0, .int 0, .int 0, .int 0, .int 0, .int 0, .int 0, .int 0, .int 0, .int 0, .int 0, .ref k0]))] H := hP
  have hD : va_D A [(h0, .inr (2, [.int p1, .int p2, .int 0, .null, .int 0, .int 0, .int 0, .int 0, .int 0, .int 0, .int 0, .int 0, .int 0, .int 0, .int 0, .int 0, .int 0, .ref k0]))] := hD
  refine W.eq (g2 := F0 m 12 ls []) rfl ?_
  refine lv_aload_n hx hb dX6_init_12 rfl (lv_at hl 0 rfl) ?_
  refine lv_iconst (v := 4) hx hb dX6_init_13 rfl ?_
  refine va_newa (atype := .int) (ty := .int) (a0 := (4, .inl (fun _ => 0))) hx hb (hts _ q194) rfl hK hP hD hS hA (fun _ => rfl) (by decide) rfl (by decide) (by first | decide | (dsimp only; omega)) (by first | decide | (dsimp only; omega)) dX6_init_14 (fun q1 cA H hKn hP hD hS => ?_)
  obtain rfl := arr_eq0 hKn
  have hP : va_P D vwCl [(h0, .inr (2, [.int p1, .int p2, .int 0, .null, .int 0, .int 0, .int 0, .int 0, .int 0, .int 0, .int 0, .int 0, .int 0, .int 0, .int 0, .int 0, .int 0, .ref k0])), (q1, .inl (ca 0, 4, .inl (fun _ => 0)))] H := hP
  have hD : va_D A [(h0, .inr (2, [.int p1, .int p2, .int 0, .null, .int 0, .int 0, .int 0, .int 0, .int 0, .int 0, .int 0, .int 0, .int 0, .int 0, .int 0, .int 0, .int 0, .ref k0])), (q1, .inl (ca 0, 4, .inl (fun _ => 0)))] := hD
  refine va_putF (D := D) (ci := 2) (v := .ref q1) (ty := .array .int) (C := RX6) (T := TX6) (N := 18) hx hb hts in_X6 tyX6 tyX6_ok nmX6 hown hK hP hD hS 0 rfl rfl 3 (by decide) (hts _ q292) (fun _ h9 => h9) rfl hnm rfl (by decide +kernel) rfl rfl (Nat.le_of_ble_eq_true rfl) dX6_init_16 (fun H locs hP hD hS => ?_)
  have hP : va_P D vwCl [(h0, .inr (2, [.int p1, .int p2, .int 0, .ref q1, .int 0, .int 0, .int 0, .int 0, .int 0, .int 0, .int 0, .int 0, .int 0, .int 0, .int 0, .int 0, .int 0, .ref k0])), (q1, .inl (ca 0, 4, .inl (fun _ => 0)))] H := hP
  have hD : va_D A [(h0, .inr (2, [.int p1, .int p2, .int 0, .ref q1, .int 0, .int 0, .int 0, .int 0, .int 0, .int 0, .int 0, .int 0, .int 0, .int 0, .int 0, .int 0, .int 0, .ref k0])), (q1, .inl (ca 0, 4, .inl (fun _ => 0)))] := hD
  refine lv_aload_n hx hb dX6_init_19 rfl (lv_at hl 0 rfl) ?_
  refine lv_iconst (v := (-1)) hx hb dX6_init_20 rfl ?_
  refine va_put (D := D) (ci := 2) (v := .int (-1)) (ty := .int) (C := RX6) (T := TX6) (N := 18) hx hb hts in_X6 tyX6 tyX6_ok nmX6 hown hK hP hD hS 0 rfl rfl 12 (by decide) (hts _ q316) (fun _ h9 => h9) rfl (by decide +kernel) rfl rfl (Nat.le_of_ble_eq_true rfl) dX6_init_21 (fun H locs hP hD hS => ?_)
  have hP : va_P D vwCl [(h0, .inr (2, [.int p1, .int p2, .int 0, .ref q1, .int 0, .int 0, .int 0, .int 0, .int 0, .int 0, .int 0, .int 0, .int (-1), .int 0, .int 0, .int 0, .int 0, .ref k0])), (q1, .inl (ca 0, 4, .inl (fun _ => 0)))] H := hP
  have hD : va_D A [(h0, .inr (2, [.int p1, .int p2, .int 0, .ref q1, .int 0, .int 0, .int 0, .int 0, .int 0, .int 0, .int 0, .int 0, .int (-1), .int 0, .int 0, .int 0, .int 0, .ref k0])), (q1, .inl (ca 0, 4, .inl (fun _ => 0)))] := hD
  refine lv_aload_n hx hb dX6_init_24 rfl (lv_at hl 0 rfl) ?_
  refine lv_iconst (v := (-1)) hx hb dX6_init_25 rfl ?_
  refine va_put (D := D) (ci := 2) (v := .int (-1)) (ty := .int) (C := RX6) (T := TX6) (N := 18) hx hb hts in_X6 tyX6 tyX6_ok nmX6 hown hK hP hD hS 0 rfl rfl 13 (by decide) (hts _ q320) (fun _ h9 => h9) rfl (by decide +kernel) rfl rfl (Nat.le_of_ble_eq_true rfl) dX6_init_26 (fun H locs hP hD hS => ?_)
  have hP : va_P D vwCl [(h0, .inr (2, [.int p1, .int p2, .int 0, .ref q1, .int 0, .int 0, .int 0, .int 0, .int 0, .int 0, .int 0, .int 0, .int (-1), .int (-1), .int 0, .int 0, .int 0, .ref k0])), (q1, .inl (ca 0, 4, .inl (fun _ => 0)))] H := hP
  have hD : va_D A [(h0, .inr (2, [.int p1, .int p2, .int 0, .ref q1, .int 0, .int 0, .int 0, .int 0, .int 0, .int 0, .int 0, .int 0, .int (-1), .int (-1), .int 0, .int 0, .int 0, .ref k0])), (q1, .inl (ca 0, 4, .inl (fun _ => 0)))] := hD
  refine lv_aload_n hx hb dX6_init_29 rfl (lv_at hl 0 rfl) ?_
  refine lv_iconst (v := (-1)) hx hb dX6_init_30 rfl ?_
  refine va_put (D := D) (ci := 2) (v := .int (-1)) (ty := .int) (C := RX6) (T := TX6) (N := 18) hx hb hts in_X6 tyX6 tyX6_ok nmX6 hown hK hP hD hS 0 rfl rfl 14 (by decide) (hts _ q323) (fun _ h9 => h9) rfl (by decide +kernel) rfl rfl (Nat.le_of_ble_eq_true rfl) dX6_init_31 (fun H locs hP hD hS => ?_)
  have hP : va_P D vwCl [(h0, .inr (2, [.int p1, .int p2, .int 0, .ref q1, .int 0, .int 0, .int 0, .int 0, .int 0, .int 0, .int 0, .int 0, .int (-1), .int (-1), .int (-1), .int 0, .int 0, .ref k0])), (q1, .inl (ca 0, 4, .inl (fun _ => 0)))] H := hP
  have hD : va_D A [(h0, .inr (2, [.int p1, .int p2, .int 0, .ref q1, .int 0, .int 0, .int 0, .int 0, .int 0, .int 0, .int 0, .int 0, .int (-1), .int (-1), .int (-1), .int 0, .int 0, .ref k0])), (q1, .inl (ca 0, 4, .inl (fun _ => 0)))] := hD
  refine lv_aload_n hx hb dX6_init_34 rfl (lv_at hl 0 rfl) ?_
  refine lv_iload_n hx hb dX6_init_35 rfl (lv_at hl 2 rfl) ?_
  refine va_putF (D := D) (ci := 2) (v := .int p0) (ty := .int) (C := RX6) (T := TX6) (N := 18) hx hb hts in_X6 tyX6 tyX6_ok nmX6 hown hK hP hD hS 0 rfl rfl 2 (by decide) (hts _ q289) (fun _ h9 => h9) rfl hnm rfl (by decide +kernel) rfl rfl (Nat.le_of_ble_eq_true rfl) dX6_init_36 (fun H locs hP hD hS => ?_)
  have hP : va_P D vwCl [(h0, .inr (2, [.int p1, .int p2, .int p0, .ref q1, .int 0, .int 0, .int 0, .int 0, .int 0, .int 0, .int 0, .int 0, .int (-1), .int (-1), .int (-1), .int 0, .int 0, .ref k0])), (q1, .inl (ca 0, 4, .inl (fun _ => 0)))] H := hP
  have hD : va_D A [(h0, .inr (2, [.int p1, .int p2, .int p0, .ref q1, .int 0, .int 0, .int 0, .int 0, .int 0, .int 0, .int 0, .int 0, .int (-1), .int (-1), .int (-1), .int 0, .int 0, .ref k0])), (q1, .inl (ca 0, 4, .inl (fun _ => 0)))] := hD
  refine W.widen (k := 1) (n := 4) (by first | decide | omega) (by first | decide | omega) ?_
  exact W.vret hx hb hrt (fun t ht hW => ⟨⟨q1, rfl, by rw [ht]; exact hP, hD⟩, hS.F ht⟩) hS.2.2 dX6_init_39
end
