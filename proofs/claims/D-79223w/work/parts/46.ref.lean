section
variable {l : Launch} {D : va_G} {ca : Nat → ClassId} {zb : Nat → Nat}
theorem v_Ref3ok {p1 p2 : Int32}  : VrI l D ca zb yX1_refuse_2 cX1_refuse_2 3 none 0 [.int 0, .int p1, .int p2] [] none := by
  refine vr_start (own := RX1) (by decide) rfl (Nat.le_of_ble_eq_true rfl) fun p e s m below meth c X hrt hlk hKK ls hl hP => ?_
  have hl : lv_has ls 3 [(0, .int 0), (1, .int p1), (2, .int p2)] := hl
  have X2 := X
  obtain ⟨hx, hb, hml, hown, hts⟩ := X2
  have hK := hKK.1
  obtain ⟨H, hH⟩ : ∃ H, H = s.heap := ⟨_, rfl⟩
  have hP : va_P D vwCl [] H := by rw [hH]; exact hP
  rw [← hH]
  refine lv_iload_n hx hb dX1_refuse_2_0 rfl (lv_at hl 0 rfl) ?_
  refine lv_if_eq (tgt := 14) hx hb dX1_refuse_2_1 (by decide) (fun _ => ?_) (fun z9 => absurd (rfl) z9)
  exact W.vret hx hb hrt (fun t ht hW => ⟨rfl, by rw [ht, hH]⟩) (fun q h => by cases h) dX1_refuse_2_14
theorem v_Ref2ok {p1 : Int32}  : VrI l D ca zb yX1_refuse cX1_refuse 2 none 1 [.int 0, .int p1] [] none := by
  refine vr_start (own := RX1) (by decide) rfl (Nat.le_of_ble_eq_true rfl) fun p e s m below meth c X hrt hlk hKK ls hl hP => ?_
  have hl : lv_has ls 2 [(0, .int 0), (1, .int p1)] := hl
  have X2 := X
  obtain ⟨hx, hb, hml, hown, hts⟩ := X2
  have hK := hKK.1
  obtain ⟨H, hH⟩ : ∃ H, H = s.heap := ⟨_, rfl⟩
  have hP : va_P D vwCl [] H := by rw [hH]; exact hP
  rw [← hH]
  refine lv_iload_n hx hb dX1_refuse_0 rfl (lv_at hl 0 rfl) ?_
  refine lv_iload_n hx hb dX1_refuse_1 rfl (lv_at hl 1 rfl) ?_
  refine lv_iconst (v := 0) hx hb dX1_refuse_2 rfl ?_
  have hPc := hP.sub (ws' := []) [] rfl
  refine q_callS (va_runS (As := [.int 0, .int p1, .int 0]) (rest := []) ⟨hx, hb, hml, hown, hts⟩ (v_Ref3ok (D := D) (ca := ca) (zb := zb) (p1 := p1) (p2 := 0) ) (va_cwS 3 hts (lw_S q530 q531 q65 q532) rfl rfl rfl (by decide +kernel) ⟨Nat.le_of_ble_eq_true rfl, Nat.le_of_ble_eq_true rfl⟩) ⟨vr_blind, fun U hU hW => ⟨rfl, by rw [hU]; exact hPc, hKK.ro (hU.trans hH) hW⟩⟩ rfl rfl hl.1 rfl (lv_room (Nat.le_of_ble_eq_true rfl)) dX1_refuse_3 ⟨by first | decide | (dsimp only; omega), by first | decide | (dsimp only; omega)⟩) ?_
  refine W.eq (g2 := F0 m 6 ls []) rfl ?_
  exact W.vret hx hb hrt (fun t ht hW => ⟨rfl, by rw [ht, hH]⟩) (fun q h => by cases h) dX1_refuse_6
theorem v_Ref3 {sz : Nat} {p1 p2 : Int32} : VxI l D ca zb yX1_refuse_2 cX1_refuse_2 3 none 4 1 8 [.int 1, .int p1, .int p2] sz p1 p2 := by
  refine vxx_start (own := RX1) (by decide) rfl (Nat.le_of_ble_eq_true rfl) fun p e s m below meth c X hlk htab hKK hzb ls hl => ?_
  have hl : lv_has ls 3 [(0, .int 1), (1, .int p1), (2, .int p2)] := hl
  have X2 := X
  obtain ⟨hx, hb, hml, hown, hts⟩ := X2
  have hK := hKK.1
  obtain ⟨A, hAe⟩ : ∃ A : Nat → Prop, (fun q => s.heap.size ≤ q) = A := ⟨_, rfl⟩
  rw [hAe]
  have hA : ∀ q : Nat, s.heap.size ≤ q → A q := fun q h => by rw [← hAe]; exact h
  have hb0 : ∀ q, A q → zb 1 ≤ q := fun q h => by rw [← hAe] at h; exact Nat.le_trans hzb h
  have hS : va_S A s.heap s.heap [] := va_S.rf
  have hP : va_P D vwCl [] s.heap := fun k q hk => by simp at hk
  have hD : va_D A [] := ⟨fun i j x y hi => by simp at hi, fun k q hk => by simp at hk⟩
  obtain ⟨H, hH⟩ : ∃ H, H = s.heap := ⟨_, rfl⟩
  have hS : va_S A s.heap H [] := by rw [hH]; exact hS
  have hP : va_P D vwCl [] H := by rw [hH]; exact hP
  refine (?_ : W _ _ _ _ _ _ _ _ _ _ s.heap _ _ _ _ _)
  rw [show W p l e _ s m _ below meth c s.heap = W p l e _ s m _ below meth c H from by rw [hH]]
  refine lv_iload_n hx hb dX1_refuse_2_0 rfl (lv_at hl 0 rfl) ?_
  refine lv_if_eq (tgt := 14) hx hb dX1_refuse_2_1 (by decide) (fun z9 => absurd z9 (by decide)) (fun _ => ?_)
  refine va_new (ci := 13) (fs := [.null, .null, .null, .null, .null, .int 0, .int 0, .int 0]) (C := RX8) (T := TX8) (N := 8) hx hb hts in_X8 tyX8 tyX8_ok hown (hts _ q506) (hts _ q533) (hts _ q83) hK hP hD hS hA rfl (fun j hj => by rcases (show j = 0 ∨ j = 1 ∨ j = 2 ∨ j = 3 ∨ j = 4 ∨ j = 5 ∨ j = 6 ∨ j = 7 by omega) with rfl | rfl | rfl | rfl | rfl | rfl | rfl | rfl <;> rfl) (by first | decide | (dsimp only; omega)) (by first | decide | (dsimp only; omega)) dX1_refuse_2_4 (fun q1 H hP hD hS => ?_)
  have hP : va_P D vwCl [(q1, .inr (13, [.null, .null, .null, .null, .null, .int 0, .int 0, .int 0]))] H := hP
  have hD : va_D A [(q1, .inr (13, [.null, .null, .null, .null, .null, .int 0, .int 0, .int 0]))] := hD
  refine lv_dup hx hb dX1_refuse_2_7 rfl ?_
  refine lv_iload_n hx hb dX1_refuse_2_8 rfl (lv_at hl 1 rfl) ?_
  refine lv_iload_n hx hb dX1_refuse_2_9 rfl (lv_at hl 2 rfl) ?_
  have hPc := hP.sub (ws' := [(q1, .inr (13, [.null, .null, .null, .null, .null, .int 0, .int 0, .int 0]))]) [0] rfl
  have hDc := hD.sub (ws' := [(q1, .inr (13, [.null, .null, .null, .null, .null, .int 0, .int 0, .int 0]))]) [0] (by decide) rfl
  have hFc := va_free (wc := [(q1, .inr (13, [.null, .null, .null, .null, .null, .int 0, .int 0, .int 0]))]) hD hS hA [0] rfl
  refine q_callE (va_runI (As := [.int p1, .int p2]) (rest := [.ref q1]) ⟨hx, hb, hml, hown, hts⟩ (v_Refused (sz := H.size) (h0 := q1) (p0 := p1) (p1 := p2) ) (cwI 2 hts (lw_meth q579) rfl rfl rfl (hts _ q83) (hts _ q577) (hts _ q578) rfl (by decide +kernel) ⟨Nat.le_of_ble_eq_true rfl, Nat.le_of_ble_eq_true rfl⟩) ⟨v_blind (fun _ _ _ _ h => h), fun U hU hW => ⟨rfl, by rw [hU], by rw [hU]; exact hPc, hKK.go hS hb0 hU hW, hDc.weaken (fun _ _ _ _ => trivial), (fun q h => hb0 q (hFc q h)), trivial⟩⟩ rfl rfl hl.1 rfl (lv_room (Nat.le_of_ble_eq_true rfl)) dX1_refuse_2_10 ⟨by first | decide | (dsimp only; omega), by first | decide | (dsimp only; omega)⟩) hS (fun q _ h => hFc q h) hFc (fun x1 t H1 locs ht hvm hB hz1 hk1 hS => ?_)
  obtain ⟨hP1, hD1⟩ := hB
  rw [ht] at hP1
  cases x1
  obtain ⟨hP, hD⟩ := va_join (wr := []) (w1 := [(q1, .inr (13, [.null, .null, .null, .null, .null, .int 0, .int p1, .int p2]))]) hP hD [0] [] rfl rfl (by decide) (by decide) hk1 hFc hP1 hD1
  generalize H1 = H at hP hS ⊢
  have hP : va_P D vwCl [(q1, .inr (13, [.null, .null, .null, .null, .null, .int 0, .int p1, .int p2]))] H := hP
  have hD : va_D A [(q1, .inr (13, [.null, .null, .null, .null, .null, .int 0, .int p1, .int p2]))] := hD
  refine W.eq (g2 := F0 m 13 ls [.ref q1]) rfl ?_
  refine vx_athrow hx hb dX1_refuse_2_13 ?_
  exact vxx_out hK hlk htab (hP.sub [0] rfl) (by have h9 := hD.2 0 _ rfl; rw [← hAe] at h9; exact h9) hS (by decide) (by decide)
theorem v_Ref2 {sz : Nat} {p1 : Int32} : VxI l D ca zb yX1_refuse cX1_refuse 2 none 5 1 8 [.int 1, .int p1] sz p1 0 := by
  refine vxx_start (own := RX1) (by decide) rfl (Nat.le_of_ble_eq_true rfl) fun p e s m below meth c X hlk htab hKK hzb ls hl => ?_
  have hl : lv_has ls 2 [(0, .int 1), (1, .int p1)] := hl
  have X2 := X
  obtain ⟨hx, hb, hml, hown, hts⟩ := X2
  have hK := hKK.1
  obtain ⟨A, hAe⟩ : ∃ A : Nat → Prop, (fun q => s.heap.size ≤ q) = A := ⟨_, rfl⟩
  rw [hAe]
  have hA : ∀ q : Nat, s.heap.size ≤ q → A q := fun q h => by rw [← hAe]; exact h
  have hb0 : ∀ q, A q → zb 1 ≤ q := fun q h => by rw [← hAe] at h; exact Nat.le_trans hzb h
  have hS : va_S A s.heap s.heap [] := va_S.rf
  have hP : va_P D vwCl [] s.heap := fun k q hk => by simp at hk
  have hD : va_D A [] := ⟨fun i j x y hi => by simp at hi, fun k q hk => by simp at hk⟩
  obtain ⟨H, hH⟩ : ∃ H, H = s.heap := ⟨_, rfl⟩
  have hS : va_S A s.heap H [] := by rw [hH]; exact hS
  have hP : va_P D vwCl [] H := by rw [hH]; exact hP
  refine (?_ : W _ _ _ _ _ _ _ _ _ _ s.heap _ _ _ _ _)
  rw [show W p l e _ s m _ below meth c s.heap = W p l e _ s m _ below meth c H from by rw [hH]]
  refine lv_iload_n hx hb dX1_refuse_0 rfl (lv_at hl 0 rfl) ?_
  refine lv_iload_n hx hb dX1_refuse_1 rfl (lv_at hl 1 rfl) ?_
  refine lv_iconst (v := 0) hx hb dX1_refuse_2 rfl ?_
  refine q_callT (vx_runS (As := [.int 1, .int p1, .int 0]) (rest := []) ⟨hx, hb, hml, hown, hts⟩ (v_Ref3 (sz := H.size) (D := D) (ca := ca) (zb := zb) (p1 := p1) (p2 := 0)) (va_cwS 3 hts (lw_S q530 q531 q65 q532) rfl rfl rfl (by decide +kernel) ⟨Nat.le_of_ble_eq_true rfl, Nat.le_of_ble_eq_true rfl⟩) ⟨vxx_blind, fun U hU hW => ⟨rfl, by rw [hU], hKK.ro (hU.trans hH) hW, by rw [hH]; exact hzb⟩⟩ rfl rfl hl.1 rfl (lv_room (Nat.le_of_ble_eq_true rfl)) dX1_refuse_3 ⟨by decide, by decide⟩) hS (fun q _ h => hA q (by rw [← hH]; exact h)) (fun q h => hA q (by rw [← hH]; exact h)) (fun E q9 t H1 locs1 ht _ hB hz hk hS1 => ?_)
  obtain ⟨rfl, hq, hP1⟩ := hB
  rw [ht] at hP1
  exact vxx_out hK hlk htab hP1 (by rw [← hH]; exact hq) hS1 (by decide) (by decide)
end
