/-! one more change, one more action -/
/-- behind a method that may have made the core's lists longer -/
def kPostW (D : va_G) (ca : Nat → ClassId) (zb : Nat → Nat) (ow : Nat → Nat × Nat) (sz a : Nat) (G : mMS) : State → Prop := fun t => ∃ N L : Nat → Nat, L 7 = a ∧ kPost D ca zb ow sz N L G t
def g3F (a b c : Int32) : Nat → Int32 := fun f => if f = 0 then a else if f = 1 then b else c
section
variable {p : Program} {l : Launch} {e : Env} {s : State} {m : MethodId} {args : Array Value} {below : List Frame} {meth : Method} {c : Code} {H : Heap} {locs : List Loc} {n cells slots mc ms : Nat} {ls : Array Slot} {D : va_G} {ca : Nat → ClassId} {zb N L N1 L1 : Nat → Nat} {G : mMS} {ow0 : Nat → Nat × Nat} {own : String} {cc : ByteArray} {nL pc : Nat}
theorem kt_iretW {R : Room} (X : KX p s m args meth c own cc nL (some .int) D ca) (hM : kI D ca zb ow0 N1 L1 G s H locs) (h7 : L1 7 = L 7) {v : Int32} (hcc : cells ≤ mc) (hcs : slots ≤ ms) (hd : decode cc pc = .ok (.ireturn, 1)) : W p l e R s m args below meth c H locs cells slots (vx_MQ below (ktQ (kA ow0 (L 7) s.heap.size) (fun v => some (.int v)) (fun _ G' => kPostW D ca zb ow0 s.heap.size (L 7) G') (.inl (v, G))) (ktX D (kA ow0 (L 7) s.heap.size) s.heap.size (.inl (v, G))) args s mc ms (kA ow0 (L 7) s.heap.size)) (F0 m pc ls [.int v]) := by
  obtain ⟨⟨hx, hb, hml, hown, hts⟩, hrt, hlk, -⟩ := X
  refine W.widen (k := mc) (n := ms) hcc hcs ?_
  rw [← h7]
  exact vx_ret (W.iret (v := v) hx hb hrt (fun t ht hW => ⟨⟨(v, G), rfl, rfl, N1, L1, rfl, (hM.post ht).1⟩, (hM.post ht).2⟩) hM.2.1.2.2 hd)
theorem k_noteT {p1 p2 p3 : Int32} (X : KX p s m args meth c RX2 cX2_note 5 (some .int) D ca) (hM : kI D ca zb ow0 N L G s H locs) (hn : N 1 < 12) (hfr : 7 ≤ n) (hl : lv_has ls 5 [(0, .ref (L 7)), (1, .int p1), (2, .int p2), (3, .int p3)]) (hcc : cells + (1 + gcC (N 1)) ≤ mc) (hcs : slots + (3 + gcS (N 1)) ≤ ms) :
    W p l e { frames := n, cells := mc, slots := ms, locals := 40 * n } s m args below meth c H locs cells slots (vx_MQ below (ktQ (kA ow0 (L 7) s.heap.size) (fun v => some (.int v)) (fun _ G' => kPostW D ca zb ow0 s.heap.size (L 7) G') (.inl ((addJ G 1 (N 1) (300 + N 1) (g3F p1 p2 p3) (g3F p1 p2 p3)) 1 2 - 1, (addJ G 1 (N 1) (300 + N 1) (g3F p1 p2 p3) (g3F p1 p2 p3))))) (ktX D (kA ow0 (L 7) s.heap.size) s.heap.size (.inl ((addJ G 1 (N 1) (300 + N 1) (g3F p1 p2 p3) (g3F p1 p2 p3)) 1 2 - 1, (addJ G 1 (N 1) (300 + N 1) (g3F p1 p2 p3) (g3F p1 p2 p3))))) args s mc ms (kA ow0 (L 7) s.heap.size)) (F0 m 73 ls []) := by
  obtain ⟨hx, hb, hml, hown, hts⟩ := X.1
  have hzb := hM.zb9
  have hS := hM.2.1
  refine lv_aload_n hx hb dX2_note_73 rfl (lv_at hl 0 rfl) ?_
  refine r_X2_1 X hM.r q148 dX2_note_74 ?_
  refine kv_new (ci := 4) (fs := [.int 0, .int 0, .int 0]) (C := RX12) (T := TX12) (NN := 3) (cl := vwCl) (tys := tyl ca) (D := D) hx hb hts in_X12 tyX12 tyX12_ok hown (hts _ q444) (hts _ q881) (hts _ q88) X.2.2.2.1 rfl (fun j hj => by rcases (show j = 0 ∨ j = 1 ∨ j = 2 by omega) with rfl | rfl | rfl <;> rfl) (by dsimp only; omega) (by dsimp only; omega) dX2_note_77 hS (fun H1 e1 z1 o1 hS1 => ?_)
  have hM1 := hM.grow o1 hS1
  refine lv_dup hx hb dX2_note_80 rfl ?_
  refine lv_iload_n hx hb dX2_note_81 rfl (lv_at hl 1 rfl) ?_
  refine lv_iload_n hx hb dX2_note_82 rfl (lv_at hl 2 rfl) ?_
  refine lv_iload_n hx hb dX2_note_83 rfl (lv_at hl 3 rfl) ?_
  have hAA : ∀ q, va_A [(H.size, .inr (4, [.int 0, .int 0, .int 0]))] H1.size q → H.size ≤ q := fun q h => by
    rcases vaA1 h with h | h <;> omega
  have hAz : ∀ q, H.size ≤ q → kA ow0 (L 7) s.heap.size q := fun q h => Or.inr (Nat.le_trans hS.1 h)
  refine q_callE (va_runI (As := [.int p1, .int p2, .int p3]) (rest := [.ref H.size, .ref (L 1)]) X.1 (v_Change (sz := H1.size) (h0 := H.size) (p0 := p1) (p1 := p2) (p2 := p3) (D := D) (ca := ca) (zb := zb)) (cwI 3 hts (lw_meth q884) rfl rfl rfl (hts _ q88) (hts _ q882) (hts _ q883) rfl (by decide +kernel) ⟨Nat.le_trans (Nat.le_of_ble_eq_true rfl) hfr, Nat.le_trans (m := 280) (Nat.le_of_ble_eq_true rfl) (Nat.mul_le_mul_left 40 hfr)⟩) ⟨v_blind (fun _ _ _ _ h => h), fun U hU hW => ⟨rfl, by rw [hU], by rw [hU]; exact vaP1 e1, X.kk hM1.r hU hW, vaD1, fun q h => Nat.le_trans hzb (Nat.le_trans hS.1 (hAA q h)), trivial⟩⟩ rfl rfl hl.1 rfl (lv_room (Nat.le_of_ble_eq_true rfl)) dX2_note_84 ⟨by dsimp only; omega, by dsimp only; omega⟩) hS1 (fun q _ h => hAz q (hAA q h)) (fun q h => hAz q (hAA q h)) (fun x1 t H2 locs2 ht hvm hB hz2 hk2 hS2 => ?_)
  obtain ⟨hP2, -⟩ := hB
  rw [ht] at hP2
  cases x1
  have e2 : va_at D vwCl (H.size, .inr (4, f3 (g3F p1 p2 p3))) H2 := hP2 0 _ rfl
  have o2 : ∀ q, q < H.size → H2[q]? = H[q]? := fun q h => (hk2 q (by omega) (fun z => absurd (hAA q z) (by omega))).trans (o1 q h)
  have hM2 := hM.grow o2 hS2
  obtain ⟨⟨ow, L', h1, hC, ho⟩, -, hF, hb9⟩ := id hM
  have fj := kF_list (ca := ca) (zb := zb) (N := N) (L := L') (n3 := kN3 G) (g := G 1) (j := 1) (by decide)
  have hB := hC.2
  obtain ⟨⟨k1, k2, k3, k4⟩, k5, k6, k7, k8⟩ := id hB
  have hne : ∀ c, c < 4 → c ≠ 1 → (addJ G 1 (N 1) (300 + N 1) (g3F p1 p2 p3) (g3F p1 p2 p3)) c = G c := fun c hc h9 => (if_neg h9).trans ((if_neg (by show c ≠ 300 + N 1; omega)).trans (if_neg (by omega)))
  have hn3 : kN3 (addJ G 1 (N 1) (300 + N 1) (g3F p1 p2 p3) (g3F p1 p2 p3)) = kN3 G := by unfold kN3; rw [hne 3 (by decide) (by decide)]
  have hj2 : (addJ G 1 (N 1) (300 + N 1) (g3F p1 p2 p3) (g3F p1 p2 p3)) 1 2 = nI (N 1 + 1) := by unfold addJ; rw [if_pos rfl]; rfl
  refine W.eq (g2 := F0 m 87 ls [.ref H.size, .ref (L' 1)]) (by rw [h1 1 (kst_lt (by decide))]; rfl) ?_
  refine k_addJ X hC (by omega) o2 (fun U hU hW => X.kk hM2.r hU hW) hS2 (fun q h => hAz q (by omega)) (Nat.le_trans hzb hS.1) (fun i x h9 h8 => hM.own9 h1 hC ho h9 h8) (j := 1) (n := N 1) (c2 := 300 + N 1) (q := H.size) (q2 := H.size) (N' := kNp N 1) (g1 := g3F p1 p2 p3) (g2 := g3F p1 p2 p3) (fs := f3 (g3F p1 p2 p3)) (x2 := .inr (4, f3 (g3F p1 p2 p3))) (by decide) rfl (fun k _ h9 => if_neg h9) (fun _ => if_pos rfl) ⟨⟨k1, (by show (if 1 = 1 then N 1 + 1 else N 1) ≤ 12; rw [if_pos rfl]; omega), k3, by rw [hn3]; exact k4⟩, ?_, ?_, ?_, ?_⟩ (Or.inr ⟨by decide, rfl, rfl, rfl⟩)
    (fun L' _ _ => kF_chg (by show N 1 < (if 1 = 1 then N 1 + 1 else N 1); rw [if_pos rfl]; omega) (by show (if 1 = 1 then N 1 + 1 else N 1) ≤ 12; rw [if_pos rfl]; omega)) (fun L' => Or.inr (by decide)) e2 e2 (Or.inl (Nat.le_refl _)) (Or.inl (Nat.le_refl _)) (fun z => absurd z (by decide)) q370 hfr (Nat.mul_le_mul_left 40 hfr) hl.1 (Nat.le_of_ble_eq_true rfl) dX2_note_87 ⟨by dsimp only; omega, by dsimp only; omega⟩ (fun H3 locs3 ow' L2 b1 b2 b3 b4 b5 b6 b7 hS3 => ?_)
  · rw [hne 0 (by decide) (by decide)]; exact k5
  · exact hj2
  · rw [hne 2 (by decide) (by decide)]; exact k7
  · rw [hn3, hne 3 (by decide) (by decide)]; exact k8
  · have h72 : L2 7 = L 7 := (b2 7 (kst_lt (by decide)) (by show 7 ≠ 300 + N 1; omega) (by omega)).trans (h1 7 (kst_lt (by decide)))
    have hl2 : L2 1 = L 1 := (b2 1 (kst_lt (by decide)) (by show 1 ≠ 300 + N 1; omega) (by omega)).trans (h1 1 (kst_lt (by decide)))
    have hM3 : kI D ca zb ow0 (kNp N 1) L2 (addJ G 1 (N 1) (300 + N 1) (g3F p1 p2 p3) (g3F p1 p2 p3)) s H3 locs3 := by
      refine ⟨⟨ow', L2, fun _ _ => rfl, b5, fun q hq => (b1 q (Nat.lt_of_lt_of_le hq hS.1)).trans (ho q hq)⟩, by rw [h72]; exact hS3, hF.kept (fun a ha h9 => (b6 a (by omega) (fun z => h9 ?_) (fun hc z => h9 ?_)).trans (o2 a ha)), by rw [h72]; exact hb9⟩
      · rw [z]; exact (hC.1 1 _ fj).2.2
      · rw [z]; exact (hC.1 _ _ (kF_el (j := 1) (by decide) hc)).2.2
    refine lv_pop hx hb dX2_note_90 rfl ?_
    refine lv_aload_n hx hb dX2_note_91 rfl (lv_at hl 0 rfl) ?_
    rw [← h72]
    refine r_X2_1 X hM3.r q148 dX2_note_92 ?_
    refine kr_size X hM3.r (j := 1) (by decide) q246 (Nat.le_trans (Nat.le_of_ble_eq_true rfl) hfr) (Nat.le_trans (m := 280) (Nat.le_of_ble_eq_true rfl) (Nat.mul_le_mul_left 40 hfr)) hl.1 (Nat.le_of_ble_eq_true rfl) dX2_note_95 ⟨by dsimp only; omega, by dsimp only; omega⟩ ?_
    refine lv_iconst (v := 1) hx hb dX2_note_98 rfl ?_
    refine lv_isub hx hb dX2_note_99 ?_
    exact kt_iretW X hM3 rfl (by omega) (by omega) dX2_note_100
theorem k_actionT {p1 p2 p3 : Int32} (X : KX p s m args meth c RX2 cX2_action 4 (some .int) D ca) (hM : kI D ca zb ow0 N L G s H locs) (hn : N 2 < 20) (hfr : 7 ≤ n) (hl : lv_has ls 4 [(0, .ref (L 7)), (1, .int p1), (2, .int p2), (3, .int p3)]) (hcc : cells + (1 + gcC (N 2)) ≤ mc) (hcs : slots + (4 + gcS (N 2)) ≤ ms) :
    W p l e { frames := n, cells := mc, slots := ms, locals := 40 * n } s m args below meth c H locs cells slots (vx_MQ below (ktQ (kA ow0 (L 7) s.heap.size) (fun v => some (.int v)) (fun _ G' => kPostW D ca zb ow0 s.heap.size (L 7) G') (.inl ((addJ G 2 (N 2) (400 + N 2) (evF p1 p2 p3 0) (evF p1 p2 p3 0)) 2 2 - 1, (addJ G 2 (N 2) (400 + N 2) (evF p1 p2 p3 0) (evF p1 p2 p3 0))))) (ktX D (kA ow0 (L 7) s.heap.size) s.heap.size (.inl ((addJ G 2 (N 2) (400 + N 2) (evF p1 p2 p3 0) (evF p1 p2 p3 0)) 2 2 - 1, (addJ G 2 (N 2) (400 + N 2) (evF p1 p2 p3 0) (evF p1 p2 p3 0))))) args s mc ms (kA ow0 (L 7) s.heap.size)) (F0 m 64 ls []) := by
  obtain ⟨hx, hb, hml, hown, hts⟩ := X.1
  have hzb := hM.zb9
  have hS := hM.2.1
  refine lv_aload_n hx hb dX2_action_64 rfl (lv_at hl 0 rfl) ?_
  refine r_X2_2 X hM.r q150 dX2_action_65 ?_
  refine kv_new (ci := 6) (fs := [.int 0, .int 0, .int 0, .int 0]) (C := RX7) (T := TX7) (NN := 4) (cl := vwCl) (tys := tyl ca) (D := D) hx hb hts in_X7 tyX7 tyX7_ok hown (hts _ q445) (hts _ q451) (hts _ q80) X.2.2.2.1 rfl (fun j hj => by rcases (show j = 0 ∨ j = 1 ∨ j = 2 ∨ j = 3 by omega) with rfl | rfl | rfl | rfl <;> rfl) (by dsimp only; omega) (by dsimp only; omega) dX2_action_68 hS (fun H1 e1 z1 o1 hS1 => ?_)
  have hM1 := hM.grow o1 hS1
  refine lv_dup hx hb dX2_action_71 rfl ?_
  refine lv_iload_n hx hb dX2_action_72 rfl (lv_at hl 1 rfl) ?_
  refine lv_iload_n hx hb dX2_action_73 rfl (lv_at hl 2 rfl) ?_
  refine lv_iload_n hx hb dX2_action_74 rfl (lv_at hl 3 rfl) ?_
  have hAA : ∀ q, va_A [(H.size, .inr (6, [.int 0, .int 0, .int 0, .int 0]))] H1.size q → H.size ≤ q := fun q h => by
    rcases vaA1 h with h | h <;> omega
  have hAz : ∀ q, H.size ≤ q → kA ow0 (L 7) s.heap.size q := fun q h => Or.inr (Nat.le_trans hS.1 h)
  refine q_callE (va_runI (As := [.int p1, .int p2, .int p3]) (rest := [.ref H.size, .ref (L 2)]) X.1 (v_Action (sz := H1.size) (h0 := H.size) (p0 := p1) (p1 := p2) (p2 := p3) (D := D) (ca := ca) (zb := zb)) (cwI 3 hts (lw_meth q454) rfl rfl rfl (hts _ q80) (hts _ q939) (hts _ q453) rfl (by decide +kernel) ⟨Nat.le_trans (Nat.le_of_ble_eq_true rfl) hfr, Nat.le_trans (m := 280) (Nat.le_of_ble_eq_true rfl) (Nat.mul_le_mul_left 40 hfr)⟩) ⟨v_blind (fun _ _ _ _ h => h), fun U hU hW => ⟨rfl, by rw [hU], by rw [hU]; exact vaP1 e1, X.kk hM1.r hU hW, vaD1, fun q h => Nat.le_trans hzb (Nat.le_trans hS.1 (hAA q h)), trivial⟩⟩ rfl rfl hl.1 rfl (lv_room (Nat.le_of_ble_eq_true rfl)) dX2_action_75 ⟨by dsimp only; omega, by dsimp only; omega⟩) hS1 (fun q _ h => hAz q (hAA q h)) (fun q h => hAz q (hAA q h)) (fun x1 t H2 locs2 ht hvm hB hz2 hk2 hS2 => ?_)
  obtain ⟨hP2, -⟩ := hB
  rw [ht] at hP2
  cases x1
  have e2 : va_at D vwCl (H.size, .inr (6, f4 (evF p1 p2 p3 0))) H2 := hP2 0 _ rfl
  have o2 : ∀ q, q < H.size → H2[q]? = H[q]? := fun q h => (hk2 q (by omega) (fun z => absurd (hAA q z) (by omega))).trans (o1 q h)
  have hM2 := hM.grow o2 hS2
  obtain ⟨⟨ow, L', h1, hC, ho⟩, -, hF, hb9⟩ := id hM
  have fj := kF_list (ca := ca) (zb := zb) (N := N) (L := L') (n3 := kN3 G) (g := G 2) (j := 2) (by decide)
  have hB := hC.2
  obtain ⟨⟨k1, k2, k3, k4⟩, k5, k6, k7, k8⟩ := id hB
  have hne : ∀ c, c < 4 → c ≠ 2 → (addJ G 2 (N 2) (400 + N 2) (evF p1 p2 p3 0) (evF p1 p2 p3 0)) c = G c := fun c hc h9 => (if_neg h9).trans ((if_neg (by show c ≠ 400 + N 2; omega)).trans (if_neg (by omega)))
  have hn3 : kN3 (addJ G 2 (N 2) (400 + N 2) (evF p1 p2 p3 0) (evF p1 p2 p3 0)) = kN3 G := by unfold kN3; rw [hne 3 (by decide) (by decide)]
  have hj2 : (addJ G 2 (N 2) (400 + N 2) (evF p1 p2 p3 0) (evF p1 p2 p3 0)) 2 2 = nI (N 2 + 1) := by unfold addJ; rw [if_pos rfl]; rfl
  refine W.eq (g2 := F0 m 78 ls [.ref H.size, .ref (L' 2)]) (by rw [h1 2 (kst_lt (by decide))]; rfl) ?_
  refine k_addJ X hC (by omega) o2 (fun U hU hW => X.kk hM2.r hU hW) hS2 (fun q h => hAz q (by omega)) (Nat.le_trans hzb hS.1) (fun i x h9 h8 => hM.own9 h1 hC ho h9 h8) (j := 2) (n := N 2) (c2 := 400 + N 2) (q := H.size) (q2 := H.size) (N' := kNp N 2) (g1 := evF p1 p2 p3 0) (g2 := evF p1 p2 p3 0) (fs := f4 (evF p1 p2 p3 0)) (x2 := .inr (6, f4 (evF p1 p2 p3 0))) (by decide) rfl (fun k _ h9 => if_neg h9) (fun _ => if_pos rfl) ⟨⟨k1, k2, (by show (if 2 = 2 then N 2 + 1 else N 2) ≤ 20; rw [if_pos rfl]; omega), by rw [hn3]; exact k4⟩, ?_, ?_, ?_, ?_⟩ (Or.inr ⟨by decide, rfl, rfl, rfl⟩)
    (fun L' _ _ => kF_act (by show N 2 < (if 2 = 2 then N 2 + 1 else N 2); rw [if_pos rfl]; omega) (by show (if 2 = 2 then N 2 + 1 else N 2) ≤ 20; rw [if_pos rfl]; omega)) (fun L' => Or.inr (by decide)) e2 e2 (Or.inl (Nat.le_refl _)) (Or.inl (Nat.le_refl _)) (fun z => absurd z (by decide)) q370 hfr (Nat.mul_le_mul_left 40 hfr) hl.1 (Nat.le_of_ble_eq_true rfl) dX2_action_78 ⟨by dsimp only; omega, by dsimp only; omega⟩ (fun H3 locs3 ow' L2 b1 b2 b3 b4 b5 b6 b7 hS3 => ?_)
  · rw [hne 0 (by decide) (by decide)]; exact k5
  · rw [hne 1 (by decide) (by decide)]; exact k6
  · exact hj2
  · rw [hn3, hne 3 (by decide) (by decide)]; exact k8
  · have h72 : L2 7 = L 7 := (b2 7 (kst_lt (by decide)) (by show 7 ≠ 400 + N 2; omega) (by omega)).trans (h1 7 (kst_lt (by decide)))
    have hl2 : L2 2 = L 2 := (b2 2 (kst_lt (by decide)) (by show 2 ≠ 400 + N 2; omega) (by omega)).trans (h1 2 (kst_lt (by decide)))
    have hM3 : kI D ca zb ow0 (kNp N 2) L2 (addJ G 2 (N 2) (400 + N 2) (evF p1 p2 p3 0) (evF p1 p2 p3 0)) s H3 locs3 := by
      refine ⟨⟨ow', L2, fun _ _ => rfl, b5, fun q hq => (b1 q (Nat.lt_of_lt_of_le hq hS.1)).trans (ho q hq)⟩, by rw [h72]; exact hS3, hF.kept (fun a ha h9 => (b6 a (by omega) (fun z => h9 ?_) (fun hc z => h9 ?_)).trans (o2 a ha)), by rw [h72]; exact hb9⟩
      · rw [z]; exact (hC.1 2 _ fj).2.2
      · rw [z]; exact (hC.1 _ _ (kF_el (j := 2) (by decide) hc)).2.2
    refine lv_pop hx hb dX2_action_81 rfl ?_
    refine lv_aload_n hx hb dX2_action_82 rfl (lv_at hl 0 rfl) ?_
    rw [← h72]
    refine r_X2_2 X hM3.r q150 dX2_action_83 ?_
    refine kr_size X hM3.r (j := 2) (by decide) q246 (Nat.le_trans (Nat.le_of_ble_eq_true rfl) hfr) (Nat.le_trans (m := 280) (Nat.le_of_ble_eq_true rfl) (Nat.mul_le_mul_left 40 hfr)) hl.1 (Nat.le_of_ble_eq_true rfl) dX2_action_86 ⟨by dsimp only; omega, by dsimp only; omega⟩ ?_
    refine lv_iconst (v := 1) hx hb dX2_action_89 rfl ?_
    refine lv_isub hx hb dX2_action_90 ?_
    exact kt_iretW X hM3 rfl (by omega) (by omega) dX2_action_91
end
