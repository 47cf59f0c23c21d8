/-! Core.open behind freest: one more incident, held, told -/
def opG1 (G : mMS) (n : Nat) (p1 p2 p3 : Int32) : mMS := m_up (m_up (addI G n p1 (G 7 10)) (100 + n) 4 p2) (100 + n) 5 p3
def opG (G : mMS) (n : Nat) (p1 p2 p3 : Int32) : mMS := hapG (opG1 G n p1 p2 p3) 0 (opG1 G n p1 p2 p3 (100 + n) 2) 0
section
variable {p : Program} {l : Launch} {e : Env} {s : State} {m : MethodId} {args : Array Value} {below : List Frame} {meth : Method} {c : Code} {H : Heap} {locs : List Loc} {n cells slots mc ms : Nat} {ls : Array Slot} {D : va_G} {ca : Nat → ClassId} {zb N L : Nat → Nat} {G : mMS} {ow0 : Nat → Nat × Nat} {own : String} {cc : ByteArray} {nL pc : Nat}
theorem k_openT {p1 p2 p3 : Int32} (X : KX p s m args meth c RX2 cX2_open 5 (some .int) D ca) (hM : kI D ca zb ow0 N L G s H locs) (hn : N 0 < 16) (hfr : 8 ≤ n) (hl : lv_has ls 5 [(3, .int p3), (0, .ref (L 7)), (1, .int p1), (2, .int p2)]) (hcc : cells + (2 + gcC (N 0) + (1 + gcC (hapN (opG1 G (N 0) p1 p2 p3)))) ≤ mc) (hcs : slots + (22 + gcS (N 0) + (4 + gcS (hapN (opG1 G (N 0) p1 p2 p3)))) ≤ ms) :
    W p l e { frames := n, cells := mc, slots := ms, locals := 40 * n } s m args below meth c H locs cells slots (vx_MQ below (ktQ (kA ow0 (L 7) s.heap.size) (fun v => some (.int v)) (fun _ G' => kPostW D ca zb ow0 s.heap.size (L 7) G') (.inl (opG G (N 0) p1 p2 p3 (100 + N 0) 2, opG G (N 0) p1 p2 p3))) (ktX D (kA ow0 (L 7) s.heap.size) s.heap.size (.inl (opG G (N 0) p1 p2 p3 (100 + N 0) 2, opG G (N 0) p1 p2 p3))) args s mc ms (kA ow0 (L 7) s.heap.size)) (F0 m 53 ls []) := by
  obtain ⟨hx, hb, hml, hown, hts⟩ := X.1
  have hS := hM.2.1
  have hlo : 320 ≤ 40 * n := Nat.mul_le_mul_left 40 hfr
  refine lv_aload_n hx hb dX2_open_53 rfl (lv_at hl 1 rfl) ?_
  refine lv_iload_n hx hb dX2_open_54 rfl (lv_at hl 2 rfl) ?_
  refine lv_aload_n hx hb dX2_open_55 rfl (lv_at hl 1 rfl) ?_
  refine r_X2_10 X hM.r q169 dX2_open_56 ?_
  obtain ⟨⟨ow, L', h1, hC, ho⟩, -, hF, hb9⟩ := id hM
  refine q_callE (va_runV (As := [.int p1, .int (G 7 10)]) (rest := []) X.1 (k_K_add (ow0 := ow) (sz := H.size) (p1 := p1) (p2 := G 7 10) (mc := 2 + gcC (N 0)) (ms := 22 + gcS (N 0)) (N := N) (L := L) (G := G) (D := D) (ca := ca) (zb := zb) hn (Nat.le_refl _) (Nat.le_refl _)) (cwV 2 hts (lw_V q277 q279 qs0 q66 q280) rfl rfl rfl (by decide +kernel) ⟨hfr, Nat.le_trans (m := 320) (Nat.le_of_ble_eq_true rfl) hlo⟩) ⟨k_blind, rc_core X hM.r, fun U hU hW => ⟨rfl, kI.pre (L' := L') X hM h1 hC ho hU hW⟩⟩ rfl rfl hl.1 rfl (lv_room (Nat.le_of_ble_eq_true rfl)) dX2_open_59 ⟨by dsimp only; omega, by dsimp only; omega⟩) hS (fun q _ h => kA_sub ho hS.1 q h) (fun q h => kA_sub ho hS.1 q h) (fun L2 t H1 locs1 ht hvm hB hz hk hS1 => ?_)
  obtain ⟨h2, hB⟩ := hB
  have h72 : L2 7 = L 7 := h2 7 (kst_lt (by decide)) (by omega) (by omega)
  have hM1 := hM.next (L' := L') ho hB ht hz hk hS1 h72
  have hi : iC (nI (N 0)) = 100 + N 0 := by show 100 + (nI (N 0)).toNatClampNeg = _; rw [nI_clamp (by omega)]
  have hk0 : vp_in (nI (N 0)) (kNp N 0 0) := vp_in_nI (by show N 0 < (if 0 = 0 then N 0 + 1 else N 0); rw [if_pos rfl]; omega) (by show (if 0 = 0 then N 0 + 1 else N 0) < _; rw [if_pos rfl]; omega)
  refine W.eq (g2 := F0 m 62 ls [.ref (L2 (iC (nI (N 0))))]) (by rw [hi]; rfl) ?_
  refine lv_astore (lv' := [(4, .ref (L2 (iC (nI (N 0))))), (3, .int p3), (0, .ref (L 7)), (1, .int p1), (2, .int p2)]) hx hb dX2_open_62 hl (by decide) rfl (fun ls hl => ?_)
  refine lv_aload hx hb dX2_open_64 (lv_at hl 0 rfl) ?_
  refine lv_iload_n hx hb dX2_open_66 rfl (lv_at hl 4 rfl) ?_
  refine w_X6_4N X hM1 hk0 q296 dX2_open_67 (fun H2 locs2 G2 g2 hM2 => ?_)
  refine lv_aload hx hb dX2_open_70 (lv_at hl 0 rfl) ?_
  refine lv_iload_n hx hb dX2_open_72 rfl (lv_at hl 1 rfl) ?_
  refine w_X6_5N X hM2 hk0 q299 dX2_open_73 (fun H3 locs3 G3 g3 hM3 => ?_)
  rw [hi] at g2 g3
  subst g2
  have g3 : G3 = opG1 G (N 0) p1 p2 p3 := g3
  subst g3
  refine lv_aload_n hx hb dX2_open_76 rfl (lv_at hl 2 rfl) ?_
  refine lv_iconst (v := 0) hx hb dX2_open_77 rfl ?_
  refine lv_aload hx hb dX2_open_78 (lv_at hl 0 rfl) ?_
  refine r_X6_2N X hM3.r hk0 q290 dX2_open_80 ?_
  refine lv_iconst (v := 0) hx hb dX2_open_83 rfl ?_
  refine W.eq (g2 := F0 m 84 ls [.int 0, .int (opG1 G (N 0) p1 p2 p3 (100 + N 0) 2), .int 0, .ref (L2 7)]) (by rw [hi, h72]) ?_
  refine kw_cVv (k9 := 3) X hM3 (rc_core X hM3.r) (fun ow => k_K_happens (Nat.le_refl _) (Nat.le_refl _)) (lw_V q672 q628 qs7 q66 q629) rfl (by decide +kernel) ⟨hfr, Nat.le_trans (m := 320) (Nat.le_of_ble_eq_true rfl) hlo⟩ hl.1 rfl (Nat.le_of_ble_eq_true rfl) dX2_open_84 ⟨by dsimp only; omega, by dsimp only; omega⟩ (fun H4 locs4 hM4 => ?_)
  refine lv_aload hx hb dX2_open_87 (lv_at hl 0 rfl) ?_
  refine r_X6_2N X hM4.r hk0 q290 dX2_open_89 ?_
  refine W.eq (g2 := F0 m 92 ls [.int (opG G (N 0) p1 p2 p3 (100 + N 0) 2)]) (by rw [hi]; rfl) ?_
  exact kt_iretW X hM4 h72 (by omega) (by omega) dX2_open_92
end
