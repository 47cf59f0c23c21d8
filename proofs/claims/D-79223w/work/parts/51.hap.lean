/-! Core.happens -/
section
variable {p : Program} {l : Launch} {e : Env} {R : Room} {s : State} {m : MethodId} {args : Array Value} {below : List Frame} {meth : Method} {c : Code} {H H0 : Heap} {locs : List Loc} {cells slots mc ms : Nat} {Q : State → Prop} {pc : Nat} {ls : Array Slot} {rest st0 : List Value} {own : String} {cc : ByteArray} {nL : Nat} {ret : Option FieldType} {D : va_G} {ca : Nat → ClassId} {zb N L : Nat → Nat} {G : mMS} {ow ow0 : Nat → Nat × Nat} {A0 : Nat → Prop} {cl : List vw_C} {tys : List (ClassId × FieldType)}
/-- an object, newly made -/
theorem kv_new (hexec : p.tables.exec = Jvm.exec) (hb : c.code = cc) {own C : String} {T : u_T} {NN ci index : Nat} {Ts : List Cond} (hts : ∀ w ∈ Ts, w.before args s = true) (hin : ∀ w ∈ u_ws C T NN, w ∈ Ts) (ty : Nat → FieldType) (hty : ∀ k, k < NN → parseFieldDescriptor (T k).2.2.1 = some (ty k)) (hown : s.vm.findClass own = some m.cls) (hcl : (Cond.classLink own index C).before args s = true) (hinst : (Cond.instantiable C NN).before args s = true) (hini : (Cond.initialized C).before args s = true)
    (hK : va_K D cl tys s) (hc : cl[ci]? = some (C, T, NN)) {fs : List Value} (hfs : ∀ j, j < NN → defaultValue (ty j) = vp_V fs j) (hcells : cells + 1 ≤ R.cells) (hslots : slots + NN ≤ R.slots) (hdg : decode cc pc = .ok (.new index, 3)) (hS : va_S A0 s.heap H locs)
    (kk : ∀ H1 : Heap, va_at D cl (H.size, .inr (ci, fs)) H1 → H1.size = H.size + 1 → (∀ q, q < H.size → H1[q]? = H[q]?) → va_S A0 s.heap H1 locs → W p l e R s m args below meth c H1 locs (cells + 1) (slots + NN) Q (F0 m (pc + 3) ls (.ref H.size :: rest))) : W p l e R s m args below meth c H locs cells slots Q (F0 m pc ls rest) := by
  have hKn := hK.1 ci _ hc
  refine W.newcK hexec hb hown hcl hinst hini rfl hdg hcells hslots hKn.2.1 rfl fun H1 kC hkC e1 z1 o1 => ?_
  exact kk H1 ⟨_, hc, (u_born ty hts hin hKn hkC e1 hty).to hfs⟩ z1 o1 ⟨Nat.le_trans hS.1 (by omega), fun x h1 h2 => (o1 x (Nat.lt_of_lt_of_le h1 hS.1)).trans (hS.2.1 x h1 h2), hS.2.2⟩
theorem kI.own9 (hM : kI D ca zb ow0 N L G s H locs) {L' : Nat → Nat} (h1 : ∀ i, kst i → L' i = L i) (hC : CW D ca zb ow N L' G H) (ho : ∀ q, q < s.heap.size → ow q = ow0 q) {i : Nat} {x : va_E} (hx : kF ca zb N L' (kN3 G) (G i) i = some x) (hi : ¬ ((300 ≤ i ∧ i < 400) ∨ 500 ≤ i)) : kA ow0 (L 7) s.heap.size (L' i) := by
  by_cases hq : L' i < s.heap.size
  · left
    rw [← ho _ hq, (hC.1 i x hx).2.1]
    unfold kO
    rw [if_neg hi, h1 7 (kst_lt (by decide))]
  · right; omega
theorem kI.zb9 (hM : kI D ca zb ow0 N L G s H locs) : zb 1 ≤ s.heap.size := hM.2.2.2 _ (Or.inr (Nat.le_refl _))
/-- an event comes -/
theorem k_hapB {k i m9 : Int32} (X : KX p s m args meth c RX2 cX2_happens 4 none D ca) (hM : kI D ca zb ow0 N L G s H locs) (h59 : kN3 G ≤ 59) (hl : lv_has ls 4 [(0, .ref (L 7)), (1, .int k), (2, .int i), (3, .int m9)]) (hmc : 1 + gcC (kN3 G) ≤ mc) (hms : 4 + gcS (kN3 G) ≤ ms) :
    W p l e { frames := 7, cells := mc, slots := ms, locals := 40 * 7 } s m args below meth c H locs 0 0 (MQ below (fun _ st o t => (o = .returned none ∧ kPost D ca zb ow0 s.heap.size N L (addE G (evF (G 7 10) k i m9)) t) ∧ va_F (kA ow0 (L 7) s.heap.size) st t) args s mc ms (kA ow0 (L 7) s.heap.size)) (F0 m 21 ls []) := by
  obtain ⟨hx, hb, hml, hown, hts⟩ := X.1
  have hzb := hM.zb9
  have hS := hM.2.1
  refine lv_aload_n hx hb dX2_happens_21 rfl (lv_at hl 0 rfl) ?_
  refine r_X2_3 X hM.r q152 dX2_happens_22 ?_
  refine kv_new (ci := 5) (fs := [.int 0, .int 0, .int 0, .int 0]) (C := RX9) (T := TX9) (NN := 4) (cl := vwCl) (tys := tyl ca) (D := D) hx hb hts in_X9 tyX9 tyX9_ok hown (hts _ q475) (hts _ q639) (hts _ q84) X.2.2.2.1 rfl (fun j hj => by rcases (show j = 0 ∨ j = 1 ∨ j = 2 ∨ j = 3 by omega) with rfl | rfl | rfl | rfl <;> rfl) (by dsimp only; omega) (by dsimp only; omega) dX2_happens_25 hS (fun H1 e1 z1 o1 hS1 => ?_)
  have hM1 := hM.grow o1 hS1
  refine lv_dup hx hb dX2_happens_28 rfl ?_
  refine lv_aload_n hx hb dX2_happens_29 rfl (lv_at hl 0 rfl) ?_
  refine r_X2_10 X hM1.r q169 dX2_happens_30 ?_
  refine lv_iload_n hx hb dX2_happens_33 rfl (lv_at hl 1 rfl) ?_
  refine lv_iload_n hx hb dX2_happens_34 rfl (lv_at hl 2 rfl) ?_
  refine lv_iload_n hx hb dX2_happens_35 rfl (lv_at hl 3 rfl) ?_
  have hAA : ∀ q, va_A [(H.size, .inr (5, [.int 0, .int 0, .int 0, .int 0]))] H1.size q → H.size ≤ q := fun q h => by
    rcases vaA1 h with h | h <;> omega
  have hAz : ∀ q, H.size ≤ q → kA ow0 (L 7) s.heap.size q := fun q h => Or.inr (Nat.le_trans hS.1 h)
  refine q_callE (va_runI (As := [.int (G 7 10), .int k, .int i, .int m9]) (rest := [.ref H.size, .ref (L 3)]) X.1 (v_Event (sz := H1.size) (h0 := H.size) (p0 := G 7 10) (p1 := k) (p2 := i) (p3 := m9) (D := D) (ca := ca) (zb := zb)) (cwI 4 hts (lw_meth q642) rfl rfl rfl (hts _ q84) (hts _ q640) (hts _ q641) rfl (by decide +kernel) ⟨Nat.le_of_ble_eq_true rfl, Nat.le_of_ble_eq_true rfl⟩) ⟨v_blind (fun _ _ _ _ h => h), fun U hU hW => ⟨rfl, by rw [hU], by rw [hU]; exact vaP1 e1, X.kk hM1.r hU hW, vaD1, fun q h => Nat.le_trans hzb (Nat.le_trans hS.1 (hAA q h)), trivial⟩⟩ rfl rfl hl.1 rfl (lv_room (Nat.le_of_ble_eq_true rfl)) dX2_happens_36 ⟨by dsimp only; omega, by dsimp only; omega⟩) hS1 (fun q _ h => hAz q (hAA q h)) (fun q h => hAz q (hAA q h)) (fun x1 t H2 locs2 ht hvm hB hz2 hk2 hS2 => ?_)
  obtain ⟨hP2, -⟩ := hB
  rw [ht] at hP2
  cases x1
  have e2 : va_at D vwCl (H.size, .inr (5, f4 (evF (G 7 10) k i m9))) H2 := hP2 0 _ rfl
  have o2 : ∀ q, q < H.size → H2[q]? = H[q]? := fun q h => (hk2 q (by omega) (fun z => absurd (hAA q z) (by omega))).trans (o1 q h)
  have hM2 := hM.grow o2 hS2
  obtain ⟨⟨ow, L', h1, hC, ho⟩, -, hF, hb9⟩ := id hM
  have f3 := kF_list (ca := ca) (zb := zb) (N := N) (L := L') (n3 := kN3 G) (g := G 3) (j := 3) (by decide)
  have hB := hC.2
  have hn3 : kN3 (addJ G 3 (kN3 G) (500 + kN3 G) (evF (G 7 10) k i m9) (evF (G 7 10) k i m9)) = kN3 G + 1 := addE_3 h59
  have hne : ∀ c, c < 3 → addJ G 3 (kN3 G) (500 + kN3 G) (evF (G 7 10) k i m9) (evF (G 7 10) k i m9) c = G c := fun c hc => addE_ne (by omega) (by omega)
  refine W.eq (g2 := F0 m 39 ls [.ref H.size, .ref (L' 3)]) (by rw [h1 3 (kst_lt (by decide))]; rfl) ?_
  refine k_addJ X hC (by omega) o2 (fun U hU hW => X.kk hM2.r hU hW) hS2 (fun q h => hAz q (by omega)) (Nat.le_trans hzb hS.1) (fun i x h9 h8 => hM.own9 h1 hC ho h9 h8) (j := 3) (n := kN3 G) (c2 := 500 + kN3 G) (q := H.size) (q2 := H.size) (N' := N) (g1 := evF (G 7 10) k i m9) (g2 := evF (G 7 10) k i m9) (fs := f4 (evF (G 7 10) k i m9)) (x2 := .inr (5, f4 (evF (G 7 10) k i m9))) (by decide) rfl (fun _ _ _ => rfl) (fun z => absurd z (by decide)) ?_ (Or.inr ⟨by decide, rfl, rfl, rfl⟩)
    (fun L' _ _ => ?_) (fun L' => Or.inr (by decide)) e2 e2 (Or.inl (Nat.le_refl _)) (Or.inl (Nat.le_refl _)) (fun z => absurd z (by decide)) q370 (Nat.le_refl _) (Nat.le_refl _) hl.1 (Nat.le_of_ble_eq_true rfl) dX2_happens_39 ⟨by dsimp only; omega, by dsimp only; omega⟩ (fun H3 locs3 ow' L2 b1 b2 b3 b4 b5 b6 b7 hS3 => ?_)
  · refine ⟨⟨hB.1.1, hB.1.2.1, hB.1.2.2.1, by rw [hn3]; omega⟩, ?_, ?_, ?_, by rw [hn3]; rfl⟩
    · rw [hne 0 (by decide)]; exact hB.2.1
    · rw [hne 1 (by decide)]; exact hB.2.2.1
    · rw [hne 2 (by decide)]; exact hB.2.2.2.1
  · rw [hn3]
    exact kF_evt (by omega)
  · refine lv_pop hx hb dX2_happens_42 rfl ?_
    have hM3 : kI D ca zb ow0 N L (addE G (evF (G 7 10) k i m9)) s H3 locs3 := by
      refine ⟨⟨ow', L2, fun i hi => (b2 i hi ?_ ?_).trans (h1 i hi), b5, fun q hq => (b1 q (Nat.lt_of_lt_of_le hq hS.1)).trans (ho q hq)⟩, hS3, hF.kept (fun a ha h9 => (b6 a (by omega) (fun z => h9 ?_) (fun hc z => h9 ?_)).trans (o2 a ha)), hb9⟩
      · unfold kst at hi
        show i ≠ 500 + kN3 G
        omega
      · unfold kst at hi
        omega
      · rw [z]; exact (hC.1 3 _ f3).2.2
      · rw [z]; exact (hC.1 13 _ (kF_el (j := 3) (by decide) hc)).2.2
    exact kw_vret X hM3 (by omega) (by omega) dX2_happens_43
theorem k_K_happens {sz : Nat} {k i m9 : Int32} (hmc : 1 + gcC (hapN G) ≤ mc) (hms : 4 + gcS (hapN G) ≤ ms) : KwI l D ca zb ow0 sz yX2_happens cX2_happens 4 none 7 mc ms [.ref (L 7), .int k, .int i, .int m9] N L G (hapG G k i m9) none := by
  refine kw_start (own := RX2) (by decide) rfl (Nat.le_of_ble_eq_true rfl) fun p e s m below meth c X ls hl hsz hM => ?_
  have hl : lv_has ls 4 [(0, .ref (L 7)), (1, .int k), (2, .int i), (3, .int m9)] := hl
  obtain ⟨hx, hb, hml, hown, hts⟩ := X.1
  have hzb := hM.zb9
  have hS := hM.2.1
  refine lv_aload_n hx hb dX2_happens_0 rfl (lv_at hl 0 rfl) ?_
  refine r_X2_3 X hM.r q152 dX2_happens_1 ?_
  refine kr_size X hM.r (j := 3) (by decide) q246 (Nat.le_of_ble_eq_true rfl) (Nat.le_of_ble_eq_true rfl) hl.1 (Nat.le_of_ble_eq_true rfl) dX2_happens_4 ⟨Nat.zero_le _, Nat.zero_le _⟩ ?_
  refine lv_bipush (v := 60) hx hb dX2_happens_7 rfl ?_
  have hB := hM.r.1.bd
  have h60 := hB.1.2.2.2
  have e60 : G 3 2 = nI (kN3 G) := hB.2.2.2.2
  refine lv_icmp_ne (tgt := 21) hx hb dX2_happens_9 (by decide) (fun c1 => ?_) (fun c1 => ?_)
  · have hn : kN3 G ≠ 60 := fun z => c1 (by rw [e60, z]; rfl)
    have hG : hapG G k i m9 = addE G (evF (G 7 10) k i m9) := by unfold hapG; rw [if_neg hn]
    have hN : hapN G = kN3 G := if_neg hn
    rw [hN] at hmc hms
    rw [hG]
    exact k_hapB X hM (by omega) hl hmc hms
  · have hn : kN3 G = 60 := by
      have := congrArg Int32.toNatClampNeg c1
      exact this
    have hG : hapG G k i m9 = addE (rem0 G) (evF (rem0 G 7 10) k i m9) := by unfold hapG; rw [if_pos hn, rem0_ne (c := 7) (by decide) (by decide)]
    have hN : hapN G = kN3 (rem0 G) := if_pos hn
    rw [hN] at hmc hms
    rw [hG]
    obtain ⟨⟨ow, L', h1, hC, ho⟩, -, hF, hb9⟩ := id hM
    have f3 := kF_list (ca := ca) (zb := zb) (N := N) (L := L') (n3 := kN3 G) (g := G 3) (j := 3) (by decide)
    have c3 : kCnt N (kN3 G) 3 = 60 := hn
    have f13 := kF_el (ca := ca) (zb := zb) (N := N) (L := L') (n3 := kN3 G) (g := G 13) (j := 3) (by decide) (by rw [c3]; exact (by decide : capF 60 ≠ 0))
    rw [c3] at f3 f13
    rw [if_neg (show capF 60 ≠ 0 by decide), e60, show nI (kN3 G) = nI 60 by rw [hn]] at f3
    have a3 := hC.1 3 _ f3
    have a13 := hC.1 13 _ f13
    have hne := hC.apart f3 f13 (by decide) (by decide)
    have hP := vaP2 a3.1 a13.1
    have hAA : ∀ q, va_A [(L' 3, .inr (7, [.int (G 3 0), .ref (L' 13), .int (nI 60)])), (L' 13, .inl (ca 1, 73, .inr (.inr (.inr (.inr (kEl L' 60 500))))))] s.heap.size q → kA ow0 (L 7) s.heap.size q ∧ zb 1 ≤ q := fun q h => by
      rcases vaA2 h with h | h | h
      · rw [h]; exact ⟨hM.own9 h1 hC ho f3 (by decide), a3.2.2⟩
      · rw [h]; exact ⟨hM.own9 h1 hC ho f13 (by decide), a13.2.2⟩
      · exact ⟨Or.inr h, Nat.le_trans hzb h⟩
    refine lv_aload_n hx hb dX2_happens_12 rfl (lv_at hl 0 rfl) ?_
    refine r_X2_3 X hM.r q152 dX2_happens_13 ?_
    refine lv_iconst (v := 0) hx hb dX2_happens_16 rfl ?_
    refine W.eq (g2 := F0 m 17 ls [.int 0, .ref (L' 3)]) (by rw [h1 3 (kst_lt (by decide))]) ?_
    refine q_callE (va_runV (As := [.int 0]) (rest := []) X.1 (v_L_remA (sz := s.heap.size) (la := L' 3) (ea := L' 13) (n := 73) (k := 59) (y := L' 500) (μ := G 3 0) (f := kEl L' 60 500) (D := D) (ca := ca) (zb := zb) (by decide) (by decide) (by decide) rfl) (cwV 1 hts (lw_V q630 q631 q632 q69 q633) rfl rfl rfl (by decide +kernel) ⟨Nat.le_of_ble_eq_true rfl, Nat.le_of_ble_eq_true rfl⟩) ⟨v_blind (fun _ _ _ _ h => h), va_recv X.2.2.2.1 hP (ci := 7) (q0 := 0) rfl rfl, fun U hU hW => ⟨rfl, by rw [hU], by rw [hU]; exact hP, X.kk hM.r hU hW, vaD2 hne, fun q h => (hAA q h).2, fun i y hi hy => ?_⟩⟩ rfl rfl hl.1 rfl (lv_room (Nat.le_of_ble_eq_true rfl)) dX2_happens_17 ⟨Nat.zero_le _, Nat.zero_le _⟩) hS (fun q _ h => (hAA q h).1) (fun q h => (hAA q h).1) (fun x1 t H1 locs1 ht hvm hB1 hz1 hk1 hS1 => ?_)
    · unfold kEl at hy
      by_cases hi2 : i < 60
      · rw [if_pos hi2] at hy
        cases hy
        have fe := kF_evt (ca := ca) (zb := zb) (N := N) (L := L') (n3 := kN3 G) (g := G (500 + i)) (k := i) (by omega)
        have ae := hC.1 _ _ fe
        refine ⟨k_any X (j := 3) (by decide) ae.1 U hU hW, fun h => ?_⟩
        rcases vaA2 h with h | h | h
        · exact hC.apart fe f3 (by decide) (by omega) h
        · exact hC.apart fe f13 (by decide) (by omega) h
        · exact absurd ae.1.lt (Nat.not_lt.mpr h)
      · rw [if_neg hi2] at hy
        cases hy
    · obtain ⟨hP1, -⟩ := hB1
      rw [ht] at hP1
      cases x1
      have hk9 : ∀ a, a < s.heap.size → a ≠ L' 3 → a ≠ L' 13 → H1[a]? = s.heap[a]? := fun a h9 h8 h7 => hk1 a h9 fun z => by
        rcases vaA2 z with h | h | h
        · exact h8 h
        · exact h7 h
        · omega
      have hC1 := hC.rem (H1 := H1) hn (hP1 0 _ rfl) (hP1 1 _ rfl) hk9
      have hM1 : kI D ca zb ow0 N L (rem0 G) s H1 locs1 := by
        refine ⟨⟨ow, remL L', fun i hi => ?_, hC1, ho⟩, hS1, hF.kept (fun a ha h9 => hk9 a ha (fun z => h9 ?_) (fun z => h9 ?_)), hb9⟩
        · rw [← h1 i hi]
          unfold kst at hi
          exact if_neg (by omega)
        · rw [z]; exact a3.2.2
        · rw [z]; exact a13.2.2
      refine lv_pop hx hb dX2_happens_20 rfl ?_
      exact k_hapB X hM1 (Nat.le_refl 59) hl hmc hms
end
