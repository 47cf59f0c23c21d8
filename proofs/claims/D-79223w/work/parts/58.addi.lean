/-! Core.add: one more incident -/
def incF (nu sy fi : Int32) : Nat → Int32 := fun f => if f = 0 then sy else if f = 1 then fi else if f = 2 then nu else if f = 12 then -1 else if f = 13 then -1 else if f = 14 then -1 else 0
def addI (G : mMS) (n : Nat) (sy fi : Int32) : mMS := addJ G 0 n (200 + n) (incF (G 0 2) sy fi) (fun _ => 0)
/-- a contract of a method that makes a list longer -/
def KnI (l : Launch) (D : va_G) (ca : Nat → ClassId) (zb : Nat → Nat) (ow : Nat → Nat × Nat) (sz : Nat) (y : MethodName) (cc : ByteArray) (nL : Nat) (ret : Option FieldType) (n mc ms : Nat) (av : List Value) (N L : Nat → Nat) (G : mMS) (N' : Nat → Nat) (G' : mMS) (ov : (Nat → Nat) → Option Value) (hL : (Nat → Nat) → Prop) : Prop :=
  Met l y (ws_ y cc nL ret) { frames := n, cells := mc, slots := ms, locals := 40 * n } (va_Pc av (kPre D ca zb ow sz N L G)) (fun _ st o t => (∃ L2 : Nat → Nat, o = .returned (ov L2) ∧ (hL L2 ∧ kPost D ca zb ow sz N' L2 G' t)) ∧ va_F (kA ow (L 7) sz) st t) mc ms (kA ow (L 7) sz)
section
variable {p : Program} {l : Launch} {e : Env} {s : State} {m : MethodId} {args : Array Value} {below : List Frame} {meth : Method} {c : Code} {H : Heap} {locs : List Loc} {cells slots mc ms : Nat} {ls : Array Slot} {D : va_G} {ca : Nat → ClassId} {zb N L : Nat → Nat} {G : mMS} {ow0 : Nat → Nat × Nat} {own : String} {cc : ByteArray} {nL pc : Nat}
theorem kn_start {y : MethodName} {n : Nat} {av : List Value} {ret : Option FieldType} {sz : Nat} {N' : Nat → Nat} {G' : mMS} {ov : (Nat → Nat) → Option Value} {hL : (Nat → Nat) → Prop} (hy : plainName y.cls = true) (hc : y.cls = own) (hn : (lg_sl av).length ≤ nL)
    (body : ∀ p e s m below meth c, KX p s m av.toArray meth c own cc nL ret D ca → ∀ ls, lv_has ls nL (lv_args 0 av) → s.heap.size = sz → kI D ca zb ow0 N L G s s.heap [] → W p l e { frames := n, cells := mc, slots := ms, locals := 40 * n } s m av.toArray below meth c s.heap [] 0 0 (MQ below (fun _ st o t => (∃ L2 : Nat → Nat, o = .returned (ov L2) ∧ (hL L2 ∧ kPost D ca zb ow0 s.heap.size N' L2 G' t)) ∧ va_F (kA ow0 (L 7) s.heap.size) st t) av.toArray s mc ms (kA ow0 (L 7) s.heap.size)) (F0 m 0 ls [])) : KnI l D ca zb ow0 sz y cc nL ret n mc ms av N L G N' G' ov hL := by
  refine Met.ofW (cc := cc) (maxL := nL) (ret := ret) hy rfl ?_
  intro p e s m args below meth c s₁ B hml hv
  obtain ⟨rfl, hz, hP, hK, hB⟩ := hv
  have hts := atoms_spec (ws := ws_ y cc nL ret) B.pre
  have hts : ∀ w ∈ lw_all, w.before _ s = true := fun w h => hts w (List.mem_cons_of_mem _ h)
  have hown : s.vm.findClass own = some m.cls := by rw [← hc]; exact findClass_of_methodNamed B.named
  have hl := lv_entry av (n := nL) hn
  rw [lg_entry_eq]
  subst hz
  obtain ⟨L1, h1, h2⟩ := hP
  exact body p e s m below meth c ⟨⟨B.exec, B.bytes, hml, hown, hts⟩, B.returns, B.notSynchronized, hK.1, hK.2.1⟩ _ hl rfl ⟨⟨ow0, L1, h1, h2, fun _ _ => rfl⟩, va_S.rf, hK.2.2, hB⟩
theorem k_K_add {sz : Nat} {p1 p2 : Int32} (hn : N 0 < 16) (hmc : 2 + gcC (N 0) ≤ mc) (hms : 22 + gcS (N 0) ≤ ms) : KnI l D ca zb ow0 sz yX2_add cX2_add 4 (some (.object "IncidentKeeper$Core$Incident")) 7 mc ms [.ref (L 7), .int p1, .int p2] N L G (kNp N 0) (addI G (N 0) p1 p2) (fun L2 => some (.ref (L2 (100 + N 0)))) (fun L2 => ∀ i, kst i → i ≠ 100 + N 0 → i ≠ 200 + N 0 → L2 i = L i) := by
  refine kn_start (own := RX2) (by decide) rfl (Nat.le_of_ble_eq_true rfl) fun p e s m below meth c X ls hl hsz hM => ?_
  have hl : lv_has ls 4 [(0, .ref (L 7)), (1, .int p1), (2, .int p2)] := hl
  obtain ⟨hx, hb, hml, hown, hts⟩ := X.1
  have hzb := hM.zb9
  have hS := hM.2.1
  obtain ⟨H, hH⟩ : ∃ H, H = s.heap := ⟨_, rfl⟩
  have hHz : H.size = s.heap.size := by rw [hH]
  refine kv_new (ci := 2) (fs := [.int 0, .int 0, .int 0, .null, .int 0, .int 0, .int 0, .int 0, .int 0, .int 0, .int 0, .int 0, .int 0, .int 0, .int 0, .int 0, .int 0, .null]) (C := RX6) (T := TX6) (NN := 18) (cl := vwCl) (tys := tyl ca) (D := D) hx hb hts in_X6 tyX6 tyX6_ok hown (hts _ q264) (hts _ q281) (hts _ q75) X.2.2.2.1 rfl (fun j hj => by rcases (show j = 0 ∨ j = 1 ∨ j = 2 ∨ j = 3 ∨ j = 4 ∨ j = 5 ∨ j = 6 ∨ j = 7 ∨ j = 8 ∨ j = 9 ∨ j = 10 ∨ j = 11 ∨ j = 12 ∨ j = 13 ∨ j = 14 ∨ j = 15 ∨ j = 16 ∨ j = 17 by omega) with rfl | rfl | rfl | rfl | rfl | rfl | rfl | rfl | rfl | rfl | rfl | rfl | rfl | rfl | rfl | rfl | rfl | rfl <;> rfl) (by dsimp only; omega) (by dsimp only; omega) dX2_add_0 hS (fun H1 e1 z1 o1 hS1 => ?_)
  have hM1 := hM.grow o1 hS1
  refine lv_dup hx hb dX2_add_3 rfl ?_
  refine lv_aload_n hx hb dX2_add_4 rfl (lv_at hl 0 rfl) ?_
  refine lv_aload_n hx hb dX2_add_5 rfl (lv_at hl 0 rfl) ?_
  refine r_X2_0 X hM1.r q144 dX2_add_6 ?_
  refine kr_size X hM1.r (j := 0) (by decide) q246 (Nat.le_of_ble_eq_true rfl) (Nat.le_of_ble_eq_true rfl) hl.1 (Nat.le_of_ble_eq_true rfl) dX2_add_9 ⟨by dsimp only; omega, by dsimp only; omega⟩ ?_
  refine lv_iload_n hx hb dX2_add_12 rfl (lv_at hl 1 rfl) ?_
  refine lv_iload_n hx hb dX2_add_13 rfl (lv_at hl 2 rfl) ?_
  have hAA : ∀ q, va_A [(s.heap.size, .inr (2, [.int 0, .int 0, .int 0, .null, .int 0, .int 0, .int 0, .int 0, .int 0, .int 0, .int 0, .int 0, .int 0, .int 0, .int 0, .int 0, .int 0, .null]))] H1.size q → s.heap.size ≤ q := fun q h => by
    rcases vaA1 h with h | h <;> omega
  have hAz : ∀ q, s.heap.size ≤ q → kA ow0 (L 7) s.heap.size q := fun q h => Or.inr h
  refine q_callE (va_runI (As := [.ref (L 7), .int (G 0 2), .int p1, .int p2]) (rest := [.ref s.heap.size]) X.1 (v_Inc (sz := H1.size) (h0 := s.heap.size) (k0 := L 7) (p0 := G 0 2) (p1 := p1) (p2 := p2) (D := D) (ca := ca) (zb := zb)) (cwI 4 hts (lw_meth q284) rfl rfl rfl (hts _ q75) (hts _ q282) (hts _ q283) rfl (by decide +kernel) ⟨Nat.le_of_ble_eq_true rfl, Nat.le_of_ble_eq_true rfl⟩) ⟨v_blind (fun _ _ _ _ h => h), fun U hU hW => ⟨rfl, by rw [hU], by rw [hU]; exact vaP1 e1, X.kk hM1.r hU hW, vaD1, fun q h => Nat.le_trans hzb (hAA q h), trivial⟩⟩ rfl rfl hl.1 rfl (lv_room (Nat.le_of_ble_eq_true rfl)) dX2_add_14 ⟨by dsimp only; omega, by dsimp only; omega⟩) hS1 (fun q _ h => hAz q (hAA q h)) (fun q h => hAz q (hAA q h)) (fun x1 t H2 locs2 ht hvm hB hz2 hk2 hS2 => ?_)
  obtain ⟨hP2, hD2⟩ := hB
  rw [ht] at hP2
  have hx1 : s.heap.size < x1 := by
    rcases vaA1 (hD2.2 1 _ rfl) with h | h
    · exact absurd (hD2.1 1 0 _ _ rfl rfl h) (by decide)
    · have : H1.size ≤ x1 := h
      omega
  have e2 : va_at D vwCl (s.heap.size, .inr (2, [.int p1, .int p2, .int (G 0 2), .ref x1, .int 0, .int 0, .int 0, .int 0, .int 0, .int 0, .int 0, .int 0, .int (-1), .int (-1), .int (-1), .int 0, .int 0, .ref (L 7)])) H2 := hP2 0 _ rfl
  have e4 : va_at D vwCl (x1, .inl (ca 0, 4, .inl (fun _ => 0))) H2 := hP2 1 _ rfl
  have o2 : ∀ q, q < s.heap.size → H2[q]? = s.heap[q]? := fun q h => (hk2 q (by omega) (fun z => absurd (hAA q z) (by omega))).trans (o1 q h)
  have hM2 := hM.grow o2 hS2
  obtain ⟨⟨ow, L', h1, hC, ho⟩, -, hF, hb9⟩ := id hM
  have fj := kF_list (ca := ca) (zb := zb) (N := N) (L := L') (n3 := kN3 G) (g := G 0) (j := 0) (by decide)
  obtain ⟨⟨k1, k2, k3, k4⟩, k5, k6, k7, k8⟩ := id hC.2
  have hne : ∀ c, c < 4 → c ≠ 0 → addI G (N 0) p1 p2 c = G c := fun c hc h9 => (if_neg h9).trans ((if_neg (by show c ≠ 100 + N 0; omega)).trans (if_neg (by omega)))
  have hn3 : kN3 (addI G (N 0) p1 p2) = kN3 G := by unfold kN3; rw [hne 3 (by decide) (by decide)]
  have hj2 : addI G (N 0) p1 p2 0 2 = nI (N 0 + 1) := by unfold addI addJ; rw [if_pos rfl]; rfl
  refine lv_astore_n (lv' := [(3, .ref s.heap.size), (0, .ref (L 7)), (1, .int p1), (2, .int p2)]) hx hb dX2_add_17 rfl hl (by decide) rfl (fun ls hl => ?_)
  refine lv_aload_n hx hb dX2_add_18 rfl (lv_at hl 1 rfl) ?_
  refine r_X2_0 X hM2.r q144 dX2_add_19 ?_
  refine lv_aload_n hx hb dX2_add_22 rfl (lv_at hl 0 rfl) ?_
  refine W.eq (g2 := F0 m 23 ls [.ref s.heap.size, .ref (L' 0)]) (by rw [h1 0 (kst_lt (by decide))]) ?_
  refine k_addJ X hC (by omega) o2 (fun U hU hW => X.kk hM2.r hU hW) hS2 (fun q h => hAz q (by omega)) hzb (fun i x h9 h8 => hM.own9 h1 hC ho h9 h8) (j := 0) (n := N 0) (c2 := 200 + N 0) (q := s.heap.size) (q2 := x1) (N' := kNp N 0) (g1 := incF (G 0 2) p1 p2) (g2 := fun _ => 0) (fs := [.int p1, .int p2, .int (G 0 2), .ref x1, .int 0, .int 0, .int 0, .int 0, .int 0, .int 0, .int 0, .int 0, .int (-1), .int (-1), .int (-1), .int 0, .int 0, .ref (L 7)]) (x2 := .inl (ca 0, 4, .inl (fun _ => 0))) (by decide) rfl (fun k _ h9 => if_neg h9) (fun _ => if_pos rfl) ⟨⟨(by show (if 0 = 0 then N 0 + 1 else N 0) ≤ 16; rw [if_pos rfl]; omega), k2, k3, (by show kN3 (addI G (N 0) p1 p2) ≤ 60; rw [hn3]; exact k4)⟩, ?_, ?_, ?_, ?_⟩ (Or.inl ⟨rfl, rfl⟩)
    (fun L3 h3 h4 => ?_) (fun L3 => Or.inl (kF_cnt (by show N 0 < (if 0 = 0 then N 0 + 1 else N 0); rw [if_pos rfl]; omega) (by show (if 0 = 0 then N 0 + 1 else N 0) ≤ 16; rw [if_pos rfl]; omega))) e2 e4 (Or.inl (Nat.le_refl _)) (Or.inl (Nat.le_of_lt hx1)) (fun _ z => absurd hx1 (by rw [← z]; exact Nat.lt_irrefl _)) q370 (Nat.le_refl _) (Nat.le_refl _) hl.1 (Nat.le_of_ble_eq_true rfl) dX2_add_23 ⟨by dsimp only; omega, by dsimp only; omega⟩ (fun H3 locs3 ow' L2 b1 b2 b3 b4 b5 b6 b7 hS3 => ?_)
  · exact hj2
  · show addI G (N 0) p1 p2 1 2 = _; rw [hne 1 (by decide) (by decide)]; exact k6
  · show addI G (N 0) p1 p2 2 2 = _; rw [hne 2 (by decide) (by decide)]; exact k7
  · show addI G (N 0) p1 p2 3 2 = nI (kN3 (addI G (N 0) p1 p2)); rw [hn3, hne 3 (by decide) (by decide)]; exact k8
  · have h73 : L3 7 = L 7 := (h3 7 (kst_lt (by decide)) (by show 7 ≠ 100 + N 0; omega) (by omega)).trans (h1 7 (kst_lt (by decide)))
    show kF ca zb (kNp N 0) L3 _ _ (100 + N 0) = _
    rw [kF_inc (by show N 0 < (if 0 = 0 then N 0 + 1 else N 0); rw [if_pos rfl]; omega) (by show (if 0 = 0 then N 0 + 1 else N 0) ≤ 16; rw [if_pos rfl]; omega), h4]
    show some _ = some _
    unfold inFs
    rw [h73]
    rfl
  · have h72 : L2 7 = L 7 := (b2 7 (kst_lt (by decide)) (by show 7 ≠ 100 + N 0; omega) (by omega)).trans (h1 7 (kst_lt (by decide)))
    refine lv_pop hx hb dX2_add_26 rfl ?_
    refine lv_aload_n hx hb dX2_add_27 rfl (lv_at hl 0 rfl) ?_
    have hlk := X.2.2.1
    refine W.widen (k := mc) (n := ms) (by omega) (by omega) ?_
    refine W.aret (v := .ref s.heap.size) hx hb X.2.1 (Or.inl ⟨_, rfl⟩) (Or.inr ⟨_, rfl⟩) (fun t ht hW => ⟨⟨L2, ?_, fun i hi h9 h8 => (b2 i hi h9 h8).trans (h1 i hi), ow', L2, fun q hq => (b1 q hq).trans (ho q hq), fun _ _ => rfl, by rw [ht]; exact b5⟩, hS3.F ht⟩) hS3.2.2 dX2_add_28
    show Outcome.returned _ = Outcome.returned (some (.ref (L2 (100 + N 0))))
    rw [show L2 (100 + N 0) = s.heap.size from b3]
end
