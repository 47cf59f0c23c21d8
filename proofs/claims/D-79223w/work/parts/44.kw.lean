theorem kF_inc2 {ca : Nat → ClassId} {zb N L L' : Nat → Nat} {n3 : Nat} {g : Nat → Int32} (hL : ∀ j, kst j → L' j = L j) {k : Nat} (hk : k < N 0) (hN : N 0 ≤ 16) : kF ca zb N L' n3 g (100 + k) = some (.inr (2, inFs L g (L (200 + k)))) := by
  rw [kF_inc hk hN, hL (200 + k) (Or.inr ⟨by omega, by omega⟩)]
  simp only [inFs, hL 7 (kst_lt (by decide))]
theorem kv_iast {p : Program} {l : Launch} {e : Env} {R : Room} {s : State} {m : MethodId} {args : Array Value} {below : List Frame} {meth : Method} {c : Code} {H : Heap} {locs : List Loc} {cells slots : Nat} {Q : State → Prop} {pc : Nat} {ls : Array Slot} {rest : List Value} {cc : ByteArray} {D : va_G} {ca : Nat → ClassId} {a : Nat} (hexec : p.tables.exec = Jvm.exec) (hb : c.code = cc) (hK : va_K D vwCl (tyl ca) s) {n : Nat} {f : Nat → Int32} (ha : va_at D vwCl (a, .inl (ca 0, n, .inl f)) H) {i : Int32} {x : Int32} (hin : vp_in i n) (hdg : decode cc pc = .ok (.iastore, 1))
    (kk : ∀ (H1 : Heap) (i9 : Nat), va_at D vwCl (a, .inl (ca 0, n, .inl (upd f i.toNatClampNeg x))) H1 → H1.size = H.size → (∀ q, q ≠ a → H1[q]? = H[q]?) → W p l e R s m args below meth c H1 (locs ++ [⟨a, i9⟩]) cells slots Q (F0 m (pc + 1) ls rest)) : W p l e R s m args below meth c H locs cells slots Q (F0 m pc ls (.int x :: .int i :: .ref a :: rest)) := by
  refine W.iast hexec hb ha ((hK.2 0 _ rfl).1 n (fun j => .int (f j))) (fun q => by cases q) (by show ¬ (i < 0 ∨ (arrV _ _ _).slots.size ≤ _); rw [arrV_size]; exact hin) rfl rfl hdg fun H1 e z oq => ?_
  refine kk H1 _ ?_ z oq
  show H1[a]? = some (vp_cell _ _)
  rw [e]
  rw [vp_cell_i, vp_cell_i, arrV_store]
  congr 2
  funext q
  by_cases hq : q = i.toNatClampNeg
  · subst hq
    simp [updV, upd]
  · simp [updV, upd, hq]
section
variable {p : Program} {l : Launch} {e : Env} {R : Room} {s : State} {m : MethodId} {args : Array Value} {below : List Frame} {meth : Method} {c : Code} {H : Heap} {locs : List Loc} {cells slots : Nat} {Q : State → Prop} {pc : Nat} {ls : Array Slot} {rest st0 : List Value} {own : String} {cc : ByteArray} {nL : Nat} {ret : Option FieldType} {D : va_G} {ca : Nat → ClassId} {zb N L : Nat → Nat} {G : mMS} {index : Nat} {ow0 : Nat → Nat × Nat}
theorem w_X2_7 (X : KX p s m args meth c own cc nL ret D ca) (hM : kI D ca zb ow0 N L G s H locs) {v : Int32} (hq : Cond.fieldLink own index "IncidentKeeper$Core" "reviewCount" "I" ∈ lw_all) (hd : decode cc pc = .ok (.putfield index, 3)) (k : ∀ (H1 : Heap) (locs1 : List Loc) (G1 : mMS), G1 = m_up G (7) 7 v → kI D ca zb ow0 N L G1 s H1 locs1 → W p l e R s m args below meth c H1 locs1 cells slots Q (F0 m (pc + 3) ls rest)) : W p l e R s m args below meth c H locs cells slots Q (F0 m pc ls (.int v :: .ref (L 7) :: rest)) := by
  obtain ⟨⟨hx, hb, hml, hown, hts⟩, hrt, hlk, hK, hN⟩ := X
  have hB := hM.r.1.bd
  refine kv_put (ci := 1) (v := .int v) (ty := .int) (C := RX2) (T := TX2) (NN := 11) hx hb hts in_X2 tyX2 tyX2_ok nmX2 hown hK (hM.r.1.core 0 _ rfl) rfl 7 (by decide) (Or.inl (hts _ hq)) (fun _ h9 => h9) rfl (by decide +kernel) rfl rfl (Nat.le_of_ble_eq_true rfl) hd (fun H1 i9 he hz hq2 => ?_)
  refine k H1 _ _ rfl (hM.put (i := 7) (kst_lt (by decide)) (fun L' hL => by rw [kF_core, coFs_eq hL]) (by omega) he hz hq2 (fun j hj => up_ne hj) (kBd_up (by omega) hB).2 (fun L' hL => ?_) (kBd_up (by omega) hB).1)
  rw [up_eq, kF_core, coFs_eq hL]; rfl
theorem w_X2_8 (X : KX p s m args meth c own cc nL ret D ca) (hM : kI D ca zb ow0 N L G s H locs) {v : Int32} (hq : Cond.fieldLink own index "IncidentKeeper$Core" "onDuty" "I" ∈ lw_all) (hd : decode cc pc = .ok (.putfield index, 3)) (k : ∀ (H1 : Heap) (locs1 : List Loc) (G1 : mMS), G1 = m_up G (7) 8 v → kI D ca zb ow0 N L G1 s H1 locs1 → W p l e R s m args below meth c H1 locs1 cells slots Q (F0 m (pc + 3) ls rest)) : W p l e R s m args below meth c H locs cells slots Q (F0 m pc ls (.int v :: .ref (L 7) :: rest)) := by
  obtain ⟨⟨hx, hb, hml, hown, hts⟩, hrt, hlk, hK, hN⟩ := X
  have hB := hM.r.1.bd
  refine kv_put (ci := 1) (v := .int v) (ty := .int) (C := RX2) (T := TX2) (NN := 11) hx hb hts in_X2 tyX2 tyX2_ok nmX2 hown hK (hM.r.1.core 0 _ rfl) rfl 8 (by decide) (Or.inl (hts _ hq)) (fun _ h9 => h9) rfl (by decide +kernel) rfl rfl (Nat.le_of_ble_eq_true rfl) hd (fun H1 i9 he hz hq2 => ?_)
  refine k H1 _ _ rfl (hM.put (i := 7) (kst_lt (by decide)) (fun L' hL => by rw [kF_core, coFs_eq hL]) (by omega) he hz hq2 (fun j hj => up_ne hj) (kBd_up (by omega) hB).2 (fun L' hL => ?_) (kBd_up (by omega) hB).1)
  rw [up_eq, kF_core, coFs_eq hL]; rfl
theorem w_X2_9 (X : KX p s m args meth c own cc nL ret D ca) (hM : kI D ca zb ow0 N L G s H locs) {v : Int32} (hq : Cond.fieldLink own index "IncidentKeeper$Core" "window" "I" ∈ lw_all) (hd : decode cc pc = .ok (.putfield index, 3)) (k : ∀ (H1 : Heap) (locs1 : List Loc) (G1 : mMS), G1 = m_up G (7) 9 v → kI D ca zb ow0 N L G1 s H1 locs1 → W p l e R s m args below meth c H1 locs1 cells slots Q (F0 m (pc + 3) ls rest)) : W p l e R s m args below meth c H locs cells slots Q (F0 m pc ls (.int v :: .ref (L 7) :: rest)) := by
  obtain ⟨⟨hx, hb, hml, hown, hts⟩, hrt, hlk, hK, hN⟩ := X
  have hB := hM.r.1.bd
  refine kv_put (ci := 1) (v := .int v) (ty := .int) (C := RX2) (T := TX2) (NN := 11) hx hb hts in_X2 tyX2 tyX2_ok nmX2 hown hK (hM.r.1.core 0 _ rfl) rfl 9 (by decide) (Or.inl (hts _ hq)) (fun _ h9 => h9) rfl (by decide +kernel) rfl rfl (Nat.le_of_ble_eq_true rfl) hd (fun H1 i9 he hz hq2 => ?_)
  refine k H1 _ _ rfl (hM.put (i := 7) (kst_lt (by decide)) (fun L' hL => by rw [kF_core, coFs_eq hL]) (by omega) he hz hq2 (fun j hj => up_ne hj) (kBd_up (by omega) hB).2 (fun L' hL => ?_) (kBd_up (by omega) hB).1)
  rw [up_eq, kF_core, coFs_eq hL]; rfl
theorem w_X2_10 (X : KX p s m args meth c own cc nL ret D ca) (hM : kI D ca zb ow0 N L G s H locs) {v : Int32} (hq : Cond.fieldLink own index "IncidentKeeper$Core" "now" "I" ∈ lw_all) (hd : decode cc pc = .ok (.putfield index, 3)) (k : ∀ (H1 : Heap) (locs1 : List Loc) (G1 : mMS), G1 = m_up G (7) 10 v → kI D ca zb ow0 N L G1 s H1 locs1 → W p l e R s m args below meth c H1 locs1 cells slots Q (F0 m (pc + 3) ls rest)) : W p l e R s m args below meth c H locs cells slots Q (F0 m pc ls (.int v :: .ref (L 7) :: rest)) := by
  obtain ⟨⟨hx, hb, hml, hown, hts⟩, hrt, hlk, hK, hN⟩ := X
  have hB := hM.r.1.bd
  refine kv_put (ci := 1) (v := .int v) (ty := .int) (C := RX2) (T := TX2) (NN := 11) hx hb hts in_X2 tyX2 tyX2_ok nmX2 hown hK (hM.r.1.core 0 _ rfl) rfl 10 (by decide) (Or.inl (hts _ hq)) (fun _ h9 => h9) rfl (by decide +kernel) rfl rfl (Nat.le_of_ble_eq_true rfl) hd (fun H1 i9 he hz hq2 => ?_)
  refine k H1 _ _ rfl (hM.put (i := 7) (kst_lt (by decide)) (fun L' hL => by rw [kF_core, coFs_eq hL]) (by omega) he hz hq2 (fun j hj => up_ne hj) (kBd_up (by omega) hB).2 (fun L' hL => ?_) (kBd_up (by omega) hB).1)
  rw [up_eq, kF_core, coFs_eq hL]; rfl
theorem w_X6_4 (X : KX p s m args meth c own cc nL ret D ca) (hM : kI D ca zb ow0 N L G s H locs) {k0 : Int32} (hk0 : vp_in k0 (N 0)) {v : Int32} (hq : Cond.fieldLink own index "IncidentKeeper$Core$Incident" "severity" "I" ∈ lw_all) (hd : decode cc pc = .ok (.putfield index, 3)) (k : ∀ (H1 : Heap) (locs1 : List Loc) (G1 : mMS), G1 = m_up G (iC k0) 4 v → kI D ca zb ow0 N L G1 s H1 locs1 → W p l e R s m args below meth c H1 locs1 cells slots Q (F0 m (pc + 3) ls rest)) : W p l e R s m args below meth c H locs cells slots Q (F0 m pc ls (.int v :: .ref (L (iC k0)) :: rest)) := by
  obtain ⟨⟨hx, hb, hml, hown, hts⟩, hrt, hlk, hK, hN⟩ := X
  have hB := hM.r.1.bd
  have hr9 : iC k0 = 100 + k0.toNatClampNeg := rfl
  have hv9 := vp_lt hk0
  obtain ⟨⟨hb9, hb8, hb7, -⟩, -⟩ := id hB
  refine kv_put (ci := 2) (v := .int v) (ty := .int) (C := RX6) (T := TX6) (NN := 18) hx hb hts in_X6 tyX6 tyX6_ok nmX6 hown hK (hM.r.1.inc (vp_lt hk0) 0 _ rfl) rfl 4 (by decide) (Or.inl (hts _ hq)) (fun _ h9 => h9) rfl (by decide +kernel) rfl rfl (Nat.le_of_ble_eq_true rfl) hd (fun H1 i9 he hz hq2 => ?_)
  refine k H1 _ _ rfl (hM.put (i := iC k0) (Or.inr ⟨by omega, by omega⟩) (fun L' hL => kF_inc2 hL (vp_lt hk0) hB.1.1) (by omega) he hz hq2 (fun j hj => up_ne hj) (kBd_up (by omega) hB).2 (fun L' hL => ?_) (kBd_up (by omega) hB).1)
  rw [up_eq]; exact kF_inc2 hL (vp_lt hk0) hB.1.1
theorem w_X6_5 (X : KX p s m args meth c own cc nL ret D ca) (hM : kI D ca zb ow0 N L G s H locs) {k0 : Int32} (hk0 : vp_in k0 (N 0)) {v : Int32} (hq : Cond.fieldLink own index "IncidentKeeper$Core$Incident" "holder" "I" ∈ lw_all) (hd : decode cc pc = .ok (.putfield index, 3)) (k : ∀ (H1 : Heap) (locs1 : List Loc) (G1 : mMS), G1 = m_up G (iC k0) 5 v → kI D ca zb ow0 N L G1 s H1 locs1 → W p l e R s m args below meth c H1 locs1 cells slots Q (F0 m (pc + 3) ls rest)) : W p l e R s m args below meth c H locs cells slots Q (F0 m pc ls (.int v :: .ref (L (iC k0)) :: rest)) := by
  obtain ⟨⟨hx, hb, hml, hown, hts⟩, hrt, hlk, hK, hN⟩ := X
  have hB := hM.r.1.bd
  have hr9 : iC k0 = 100 + k0.toNatClampNeg := rfl
  have hv9 := vp_lt hk0
  obtain ⟨⟨hb9, hb8, hb7, -⟩, -⟩ := id hB
  refine kv_put (ci := 2) (v := .int v) (ty := .int) (C := RX6) (T := TX6) (NN := 18) hx hb hts in_X6 tyX6 tyX6_ok nmX6 hown hK (hM.r.1.inc (vp_lt hk0) 0 _ rfl) rfl 5 (by decide) (Or.inl (hts _ hq)) (fun _ h9 => h9) rfl (by decide +kernel) rfl rfl (Nat.le_of_ble_eq_true rfl) hd (fun H1 i9 he hz hq2 => ?_)
  refine k H1 _ _ rfl (hM.put (i := iC k0) (Or.inr ⟨by omega, by omega⟩) (fun L' hL => kF_inc2 hL (vp_lt hk0) hB.1.1) (by omega) he hz hq2 (fun j hj => up_ne hj) (kBd_up (by omega) hB).2 (fun L' hL => ?_) (kBd_up (by omega) hB).1)
  rw [up_eq]; exact kF_inc2 hL (vp_lt hk0) hB.1.1
theorem w_X6_6 (X : KX p s m args meth c own cc nL ret D ca) (hM : kI D ca zb ow0 N L G s H locs) {k0 : Int32} (hk0 : vp_in k0 (N 0)) {v : Int32} (hq : Cond.fieldLink own index "IncidentKeeper$Core$Incident" "causes" "I" ∈ lw_all) (hd : decode cc pc = .ok (.putfield index, 3)) (k : ∀ (H1 : Heap) (locs1 : List Loc) (G1 : mMS), G1 = m_up G (iC k0) 6 v → kI D ca zb ow0 N L G1 s H1 locs1 → W p l e R s m args below meth c H1 locs1 cells slots Q (F0 m (pc + 3) ls rest)) : W p l e R s m args below meth c H locs cells slots Q (F0 m pc ls (.int v :: .ref (L (iC k0)) :: rest)) := by
  obtain ⟨⟨hx, hb, hml, hown, hts⟩, hrt, hlk, hK, hN⟩ := X
  have hB := hM.r.1.bd
  have hr9 : iC k0 = 100 + k0.toNatClampNeg := rfl
  have hv9 := vp_lt hk0
  obtain ⟨⟨hb9, hb8, hb7, -⟩, -⟩ := id hB
  refine kv_put (ci := 2) (v := .int v) (ty := .int) (C := RX6) (T := TX6) (NN := 18) hx hb hts in_X6 tyX6 tyX6_ok nmX6 hown hK (hM.r.1.inc (vp_lt hk0) 0 _ rfl) rfl 6 (by decide) (Or.inl (hts _ hq)) (fun _ h9 => h9) rfl (by decide +kernel) rfl rfl (Nat.le_of_ble_eq_true rfl) hd (fun H1 i9 he hz hq2 => ?_)
  refine k H1 _ _ rfl (hM.put (i := iC k0) (Or.inr ⟨by omega, by omega⟩) (fun L' hL => kF_inc2 hL (vp_lt hk0) hB.1.1) (by omega) he hz hq2 (fun j hj => up_ne hj) (kBd_up (by omega) hB).2 (fun L' hL => ?_) (kBd_up (by omega) hB).1)
  rw [up_eq]; exact kF_inc2 hL (vp_lt hk0) hB.1.1
theorem w_X6_7 (X : KX p s m args meth c own cc nL ret D ca) (hM : kI D ca zb ow0 N L G s H locs) {k0 : Int32} (hk0 : vp_in k0 (N 0)) {v : Int32} (hq : Cond.fieldLink own index "IncidentKeeper$Core$Incident" "state" "I" ∈ lw_all) (hd : decode cc pc = .ok (.putfield index, 3)) (k : ∀ (H1 : Heap) (locs1 : List Loc) (G1 : mMS), G1 = m_up G (iC k0) 7 v → kI D ca zb ow0 N L G1 s H1 locs1 → W p l e R s m args below meth c H1 locs1 cells slots Q (F0 m (pc + 3) ls rest)) : W p l e R s m args below meth c H locs cells slots Q (F0 m pc ls (.int v :: .ref (L (iC k0)) :: rest)) := by
  obtain ⟨⟨hx, hb, hml, hown, hts⟩, hrt, hlk, hK, hN⟩ := X
  have hB := hM.r.1.bd
  have hr9 : iC k0 = 100 + k0.toNatClampNeg := rfl
  have hv9 := vp_lt hk0
  obtain ⟨⟨hb9, hb8, hb7, -⟩, -⟩ := id hB
  refine kv_put (ci := 2) (v := .int v) (ty := .int) (C := RX6) (T := TX6) (NN := 18) hx hb hts in_X6 tyX6 tyX6_ok nmX6 hown hK (hM.r.1.inc (vp_lt hk0) 0 _ rfl) rfl 7 (by decide) (Or.inl (hts _ hq)) (fun _ h9 => h9) rfl (by decide +kernel) rfl rfl (Nat.le_of_ble_eq_true rfl) hd (fun H1 i9 he hz hq2 => ?_)
  refine k H1 _ _ rfl (hM.put (i := iC k0) (Or.inr ⟨by omega, by omega⟩) (fun L' hL => kF_inc2 hL (vp_lt hk0) hB.1.1) (by omega) he hz hq2 (fun j hj => up_ne hj) (kBd_up (by omega) hB).2 (fun L' hL => ?_) (kBd_up (by omega) hB).1)
  rw [up_eq]; exact kF_inc2 hL (vp_lt hk0) hB.1.1
theorem w_X6_8 (X : KX p s m args meth c own cc nL ret D ca) (hM : kI D ca zb ow0 N L G s H locs) {k0 : Int32} (hk0 : vp_in k0 (N 0)) {v : Int32} (hq : Cond.fieldLink own index "IncidentKeeper$Core$Incident" "clock" "I" ∈ lw_all) (hd : decode cc pc = .ok (.putfield index, 3)) (k : ∀ (H1 : Heap) (locs1 : List Loc) (G1 : mMS), G1 = m_up G (iC k0) 8 v → kI D ca zb ow0 N L G1 s H1 locs1 → W p l e R s m args below meth c H1 locs1 cells slots Q (F0 m (pc + 3) ls rest)) : W p l e R s m args below meth c H locs cells slots Q (F0 m pc ls (.int v :: .ref (L (iC k0)) :: rest)) := by
  obtain ⟨⟨hx, hb, hml, hown, hts⟩, hrt, hlk, hK, hN⟩ := X
  have hB := hM.r.1.bd
  have hr9 : iC k0 = 100 + k0.toNatClampNeg := rfl
  have hv9 := vp_lt hk0
  obtain ⟨⟨hb9, hb8, hb7, -⟩, -⟩ := id hB
  refine kv_put (ci := 2) (v := .int v) (ty := .int) (C := RX6) (T := TX6) (NN := 18) hx hb hts in_X6 tyX6 tyX6_ok nmX6 hown hK (hM.r.1.inc (vp_lt hk0) 0 _ rfl) rfl 8 (by decide) (Or.inl (hts _ hq)) (fun _ h9 => h9) rfl (by decide +kernel) rfl rfl (Nat.le_of_ble_eq_true rfl) hd (fun H1 i9 he hz hq2 => ?_)
  refine k H1 _ _ rfl (hM.put (i := iC k0) (Or.inr ⟨by omega, by omega⟩) (fun L' hL => kF_inc2 hL (vp_lt hk0) hB.1.1) (by omega) he hz hq2 (fun j hj => up_ne hj) (kBd_up (by omega) hB).2 (fun L' hL => ?_) (kBd_up (by omega) hB).1)
  rw [up_eq]; exact kF_inc2 hL (vp_lt hk0) hB.1.1
theorem w_X6_9 (X : KX p s m args meth c own cc nL ret D ca) (hM : kI D ca zb ow0 N L G s H locs) {k0 : Int32} (hk0 : vp_in k0 (N 0)) {v : Int32} (hq : Cond.fieldLink own index "IncidentKeeper$Core$Incident" "base" "I" ∈ lw_all) (hd : decode cc pc = .ok (.putfield index, 3)) (k : ∀ (H1 : Heap) (locs1 : List Loc) (G1 : mMS), G1 = m_up G (iC k0) 9 v → kI D ca zb ow0 N L G1 s H1 locs1 → W p l e R s m args below meth c H1 locs1 cells slots Q (F0 m (pc + 3) ls rest)) : W p l e R s m args below meth c H locs cells slots Q (F0 m pc ls (.int v :: .ref (L (iC k0)) :: rest)) := by
  obtain ⟨⟨hx, hb, hml, hown, hts⟩, hrt, hlk, hK, hN⟩ := X
  have hB := hM.r.1.bd
  have hr9 : iC k0 = 100 + k0.toNatClampNeg := rfl
  have hv9 := vp_lt hk0
  obtain ⟨⟨hb9, hb8, hb7, -⟩, -⟩ := id hB
  refine kv_put (ci := 2) (v := .int v) (ty := .int) (C := RX6) (T := TX6) (NN := 18) hx hb hts in_X6 tyX6 tyX6_ok nmX6 hown hK (hM.r.1.inc (vp_lt hk0) 0 _ rfl) rfl 9 (by decide) (Or.inl (hts _ hq)) (fun _ h9 => h9) rfl (by decide +kernel) rfl rfl (Nat.le_of_ble_eq_true rfl) hd (fun H1 i9 he hz hq2 => ?_)
  refine k H1 _ _ rfl (hM.put (i := iC k0) (Or.inr ⟨by omega, by omega⟩) (fun L' hL => kF_inc2 hL (vp_lt hk0) hB.1.1) (by omega) he hz hq2 (fun j hj => up_ne hj) (kBd_up (by omega) hB).2 (fun L' hL => ?_) (kBd_up (by omega) hB).1)
  rw [up_eq]; exact kF_inc2 hL (vp_lt hk0) hB.1.1
theorem w_X6_10 (X : KX p s m args meth c own cc nL ret D ca) (hM : kI D ca zb ow0 N L G s H locs) {k0 : Int32} (hk0 : vp_in k0 (N 0)) {v : Int32} (hq : Cond.fieldLink own index "IncidentKeeper$Core$Incident" "stopped" "I" ∈ lw_all) (hd : decode cc pc = .ok (.putfield index, 3)) (k : ∀ (H1 : Heap) (locs1 : List Loc) (G1 : mMS), G1 = m_up G (iC k0) 10 v → kI D ca zb ow0 N L G1 s H1 locs1 → W p l e R s m args below meth c H1 locs1 cells slots Q (F0 m (pc + 3) ls rest)) : W p l e R s m args below meth c H locs cells slots Q (F0 m pc ls (.int v :: .ref (L (iC k0)) :: rest)) := by
  obtain ⟨⟨hx, hb, hml, hown, hts⟩, hrt, hlk, hK, hN⟩ := X
  have hB := hM.r.1.bd
  have hr9 : iC k0 = 100 + k0.toNatClampNeg := rfl
  have hv9 := vp_lt hk0
  obtain ⟨⟨hb9, hb8, hb7, -⟩, -⟩ := id hB
  refine kv_put (ci := 2) (v := .int v) (ty := .int) (C := RX6) (T := TX6) (NN := 18) hx hb hts in_X6 tyX6 tyX6_ok nmX6 hown hK (hM.r.1.inc (vp_lt hk0) 0 _ rfl) rfl 10 (by decide) (Or.inl (hts _ hq)) (fun _ h9 => h9) rfl (by decide +kernel) rfl rfl (Nat.le_of_ble_eq_true rfl) hd (fun H1 i9 he hz hq2 => ?_)
  refine k H1 _ _ rfl (hM.put (i := iC k0) (Or.inr ⟨by omega, by omega⟩) (fun L' hL => kF_inc2 hL (vp_lt hk0) hB.1.1) (by omega) he hz hq2 (fun j hj => up_ne hj) (kBd_up (by omega) hB).2 (fun L' hL => ?_) (kBd_up (by omega) hB).1)
  rw [up_eq]; exact kF_inc2 hL (vp_lt hk0) hB.1.1
theorem w_X6_11 (X : KX p s m args meth c own cc nL ret D ca) (hM : kI D ca zb ow0 N L G s H locs) {k0 : Int32} (hk0 : vp_in k0 (N 0)) {v : Int32} (hq : Cond.fieldLink own index "IncidentKeeper$Core$Incident" "idle" "I" ∈ lw_all) (hd : decode cc pc = .ok (.putfield index, 3)) (k : ∀ (H1 : Heap) (locs1 : List Loc) (G1 : mMS), G1 = m_up G (iC k0) 11 v → kI D ca zb ow0 N L G1 s H1 locs1 → W p l e R s m args below meth c H1 locs1 cells slots Q (F0 m (pc + 3) ls rest)) : W p l e R s m args below meth c H locs cells slots Q (F0 m pc ls (.int v :: .ref (L (iC k0)) :: rest)) := by
  obtain ⟨⟨hx, hb, hml, hown, hts⟩, hrt, hlk, hK, hN⟩ := X
  have hB := hM.r.1.bd
  have hr9 : iC k0 = 100 + k0.toNatClampNeg := rfl
  have hv9 := vp_lt hk0
  obtain ⟨⟨hb9, hb8, hb7, -⟩, -⟩ := id hB
  refine kv_put (ci := 2) (v := .int v) (ty := .int) (C := RX6) (T := TX6) (NN := 18) hx hb hts in_X6 tyX6 tyX6_ok nmX6 hown hK (hM.r.1.inc (vp_lt hk0) 0 _ rfl) rfl 11 (by decide) (Or.inl (hts _ hq)) (fun _ h9 => h9) rfl (by decide +kernel) rfl rfl (Nat.le_of_ble_eq_true rfl) hd (fun H1 i9 he hz hq2 => ?_)
  refine k H1 _ _ rfl (hM.put (i := iC k0) (Or.inr ⟨by omega, by omega⟩) (fun L' hL => kF_inc2 hL (vp_lt hk0) hB.1.1) (by omega) he hz hq2 (fun j hj => up_ne hj) (kBd_up (by omega) hB).2 (fun L' hL => ?_) (kBd_up (by omega) hB).1)
  rw [up_eq]; exact kF_inc2 hL (vp_lt hk0) hB.1.1
theorem w_X6_12 (X : KX p s m args meth c own cc nL ret D ca) (hM : kI D ca zb ow0 N L G s H locs) {k0 : Int32} (hk0 : vp_in k0 (N 0)) {v : Int32} (hq : Cond.fieldLink own index "IncidentKeeper$Core$Incident" "parent" "I" ∈ lw_all) (hd : decode cc pc = .ok (.putfield index, 3)) (k : ∀ (H1 : Heap) (locs1 : List Loc) (G1 : mMS), G1 = m_up G (iC k0) 12 v → kI D ca zb ow0 N L G1 s H1 locs1 → W p l e R s m args below meth c H1 locs1 cells slots Q (F0 m (pc + 3) ls rest)) : W p l e R s m args below meth c H locs cells slots Q (F0 m pc ls (.int v :: .ref (L (iC k0)) :: rest)) := by
  obtain ⟨⟨hx, hb, hml, hown, hts⟩, hrt, hlk, hK, hN⟩ := X
  have hB := hM.r.1.bd
  have hr9 : iC k0 = 100 + k0.toNatClampNeg := rfl
  have hv9 := vp_lt hk0
  obtain ⟨⟨hb9, hb8, hb7, -⟩, -⟩ := id hB
  refine kv_put (ci := 2) (v := .int v) (ty := .int) (C := RX6) (T := TX6) (NN := 18) hx hb hts in_X6 tyX6 tyX6_ok nmX6 hown hK (hM.r.1.inc (vp_lt hk0) 0 _ rfl) rfl 12 (by decide) (Or.inl (hts _ hq)) (fun _ h9 => h9) rfl (by decide +kernel) rfl rfl (Nat.le_of_ble_eq_true rfl) hd (fun H1 i9 he hz hq2 => ?_)
  refine k H1 _ _ rfl (hM.put (i := iC k0) (Or.inr ⟨by omega, by omega⟩) (fun L' hL => kF_inc2 hL (vp_lt hk0) hB.1.1) (by omega) he hz hq2 (fun j hj => up_ne hj) (kBd_up (by omega) hB).2 (fun L' hL => ?_) (kBd_up (by omega) hB).1)
  rw [up_eq]; exact kF_inc2 hL (vp_lt hk0) hB.1.1
theorem w_X6_13 (X : KX p s m args meth c own cc nL ret D ca) (hM : kI D ca zb ow0 N L G s H locs) {k0 : Int32} (hk0 : vp_in k0 (N 0)) {v : Int32} (hq : Cond.fieldLink own index "IncidentKeeper$Core$Incident" "change" "I" ∈ lw_all) (hd : decode cc pc = .ok (.putfield index, 3)) (k : ∀ (H1 : Heap) (locs1 : List Loc) (G1 : mMS), G1 = m_up G (iC k0) 13 v → kI D ca zb ow0 N L G1 s H1 locs1 → W p l e R s m args below meth c H1 locs1 cells slots Q (F0 m (pc + 3) ls rest)) : W p l e R s m args below meth c H locs cells slots Q (F0 m pc ls (.int v :: .ref (L (iC k0)) :: rest)) := by
  obtain ⟨⟨hx, hb, hml, hown, hts⟩, hrt, hlk, hK, hN⟩ := X
  have hB := hM.r.1.bd
  have hr9 : iC k0 = 100 + k0.toNatClampNeg := rfl
  have hv9 := vp_lt hk0
  obtain ⟨⟨hb9, hb8, hb7, -⟩, -⟩ := id hB
  refine kv_put (ci := 2) (v := .int v) (ty := .int) (C := RX6) (T := TX6) (NN := 18) hx hb hts in_X6 tyX6 tyX6_ok nmX6 hown hK (hM.r.1.inc (vp_lt hk0) 0 _ rfl) rfl 13 (by decide) (Or.inl (hts _ hq)) (fun _ h9 => h9) rfl (by decide +kernel) rfl rfl (Nat.le_of_ble_eq_true rfl) hd (fun H1 i9 he hz hq2 => ?_)
  refine k H1 _ _ rfl (hM.put (i := iC k0) (Or.inr ⟨by omega, by omega⟩) (fun L' hL => kF_inc2 hL (vp_lt hk0) hB.1.1) (by omega) he hz hq2 (fun j hj => up_ne hj) (kBd_up (by omega) hB).2 (fun L' hL => ?_) (kBd_up (by omega) hB).1)
  rw [up_eq]; exact kF_inc2 hL (vp_lt hk0) hB.1.1
theorem w_X6_14 (X : KX p s m args meth c own cc nL ret D ca) (hM : kI D ca zb ow0 N L G s H locs) {k0 : Int32} (hk0 : vp_in k0 (N 0)) {v : Int32} (hq : Cond.fieldLink own index "IncidentKeeper$Core$Incident" "review" "I" ∈ lw_all) (hd : decode cc pc = .ok (.putfield index, 3)) (k : ∀ (H1 : Heap) (locs1 : List Loc) (G1 : mMS), G1 = m_up G (iC k0) 14 v → kI D ca zb ow0 N L G1 s H1 locs1 → W p l e R s m args below meth c H1 locs1 cells slots Q (F0 m (pc + 3) ls rest)) : W p l e R s m args below meth c H locs cells slots Q (F0 m pc ls (.int v :: .ref (L (iC k0)) :: rest)) := by
  obtain ⟨⟨hx, hb, hml, hown, hts⟩, hrt, hlk, hK, hN⟩ := X
  have hB := hM.r.1.bd
  have hr9 : iC k0 = 100 + k0.toNatClampNeg := rfl
  have hv9 := vp_lt hk0
  obtain ⟨⟨hb9, hb8, hb7, -⟩, -⟩ := id hB
  refine kv_put (ci := 2) (v := .int v) (ty := .int) (C := RX6) (T := TX6) (NN := 18) hx hb hts in_X6 tyX6 tyX6_ok nmX6 hown hK (hM.r.1.inc (vp_lt hk0) 0 _ rfl) rfl 14 (by decide) (Or.inl (hts _ hq)) (fun _ h9 => h9) rfl (by decide +kernel) rfl rfl (Nat.le_of_ble_eq_true rfl) hd (fun H1 i9 he hz hq2 => ?_)
  refine k H1 _ _ rfl (hM.put (i := iC k0) (Or.inr ⟨by omega, by omega⟩) (fun L' hL => kF_inc2 hL (vp_lt hk0) hB.1.1) (by omega) he hz hq2 (fun j hj => up_ne hj) (kBd_up (by omega) hB).2 (fun L' hL => ?_) (kBd_up (by omega) hB).1)
  rw [up_eq]; exact kF_inc2 hL (vp_lt hk0) hB.1.1
theorem w_X6_15 (X : KX p s m args meth c own cc nL ret D ca) (hM : kI D ca zb ow0 N L G s H locs) {k0 : Int32} (hk0 : vp_in k0 (N 0)) {v : Int32} (hq : Cond.fieldLink own index "IncidentKeeper$Core$Incident" "handovers" "I" ∈ lw_all) (hd : decode cc pc = .ok (.putfield index, 3)) (k : ∀ (H1 : Heap) (locs1 : List Loc) (G1 : mMS), G1 = m_up G (iC k0) 15 v → kI D ca zb ow0 N L G1 s H1 locs1 → W p l e R s m args below meth c H1 locs1 cells slots Q (F0 m (pc + 3) ls rest)) : W p l e R s m args below meth c H locs cells slots Q (F0 m pc ls (.int v :: .ref (L (iC k0)) :: rest)) := by
  obtain ⟨⟨hx, hb, hml, hown, hts⟩, hrt, hlk, hK, hN⟩ := X
  have hB := hM.r.1.bd
  have hr9 : iC k0 = 100 + k0.toNatClampNeg := rfl
  have hv9 := vp_lt hk0
  obtain ⟨⟨hb9, hb8, hb7, -⟩, -⟩ := id hB
  refine kv_put (ci := 2) (v := .int v) (ty := .int) (C := RX6) (T := TX6) (NN := 18) hx hb hts in_X6 tyX6 tyX6_ok nmX6 hown hK (hM.r.1.inc (vp_lt hk0) 0 _ rfl) rfl 15 (by decide) (Or.inl (hts _ hq)) (fun _ h9 => h9) rfl (by decide +kernel) rfl rfl (Nat.le_of_ble_eq_true rfl) hd (fun H1 i9 he hz hq2 => ?_)
  refine k H1 _ _ rfl (hM.put (i := iC k0) (Or.inr ⟨by omega, by omega⟩) (fun L' hL => kF_inc2 hL (vp_lt hk0) hB.1.1) (by omega) he hz hq2 (fun j hj => up_ne hj) (kBd_up (by omega) hB).2 (fun L' hL => ?_) (kBd_up (by omega) hB).1)
  rw [up_eq]; exact kF_inc2 hL (vp_lt hk0) hB.1.1
theorem w_X6_16 (X : KX p s m args meth c own cc nL ret D ca) (hM : kI D ca zb ow0 N L G s H locs) {k0 : Int32} (hk0 : vp_in k0 (N 0)) {v : Int32} (hn : v = 0 ∨ v = 1) (hq : Cond.fieldLink own index "IncidentKeeper$Core$Incident" "isOverdue" "Z" ∈ lw_all) (hd : decode cc pc = .ok (.putfield index, 3)) (k : ∀ (H1 : Heap) (locs1 : List Loc) (G1 : mMS), G1 = m_up G (iC k0) 16 v → kI D ca zb ow0 N L G1 s H1 locs1 → W p l e R s m args below meth c H1 locs1 cells slots Q (F0 m (pc + 3) ls rest)) : W p l e R s m args below meth c H locs cells slots Q (F0 m pc ls (.int v :: .ref (L (iC k0)) :: rest)) := by
  obtain ⟨⟨hx, hb, hml, hown, hts⟩, hrt, hlk, hK, hN⟩ := X
  have hB := hM.r.1.bd
  have hr9 : iC k0 = 100 + k0.toNatClampNeg := rfl
  have hv9 := vp_lt hk0
  obtain ⟨⟨hb9, hb8, hb7, -⟩, -⟩ := id hB
  refine kv_put (ci := 2) (v := .int v) (ty := .boolean) (C := RX6) (T := TX6) (NN := 18) hx hb hts in_X6 tyX6 tyX6_ok nmX6 hown hK (hM.r.1.inc (vp_lt hk0) 0 _ rfl) rfl 16 (by decide) (Or.inl (hts _ hq)) (fun _ h9 => h9) rfl (by decide +kernel) (gb_n hn) (gb_f hn) (Nat.le_of_ble_eq_true rfl) hd (fun H1 i9 he hz hq2 => ?_)
  refine k H1 _ _ rfl (hM.put (i := iC k0) (Or.inr ⟨by omega, by omega⟩) (fun L' hL => kF_inc2 hL (vp_lt hk0) hB.1.1) (by omega) he hz hq2 (fun j hj => up_ne hj) (kBd_up (by omega) hB).2 (fun L' hL => ?_) (kBd_up (by omega) hB).1)
  rw [up_eq]; exact kF_inc2 hL (vp_lt hk0) hB.1.1
theorem w_X7_3 (X : KX p s m args meth c own cc nL ret D ca) (hM : kI D ca zb ow0 N L G s H locs) {k0 : Int32} (hk0 : vp_in k0 (N 2)) {v : Int32} (hn : v = 0 ∨ v = 1) (hq : Cond.fieldLink own index "IncidentKeeper$Action" "isDone" "Z" ∈ lw_all) (hd : decode cc pc = .ok (.putfield index, 3)) (k : ∀ (H1 : Heap) (locs1 : List Loc) (G1 : mMS), G1 = m_up G (aC k0) 3 v → kI D ca zb ow0 N L G1 s H1 locs1 → W p l e R s m args below meth c H1 locs1 cells slots Q (F0 m (pc + 3) ls rest)) : W p l e R s m args below meth c H locs cells slots Q (F0 m pc ls (.int v :: .ref (L (aC k0)) :: rest)) := by
  obtain ⟨⟨hx, hb, hml, hown, hts⟩, hrt, hlk, hK, hN⟩ := X
  have hB := hM.r.1.bd
  have hr9 : aC k0 = 400 + k0.toNatClampNeg := rfl
  have hv9 := vp_lt hk0
  obtain ⟨⟨hb9, hb8, hb7, -⟩, -⟩ := id hB
  refine kv_put (ci := 6) (v := .int v) (ty := .boolean) (C := RX7) (T := TX7) (NN := 4) hx hb hts in_X7 tyX7 tyX7_ok nmX7 hown hK (hM.r.1.act (vp_lt hk0) 0 _ rfl) rfl 3 (by decide) (Or.inl (hts _ hq)) (fun _ h9 => h9) rfl (by decide +kernel) (gb_n hn) (gb_f hn) (Nat.le_of_ble_eq_true rfl) hd (fun H1 i9 he hz hq2 => ?_)
  refine k H1 _ _ rfl (hM.put (i := aC k0) (Or.inr ⟨by omega, by omega⟩) (fun L' hL => kF_act (vp_lt hk0) hB.1.2.2.1) (by omega) he hz hq2 (fun j hj => up_ne hj) (kBd_up (by omega) hB).2 (fun L' hL => ?_) (kBd_up (by omega) hB).1)
  rw [up_eq]; exact kF_act (vp_lt hk0) hB.1.2.2.1
theorem w_X2_7N (X : KX p s m args meth c own cc nL ret D ca) (hM : kI D ca zb ow0 N L G s H locs) {v : Int32} {host : String} (hq : Cond.fieldLinkNest own index "IncidentKeeper$Core" "reviewCount" "I" host ∈ lw_tbl) (hd : decode cc pc = .ok (.putfield index, 3)) (k : ∀ (H1 : Heap) (locs1 : List Loc) (G1 : mMS), G1 = m_up G (7) 7 v → kI D ca zb ow0 N L G1 s H1 locs1 → W p l e R s m args below meth c H1 locs1 cells slots Q (F0 m (pc + 3) ls rest)) : W p l e R s m args below meth c H locs cells slots Q (F0 m pc ls (.int v :: .ref (L 7) :: rest)) := by
  obtain ⟨⟨hx, hb, hml, hown, hts⟩, hrt, hlk, hK, hN⟩ := X
  have hB := hM.r.1.bd
  refine kv_put (ci := 1) (v := .int v) (ty := .int) (C := RX2) (T := TX2) (NN := 11) hx hb hts in_X2 tyX2 tyX2_ok nmX2 hown hK (hM.r.1.core 0 _ rfl) rfl 7 (by decide) (Or.inr ⟨_, va_Nw.use rfl (hN.1 _ hq rfl)⟩) (fun _ h9 => h9) rfl (by decide +kernel) rfl rfl (Nat.le_of_ble_eq_true rfl) hd (fun H1 i9 he hz hq2 => ?_)
  refine k H1 _ _ rfl (hM.put (i := 7) (kst_lt (by decide)) (fun L' hL => by rw [kF_core, coFs_eq hL]) (by omega) he hz hq2 (fun j hj => up_ne hj) (kBd_up (by omega) hB).2 (fun L' hL => ?_) (kBd_up (by omega) hB).1)
  rw [up_eq, kF_core, coFs_eq hL]; rfl
theorem w_X2_8N (X : KX p s m args meth c own cc nL ret D ca) (hM : kI D ca zb ow0 N L G s H locs) {v : Int32} {host : String} (hq : Cond.fieldLinkNest own index "IncidentKeeper$Core" "onDuty" "I" host ∈ lw_tbl) (hd : decode cc pc = .ok (.putfield index, 3)) (k : ∀ (H1 : Heap) (locs1 : List Loc) (G1 : mMS), G1 = m_up G (7) 8 v → kI D ca zb ow0 N L G1 s H1 locs1 → W p l e R s m args below meth c H1 locs1 cells slots Q (F0 m (pc + 3) ls rest)) : W p l e R s m args below meth c H locs cells slots Q (F0 m pc ls (.int v :: .ref (L 7) :: rest)) := by
  obtain ⟨⟨hx, hb, hml, hown, hts⟩, hrt, hlk, hK, hN⟩ := X
  have hB := hM.r.1.bd
  refine kv_put (ci := 1) (v := .int v) (ty := .int) (C := RX2) (T := TX2) (NN := 11) hx hb hts in_X2 tyX2 tyX2_ok nmX2 hown hK (hM.r.1.core 0 _ rfl) rfl 8 (by decide) (Or.inr ⟨_, va_Nw.use rfl (hN.1 _ hq rfl)⟩) (fun _ h9 => h9) rfl (by decide +kernel) rfl rfl (Nat.le_of_ble_eq_true rfl) hd (fun H1 i9 he hz hq2 => ?_)
  refine k H1 _ _ rfl (hM.put (i := 7) (kst_lt (by decide)) (fun L' hL => by rw [kF_core, coFs_eq hL]) (by omega) he hz hq2 (fun j hj => up_ne hj) (kBd_up (by omega) hB).2 (fun L' hL => ?_) (kBd_up (by omega) hB).1)
  rw [up_eq, kF_core, coFs_eq hL]; rfl
theorem w_X2_9N (X : KX p s m args meth c own cc nL ret D ca) (hM : kI D ca zb ow0 N L G s H locs) {v : Int32} {host : String} (hq : Cond.fieldLinkNest own index "IncidentKeeper$Core" "window" "I" host ∈ lw_tbl) (hd : decode cc pc = .ok (.putfield index, 3)) (k : ∀ (H1 : Heap) (locs1 : List Loc) (G1 : mMS), G1 = m_up G (7) 9 v → kI D ca zb ow0 N L G1 s H1 locs1 → W p l e R s m args below meth c H1 locs1 cells slots Q (F0 m (pc + 3) ls rest)) : W p l e R s m args below meth c H locs cells slots Q (F0 m pc ls (.int v :: .ref (L 7) :: rest)) := by
  obtain ⟨⟨hx, hb, hml, hown, hts⟩, hrt, hlk, hK, hN⟩ := X
  have hB := hM.r.1.bd
  refine kv_put (ci := 1) (v := .int v) (ty := .int) (C := RX2) (T := TX2) (NN := 11) hx hb hts in_X2 tyX2 tyX2_ok nmX2 hown hK (hM.r.1.core 0 _ rfl) rfl 9 (by decide) (Or.inr ⟨_, va_Nw.use rfl (hN.1 _ hq rfl)⟩) (fun _ h9 => h9) rfl (by decide +kernel) rfl rfl (Nat.le_of_ble_eq_true rfl) hd (fun H1 i9 he hz hq2 => ?_)
  refine k H1 _ _ rfl (hM.put (i := 7) (kst_lt (by decide)) (fun L' hL => by rw [kF_core, coFs_eq hL]) (by omega) he hz hq2 (fun j hj => up_ne hj) (kBd_up (by omega) hB).2 (fun L' hL => ?_) (kBd_up (by omega) hB).1)
  rw [up_eq, kF_core, coFs_eq hL]; rfl
theorem w_X2_10N (X : KX p s m args meth c own cc nL ret D ca) (hM : kI D ca zb ow0 N L G s H locs) {v : Int32} {host : String} (hq : Cond.fieldLinkNest own index "IncidentKeeper$Core" "now" "I" host ∈ lw_tbl) (hd : decode cc pc = .ok (.putfield index, 3)) (k : ∀ (H1 : Heap) (locs1 : List Loc) (G1 : mMS), G1 = m_up G (7) 10 v → kI D ca zb ow0 N L G1 s H1 locs1 → W p l e R s m args below meth c H1 locs1 cells slots Q (F0 m (pc + 3) ls rest)) : W p l e R s m args below meth c H locs cells slots Q (F0 m pc ls (.int v :: .ref (L 7) :: rest)) := by
  obtain ⟨⟨hx, hb, hml, hown, hts⟩, hrt, hlk, hK, hN⟩ := X
  have hB := hM.r.1.bd
  refine kv_put (ci := 1) (v := .int v) (ty := .int) (C := RX2) (T := TX2) (NN := 11) hx hb hts in_X2 tyX2 tyX2_ok nmX2 hown hK (hM.r.1.core 0 _ rfl) rfl 10 (by decide) (Or.inr ⟨_, va_Nw.use rfl (hN.1 _ hq rfl)⟩) (fun _ h9 => h9) rfl (by decide +kernel) rfl rfl (Nat.le_of_ble_eq_true rfl) hd (fun H1 i9 he hz hq2 => ?_)
  refine k H1 _ _ rfl (hM.put (i := 7) (kst_lt (by decide)) (fun L' hL => by rw [kF_core, coFs_eq hL]) (by omega) he hz hq2 (fun j hj => up_ne hj) (kBd_up (by omega) hB).2 (fun L' hL => ?_) (kBd_up (by omega) hB).1)
  rw [up_eq, kF_core, coFs_eq hL]; rfl
theorem w_X6_4N (X : KX p s m args meth c own cc nL ret D ca) (hM : kI D ca zb ow0 N L G s H locs) {k0 : Int32} (hk0 : vp_in k0 (N 0)) {v : Int32} {host : String} (hq : Cond.fieldLinkNest own index "IncidentKeeper$Core$Incident" "severity" "I" host ∈ lw_tbl) (hd : decode cc pc = .ok (.putfield index, 3)) (k : ∀ (H1 : Heap) (locs1 : List Loc) (G1 : mMS), G1 = m_up G (iC k0) 4 v → kI D ca zb ow0 N L G1 s H1 locs1 → W p l e R s m args below meth c H1 locs1 cells slots Q (F0 m (pc + 3) ls rest)) : W p l e R s m args below meth c H locs cells slots Q (F0 m pc ls (.int v :: .ref (L (iC k0)) :: rest)) := by
  obtain ⟨⟨hx, hb, hml, hown, hts⟩, hrt, hlk, hK, hN⟩ := X
  have hB := hM.r.1.bd
  have hr9 : iC k0 = 100 + k0.toNatClampNeg := rfl
  have hv9 := vp_lt hk0
  obtain ⟨⟨hb9, hb8, hb7, -⟩, -⟩ := id hB
  refine kv_put (ci := 2) (v := .int v) (ty := .int) (C := RX6) (T := TX6) (NN := 18) hx hb hts in_X6 tyX6 tyX6_ok nmX6 hown hK (hM.r.1.inc (vp_lt hk0) 0 _ rfl) rfl 4 (by decide) (Or.inr ⟨_, va_Nw.use rfl (hN.1 _ hq rfl)⟩) (fun _ h9 => h9) rfl (by decide +kernel) rfl rfl (Nat.le_of_ble_eq_true rfl) hd (fun H1 i9 he hz hq2 => ?_)
  refine k H1 _ _ rfl (hM.put (i := iC k0) (Or.inr ⟨by omega, by omega⟩) (fun L' hL => kF_inc2 hL (vp_lt hk0) hB.1.1) (by omega) he hz hq2 (fun j hj => up_ne hj) (kBd_up (by omega) hB).2 (fun L' hL => ?_) (kBd_up (by omega) hB).1)
  rw [up_eq]; exact kF_inc2 hL (vp_lt hk0) hB.1.1
theorem w_X6_5N (X : KX p s m args meth c own cc nL ret D ca) (hM : kI D ca zb ow0 N L G s H locs) {k0 : Int32} (hk0 : vp_in k0 (N 0)) {v : Int32} {host : String} (hq : Cond.fieldLinkNest own index "IncidentKeeper$Core$Incident" "holder" "I" host ∈ lw_tbl) (hd : decode cc pc = .ok (.putfield index, 3)) (k : ∀ (H1 : Heap) (locs1 : List Loc) (G1 : mMS), G1 = m_up G (iC k0) 5 v → kI D ca zb ow0 N L G1 s H1 locs1 → W p l e R s m args below meth c H1 locs1 cells slots Q (F0 m (pc + 3) ls rest)) : W p l e R s m args below meth c H locs cells slots Q (F0 m pc ls (.int v :: .ref (L (iC k0)) :: rest)) := by
  obtain ⟨⟨hx, hb, hml, hown, hts⟩, hrt, hlk, hK, hN⟩ := X
  have hB := hM.r.1.bd
  have hr9 : iC k0 = 100 + k0.toNatClampNeg := rfl
  have hv9 := vp_lt hk0
  obtain ⟨⟨hb9, hb8, hb7, -⟩, -⟩ := id hB
  refine kv_put (ci := 2) (v := .int v) (ty := .int) (C := RX6) (T := TX6) (NN := 18) hx hb hts in_X6 tyX6 tyX6_ok nmX6 hown hK (hM.r.1.inc (vp_lt hk0) 0 _ rfl) rfl 5 (by decide) (Or.inr ⟨_, va_Nw.use rfl (hN.1 _ hq rfl)⟩) (fun _ h9 => h9) rfl (by decide +kernel) rfl rfl (Nat.le_of_ble_eq_true rfl) hd (fun H1 i9 he hz hq2 => ?_)
  refine k H1 _ _ rfl (hM.put (i := iC k0) (Or.inr ⟨by omega, by omega⟩) (fun L' hL => kF_inc2 hL (vp_lt hk0) hB.1.1) (by omega) he hz hq2 (fun j hj => up_ne hj) (kBd_up (by omega) hB).2 (fun L' hL => ?_) (kBd_up (by omega) hB).1)
  rw [up_eq]; exact kF_inc2 hL (vp_lt hk0) hB.1.1
theorem w_X6_6N (X : KX p s m args meth c own cc nL ret D ca) (hM : kI D ca zb ow0 N L G s H locs) {k0 : Int32} (hk0 : vp_in k0 (N 0)) {v : Int32} {host : String} (hq : Cond.fieldLinkNest own index "IncidentKeeper$Core$Incident" "causes" "I" host ∈ lw_tbl) (hd : decode cc pc = .ok (.putfield index, 3)) (k : ∀ (H1 : Heap) (locs1 : List Loc) (G1 : mMS), G1 = m_up G (iC k0) 6 v → kI D ca zb ow0 N L G1 s H1 locs1 → W p l e R s m args below meth c H1 locs1 cells slots Q (F0 m (pc + 3) ls rest)) : W p l e R s m args below meth c H locs cells slots Q (F0 m pc ls (.int v :: .ref (L (iC k0)) :: rest)) := by
  obtain ⟨⟨hx, hb, hml, hown, hts⟩, hrt, hlk, hK, hN⟩ := X
  have hB := hM.r.1.bd
  have hr9 : iC k0 = 100 + k0.toNatClampNeg := rfl
  have hv9 := vp_lt hk0
  obtain ⟨⟨hb9, hb8, hb7, -⟩, -⟩ := id hB
  refine kv_put (ci := 2) (v := .int v) (ty := .int) (C := RX6) (T := TX6) (NN := 18) hx hb hts in_X6 tyX6 tyX6_ok nmX6 hown hK (hM.r.1.inc (vp_lt hk0) 0 _ rfl) rfl 6 (by decide) (Or.inr ⟨_, va_Nw.use rfl (hN.1 _ hq rfl)⟩) (fun _ h9 => h9) rfl (by decide +kernel) rfl rfl (Nat.le_of_ble_eq_true rfl) hd (fun H1 i9 he hz hq2 => ?_)
  refine k H1 _ _ rfl (hM.put (i := iC k0) (Or.inr ⟨by omega, by omega⟩) (fun L' hL => kF_inc2 hL (vp_lt hk0) hB.1.1) (by omega) he hz hq2 (fun j hj => up_ne hj) (kBd_up (by omega) hB).2 (fun L' hL => ?_) (kBd_up (by omega) hB).1)
  rw [up_eq]; exact kF_inc2 hL (vp_lt hk0) hB.1.1
theorem w_X6_7N (X : KX p s m args meth c own cc nL ret D ca) (hM : kI D ca zb ow0 N L G s H locs) {k0 : Int32} (hk0 : vp_in k0 (N 0)) {v : Int32} {host : String} (hq : Cond.fieldLinkNest own index "IncidentKeeper$Core$Incident" "state" "I" host ∈ lw_tbl) (hd : decode cc pc = .ok (.putfield index, 3)) (k : ∀ (H1 : Heap) (locs1 : List Loc) (G1 : mMS), G1 = m_up G (iC k0) 7 v → kI D ca zb ow0 N L G1 s H1 locs1 → W p l e R s m args below meth c H1 locs1 cells slots Q (F0 m (pc + 3) ls rest)) : W p l e R s m args below meth c H locs cells slots Q (F0 m pc ls (.int v :: .ref (L (iC k0)) :: rest)) := by
  obtain ⟨⟨hx, hb, hml, hown, hts⟩, hrt, hlk, hK, hN⟩ := X
  have hB := hM.r.1.bd
  have hr9 : iC k0 = 100 + k0.toNatClampNeg := rfl
  have hv9 := vp_lt hk0
  obtain ⟨⟨hb9, hb8, hb7, -⟩, -⟩ := id hB
  refine kv_put (ci := 2) (v := .int v) (ty := .int) (C := RX6) (T := TX6) (NN := 18) hx hb hts in_X6 tyX6 tyX6_ok nmX6 hown hK (hM.r.1.inc (vp_lt hk0) 0 _ rfl) rfl 7 (by decide) (Or.inr ⟨_, va_Nw.use rfl (hN.1 _ hq rfl)⟩) (fun _ h9 => h9) rfl (by decide +kernel) rfl rfl (Nat.le_of_ble_eq_true rfl) hd (fun H1 i9 he hz hq2 => ?_)
  refine k H1 _ _ rfl (hM.put (i := iC k0) (Or.inr ⟨by omega, by omega⟩) (fun L' hL => kF_inc2 hL (vp_lt hk0) hB.1.1) (by omega) he hz hq2 (fun j hj => up_ne hj) (kBd_up (by omega) hB).2 (fun L' hL => ?_) (kBd_up (by omega) hB).1)
  rw [up_eq]; exact kF_inc2 hL (vp_lt hk0) hB.1.1
theorem w_X6_8N (X : KX p s m args meth c own cc nL ret D ca) (hM : kI D ca zb ow0 N L G s H locs) {k0 : Int32} (hk0 : vp_in k0 (N 0)) {v : Int32} {host : String} (hq : Cond.fieldLinkNest own index "IncidentKeeper$Core$Incident" "clock" "I" host ∈ lw_tbl) (hd : decode cc pc = .ok (.putfield index, 3)) (k : ∀ (H1 : Heap) (locs1 : List Loc) (G1 : mMS), G1 = m_up G (iC k0) 8 v → kI D ca zb ow0 N L G1 s H1 locs1 → W p l e R s m args below meth c H1 locs1 cells slots Q (F0 m (pc + 3) ls rest)) : W p l e R s m args below meth c H locs cells slots Q (F0 m pc ls (.int v :: .ref (L (iC k0)) :: rest)) := by
  obtain ⟨⟨hx, hb, hml, hown, hts⟩, hrt, hlk, hK, hN⟩ := X
  have hB := hM.r.1.bd
  have hr9 : iC k0 = 100 + k0.toNatClampNeg := rfl
  have hv9 := vp_lt hk0
  obtain ⟨⟨hb9, hb8, hb7, -⟩, -⟩ := id hB
  refine kv_put (ci := 2) (v := .int v) (ty := .int) (C := RX6) (T := TX6) (NN := 18) hx hb hts in_X6 tyX6 tyX6_ok nmX6 hown hK (hM.r.1.inc (vp_lt hk0) 0 _ rfl) rfl 8 (by decide) (Or.inr ⟨_, va_Nw.use rfl (hN.1 _ hq rfl)⟩) (fun _ h9 => h9) rfl (by decide +kernel) rfl rfl (Nat.le_of_ble_eq_true rfl) hd (fun H1 i9 he hz hq2 => ?_)
  refine k H1 _ _ rfl (hM.put (i := iC k0) (Or.inr ⟨by omega, by omega⟩) (fun L' hL => kF_inc2 hL (vp_lt hk0) hB.1.1) (by omega) he hz hq2 (fun j hj => up_ne hj) (kBd_up (by omega) hB).2 (fun L' hL => ?_) (kBd_up (by omega) hB).1)
  rw [up_eq]; exact kF_inc2 hL (vp_lt hk0) hB.1.1
theorem w_X6_9N (X : KX p s m args meth c own cc nL ret D ca) (hM : kI D ca zb ow0 N L G s H locs) {k0 : Int32} (hk0 : vp_in k0 (N 0)) {v : Int32} {host : String} (hq : Cond.fieldLinkNest own index "IncidentKeeper$Core$Incident" "base" "I" host ∈ lw_tbl) (hd : decode cc pc = .ok (.putfield index, 3)) (k : ∀ (H1 : Heap) (locs1 : List Loc) (G1 : mMS), G1 = m_up G (iC k0) 9 v → kI D ca zb ow0 N L G1 s H1 locs1 → W p l e R s m args below meth c H1 locs1 cells slots Q (F0 m (pc + 3) ls rest)) : W p l e R s m args below meth c H locs cells slots Q (F0 m pc ls (.int v :: .ref (L (iC k0)) :: rest)) := by
  obtain ⟨⟨hx, hb, hml, hown, hts⟩, hrt, hlk, hK, hN⟩ := X
  have hB := hM.r.1.bd
  have hr9 : iC k0 = 100 + k0.toNatClampNeg := rfl
  have hv9 := vp_lt hk0
  obtain ⟨⟨hb9, hb8, hb7, -⟩, -⟩ := id hB
  refine kv_put (ci := 2) (v := .int v) (ty := .int) (C := RX6) (T := TX6) (NN := 18) hx hb hts in_X6 tyX6 tyX6_ok nmX6 hown hK (hM.r.1.inc (vp_lt hk0) 0 _ rfl) rfl 9 (by decide) (Or.inr ⟨_, va_Nw.use rfl (hN.1 _ hq rfl)⟩) (fun _ h9 => h9) rfl (by decide +kernel) rfl rfl (Nat.le_of_ble_eq_true rfl) hd (fun H1 i9 he hz hq2 => ?_)
  refine k H1 _ _ rfl (hM.put (i := iC k0) (Or.inr ⟨by omega, by omega⟩) (fun L' hL => kF_inc2 hL (vp_lt hk0) hB.1.1) (by omega) he hz hq2 (fun j hj => up_ne hj) (kBd_up (by omega) hB).2 (fun L' hL => ?_) (kBd_up (by omega) hB).1)
  rw [up_eq]; exact kF_inc2 hL (vp_lt hk0) hB.1.1
theorem w_X6_10N (X : KX p s m args meth c own cc nL ret D ca) (hM : kI D ca zb ow0 N L G s H locs) {k0 : Int32} (hk0 : vp_in k0 (N 0)) {v : Int32} {host : String} (hq : Cond.fieldLinkNest own index "IncidentKeeper$Core$Incident" "stopped" "I" host ∈ lw_tbl) (hd : decode cc pc = .ok (.putfield index, 3)) (k : ∀ (H1 : Heap) (locs1 : List Loc) (G1 : mMS), G1 = m_up G (iC k0) 10 v → kI D ca zb ow0 N L G1 s H1 locs1 → W p l e R s m args below meth c H1 locs1 cells slots Q (F0 m (pc + 3) ls rest)) : W p l e R s m args below meth c H locs cells slots Q (F0 m pc ls (.int v :: .ref (L (iC k0)) :: rest)) := by
  obtain ⟨⟨hx, hb, hml, hown, hts⟩, hrt, hlk, hK, hN⟩ := X
  have hB := hM.r.1.bd
  have hr9 : iC k0 = 100 + k0.toNatClampNeg := rfl
  have hv9 := vp_lt hk0
  obtain ⟨⟨hb9, hb8, hb7, -⟩, -⟩ := id hB
  refine kv_put (ci := 2) (v := .int v) (ty := .int) (C := RX6) (T := TX6) (NN := 18) hx hb hts in_X6 tyX6 tyX6_ok nmX6 hown hK (hM.r.1.inc (vp_lt hk0) 0 _ rfl) rfl 10 (by decide) (Or.inr ⟨_, va_Nw.use rfl (hN.1 _ hq rfl)⟩) (fun _ h9 => h9) rfl (by decide +kernel) rfl rfl (Nat.le_of_ble_eq_true rfl) hd (fun H1 i9 he hz hq2 => ?_)
  refine k H1 _ _ rfl (hM.put (i := iC k0) (Or.inr ⟨by omega, by omega⟩) (fun L' hL => kF_inc2 hL (vp_lt hk0) hB.1.1) (by omega) he hz hq2 (fun j hj => up_ne hj) (kBd_up (by omega) hB).2 (fun L' hL => ?_) (kBd_up (by omega) hB).1)
  rw [up_eq]; exact kF_inc2 hL (vp_lt hk0) hB.1.1
theorem w_X6_11N (X : KX p s m args meth c own cc nL ret D ca) (hM : kI D ca zb ow0 N L G s H locs) {k0 : Int32} (hk0 : vp_in k0 (N 0)) {v : Int32} {host : String} (hq : Cond.fieldLinkNest own index "IncidentKeeper$Core$Incident" "idle" "I" host ∈ lw_tbl) (hd : decode cc pc = .ok (.putfield index, 3)) (k : ∀ (H1 : Heap) (locs1 : List Loc) (G1 : mMS), G1 = m_up G (iC k0) 11 v → kI D ca zb ow0 N L G1 s H1 locs1 → W p l e R s m args below meth c H1 locs1 cells slots Q (F0 m (pc + 3) ls rest)) : W p l e R s m args below meth c H locs cells slots Q (F0 m pc ls (.int v :: .ref (L (iC k0)) :: rest)) := by
  obtain ⟨⟨hx, hb, hml, hown, hts⟩, hrt, hlk, hK, hN⟩ := X
  have hB := hM.r.1.bd
  have hr9 : iC k0 = 100 + k0.toNatClampNeg := rfl
  have hv9 := vp_lt hk0
  obtain ⟨⟨hb9, hb8, hb7, -⟩, -⟩ := id hB
  refine kv_put (ci := 2) (v := .int v) (ty := .int) (C := RX6) (T := TX6) (NN := 18) hx hb hts in_X6 tyX6 tyX6_ok nmX6 hown hK (hM.r.1.inc (vp_lt hk0) 0 _ rfl) rfl 11 (by decide) (Or.inr ⟨_, va_Nw.use rfl (hN.1 _ hq rfl)⟩) (fun _ h9 => h9) rfl (by decide +kernel) rfl rfl (Nat.le_of_ble_eq_true rfl) hd (fun H1 i9 he hz hq2 => ?_)
  refine k H1 _ _ rfl (hM.put (i := iC k0) (Or.inr ⟨by omega, by omega⟩) (fun L' hL => kF_inc2 hL (vp_lt hk0) hB.1.1) (by omega) he hz hq2 (fun j hj => up_ne hj) (kBd_up (by omega) hB).2 (fun L' hL => ?_) (kBd_up (by omega) hB).1)
  rw [up_eq]; exact kF_inc2 hL (vp_lt hk0) hB.1.1
theorem w_X6_12N (X : KX p s m args meth c own cc nL ret D ca) (hM : kI D ca zb ow0 N L G s H locs) {k0 : Int32} (hk0 : vp_in k0 (N 0)) {v : Int32} {host : String} (hq : Cond.fieldLinkNest own index "IncidentKeeper$Core$Incident" "parent" "I" host ∈ lw_tbl) (hd : decode cc pc = .ok (.putfield index, 3)) (k : ∀ (H1 : Heap) (locs1 : List Loc) (G1 : mMS), G1 = m_up G (iC k0) 12 v → kI D ca zb ow0 N L G1 s H1 locs1 → W p l e R s m args below meth c H1 locs1 cells slots Q (F0 m (pc + 3) ls rest)) : W p l e R s m args below meth c H locs cells slots Q (F0 m pc ls (.int v :: .ref (L (iC k0)) :: rest)) := by
  obtain ⟨⟨hx, hb, hml, hown, hts⟩, hrt, hlk, hK, hN⟩ := X
  have hB := hM.r.1.bd
  have hr9 : iC k0 = 100 + k0.toNatClampNeg := rfl
  have hv9 := vp_lt hk0
  obtain ⟨⟨hb9, hb8, hb7, -⟩, -⟩ := id hB
  refine kv_put (ci := 2) (v := .int v) (ty := .int) (C := RX6) (T := TX6) (NN := 18) hx hb hts in_X6 tyX6 tyX6_ok nmX6 hown hK (hM.r.1.inc (vp_lt hk0) 0 _ rfl) rfl 12 (by decide) (Or.inr ⟨_, va_Nw.use rfl (hN.1 _ hq rfl)⟩) (fun _ h9 => h9) rfl (by decide +kernel) rfl rfl (Nat.le_of_ble_eq_true rfl) hd (fun H1 i9 he hz hq2 => ?_)
  refine k H1 _ _ rfl (hM.put (i := iC k0) (Or.inr ⟨by omega, by omega⟩) (fun L' hL => kF_inc2 hL (vp_lt hk0) hB.1.1) (by omega) he hz hq2 (fun j hj => up_ne hj) (kBd_up (by omega) hB).2 (fun L' hL => ?_) (kBd_up (by omega) hB).1)
  rw [up_eq]; exact kF_inc2 hL (vp_lt hk0) hB.1.1
theorem w_X6_13N (X : KX p s m args meth c own cc nL ret D ca) (hM : kI D ca zb ow0 N L G s H locs) {k0 : Int32} (hk0 : vp_in k0 (N 0)) {v : Int32} {host : String} (hq : Cond.fieldLinkNest own index "IncidentKeeper$Core$Incident" "change" "I" host ∈ lw_tbl) (hd : decode cc pc = .ok (.putfield index, 3)) (k : ∀ (H1 : Heap) (locs1 : List Loc) (G1 : mMS), G1 = m_up G (iC k0) 13 v → kI D ca zb ow0 N L G1 s H1 locs1 → W p l e R s m args below meth c H1 locs1 cells slots Q (F0 m (pc + 3) ls rest)) : W p l e R s m args below meth c H locs cells slots Q (F0 m pc ls (.int v :: .ref (L (iC k0)) :: rest)) := by
  obtain ⟨⟨hx, hb, hml, hown, hts⟩, hrt, hlk, hK, hN⟩ := X
  have hB := hM.r.1.bd
  have hr9 : iC k0 = 100 + k0.toNatClampNeg := rfl
  have hv9 := vp_lt hk0
  obtain ⟨⟨hb9, hb8, hb7, -⟩, -⟩ := id hB
  refine kv_put (ci := 2) (v := .int v) (ty := .int) (C := RX6) (T := TX6) (NN := 18) hx hb hts in_X6 tyX6 tyX6_ok nmX6 hown hK (hM.r.1.inc (vp_lt hk0) 0 _ rfl) rfl 13 (by decide) (Or.inr ⟨_, va_Nw.use rfl (hN.1 _ hq rfl)⟩) (fun _ h9 => h9) rfl (by decide +kernel) rfl rfl (Nat.le_of_ble_eq_true rfl) hd (fun H1 i9 he hz hq2 => ?_)
  refine k H1 _ _ rfl (hM.put (i := iC k0) (Or.inr ⟨by omega, by omega⟩) (fun L' hL => kF_inc2 hL (vp_lt hk0) hB.1.1) (by omega) he hz hq2 (fun j hj => up_ne hj) (kBd_up (by omega) hB).2 (fun L' hL => ?_) (kBd_up (by omega) hB).1)
  rw [up_eq]; exact kF_inc2 hL (vp_lt hk0) hB.1.1
theorem w_X6_14N (X : KX p s m args meth c own cc nL ret D ca) (hM : kI D ca zb ow0 N L G s H locs) {k0 : Int32} (hk0 : vp_in k0 (N 0)) {v : Int32} {host : String} (hq : Cond.fieldLinkNest own index "IncidentKeeper$Core$Incident" "review" "I" host ∈ lw_tbl) (hd : decode cc pc = .ok (.putfield index, 3)) (k : ∀ (H1 : Heap) (locs1 : List Loc) (G1 : mMS), G1 = m_up G (iC k0) 14 v → kI D ca zb ow0 N L G1 s H1 locs1 → W p l e R s m args below meth c H1 locs1 cells slots Q (F0 m (pc + 3) ls rest)) : W p l e R s m args below meth c H locs cells slots Q (F0 m pc ls (.int v :: .ref (L (iC k0)) :: rest)) := by
  obtain ⟨⟨hx, hb, hml, hown, hts⟩, hrt, hlk, hK, hN⟩ := X
  have hB := hM.r.1.bd
  have hr9 : iC k0 = 100 + k0.toNatClampNeg := rfl
  have hv9 := vp_lt hk0
  obtain ⟨⟨hb9, hb8, hb7, -⟩, -⟩ := id hB
  refine kv_put (ci := 2) (v := .int v) (ty := .int) (C := RX6) (T := TX6) (NN := 18) hx hb hts in_X6 tyX6 tyX6_ok nmX6 hown hK (hM.r.1.inc (vp_lt hk0) 0 _ rfl) rfl 14 (by decide) (Or.inr ⟨_, va_Nw.use rfl (hN.1 _ hq rfl)⟩) (fun _ h9 => h9) rfl (by decide +kernel) rfl rfl (Nat.le_of_ble_eq_true rfl) hd (fun H1 i9 he hz hq2 => ?_)
  refine k H1 _ _ rfl (hM.put (i := iC k0) (Or.inr ⟨by omega, by omega⟩) (fun L' hL => kF_inc2 hL (vp_lt hk0) hB.1.1) (by omega) he hz hq2 (fun j hj => up_ne hj) (kBd_up (by omega) hB).2 (fun L' hL => ?_) (kBd_up (by omega) hB).1)
  rw [up_eq]; exact kF_inc2 hL (vp_lt hk0) hB.1.1
theorem w_X6_15N (X : KX p s m args meth c own cc nL ret D ca) (hM : kI D ca zb ow0 N L G s H locs) {k0 : Int32} (hk0 : vp_in k0 (N 0)) {v : Int32} {host : String} (hq : Cond.fieldLinkNest own index "IncidentKeeper$Core$Incident" "handovers" "I" host ∈ lw_tbl) (hd : decode cc pc = .ok (.putfield index, 3)) (k : ∀ (H1 : Heap) (locs1 : List Loc) (G1 : mMS), G1 = m_up G (iC k0) 15 v → kI D ca zb ow0 N L G1 s H1 locs1 → W p l e R s m args below meth c H1 locs1 cells slots Q (F0 m (pc + 3) ls rest)) : W p l e R s m args below meth c H locs cells slots Q (F0 m pc ls (.int v :: .ref (L (iC k0)) :: rest)) := by
  obtain ⟨⟨hx, hb, hml, hown, hts⟩, hrt, hlk, hK, hN⟩ := X
  have hB := hM.r.1.bd
  have hr9 : iC k0 = 100 + k0.toNatClampNeg := rfl
  have hv9 := vp_lt hk0
  obtain ⟨⟨hb9, hb8, hb7, -⟩, -⟩ := id hB
  refine kv_put (ci := 2) (v := .int v) (ty := .int) (C := RX6) (T := TX6) (NN := 18) hx hb hts in_X6 tyX6 tyX6_ok nmX6 hown hK (hM.r.1.inc (vp_lt hk0) 0 _ rfl) rfl 15 (by decide) (Or.inr ⟨_, va_Nw.use rfl (hN.1 _ hq rfl)⟩) (fun _ h9 => h9) rfl (by decide +kernel) rfl rfl (Nat.le_of_ble_eq_true rfl) hd (fun H1 i9 he hz hq2 => ?_)
  refine k H1 _ _ rfl (hM.put (i := iC k0) (Or.inr ⟨by omega, by omega⟩) (fun L' hL => kF_inc2 hL (vp_lt hk0) hB.1.1) (by omega) he hz hq2 (fun j hj => up_ne hj) (kBd_up (by omega) hB).2 (fun L' hL => ?_) (kBd_up (by omega) hB).1)
  rw [up_eq]; exact kF_inc2 hL (vp_lt hk0) hB.1.1
theorem w_X6_16N (X : KX p s m args meth c own cc nL ret D ca) (hM : kI D ca zb ow0 N L G s H locs) {k0 : Int32} (hk0 : vp_in k0 (N 0)) {v : Int32} (hn : v = 0 ∨ v = 1) {host : String} (hq : Cond.fieldLinkNest own index "IncidentKeeper$Core$Incident" "isOverdue" "Z" host ∈ lw_tbl) (hd : decode cc pc = .ok (.putfield index, 3)) (k : ∀ (H1 : Heap) (locs1 : List Loc) (G1 : mMS), G1 = m_up G (iC k0) 16 v → kI D ca zb ow0 N L G1 s H1 locs1 → W p l e R s m args below meth c H1 locs1 cells slots Q (F0 m (pc + 3) ls rest)) : W p l e R s m args below meth c H locs cells slots Q (F0 m pc ls (.int v :: .ref (L (iC k0)) :: rest)) := by
  obtain ⟨⟨hx, hb, hml, hown, hts⟩, hrt, hlk, hK, hN⟩ := X
  have hB := hM.r.1.bd
  have hr9 : iC k0 = 100 + k0.toNatClampNeg := rfl
  have hv9 := vp_lt hk0
  obtain ⟨⟨hb9, hb8, hb7, -⟩, -⟩ := id hB
  refine kv_put (ci := 2) (v := .int v) (ty := .boolean) (C := RX6) (T := TX6) (NN := 18) hx hb hts in_X6 tyX6 tyX6_ok nmX6 hown hK (hM.r.1.inc (vp_lt hk0) 0 _ rfl) rfl 16 (by decide) (Or.inr ⟨_, va_Nw.use rfl (hN.1 _ hq rfl)⟩) (fun _ h9 => h9) rfl (by decide +kernel) (gb_n hn) (gb_f hn) (Nat.le_of_ble_eq_true rfl) hd (fun H1 i9 he hz hq2 => ?_)
  refine k H1 _ _ rfl (hM.put (i := iC k0) (Or.inr ⟨by omega, by omega⟩) (fun L' hL => kF_inc2 hL (vp_lt hk0) hB.1.1) (by omega) he hz hq2 (fun j hj => up_ne hj) (kBd_up (by omega) hB).2 (fun L' hL => ?_) (kBd_up (by omega) hB).1)
  rw [up_eq]; exact kF_inc2 hL (vp_lt hk0) hB.1.1
theorem w_X7_3N (X : KX p s m args meth c own cc nL ret D ca) (hM : kI D ca zb ow0 N L G s H locs) {k0 : Int32} (hk0 : vp_in k0 (N 2)) {v : Int32} (hn : v = 0 ∨ v = 1) {host : String} (hq : Cond.fieldLinkNest own index "IncidentKeeper$Action" "isDone" "Z" host ∈ lw_tbl) (hd : decode cc pc = .ok (.putfield index, 3)) (k : ∀ (H1 : Heap) (locs1 : List Loc) (G1 : mMS), G1 = m_up G (aC k0) 3 v → kI D ca zb ow0 N L G1 s H1 locs1 → W p l e R s m args below meth c H1 locs1 cells slots Q (F0 m (pc + 3) ls rest)) : W p l e R s m args below meth c H locs cells slots Q (F0 m pc ls (.int v :: .ref (L (aC k0)) :: rest)) := by
  obtain ⟨⟨hx, hb, hml, hown, hts⟩, hrt, hlk, hK, hN⟩ := X
  have hB := hM.r.1.bd
  have hr9 : aC k0 = 400 + k0.toNatClampNeg := rfl
  have hv9 := vp_lt hk0
  obtain ⟨⟨hb9, hb8, hb7, -⟩, -⟩ := id hB
  refine kv_put (ci := 6) (v := .int v) (ty := .boolean) (C := RX7) (T := TX7) (NN := 4) hx hb hts in_X7 tyX7 tyX7_ok nmX7 hown hK (hM.r.1.act (vp_lt hk0) 0 _ rfl) rfl 3 (by decide) (Or.inr ⟨_, va_Nw.use rfl (hN.1 _ hq rfl)⟩) (fun _ h9 => h9) rfl (by decide +kernel) (gb_n hn) (gb_f hn) (Nat.le_of_ble_eq_true rfl) hd (fun H1 i9 he hz hq2 => ?_)
  refine k H1 _ _ rfl (hM.put (i := aC k0) (Or.inr ⟨by omega, by omega⟩) (fun L' hL => kF_act (vp_lt hk0) hB.1.2.2.1) (by omega) he hz hq2 (fun j hj => up_ne hj) (kBd_up (by omega) hB).2 (fun L' hL => ?_) (kBd_up (by omega) hB).1)
  rw [up_eq]; exact kF_act (vp_lt hk0) hB.1.2.2.1
theorem w_ast_4 (X : KX p s m args meth c own cc nL ret D ca) (hM : kI D ca zb ow0 N L G s H locs) {i v : Int32} (hin : vp_in i 8) (hd : decode cc pc = .ok (.iastore, 1)) (k : ∀ (H1 : Heap) (locs1 : List Loc) (G1 : mMS), G1 = m_up G (4) i.toNatClampNeg v → kI D ca zb ow0 N L G1 s H1 locs1 → W p l e R s m args below meth c H1 locs1 cells slots Q (F0 m (pc + 1) ls rest)) : W p l e R s m args below meth c H locs cells slots Q (F0 m pc ls (.int v :: .int i :: .ref (L (4)) :: rest)) := by
  obtain ⟨⟨hx, hb, hml, hown, hts⟩, hrt, hlk, hK, hN⟩ := X
  have hB := hM.r.1.bd
  refine kv_iast hx hb hK (hM.r.1.arr4 0 _ rfl) hin hd (fun H1 i9 he hz hq2 => ?_)
  exact k H1 _ _ rfl (hM.put (i := 4) (kst_lt (by decide)) (fun L' hL => kF_arr4) (by omega) he hz hq2 (fun j hj => up_ne hj) (kBd_up (by omega) hB).2 (fun L' hL => by rw [up_eq]; exact kF_arr4) (kBd_up (by omega) hB).1)
theorem w_ast_5 (X : KX p s m args meth c own cc nL ret D ca) (hM : kI D ca zb ow0 N L G s H locs) {i v : Int32} (hin : vp_in i 4) (hd : decode cc pc = .ok (.iastore, 1)) (k : ∀ (H1 : Heap) (locs1 : List Loc) (G1 : mMS), G1 = m_up G (5) i.toNatClampNeg v → kI D ca zb ow0 N L G1 s H1 locs1 → W p l e R s m args below meth c H1 locs1 cells slots Q (F0 m (pc + 1) ls rest)) : W p l e R s m args below meth c H locs cells slots Q (F0 m pc ls (.int v :: .int i :: .ref (L (5)) :: rest)) := by
  obtain ⟨⟨hx, hb, hml, hown, hts⟩, hrt, hlk, hK, hN⟩ := X
  have hB := hM.r.1.bd
  refine kv_iast hx hb hK (hM.r.1.arr5 0 _ rfl) hin hd (fun H1 i9 he hz hq2 => ?_)
  exact k H1 _ _ rfl (hM.put (i := 5) (kst_lt (by decide)) (fun L' hL => kF_arr5) (by omega) he hz hq2 (fun j hj => up_ne hj) (kBd_up (by omega) hB).2 (fun L' hL => by rw [up_eq]; exact kF_arr5) (kBd_up (by omega) hB).1)
theorem w_ast_6 (X : KX p s m args meth c own cc nL ret D ca) (hM : kI D ca zb ow0 N L G s H locs) {i v : Int32} (hin : vp_in i 4) (hd : decode cc pc = .ok (.iastore, 1)) (k : ∀ (H1 : Heap) (locs1 : List Loc) (G1 : mMS), G1 = m_up G (6) i.toNatClampNeg v → kI D ca zb ow0 N L G1 s H1 locs1 → W p l e R s m args below meth c H1 locs1 cells slots Q (F0 m (pc + 1) ls rest)) : W p l e R s m args below meth c H locs cells slots Q (F0 m pc ls (.int v :: .int i :: .ref (L (6)) :: rest)) := by
  obtain ⟨⟨hx, hb, hml, hown, hts⟩, hrt, hlk, hK, hN⟩ := X
  have hB := hM.r.1.bd
  refine kv_iast hx hb hK (hM.r.1.arr6 0 _ rfl) hin hd (fun H1 i9 he hz hq2 => ?_)
  exact k H1 _ _ rfl (hM.put (i := 6) (kst_lt (by decide)) (fun L' hL => kF_arr6) (by omega) he hz hq2 (fun j hj => up_ne hj) (kBd_up (by omega) hB).2 (fun L' hL => by rw [up_eq]; exact kF_arr6) (kBd_up (by omega) hB).1)
theorem w_ast_t (X : KX p s m args meth c own cc nL ret D ca) (hM : kI D ca zb ow0 N L G s H locs) {k0 : Int32} (hk0 : vp_in k0 (N 0)) {i v : Int32} (hin : vp_in i 4) (hd : decode cc pc = .ok (.iastore, 1)) (k : ∀ (H1 : Heap) (locs1 : List Loc) (G1 : mMS), G1 = m_up G (tC k0) i.toNatClampNeg v → kI D ca zb ow0 N L G1 s H1 locs1 → W p l e R s m args below meth c H1 locs1 cells slots Q (F0 m (pc + 1) ls rest)) : W p l e R s m args below meth c H locs cells slots Q (F0 m pc ls (.int v :: .int i :: .ref (L (tC k0)) :: rest)) := by
  obtain ⟨⟨hx, hb, hml, hown, hts⟩, hrt, hlk, hK, hN⟩ := X
  have hB := hM.r.1.bd
  have hr9 : tC k0 = 200 + k0.toNatClampNeg := rfl
  have hv9 := vp_lt hk0
  obtain ⟨⟨hb9, hb8, hb7, -⟩, -⟩ := id hB
  refine kv_iast hx hb hK (hM.r.1.cnt (vp_lt hk0) 0 _ rfl) hin hd (fun H1 i9 he hz hq2 => ?_)
  exact k H1 _ _ rfl (hM.put (i := tC k0) (Or.inr ⟨by omega, by omega⟩) (fun L' hL => kF_cnt (vp_lt hk0) hB.1.1) (by omega) he hz hq2 (fun j hj => up_ne hj) (kBd_up (by omega) hB).2 (fun L' hL => by rw [up_eq]; exact kF_cnt (vp_lt hk0) hB.1.1) (kBd_up (by omega) hB).1)
end
