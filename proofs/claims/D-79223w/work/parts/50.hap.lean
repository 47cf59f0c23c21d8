/-! ArrayList.add on a list of the core, in its world; what happens -/
theorem CW.grow {D : va_G} {ca : Nat → ClassId} {zb N L : Nat → Nat} {G : mMS} {H H1 : Heap} {ow : Nat → Nat × Nat} (h : CW D ca zb ow N L G H) (hk : ∀ q, q < H.size → H1[q]? = H[q]?) : CW D ca zb ow N L G H1 := ⟨fun i x hx => by
  obtain ⟨a, b⟩ := h.1 i x hx
  exact ⟨a.kept (hk _ a.lt), b⟩, h.2⟩
theorem kI.grow {D : va_G} {ca : Nat → ClassId} {zb N L : Nat → Nat} {G : mMS} {H H1 : Heap} {s : State} {locs locs1 : List Loc} {ow0 : Nat → Nat × Nat} (h : kI D ca zb ow0 N L G s H locs) (hk : ∀ q, q < H.size → H1[q]? = H[q]?) (hS : va_S (kA ow0 (L 7) s.heap.size) s.heap H1 locs1) : kI D ca zb ow0 N L G s H1 locs1 := by
  obtain ⟨⟨ow, L', h1, h2, h3⟩, -, hF, hb⟩ := h
  exact ⟨⟨ow, L', h1, h2.grow hk, h3⟩, hS, hF.kept (fun a ha _ => hk a ha), hb⟩
theorem CW.apart {D : va_G} {ca : Nat → ClassId} {zb N L : Nat → Nat} {G : mMS} {H : Heap} {ow : Nat → Nat × Nat} (h : CW D ca zb ow N L G H) {i k : Nat} {y z : va_E} (hy : kF ca zb N L (kN3 G) (G i) i = some y) (hz : kF ca zb N L (kN3 G) (G k) k = some z) (hm : ¬ ((300 ≤ k ∧ k < 400) ∨ 500 ≤ k)) (hik : i ≠ k) : L i ≠ L k := fun e => by
  have a1 := (h.1 k z hz).2.1
  have a2 := (h.1 i y hy).2.1
  rw [← e, a2] at a1
  exact hik (kO_inj hm a1.symm).symm
def kCls (j : Nat) : Nat := match j with
  | 0 => 2
  | 1 => 4
  | 2 => 6
  | _ => 5
/-- an element of list j in the world -/
theorem CW.el {D : va_G} {ca : Nat → ClassId} {zb N L : Nat → Nat} {G : mMS} {H : Heap} {ow : Nat → Nat × Nat} (h : CW D ca zb ow N L G H) {j i : Nat} (hj : j < 4) (hi : i < kCnt N (kN3 G) j) : ∃ fs, kF ca zb N L (kN3 G) (G (kBase j + i)) (kBase j + i) = some (.inr (kCls j, fs)) := by
  obtain ⟨⟨b0, b1, b2, b3⟩, -⟩ := h.2
  match j, hj with
  | 0, _ => exact ⟨_, kF_inc hi b0⟩
  | 1, _ => exact ⟨_, kF_chg hi b1⟩
  | 2, _ => exact ⟨_, kF_act hi b2⟩
  | 3, _ => exact ⟨_, kF_evt hi⟩
theorem kb_ne {j : Nat} (hj : j < 4) (i : Nat) : (kBase j + i ≠ j ∧ kBase j + i ≠ 10 + j ∧ kBase j + i ≠ 3) ∧ (¬ ((300 ≤ j ∧ j < 400) ∨ 500 ≤ j) ∧ ¬ ((300 ≤ 10 + j ∧ 10 + j < 400) ∨ 500 ≤ 10 + j)) ∧ j ≠ 10 + j := by
  have := kBase_le hj
  omega
theorem kc_ne {j n c2 : Nat} (hj : j < 4) (h : (j = 0 ∧ c2 = 200 + n) ∨ (j ≠ 0 ∧ c2 = kBase j + n)) : c2 ≠ j ∧ c2 ≠ 10 + j ∧ c2 ≠ 3 ∧ (j = 0 → c2 ≠ kBase j + n) := by
  have := kBase_le hj
  omega
section
variable {p : Program} {l : Launch} {e : Env} {R : Room} {s : State} {m : MethodId} {args : Array Value} {below : List Frame} {meth : Method} {c : Code} {H H0 : Heap} {locs : List Loc} {cells slots mc ms : Nat} {Q : State → Prop} {pc : Nat} {ls : Array Slot} {rest st0 : List Value} {own : String} {cc : ByteArray} {nL : Nat} {ret : Option FieldType} {D : va_G} {ca : Nat → ClassId} {zb N L : Nat → Nat} {G : mMS} {ow ow0 : Nat → Nat × Nat} {A0 : Nat → Prop}
theorem k_any (X : KX p s m args meth c own cc nL ret D ca) {j a : Nat} {fs : List Value} (hj : j < 4) (h : va_at D vwCl (a, .inr (kCls j, fs)) H) : ∀ U : State, U.heap = H → s.WarmedH U.vm → va_Any "java/lang/Object" U U.heap a := fun U hU hW => by
  have hK := va_K.moved hW.alike X.2.2.2.1
  have hN := X.2.2.2.2.warm hW
  rw [hU]
  match j, hj with
  | 0, _ => exact va_rAny hK (vaP1 h) (q0 := 0) rfl rfl (vb_asgC (hN.1 _ q2069 rfl))
  | 1, _ => exact va_rAny hK (vaP1 h) (q0 := 0) rfl rfl (vb_asgC (hN.1 _ q2077 rfl))
  | 2, _ => exact va_rAny hK (vaP1 h) (q0 := 0) rfl rfl (vb_asgC (hN.1 _ q2070 rfl))
  | 3, _ => exact va_rAny hK (vaP1 h) (q0 := 0) rfl rfl (vb_asgC (hN.1 _ q2072 rfl))
theorem kCnt_le {n3 : Nat} (hb : N 0 ≤ 16 ∧ N 1 ≤ 12 ∧ N 2 ≤ 20 ∧ n3 ≤ 60) {j : Nat} (hj : j < 4) : kCnt N n3 j ≤ 60 := by
  obtain ⟨b0, b1, b2, b3⟩ := hb
  match j, hj with
  | 0, _ => exact Nat.le_trans b0 (by decide)
  | 1, _ => exact Nat.le_trans b1 (by decide)
  | 2, _ => exact Nat.le_trans b2 (by decide)
  | 3, _ => exact b3
theorem kG2 (hB : kBd N G) {j : Nat} (hj : j < 4) : G j 2 = nI (kCnt N (kN3 G) j) := by
  obtain ⟨-, e0, e1, e2, e3⟩ := hB
  match j, hj with
  | 0, _ => exact e0
  | 1, _ => exact e1
  | 2, _ => exact e2
  | 3, _ => exact e3
theorem k_addJ (X : KX p s m args meth c own cc nL ret D ca) (hC : CW D ca zb ow N L G H0) (hz0 : H0.size ≤ H.size) (hk0 : ∀ a, a < H0.size → H[a]? = H0[a]?) (hKK : ∀ U : State, U.heap = H → s.WarmedH U.vm → KK D ca zb U) (hS : va_S A0 s.heap H locs) (hA1 : ∀ q, H.size ≤ q → A0 q) (hzb : zb 1 ≤ H0.size)
    (hAo : ∀ i x, kF ca zb N L (kN3 G) (G i) i = some x → ¬ ((300 ≤ i ∧ i < 400) ∨ 500 ≤ i) → A0 (L i)) {j n c2 q q2 idx : Nat} {N' : Nat → Nat} {g1 g2 : Nat → Int32} {fs : List Value} {x2 : va_E} (hj : j < 4) (hn : n = kCnt N (kN3 G) j) (hN : ∀ k, k < 3 → k ≠ j → N' k = N k) (hNj : j < 3 → N' j = n + 1) (hB : kBd N' (addJ G j n c2 g1 g2)) (hc2 : (j = 0 ∧ c2 = 200 + n) ∨ (j ≠ 0 ∧ c2 = kBase j + n ∧ q2 = q ∧ x2 = .inr (kCls j, fs)))
    (hx : ∀ L', (∀ k, kst k → k ≠ kBase j + n → k ≠ c2 → L' k = L k) → L' c2 = q2 → kF ca zb N' L' (kN3 (addJ G j n c2 g1 g2)) g1 (kBase j + n) = some (.inr (kCls j, fs))) (hx2 : ∀ L', kF ca zb N' L' (kN3 (addJ G j n c2 g1 g2)) g2 c2 = some x2 ∨ (j ≠ 0))
    (e3 : va_at D vwCl (q, .inr (kCls j, fs)) H) (e4 : va_at D vwCl (q2, x2) H) (hq : H0.size ≤ q ∨ (kO (L 7) (kBase j + n) = ow q ∧ zb 1 ≤ q)) (hq2 : H0.size ≤ q2 ∨ (kO (L 7) c2 = ow q2 ∧ zb 1 ≤ q2)) (hqq : j = 0 → q ≠ q2)
    (hql : Cond.methodLink own idx yJ2_add ∈ lw_all) (hfr : 7 ≤ R.frames) (hlo : 280 ≤ R.locals) (hls : ls.size = nL) (hrm : (rest.map fun v => v.category).sum ≤ 8) (hd : decode cc pc = .ok (.invokevirtual idx, 3)) (hcl : cells + gcC n ≤ R.cells ∧ slots + gcS n ≤ R.slots)
    (k : ∀ (H2 : Heap) (locs2 : List Loc) (ow' : Nat → Nat × Nat) (L' : Nat → Nat), (∀ a, a < H0.size → ow' a = ow a) → (∀ k, kst k → k ≠ kBase j + n → k ≠ c2 → L' k = L k) → L' (kBase j + n) = q → L' c2 = q2 → CW D ca zb ow' N' L' (addJ G j n c2 g1 g2) H2 → (∀ a, a < H.size → a ≠ L j → (capF n ≠ 0 → a ≠ L (10 + j)) → H2[a]? = H[a]?) → H.size ≤ H2.size → va_S A0 s.heap H2 locs2 → W p l e R s m args below meth c H2 locs2 (cells + gcC n) (slots + gcS n) Q (F0 m (pc + 3) ls (.int 1 :: rest))) :
    W p l e R s m args below meth c H locs cells slots Q (F0 m pc ls (.ref q :: .ref (L j) :: rest)) := by
  obtain ⟨⟨b1, b2, b3⟩, ⟨b4, b5⟩, b6⟩ := kb_ne hj n
  obtain ⟨d1, d2, d3, d4⟩ := kc_ne hj (hc2.imp id (fun z => ⟨z.1, z.2.1⟩))
  have fj := kF_list (ca := ca) (zb := zb) (N := N) (L := L) (n3 := kN3 G) (g := G j) hj
  obtain ⟨a1, a2, a3⟩ := hC.1 j _ fj
  have hg2 := kG2 hC.2 hj
  rw [← hn] at fj a1 hg2
  have fe : capF n ≠ 0 → kF ca zb N L (kN3 G) (G (10 + j)) (10 + j) = some (.inl (ca 1, capF n, .inr (.inr (.inr (.inr (kEl L n (kBase j))))))) := fun h9 => by
    rw [hn] at h9 ⊢
    exact kF_el hj h9
  have hB' := hB
  have hG3 : j ≠ 3 → addJ G j n c2 g1 g2 3 = G 3 := fun h9 => (if_neg (fun z => h9 z.symm)).trans ((if_neg b3.symm).trans (if_neg d3.symm))
  have h3 : j ≠ 3 → kN3 (addJ G j n c2 g1 g2) = kN3 G := fun h9 => by
    unfold kN3
    rw [hG3 h9]
  have hGj : addJ G j n c2 g1 g2 j = upd (upd (G j) 0 (G j 0 + 1)) 2 (nI (n + 1)) := if_pos rfl
  have hG1 : addJ G j n c2 g1 g2 (kBase j + n) = g1 := (if_neg b1).trans (if_pos rfl)
  have hG2 : j = 0 → addJ G j n c2 g1 g2 c2 = g2 := fun h9 => (if_neg d1).trans ((if_neg (d4 h9)).trans (if_pos rfl))
  have hn60 := kCnt_le hC.2.1 hj
  rw [← hn] at hn60
  have h3j : j = 3 → kN3 (addJ G j n c2 g1 g2) = n + 1 := fun h9 => by
    subst h9
    show ((addJ G 3 n c2 g1 g2 3) 2).toNatClampNeg = _
    rw [hGj]
    exact nI_clamp (Nat.lt_of_le_of_lt (Nat.add_le_add_right hn60 1) (by decide))
  have hn59 : n ≤ 59 := by
    have h9 := kCnt_le hB.1 hj
    by_cases h8 : j < 3
    · have : kCnt N' (kN3 (addJ G j n c2 g1 g2)) j = n + 1 := by unfold kCnt; rw [if_pos h8]; exact hNj h8
      rw [this] at h9
      exact Nat.le_of_succ_le_succ h9
    · have : kCnt N' (kN3 (addJ G j n c2 g1 g2)) j = n + 1 := by unfold kCnt; rw [if_neg h8]; exact h3j (Nat.le_antisymm (Nat.le_of_lt_succ hj) (Nat.le_of_not_lt h8))
      rw [this] at h9
      exact Nat.le_of_succ_le_succ h9
  have nq : ∀ i x r, kF ca zb N L (kN3 G) (G i) i = some x → ¬ ((300 ≤ i ∧ i < 400) ∨ 500 ≤ i) → (H0.size ≤ r ∨ ∃ i2, i2 ≠ i ∧ kO (L 7) i2 = ow r ∧ zb 1 ≤ r) → r ≠ L i := fun i x r h8 h7 hr z => by
    have hi9 := hC.1 i x h8
    rcases hr with h9 | ⟨i2, h5, h9, -⟩
    · exact absurd hi9.1.lt (by rw [← z]; exact Nat.not_lt.mpr h9)
    · have h6 := hi9.2.1
      rw [← z, ← h9] at h6
      exact h5 (kO_inj h7 h6.symm).symm
  have nqj : q ≠ L j := nq j _ q fj b4 (hq.imp id fun z => ⟨kBase j + n, b1, z⟩)
  have nqe : capF n ≠ 0 → q ≠ L (10 + j) := fun h9 => nq (10 + j) _ q (fe h9) b5 (hq.imp id fun z => ⟨kBase j + n, b2, z⟩)
  have nq2j : q2 ≠ L j := nq j _ q2 fj b4 (hq2.imp id fun z => ⟨c2, d1, z⟩)
  have nq2e : capF n ≠ 0 → q2 ≠ L (10 + j) := fun h9 => nq (10 + j) _ q2 (fe h9) b5 (hq2.imp id fun z => ⟨c2, d2, z⟩)
  refine k_addL X hKK hS hA1 (Nat.le_trans hzb hz0) (la := L j) (ea := L (10 + j)) (b := kBase j) (n := n) (x := q) (μ := G j 0) (L := L) (zb := zb) hn59 ?_ (fun h9 => ?_) ⟨hAo j _ fj b4, a3⟩ (fun h9 => ⟨hAo _ _ (fe h9) b5, (hC.1 _ _ (fe h9)).2.2, fun z => hC.apart fj (fe h9) b5 b6 z⟩) (k_any X hj e3) ⟨e3.lt, nqj, nqe⟩ (fun i hi => ?_) hql hfr hlo hls hrm hd hcl (fun H2 locs2 ea2 r1 r2 r3 r4 r5 r6 => ?_)
  · rw [← hg2]
    exact a1.kept (hk0 _ a1.lt)
  · have h8 := (hC.1 _ _ (fe h9)).1
    exact h8.kept (hk0 _ h8.lt)
  · obtain ⟨fs9, h9⟩ := hC.el hj (i := i) (by rw [← hn]; exact hi)
    have h8 := hC.1 _ _ h9
    have h7 := h8.1.kept (hk0 _ h8.1.lt)
    have hkb := (kb_ne hj i).1
    exact ⟨k_any X hj h7, h7.lt, hC.apart h9 fj b4 hkb.1, hC.apart h9 (fe (cap_pos hi hn60).1) b5 hkb.2.1⟩
  · have hne : ∀ r, r < H.size → r ≠ L j → (capF n ≠ 0 → r ≠ L (10 + j)) → H2[r]? = H[r]? := r4
    have ne1 : ∀ r, r < H.size → (capF n ≠ 0 → r ≠ L (10 + j)) → r ≠ ea2 := fun r h9 h8 z => by
      rcases r3 with ⟨h7, h6⟩ | h7
      · exact h8 h6 (z.trans h7)
      · exact absurd h9 (by rw [z]; exact Nat.not_lt.mpr h7)
    obtain ⟨ow', L', b1, b2, b3, b4, b5⟩ := hC.more (G' := addJ G j n c2 g1 g2) (H2 := H2) (q := q) (q2 := q2) (ea := ea2) (x := .inr (kCls j, fs)) (x2 := x2) (m' := G j 0 + 1) hj hn hN hNj h3 h3j hB hc2
      (fun i h9 h8 h7 => (if_neg h9).trans ((if_neg h8).trans (if_neg h7))) (fun a h9 h8 h7 => (r4 a (Nat.lt_of_lt_of_le h9 hz0) h8 h7).trans (hk0 a h9))
      (by rw [hGj]; rfl) (by rw [hGj]; rfl) (fun L' h9 h8 => by rw [hG1]; exact hx L' h9 h8) (fun L' => by
        by_cases h9 : j = 0
        · rw [hG2 h9]; exact hx2 L'
        · exact Or.inr h9)
      r1 r2 (e3.kept (r4 _ e3.lt nqj nqe)) (e4.kept (r4 _ e4.lt nq2j nq2e)) (r3.imp id fun z => Nat.le_trans hz0 z) hq hq2 (ne1 q e3.lt nqe) (ne1 q2 e4.lt nq2e) hqq hzb
    exact k H2 locs2 ow' L' b1 b2 b3 b4 b5 r4 r5 r6
end
