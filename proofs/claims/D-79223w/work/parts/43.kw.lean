/-! THE CORE's WORLD for writing -/
theorem kO_inj {a i j : Nat} (hi : ¬ ((300 ≤ i ∧ i < 400) ∨ 500 ≤ i)) (h : kO a i = kO a j) : i = j := by
  unfold kO at h
  rw [if_neg hi] at h
  split at h
  · exact absurd (Prod.mk.inj h).1 (by omega)
  · exact (Prod.mk.inj h).2
section
variable {D : va_G} {ca : Nat → ClassId} {zb N L : Nat → Nat} {G : mMS} {H : Heap} {ow : Nat → Nat × Nat}
theorem CW.set {i : Nat} {e0 e : va_E} {H1 : Heap} {G' : mMS} (h : CW D ca zb ow N L G H) (hx0 : kF ca zb N L (kN3 G) (G i) i = some e0) (hi : ¬ ((300 ≤ i ∧ i < 400) ∨ 500 ≤ i)) (he : va_at D vwCl (L i, e) H1) (hq : ∀ q, q ≠ L i → H1[q]? = H[q]?) (hG : ∀ j, j ≠ i → G' j = G j) (h3 : kN3 G' = kN3 G) (he' : kF ca zb N L (kN3 G) (G' i) i = some e) (hB : kBd N G') : CW D ca zb ow N L G' H1 := by
  refine ⟨fun j x hx => ?_, hB⟩
  rw [h3] at hx
  by_cases hj : j = i
  · subst hj
    rw [he'] at hx
    cases hx
    exact ⟨he, (h.1 _ _ hx0).2⟩
  · rw [hG j hj] at hx
    obtain ⟨a1, a2, a3⟩ := h.1 j x hx
    refine ⟨a1.kept (hq _ fun z => ?_), a2, a3⟩
    have b2 := (h.1 _ _ hx0).2.1
    rw [← z, a2] at b2
    exact hj (kO_inj hi b2.symm).symm
theorem up_ne {S : mMS} {a k b : Nat} {v : Int32} (h : b ≠ a) : m_up S a k v b = S b := if_neg h
theorem up_eq {S : mMS} {a k : Nat} {v : Int32} : m_up S a k v a = upd (S a) k v := if_pos rfl
theorem kBd_up {i f : Nat} {v : Int32} (hi : 4 ≤ i) (h : kBd N G) : kBd N (m_up G i f v) ∧ kN3 (m_up G i f v) = kN3 G := by
  unfold kBd kN3 at *
  rw [up_ne (show 0 ≠ i by omega), up_ne (show 1 ≠ i by omega), up_ne (show 2 ≠ i by omega), up_ne (show 3 ≠ i by omega)]
  exact ⟨h, rfl⟩
end
/-- what a method on the core at a may change -/
def kA (ow : Nat → Nat × Nat) (a sz : Nat) : Nat → Prop := fun q => (ow q).1 = a + 1 ∨ sz ≤ q
def kI (D : va_G) (ca : Nat → ClassId) (zb : Nat → Nat) (ow0 : Nat → Nat × Nat) (N L : Nat → Nat) (G : mMS) (s : State) (H : Heap) (locs : List Loc) : Prop :=
  (∃ (ow : Nat → Nat × Nat) (L' : Nat → Nat), (∀ i, kst i → L' i = L i) ∧ CW D ca zb ow N L' G H ∧ ∀ q, q < s.heap.size → ow q = ow0 q) ∧ va_S (kA ow0 (L 7) s.heap.size) s.heap H locs ∧ SF zb s H ∧ ∀ q, kA ow0 (L 7) s.heap.size q → zb 1 ≤ q
theorem kI.r {D : va_G} {ca : Nat → ClassId} {zb N L : Nat → Nat} {ow0 : Nat → Nat × Nat} {G : mMS} {s : State} {H : Heap} {locs : List Loc} (h : kI D ca zb ow0 N L G s H locs) : kR D ca zb N L G s H := by
  obtain ⟨⟨ow, L', h1, h2, -⟩, -, h3, -⟩ := h
  exact ⟨⟨ow, L', h1, h2⟩, h3⟩
section
variable {p : Program} {l : Launch} {e : Env} {R : Room} {s : State} {m : MethodId} {args : Array Value} {below : List Frame} {meth : Method} {c : Code} {H : Heap} {locs : List Loc} {cells slots : Nat} {Q : State → Prop} {pc : Nat} {ls : Array Slot} {rest st0 : List Value} {own : String} {cc : ByteArray} {nL : Nat} {ret : Option FieldType} {D : va_G} {ca : Nat → ClassId} {zb N L : Nat → Nat} {G : mMS} {index : Nat} {ow0 : Nat → Nat × Nat} {a : Nat} {cl : List vw_C} {tys : List (ClassId × FieldType)}
/-- one cell's field, written: what else stays -/
theorem kv_put (hexec : p.tables.exec = Jvm.exec) (hb : c.code = cc) {ref C : String} {T : u_T} {NN ci : Nat} {Ts : List Cond} (hts : ∀ w ∈ Ts, w.before args s = true) (hin : ∀ w ∈ u_ws C T NN, w ∈ Ts) (ty0 : Nat → FieldType) (hty : ∀ k, k < NN → parseFieldDescriptor (T k).2.2.1 = some (ty0 k)) (hnm : ∀ a, a < NN → ∀ b, b < NN → a ≠ b → (T a).2.1 ≠ (T b).2.1) (hown : s.vm.findClass own = some m.cls) (hK : va_K D cl tys s) {fs : List Value} (he : va_at D cl (a, .inr (ci, fs)) H) (hc : cl[ci]? = some (C, T, NN)) (k : Nat) (hk : k < NN) (hlink : (Cond.fieldLink own index ref (T k).2.1 (T k).2.2.1).before args s = true ∨ ∃ host, (Cond.fieldLinkNest own index ref (T k).2.1 (T k).2.2.1 host).before args s = true) (hsame : ∀ x, s.fieldFound? (T k).1 (T k).2.1 (T k).2.2.1 = some x → s.fieldFound? ref (T k).2.1 (T k).2.2.1 = some x) (hfin : (T k).2.2.2 = false) {ty : FieldType} {v : Value} (hd : parseFieldDescriptor (T k).2.2.1 = some ty) (hn : narrow ty v = v) (hfit : fits ty v = true) (hl : k < fs.length)
    (hdg : decode cc pc = .ok (.putfield index, 3)) (kk : ∀ (H1 : Heap) (i : Nat), va_at D cl (a, .inr (ci, fs.set k v)) H1 → H1.size = H.size → (∀ q, q ≠ a → H1[q]? = H[q]?) → W p l e R s m args below meth c H1 (locs ++ [⟨a, i⟩]) cells slots Q (F0 m (pc + 3) ls rest)) : W p l e R s m args below meth c H locs cells slots Q (F0 m pc ls (v :: .ref a :: rest)) := by
  have hap := va_apart (own := own) hts hin ty0 hty hnm hK hc
  obtain ⟨r, h1, cell, q1, q2, q3, q4⟩ := he
  have hr : r = (C, T, NN) := Option.some.inj (h1.symm.trans hc)
  subst hr
  obtain ⟨hS, hfc, kC, hkC, hkind⟩ := hK.1 ci _ hc
  obtain ⟨cf, kf, fi, f, hi, hsl⟩ := hS k hk
  have hlay := hts _ (hin _ (u_in_lay hk))
  unfold u_lay at hlay
  rw [if_neg (by rw [hfin]; decide)] at hlay
  have hst := (u_facts hfc hkC (u_lays hts hin hk) hi).1
  have h6 := u_store hfc hkC hkind hlay hi hd hn hfit
  have fin : ∀ H' : Heap, H'[a]? = some (cell.setSlot f.slot v) → H'.size = H.size → (∀ q, q ≠ a → H'[q]? = H[q]?) → W p l e R s m args below meth c H' (locs ++ [⟨a, f.slot⟩]) cells slots Q (F0 m (pc + 3) ls rest) := fun H' e1 e2 e3 => by
    rw [hsl] at e1
    exact kk H' _ ⟨_, hc, t_OB.to (V := updV (vp_V fs) k v) ⟨_, e1, q2, q3, t_set q4 hap hk v⟩ (fun j _ => vp_updV_set hl v j)⟩ e2 e3
  rcases hlink with hlink | ⟨host, hlink⟩
  · exact W.putK hexec hb (f := f) ⟨hown, hlink, ⟨_, _, _, hsame _ hi⟩, hst⟩ (by rw [q2]; exact h6) q1 q3 (by rw [hsl]; exact k2_hasslot (q4 k hk)) rfl rfl hdg fin
  · exact va_WputK hexec hb (f := f) hown hlink (hsame _ hi) hst (by rw [q2]; exact h6) q1 q3 (by rw [hsl]; exact k2_hasslot (q4 k hk)) rfl rfl hdg fin
/-- a write at code i, seen by the world -/
theorem kI.put {i i9 : Nat} {e0 e1 : va_E} {H1 : Heap} {G' : mMS} (h : kI D ca zb ow0 N L G s H locs) (hs : kst i) (hx0 : ∀ L', (∀ j, kst j → L' j = L j) → kF ca zb N L' (kN3 G) (G i) i = some e0) (hi : ¬ ((300 ≤ i ∧ i < 400) ∨ 500 ≤ i)) (he : va_at D vwCl (L i, e1) H1) (hz : H1.size = H.size) (hq : ∀ q, q ≠ L i → H1[q]? = H[q]?) (hG : ∀ j, j ≠ i → G' j = G j) (h3 : kN3 G' = kN3 G) (he' : ∀ L', (∀ j, kst j → L' j = L j) → kF ca zb N L' (kN3 G) (G' i) i = some e1) (hB : kBd N G') : kI D ca zb ow0 N L G' s H1 (locs ++ [⟨L i, i9⟩]) := by
  obtain ⟨⟨ow, L', hL, hC, ho⟩, hS, hF, hb⟩ := h
  have hLi := hL i hs
  have hc := hC.1 i e0 (hx0 L' hL)
  have hlt : L i < H.size := by
    have := hc.1.lt
    rw [hLi] at this
    exact this
  have hA : kA ow0 (L 7) s.heap.size (L i) := by
    by_cases hq2 : L i < s.heap.size
    · left
      rw [← ho _ hq2, ← hLi, hc.2.1]
      unfold kO
      rw [if_neg hi, hL 7 (kst_lt (by decide))]
    · right; omega
  refine ⟨⟨ow, L', hL, hC.set (hx0 L' hL) hi (by rw [hLi]; exact he) (by rw [hLi]; exact hq) hG h3 (he' L' hL) hB, ho⟩, hS.put hz hq hA, hF.kept (fun a _ h2 => hq a fun z => h2 (by rw [z]; exact hb _ hA)), hb⟩
end
