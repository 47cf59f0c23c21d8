/-! contracts of methods that change the core, or refuse; what they cost -/
abbrev KO : Type := (Int32 × mMS) ⊕ (Int32 × Int32)
def tk {α : Type} (c s : Nat) (o : Option (α × Nat × Nat)) : Option (α × Nat × Nat) := o.map fun r => (r.1, c + r.2.1, s + r.2.2)
theorem tkE {α : Type} {c s : Nat} {o : Option (α × Nat × Nat)} {r : α × Nat × Nat} (h : tk c s o = some r) : ∃ r', o = some r' ∧ r = (r'.1, c + r'.2.1, s + r'.2.2) := by
  unfold tk at h
  cases o with
  | none => cases h
  | some a => exact ⟨a, rfl, (Option.some.inj h).symm⟩
def onL (x : KO) (f : Int32 × mMS → Option (KO × Nat × Nat)) : Option (KO × Nat × Nat) := match x with
  | .inl a => f a
  | .inr b => some (.inr b, 0, 0)
theorem onL_l {x : KO} {f : Int32 × mMS → Option (KO × Nat × Nat)} {r : KO × Nat × Nat} {a : Int32 × mMS} (h : onL x f = some r) (e : x = .inl a) : f a = some r := by subst e; exact h
theorem onL_r {x : KO} {f : Int32 × mMS → Option (KO × Nat × Nat)} {r : KO × Nat × Nat} {b : Int32 × Int32} (h : onL x f = some r) (e : x = .inr b) : r = (.inr b, 0, 0) := by subst e; exact (Option.some.inj h).symm
abbrev rfFs (a b : Int32) : List Value := [.null, .null, .null, .null, .null, .int 0, .int a, .int b]
abbrev RfE : String := "IncidentKeeper$RefusedException"
def kPre (D : va_G) (ca : Nat → ClassId) (zb : Nat → Nat) (ow : Nat → Nat × Nat) (sz : Nat) (N L : Nat → Nat) (G : mMS) : State → Prop := fun U =>
  U.heap.size = sz ∧ (∃ L1, (∀ i, kst i → L1 i = L i) ∧ CW D ca zb ow N L1 G U.heap) ∧ KK D ca zb U ∧ ∀ q, kA ow (L 7) sz q → zb 1 ≤ q
def kPost (D : va_G) (ca : Nat → ClassId) (zb : Nat → Nat) (ow : Nat → Nat × Nat) (sz : Nat) (N L : Nat → Nat) (G : mMS) : State → Prop := fun t =>
  ∃ (ow' : Nat → Nat × Nat) (L1 : Nat → Nat), (∀ q, q < sz → ow' q = ow q) ∧ (∀ i, kst i → L1 i = L i) ∧ CW D ca zb ow' N L1 G t.heap
def KwI (l : Launch) (D : va_G) (ca : Nat → ClassId) (zb : Nat → Nat) (ow : Nat → Nat × Nat) (sz : Nat) (y : MethodName) (cc : ByteArray) (nL : Nat) (ret : Option FieldType) (n mc ms : Nat) (av : List Value) (N L : Nat → Nat) (G G' : mMS) (ov : Option Value) : Prop :=
  Met l y (ws_ y cc nL ret) { frames := n, cells := mc, slots := ms, locals := 40 * n } (va_Pc av (kPre D ca zb ow sz N L G)) (fun _ st o t => (o = .returned ov ∧ kPost D ca zb ow sz N L G' t) ∧ va_F (kA ow (L 7) sz) st t) mc ms (kA ow (L 7) sz)
def ktQ (A : Nat → Prop) (f : Int32 → Option Value) (post : Int32 → mMS → State → Prop) (r : KO) : Array Value → State → Outcome → State → Prop := fun _ st o t => (∃ x : Int32 × mMS, o = .returned (f x.1) ∧ (r = .inl x ∧ post x.1 x.2 t)) ∧ va_F A st t
def ktX (D : va_G) (A : Nat → Prop) (sz : Nat) (r : KO) : String → Nat → State → State → Prop := fun E q st t => (∃ a b, r = .inr (a, b) ∧ E = RfE ∧ sz ≤ q ∧ va_P D vwCl [(q, .inr (13, rfFs a b))] t.heap) ∧ va_F A st t
def KtI (l : Launch) (D : va_G) (ca : Nat → ClassId) (zb : Nat → Nat) (ow : Nat → Nat × Nat) (sz : Nat) (y : MethodName) (cc : ByteArray) (nL : Nat) (ret : Option FieldType) (n mc ms : Nat) (av : List Value) (N L : Nat → Nat) (G : mMS) (f : Int32 → Option Value) (post : Int32 → mMS → State → Prop) (r : KO) : Prop :=
  vx_Met l y (ws_ y cc nL ret) { frames := n, cells := mc, slots := ms, locals := 40 * n } (va_Pc av (kPre D ca zb ow sz N L G)) (ktQ (kA ow (L 7) sz) f post r) (ktX D (kA ow (L 7) sz) sz r) mc ms (kA ow (L 7) sz)
section
variable {p : Program} {l : Launch} {e : Env} {R : Room} {s : State} {m : MethodId} {args : Array Value} {below : List Frame} {meth : Method} {c : Code} {H H0 : Heap} {locs : List Loc} {cells slots mc ms : Nat} {Q : State → Prop} {pc : Nat} {ls : Array Slot} {rest st0 : List Value} {own : String} {cc : ByteArray} {nL : Nat} {ret : Option FieldType} {D : va_G} {ca : Nat → ClassId} {zb N L : Nat → Nat} {G : mMS} {index : Nat} {ow0 : Nat → Nat × Nat} {A0 A1 free : Nat → Prop}
theorem k_blind {av : List Value} {ow : Nat → Nat × Nat} {sz : Nat} : FrameBlind (va_Pc av (kPre D ca zb ow sz N L G)) := fun a U g mk q => by
  obtain ⟨q0, q1, qP, qK, qB⟩ := q
  exact ⟨q0, q1, qP, KK.same (u := U) (U := U.calling g mk a) rfl rfl qK, qB⟩
theorem kA_sub {ow ow0 : Nat → Nat × Nat} {a z z0 : Nat} (h : ∀ q, q < z0 → ow q = ow0 q) (hz : z0 ≤ z) : ∀ q, kA ow a z q → kA ow0 a z0 q := by
  intro q hq
  rcases hq with hq | hq
  · by_cases h2 : q < z0
    · left; rw [← h q h2]; exact hq
    · right; omega
  · right; omega
theorem kw_start {y : MethodName} {n : Nat} {av : List Value} {ow : Nat → Nat × Nat} {sz : Nat} {G' : mMS} {ov : Option Value} (hy : plainName y.cls = true) (hc : y.cls = own) (hn : (lg_sl av).length ≤ nL)
    (body : ∀ p e s m below meth c, KX p s m av.toArray meth c own cc nL ret D ca → ∀ ls, lv_has ls nL (lv_args 0 av) → s.heap.size = sz → kI D ca zb ow N L G s s.heap [] → W p l e { frames := n, cells := mc, slots := ms, locals := 40 * n } s m av.toArray below meth c s.heap [] 0 0 (MQ below (fun _ st o t => (o = .returned ov ∧ kPost D ca zb ow s.heap.size N L G' t) ∧ va_F (kA ow (L 7) s.heap.size) st t) av.toArray s mc ms (kA ow (L 7) s.heap.size)) (F0 m 0 ls [])) : KwI l D ca zb ow sz y cc nL ret n mc ms av N L G G' ov := by
  refine Met.ofW (cc := cc) (maxL := nL) (ret := ret) hy rfl ?_
  intro p e s m args below meth c s₁ B hml hv
  obtain ⟨rfl, hz, hP, hK, hB⟩ := hv
  have hts := atoms_spec (ws := ws_ y cc nL ret) B.pre
  have hts : ∀ w ∈ lw_all, w.before _ s = true := fun w h => hts w (List.mem_cons_of_mem _ h)
  have hown : s.vm.findClass own = some m.cls := by rw [← hc]; exact findClass_of_methodNamed B.named
  have hl := lv_entry av (n := nL) hn
  rw [lg_entry_eq]
  subst hz
  obtain ⟨L1, h1, h2⟩ := hP
  exact body p e s m below meth c ⟨⟨B.exec, B.bytes, hml, hown, hts⟩, B.returns, B.notSynchronized, hK.1, hK.2.1⟩ _ hl rfl ⟨⟨ow, L1, h1, h2, fun _ _ => rfl⟩, va_S.rf, hK.2.2, hB⟩
theorem kt_start {y : MethodName} {n : Nat} {av : List Value} {ow : Nat → Nat × Nat} {sz : Nat} {f : Int32 → Option Value} {post : Int32 → mMS → State → Prop} {r : KO} (hy : plainName y.cls = true) (hc : y.cls = own) (hn : (lg_sl av).length ≤ nL)
    (body : ∀ p e s m below meth c, KX p s m av.toArray meth c own cc nL ret D ca → (∀ x ∈ c.exceptionTable.toList, False) → ∀ ls, lv_has ls nL (lv_args 0 av) → s.heap.size = sz → kI D ca zb ow N L G s s.heap [] → W p l e { frames := n, cells := mc, slots := ms, locals := 40 * n } s m av.toArray below meth c s.heap [] 0 0 (vx_MQ below (ktQ (kA ow (L 7) s.heap.size) f post r) (ktX D (kA ow (L 7) s.heap.size) s.heap.size r) av.toArray s mc ms (kA ow (L 7) s.heap.size)) (F0 m 0 ls [])) : KtI l D ca zb ow sz y cc nL ret n mc ms av N L G f post r := by
  refine vx_ofW (cc := cc) (maxL := nL) (ret := ret) hy rfl ?_
  intro p e s m args below meth c s₁ B hml htab hv
  obtain ⟨rfl, hz, hP, hK, hB⟩ := hv
  have hts := atoms_spec (ws := ws_ y cc nL ret) B.pre
  have hts : ∀ w ∈ lw_all, w.before _ s = true := fun w h => hts w (List.mem_cons_of_mem _ h)
  have hown : s.vm.findClass own = some m.cls := by rw [← hc]; exact findClass_of_methodNamed B.named
  have hl := lv_entry av (n := nL) hn
  rw [lg_entry_eq]
  subst hz
  obtain ⟨L1, h1, h2⟩ := hP
  exact body p e s m below meth c ⟨⟨B.exec, B.bytes, hml, hown, hts⟩, B.returns, B.notSynchronized, hK.1, hK.2.1⟩ htab _ hl rfl ⟨⟨ow, L1, h1, h2, fun _ _ => rfl⟩, va_S.rf, hK.2.2, hB⟩
theorem kI.post {t : State} (hM : kI D ca zb ow0 N L G s H locs) (ht : t.heap = H) : kPost D ca zb ow0 s.heap.size N L G t ∧ va_F (kA ow0 (L 7) s.heap.size) s t := by
  obtain ⟨⟨ow, L', h1, h2, h3⟩, hS, -⟩ := hM
  exact ⟨⟨ow, L', h3, h1, by rw [ht]; exact h2⟩, hS.F ht⟩
theorem kw_iret (X : KX p s m args meth c own cc nL (some .int) D ca) (hM : kI D ca zb ow0 N L G s H locs) {v : Int32} (hcc : cells ≤ mc) (hcs : slots ≤ ms) (hd : decode cc pc = .ok (.ireturn, 1)) : W p l e R s m args below meth c H locs cells slots (MQ below (fun _ st o t => (o = .returned (some (.int v)) ∧ kPost D ca zb ow0 s.heap.size N L G t) ∧ va_F (kA ow0 (L 7) s.heap.size) st t) args s mc ms (kA ow0 (L 7) s.heap.size)) (F0 m pc ls [.int v]) := by
  obtain ⟨⟨hx, hb, hml, hown, hts⟩, hrt, hlk, -⟩ := X
  refine W.widen (k := mc) (n := ms) hcc hcs ?_
  exact W.iret (v := v) hx hb hrt (fun t ht hW => ⟨⟨rfl, (hM.post ht).1⟩, (hM.post ht).2⟩) hM.2.1.2.2 hd
theorem kw_vret (X : KX p s m args meth c own cc nL none D ca) (hM : kI D ca zb ow0 N L G s H locs) (hcc : cells ≤ mc) (hcs : slots ≤ ms) (hd : decode cc pc = .ok (.return_, 1)) : W p l e R s m args below meth c H locs cells slots (MQ below (fun _ st o t => (o = .returned none ∧ kPost D ca zb ow0 s.heap.size N L G t) ∧ va_F (kA ow0 (L 7) s.heap.size) st t) args s mc ms (kA ow0 (L 7) s.heap.size)) (F0 m pc ls []) := by
  obtain ⟨⟨hx, hb, hml, hown, hts⟩, hrt, hlk, -⟩ := X
  refine W.widen (k := mc) (n := ms) hcc hcs ?_
  exact W.vret hx hb hrt (fun t ht hW => ⟨⟨rfl, (hM.post ht).1⟩, (hM.post ht).2⟩) hM.2.1.2.2 hd
theorem kt_iret (X : KX p s m args meth c own cc nL (some .int) D ca) (hM : kI D ca zb ow0 N L G s H locs) {v : Int32} (hcc : cells ≤ mc) (hcs : slots ≤ ms) (hd : decode cc pc = .ok (.ireturn, 1)) : W p l e R s m args below meth c H locs cells slots (vx_MQ below (ktQ (kA ow0 (L 7) s.heap.size) (fun v => some (.int v)) (fun _ G' => kPost D ca zb ow0 s.heap.size N L G') (.inl (v, G))) (ktX D (kA ow0 (L 7) s.heap.size) s.heap.size (.inl (v, G))) args s mc ms (kA ow0 (L 7) s.heap.size)) (F0 m pc ls [.int v]) := by
  obtain ⟨⟨hx, hb, hml, hown, hts⟩, hrt, hlk, -⟩ := X
  refine W.widen (k := mc) (n := ms) hcc hcs ?_
  exact vx_ret (W.iret (v := v) hx hb hrt (fun t ht hW => ⟨⟨(v, G), rfl, rfl, (hM.post ht).1⟩, (hM.post ht).2⟩) hM.2.1.2.2 hd)
theorem kt_aret {C : String} (X : KX p s m args meth c own cc nL (some (.object C)) D ca) (hM : kI D ca zb ow0 N L G s H locs) {v : Int32} (hcc : cells ≤ mc) (hcs : slots ≤ ms) (hd : decode cc pc = .ok (.areturn, 1)) : W p l e R s m args below meth c H locs cells slots (vx_MQ below (ktQ (kA ow0 (L 7) s.heap.size) (fun v => some (.ref (L (iC v)))) (fun _ G' => kPost D ca zb ow0 s.heap.size N L G') (.inl (v, G))) (ktX D (kA ow0 (L 7) s.heap.size) s.heap.size (.inl (v, G))) args s mc ms (kA ow0 (L 7) s.heap.size)) (F0 m pc ls [.ref (L (iC v))]) := by
  obtain ⟨⟨hx, hb, hml, hown, hts⟩, hrt, hlk, -⟩ := X
  refine W.widen (k := mc) (n := ms) hcc hcs ?_
  exact vx_ret (W.aret (v := .ref (L (iC v))) hx hb hrt (Or.inl ⟨_, rfl⟩) (Or.inr ⟨_, rfl⟩) (fun t ht hW => ⟨⟨(v, G), rfl, rfl, (hM.post ht).1⟩, (hM.post ht).2⟩) hM.2.1.2.2 hd)
/-- a refusal goes on to the caller -/
theorem kt_out {f : Int32 → Option Value} {post : Int32 → mMS → State → Prop} {a b : Int32} {q : Nat} (X : KX p s m args meth c own cc nL ret D ca) (htab : ∀ x ∈ c.exceptionTable.toList, False) (hP : va_P D vwCl [(q, .inr (13, rfFs a b))] H) (hq : s.heap.size ≤ q) (hS : va_S (kA ow0 (L 7) s.heap.size) s.heap H locs) (hcc : cells ≤ mc) (hcs : slots ≤ ms) : vx_W p l e R s m args below meth c H locs cells slots (vx_MQ below (ktQ (kA ow0 (L 7) s.heap.size) f post (.inr (a, b))) (ktX D (kA ow0 (L 7) s.heap.size) s.heap.size (.inr (a, b))) args s mc ms (kA ow0 (L 7) s.heap.size)) (F0 m pc ls rest) q := by
  obtain ⟨cell, h1, h2, h3⟩ := va_recv (D := D) X.2.2.2.1 hP (ci := 13) (q0 := 0) rfl rfl
  obtain ⟨r, hr, cell', g1, g2, g3, g4⟩ := hP 0 _ rfl
  cases h1.symm.trans g1
  exact vx_out (E := RfE) (fun x hx => (htab x hx).elim) X.2.2.1 h1 g3 h3 (fun t ht hA => ⟨⟨a, b, rfl, rfl, hq, by rw [ht]; exact hP⟩, hS.F ht⟩) hS.2.2 hcc hcs
/-- behind a call that returns or throws -/
theorem q_callX {ι : Type} {ov : ι → Option Value} {Bq : ι → State → Prop} {BX : String → Nat → State → Prop} (hr : vx_Run p l e R s m args below meth c H locs cells slots mc ms (F0 m pc ls st0) rest (fun st o t => (∃ x : ι, o = .returned (ov x) ∧ Bq x t) ∧ va_F A1 st t) (fun E q st t => BX E q t ∧ va_F A1 st t) free) (hS : va_S A0 H0 H locs) (hA : ∀ q, q < H.size → A1 q → A0 q) (hf : ∀ q, free q → A0 q)
    (kx : ∀ (E : String) (q9 : Nat) (t : State) (H1 : Heap) (locs1 : List Loc), t.heap = H1 → s.vm.Alike t.vm → BX E q9 t → H.size ≤ H1.size → (∀ q : Nat, q < H.size → ¬ A1 q → H1[q]? = H[q]?) → va_S A0 H0 H1 locs1 → vx_W p l e R s m args below meth c H1 locs1 (cells + mc) (slots + ms) Q (F0 m pc ls rest) q9)
    (kk : ∀ (x : ι) (t : State) (H1 : Heap) (locs1 : List Loc), t.heap = H1 → s.vm.Alike t.vm → Bq x t → H.size ≤ H1.size → (∀ q : Nat, q < H.size → ¬ A1 q → H1[q]? = H[q]?) → va_S A0 H0 H1 locs1 → W p l e R s m args below meth c H1 locs1 (cells + mc) (slots + ms) Q (F0 m (pc + 3) ls ((ov x).toList ++ rest))) : W p l e R s m args below meth c H locs cells slots Q (F0 m pc ls st0) := by
  intro T hT X
  rcases hr T hT X with ⟨v, st₀, t, T', L, h0, X', hL, e1, e2, ⟨⟨x, hv, hb⟩, hF⟩, st⟩ | ⟨q, st₀, t, T', L, E, ce, h0, X', hL, e1, e2, ⟨hb, hF⟩, hce, hcv, hcl, st⟩
  · cases hv
    obtain ⟨k1, k2, k3⟩ := vx_keep h0 e1 hS hA hf hL hF
    obtain ⟨t2, a1, b1⟩ := kk x t T'.heap (locs ++ L) e1.symm (by rw [← e2]; exact X'.warmed.alike) hb k1 k2 k3 T' rfl X'
    exact ⟨t2, st t2 a1, b1⟩
  · obtain ⟨k1, k2, k3⟩ := vx_keep h0 e1 hS hA hf hL hF
    obtain ⟨t2, a1, b1⟩ := kx E q t T'.heap (locs ++ L) e1.symm (by rw [← e2]; exact X'.warmed.alike) hb k1 k2 k3 T' rfl X'
    exact ⟨t2, st.trans a1, b1⟩
/-- the world behind a call that has kept its contract -/
theorem kI.next {ow : Nat → Nat × Nat} {L' : Nat → Nat} {G1 : mMS} {H1 : Heap} {locs1 : List Loc} {t : State} {N1 L2 : Nat → Nat} (hM : kI D ca zb ow0 N L G s H locs) (ho : ∀ q, q < s.heap.size → ow q = ow0 q) (hB : kPost D ca zb ow H.size N1 L2 G1 t) (ht : t.heap = H1) (hz : H.size ≤ H1.size) (hk : ∀ q : Nat, q < H.size → ¬ kA ow (L 7) H.size q → H1[q]? = H[q]?) (hS : va_S (kA ow0 (L 7) s.heap.size) s.heap H1 locs1) (h7 : L2 7 = L 7) : kI D ca zb ow0 N1 L2 G1 s H1 locs1 := by
  obtain ⟨-, hS0, hF, hb⟩ := hM
  obtain ⟨ow', L1, h1, h2, h3⟩ := hB
  refine ⟨⟨ow', L1, h2, by rw [← ht]; exact h3, fun q hq => by rw [h1 q (by have := hS0.1; omega)]; exact ho q hq⟩, by rw [h7]; exact hS, hF.kept (fun a ha h9 => hk a ha fun z => h9 (hb a (kA_sub ho hS0.1 a z))), by rw [h7]; exact hb⟩
theorem kI.pre {ow : Nat → Nat × Nat} {L' : Nat → Nat} (X : KX p s m args meth c own cc nL ret D ca) (hM : kI D ca zb ow0 N L G s H locs) (hL : ∀ i, kst i → L' i = L i) (hC : CW D ca zb ow N L' G H) (ho : ∀ q, q < s.heap.size → ow q = ow0 q) {U : State} (hU : U.heap = H) (hW : s.WarmedH U.vm) : kPre D ca zb ow H.size N L G U :=
  ⟨by rw [hU], ⟨L', hL, by rw [hU]; exact hC⟩, X.kk hM.r hU hW, fun q hq => hM.2.2.2 q (kA_sub ho hM.2.1.1 q hq)⟩
end
/-- a refusal made here: the method throws for sure -/
def vxX (D : va_G) (A : Nat → Prop) (sz : Nat) (a b : Int32) : String → Nat → State → State → Prop := fun E q st t => (E = RfE ∧ sz ≤ q ∧ va_P D vwCl [(q, .inr (13, rfFs a b))] t.heap) ∧ va_F A st t
def VxI (l : Launch) (D : va_G) (ca : Nat → ClassId) (zb : Nat → Nat) (y : MethodName) (cc : ByteArray) (nL : Nat) (ret : Option FieldType) (n mc ms : Nat) (av : List Value) (sz : Nat) (a b : Int32) : Prop :=
  vx_Met l y (ws_ y cc nL ret) { frames := n, cells := mc, slots := ms, locals := 40 * n } (va_Pc av (fun U => U.heap.size = sz ∧ KK D ca zb U ∧ zb 1 ≤ sz)) (fun _ _ _ _ => False) (vxX D (fun q => sz ≤ q) sz a b) mc ms (fun q => sz ≤ q)
section
variable {p : Program} {l : Launch} {e : Env} {R : Room} {s : State} {m : MethodId} {args : Array Value} {below : List Frame} {meth : Method} {c : Code} {H H0 : Heap} {locs : List Loc} {cells slots mc ms : Nat} {Q : State → Prop} {pc : Nat} {ls : Array Slot} {rest st0 : List Value} {own : String} {cc : ByteArray} {nL : Nat} {ret : Option FieldType} {D : va_G} {ca : Nat → ClassId} {zb N L : Nat → Nat} {G : mMS} {index : Nat} {ow0 : Nat → Nat × Nat} {A0 A1 free : Nat → Prop}
theorem vxx_blind {av : List Value} {sz : Nat} : FrameBlind (va_Pc av (fun U => U.heap.size = sz ∧ KK D ca zb U ∧ zb 1 ≤ sz)) := fun a U g mk q => by
  obtain ⟨q0, q1, qK, qB⟩ := q
  exact ⟨q0, q1, KK.same (u := U) (U := U.calling g mk a) rfl rfl qK, qB⟩
theorem vxx_start {y : MethodName} {n : Nat} {av : List Value} {sz : Nat} {a b : Int32} (hy : plainName y.cls = true) (hc : y.cls = own) (hn : (lg_sl av).length ≤ nL)
    (body : ∀ p e s m below meth c, CallFix p m c cc nL s av.toArray lw_all own → meth.locks = false → (∀ x ∈ c.exceptionTable.toList, False) → KK D ca zb s → zb 1 ≤ s.heap.size → ∀ ls, lv_has ls nL (lv_args 0 av) → W p l e { frames := n, cells := mc, slots := ms, locals := 40 * n } s m av.toArray below meth c s.heap [] 0 0 (vx_MQ below (fun _ _ _ _ => False) (vxX D (fun q => s.heap.size ≤ q) s.heap.size a b) av.toArray s mc ms (fun q => s.heap.size ≤ q)) (F0 m 0 ls [])) : VxI l D ca zb y cc nL ret n mc ms av sz a b := by
  refine vx_ofW (cc := cc) (maxL := nL) (ret := ret) hy rfl ?_
  intro p e s m args below meth c s₁ B hml htab hv
  obtain ⟨rfl, hz, hK, hB⟩ := hv
  have hts := atoms_spec (ws := ws_ y cc nL ret) B.pre
  have hts : ∀ w ∈ lw_all, w.before _ s = true := fun w h => hts w (List.mem_cons_of_mem _ h)
  have hown : s.vm.findClass own = some m.cls := by rw [← hc]; exact findClass_of_methodNamed B.named
  have hl := lv_entry av (n := nL) hn
  rw [lg_entry_eq]
  subst hz
  exact body p e s m below meth c ⟨B.exec, B.bytes, hml, hown, hts⟩ B.notSynchronized htab hK hB _ hl
theorem vxx_out {a b : Int32} {q : Nat} (hK : va_K D vwCl (tyl ca) s) (hlk : meth.locks = false) (htab : ∀ x ∈ c.exceptionTable.toList, False) (hP : va_P D vwCl [(q, .inr (13, rfFs a b))] H) (hq : s.heap.size ≤ q) {A : Nat → Prop} (hS : va_S A s.heap H locs) (hcc : cells ≤ mc) (hcs : slots ≤ ms) : vx_W p l e R s m args below meth c H locs cells slots (vx_MQ below (fun _ _ _ _ => False) (vxX D A s.heap.size a b) args s mc ms A) (F0 m pc ls rest) q := by
  obtain ⟨cell, h1, h2, h3⟩ := va_recv (D := D) hK hP (ci := 13) (q0 := 0) rfl rfl
  obtain ⟨r, hr, cell', g1, g2, g3, g4⟩ := hP 0 _ rfl
  cases h1.symm.trans g1
  exact vx_out (E := RfE) (fun x hx => (htab x hx).elim) hlk h1 g3 h3 (fun t ht hA => ⟨⟨rfl, hq, by rw [ht]; exact hP⟩, hS.F ht⟩) hS.2.2 hcc hcs
/-- behind a call that throws for sure -/
theorem q_callT {BX : String → Nat → State → Prop} (hr : vx_Run p l e R s m args below meth c H locs cells slots mc ms (F0 m pc ls st0) rest (fun _ _ _ => False) (fun E q st t => BX E q t ∧ va_F A1 st t) free) (hS : va_S A0 H0 H locs) (hA : ∀ q, q < H.size → A1 q → A0 q) (hf : ∀ q, free q → A0 q)
    (kx : ∀ (E : String) (q9 : Nat) (t : State) (H1 : Heap) (locs1 : List Loc), t.heap = H1 → s.vm.Alike t.vm → BX E q9 t → H.size ≤ H1.size → (∀ q : Nat, q < H.size → ¬ A1 q → H1[q]? = H[q]?) → va_S A0 H0 H1 locs1 → vx_W p l e R s m args below meth c H1 locs1 (cells + mc) (slots + ms) Q (F0 m pc ls rest) q9) : W p l e R s m args below meth c H locs cells slots Q (F0 m pc ls st0) := by
  intro T hT X
  rcases hr T hT X with ⟨v, st₀, t, T', L, h0, X', hL, e1, e2, hF, st⟩ | ⟨q, st₀, t, T', L, E, ce, h0, X', hL, e1, e2, ⟨hb, hF⟩, hce, hcv, hcl, st⟩
  · exact hF.elim
  · obtain ⟨k1, k2, k3⟩ := vx_keep h0 e1 hS hA hf hL hF
    obtain ⟨t2, a1, b1⟩ := kx E q t T'.heap (locs ++ L) e1.symm (by rw [← e2]; exact X'.warmed.alike) hb k1 k2 k3 T' rfl X'
    exact ⟨t2, st.trans a1, b1⟩
end
