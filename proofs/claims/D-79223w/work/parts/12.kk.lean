/-! words that don't ride in the lists, and what every walk on the keeper's side takes along -/
def nwk (w : Cond) : Bool := match w with
  | .fieldLinkNest .. => true
  | .methodLinkNest .. => true
  | .castable .. => true
  | .declares _ => true
  | .publicMethod _ => true
  | .unhidden .. => true
  | _ => false
theorem nw_warm {w : Cond} (hk : nwk w = true) {s U : State} (hW : s.WarmedH U.vm) (h : va_Nw w s) : va_Nw w U := by
  cases w with
  | fieldLinkNest a i b n d h9 => exact va_Nw.warmF hW h
  | methodLinkNest a i x h9 => exact va_Nw.warmM hW h
  | castable a b => exact va_Nw.warmC hW h
  | declares x => exact va_Nw.warmD hW h
  | publicMethod x => exact va_tabs rfl (rfl : (s.setVm U.vm).vm = U.vm) (by rw [Cond.publicMethod_setVm hW.alike]; exact h)
  | unhidden a b d => exact va_tabs rfl (rfl : (s.setVm U.vm).vm = U.vm) (by rw [Cond.unhidden_setVm hW.alike]; exact h)
  | _ => cases hk
theorem nw_same {w : Cond} (hk : nwk w = true) {u U : State} (hv : u.vm = U.vm) (h : va_Nw w u) : va_Nw w U := by
  cases w with
  | fieldLinkNest a i b n d h9 => exact va_Nw.same rfl hv h
  | methodLinkNest a i x h9 => exact va_Nw.same rfl hv h
  | castable a b => exact va_Nw.same rfl hv h
  | declares x => exact va_Nw.same rfl hv h
  | publicMethod x => exact va_Nw.same rfl hv h
  | unhidden a b d => exact va_Nw.same rfl hv h
  | _ => cases hk
/-- a call through an interface, for the pairs of the claim -/
abbrev xWith : MethodName := ⟨"IncidentKeeper$Work", "with", "(LIncidentKeeper$Core;)I"⟩
abbrev xHas : MethodName := ⟨"java/util/Iterator", "hasNext", "()Z"⟩
abbrev xNext : MethodName := ⟨"java/util/Iterator", "next", "()Ljava/lang/Object;"⟩
abbrev xFirst : MethodName := ⟨"IncidentKeeper$Timed", "first", "()I"⟩
def NWs (U : State) : Prop := (∀ w ∈ lw_tbl, nwk w = true → va_Nw w U) ∧ va_AO "java/lang/Object" U ∧
  (va_Fw "IncidentKeeper$1" xWith ⟨"IncidentKeeper$1", "with", "(LIncidentKeeper$Core;)I"⟩ U ∧ va_Fw "IncidentKeeper$Call" xWith ⟨"IncidentKeeper$Call", "with", "(LIncidentKeeper$Core;)I"⟩ U ∧ va_Fw "IncidentKeeper$Reader" xWith ⟨"IncidentKeeper$Reader", "with", "(LIncidentKeeper$Core;)I"⟩ U) ∧
  (va_Fw "IncidentKeeper$Core$Descendants$1" xHas ⟨"IncidentKeeper$Core$Descendants$1", "hasNext", "()Z"⟩ U ∧ va_Fw "IncidentKeeper$Core$Descendants$1" xNext ⟨"IncidentKeeper$Core$Descendants$1", "next", "()Ljava/lang/Object;"⟩ U) ∧
  (va_Fw "IncidentKeeper$Change" xFirst ⟨"IncidentKeeper$Entry", "first", "()I"⟩ U)
theorem NWs.warm {s U : State} (hW : s.WarmedH U.vm) (h : NWs s) : NWs U := by
  obtain ⟨h1, h2, ⟨a1, a2, a3⟩, ⟨b1, b2⟩, c1⟩ := h
  exact ⟨fun w hw hk => nw_warm hk hW (h1 w hw hk), va_AO.moved hW.alike h2, ⟨va_Fw.moved (by decide) hW.alike a1, va_Fw.moved (by decide) hW.alike a2, va_Fw.moved (by decide) hW.alike a3⟩, ⟨va_Fw.moved (by decide) hW.alike b1, va_Fw.moved (by decide) hW.alike b2⟩, va_Fw.moved (by decide) hW.alike c1⟩
theorem NWs.same {u U : State} (hv : u.vm = U.vm) (h : NWs u) : NWs U := by
  obtain ⟨h1, h2, ⟨a1, a2, a3⟩, ⟨b1, b2⟩, c1⟩ := h
  have hA : u.vm.Alike U.vm := by rw [hv]; exact Vm.Alike.refl _
  exact ⟨fun w hw hk => nw_same hk hv (h1 w hw hk), va_AO.moved hA h2, ⟨va_Fw.moved (by decide) hA a1, va_Fw.moved (by decide) hA a2, va_Fw.moved (by decide) hA a3⟩, ⟨va_Fw.moved (by decide) hA b1, va_Fw.moved (by decide) hA b2⟩, va_Fw.moved (by decide) hA c1⟩
/-- facts of cells that stand below zb 1: ArrayList's empty array (zb 0), Throwable's two statics, the three texts (zb 10.., their bytes zb 20..) -/
def skB (zb : Nat → Nat) : Nat → Prop := fun q => zb 1 ≤ q
def sLen : List Nat := [4, 4, 9]
def sByt : List (List Int32) := [[111, 115, 82, 67], [79, 83, 82, 67], [110, 104, 115, 103, 118, 114, 111, 99, 116]]
def SF (zb : Nat → Nat) (U : State) (H : Heap) : Prop :=
  va_Z "java/util/ArrayList" "DEFAULTCAPACITY_EMPTY_ELEMENTDATA" "[Ljava/lang/Object;" (.ref (zb 0)) (skB zb) U H ∧ va_T (.object "java/lang/Object") (zb 0) 0 (fun _ => .null) (skB zb) U H ∧
  vx_Zq Bundle.tN "UNASSIGNED_STACK" Bundle.steD (skB zb) U H ∧ vx_Zq Bundle.tN "SUPPRESSED_SENTINEL" Bundle.listD (skB zb) U H ∧
  vk_S 3 sLen sByt (fun i => zb (10 + i)) (fun i => zb (20 + i)) (skB zb) U H ∧ va_Z "java/lang/String" "COMPACT_STRINGS" "Z" (.int 1) (skB zb) U H ∧
  vk_R "IncidentKeeper" 340 "osRC" (zb 10) U ∧ vk_R "IncidentKeeper" 342 "OSRC" (zb 11) U ∧ vk_R "IncidentKeeper$Reader" 67 "nhsgvroct" (zb 12) U ∧ va_Mi "[Ljava/lang/Object;" (zb 2) U
theorem SF.kept {zb : Nat → Nat} {U : State} {H H1 : Heap} (h : SF zb U H) (hq : ∀ a : Nat, a < H.size → ¬ skB zb a → H1[a]? = H[a]?) : SF zb U H1 := by
  obtain ⟨h1, h2, h3, h4, h5, h6, h7⟩ := h
  exact ⟨h1.kept hq, h2.kept hq, h3.kept hq, h4.kept hq, h5.kept hq, h6.kept hq, h7⟩
theorem SF.warm {zb : Nat → Nat} {s U : State} {H : Heap} (hW : s.WarmedH U.vm) (h : SF zb s H) : SF zb U H := by
  obtain ⟨h1, h2, h3, h4, h5, h6, h7, h8, h9, h10⟩ := h
  exact ⟨va_Z.moved hW.alike h1, va_T.moved hW.alike h2, vx_Zq.moved hW.alike h3, vx_Zq.moved hW.alike h4, vk_S.moved hW.alike h5, va_Z.moved hW.alike h6, h7.warm hW, h8.warm hW, h9.warm hW, va_Mi.moved hW.alike h10⟩
theorem SF.same {zb : Nat → Nat} {u U : State} {H : Heap} (hv : u.vm = U.vm) (h : SF zb u H) : SF zb U H := by
  obtain ⟨h1, h2, h3, h4, h5, h6, h7, h8, h9, h10⟩ := h
  have hA : u.vm.Alike U.vm := by rw [hv]; exact Vm.Alike.refl _
  exact ⟨va_Z.moved hA h1, va_T.moved hA h2, vx_Zq.moved hA h3, vx_Zq.moved hA h4, vk_S.moved hA h5, va_Z.moved hA h6, h7.same hv.symm, h8.same hv.symm, h9.same hv.symm, va_Mi.moved hA h10⟩
def KK (D : va_G) (ca : Nat → ClassId) (zb : Nat → Nat) (U : State) : Prop := va_K D vwCl (tyl ca) U ∧ NWs U ∧ SF zb U U.heap
theorem KK.go {D : va_G} {ca : Nat → ClassId} {zb : Nat → Nat} {s U : State} {A : Nat → Prop} {H : Heap} {locs : List Loc} (hS : va_S A s.heap H locs) (hA : ∀ q, A q → zb 1 ≤ q) (hU : U.heap = H) (hW : s.WarmedH U.vm) (h : KK D ca zb s) : KK D ca zb U :=
  ⟨va_K.moved hW.alike h.1, h.2.1.warm hW, by rw [hU]; exact (h.2.2.warm hW).kept (fun a h1 h2 => hS.2.1 a h1 (fun z => h2 (hA a z)))⟩
theorem KK.same {D : va_G} {ca : Nat → ClassId} {zb : Nat → Nat} {u U : State} (hv : u.vm = U.vm) (hh : u.heap = U.heap) (h : KK D ca zb u) : KK D ca zb U := ⟨va_K.moved (by rw [hv]; exact Vm.Alike.refl _) h.1, h.2.1.same hv, by rw [← hh]; exact h.2.2.same hv⟩
theorem KK.nw {D : va_G} {ca : Nat → ClassId} {zb : Nat → Nat} {s : State} (h : KK D ca zb s) {w : Cond} (hw : w ∈ lw_tbl) (hk : nwk w = true) : va_Nw w s := h.2.1.1 w hw hk
/-- a contract over listed cells: which are there, which come -/
def VmI (l : Launch) (D : va_G) (ca : Nat → ClassId) (zb : Nat → Nat) (y : MethodName) (cc : ByteArray) (nL : Nat) (ret : Option FieldType) (n mc ms : Nat) (av : List Value) (ws : va_W) (ex : State → Prop) (sz : Nat) {ι : Type} (ov : ι → Option Value) (post : ι → va_W) : Prop :=
  Met l y (ws_ y cc nL ret) { frames := n, cells := mc, slots := ms, locals := 40 * n } (va_Pc av (fun U => U.heap.size = sz ∧ va_P D vwCl ws U.heap ∧ KK D ca zb U ∧ va_D (fun _ => True) ws ∧ (∀ q, va_A ws sz q → zb 1 ≤ q) ∧ ex U))
    (fun _ st o t => (∃ x : ι, o = .returned (ov x) ∧ va_P D vwCl (post x) t.heap ∧ va_D (va_A ws sz) (post x)) ∧ va_F (va_A ws sz) st t) mc ms (va_A ws sz)
section
variable {p : Program} {l : Launch} {e : Env} {R : Room} {s : State} {m : MethodId} {args : Array Value} {below : List Frame} {meth : Method} {c : Code} {H H0 : Heap} {locs : List Loc} {cells slots mc ms : Nat} {Q : State → Prop} {pc : Nat} {ls : Array Slot} {rest st0 : List Value} {A0 A1 : Nat → Prop} {free : Addr → Prop} {cc : ByteArray} {nL : Nat} {ret : Option FieldType} {D : va_G} {ca : Nat → ClassId} {zb : Nat → Nat} {own : String}
/-- behind a call whose answer depends on a choice -/
theorem q_callE {ι : Type} {ov : ι → Option Value} {Bq : ι → State → Prop} (hr : va_Run p l e R s m args below meth c H locs cells slots mc ms (F0 m pc ls st0) rest (fun st o t => (∃ x : ι, o = .returned (ov x) ∧ Bq x t) ∧ va_F A1 st t) free) (hS : va_S A0 H0 H locs) (hA : ∀ q, q < H.size → A1 q → A0 q) (hf : ∀ q, free q → A0 q)
    (kk : ∀ (x : ι) (t : State) (H1 : Heap) (locs1 : List Loc), t.heap = H1 → s.vm.Alike t.vm → Bq x t → H.size ≤ H1.size → (∀ q : Nat, q < H.size → ¬ A1 q → H1[q]? = H[q]?) → va_S A0 H0 H1 locs1 → W p l e R s m args below meth c H1 locs1 (cells + mc) (slots + ms) Q (F0 m (pc + 3) ls ((ov x).toList ++ rest))) : W p l e R s m args below meth c H locs cells slots Q (F0 m pc ls st0) := by
  intro T hT X
  obtain ⟨v, st₀, t, T', L, h0, X', hL, e1, e2, ⟨⟨x, hv, hb⟩, hz, hk⟩, st⟩ := hr T hT X
  cases hv
  rw [h0] at hz hk
  obtain ⟨t2, a1, b1⟩ := kk x t T'.heap (locs ++ L) e1.symm (by rw [← e2]; exact X'.warmed.alike) hb (by rw [e1]; exact hz) (fun q h1 h2 => by rw [e1]; exact hk q h1 h2)
    ⟨Nat.le_trans hS.1 (by rw [e1]; exact hz), fun q h1 h2 => by rw [e1, hk q (Nat.lt_of_lt_of_le h1 hS.1) (fun z => h2 (hA q (Nat.lt_of_lt_of_le h1 hS.1) z))]; exact hS.2.1 q h1 h2, fun q hq => by
      rcases List.mem_append.mp hq with h | h
      · exact hS.2.2 q h
      · exact hf _ (hL q h)⟩ T' rfl X'
  exact ⟨t2, st t2 a1, b1⟩
theorem v_blind {av : List Value} {ws : va_W} {ex : State → Prop} {sz : Nat} (hex : ∀ (U : State) (g : JFrame) (mk : MethodId) (a : Array Value), ex U → ex (U.calling g mk a)) : FrameBlind (va_Pc av (fun U => U.heap.size = sz ∧ va_P D vwCl ws U.heap ∧ KK D ca zb U ∧ va_D (fun _ => True) ws ∧ (∀ q, va_A ws sz q → zb 1 ≤ q) ∧ ex U)) := fun a U g mk q => by
  obtain ⟨q0, q1, qP, qK, qD, qB, qE⟩ := q
  exact ⟨q0, q1, qP, KK.same (u := U) (U := U.calling g mk a) rfl rfl qK, qD, qB, hex _ _ _ _ qE⟩
theorem v_start {y : MethodName} {n : Nat} {av : List Value} {ws : va_W} {ex : State → Prop} {sz : Nat} {ι : Type} {ov : ι → Option Value} {post : ι → va_W} (hy : plainName y.cls = true) (hc : y.cls = own) (hn : (lg_sl av).length ≤ nL)
    (body : ∀ p e s m below meth c (A : Nat → Prop), CallFix p m c cc nL s av.toArray lw_all own → meth.sig.returnType = ret → meth.locks = false → meth.name = y.name → KK D ca zb s → (∀ q, A q → zb 1 ≤ q) → ex s → s.heap.size = sz → A = va_A ws sz → ∀ ls, lv_has ls nL (lv_args 0 av) → va_P D vwCl ws s.heap → va_D A ws → va_S A s.heap s.heap [] → (∀ q : Nat, s.heap.size ≤ q → A q) → W p l e { frames := n, cells := mc, slots := ms, locals := 40 * n } s m av.toArray below meth c s.heap [] 0 0 (MQ below (fun _ st o t => (∃ x : ι, o = .returned (ov x) ∧ va_P D vwCl (post x) t.heap ∧ va_D A (post x)) ∧ va_F A st t) av.toArray s mc ms A) (F0 m 0 ls [])) : VmI l D ca zb y cc nL ret n mc ms av ws ex sz ov post := by
  refine Met.ofW (cc := cc) (maxL := nL) (ret := ret) hy rfl ?_
  intro p e s m args below meth c s₁ B hml hv
  obtain ⟨rfl, hz, hP, hK, hD, hB0, hE⟩ := hv
  have hts := atoms_spec (ws := ws_ y cc nL ret) B.pre
  have hts : ∀ w ∈ lw_all, w.before _ s = true := fun w h => hts w (List.mem_cons_of_mem _ h)
  have hown : s.vm.findClass own = some m.cls := by rw [← hc]; exact findClass_of_methodNamed B.named
  have hl := lv_entry av (n := nL) hn
  rw [lg_entry_eq]
  exact body p e s m below meth c _ ⟨B.exec, B.bytes, hml, hown, hts⟩ B.returns B.notSynchronized (name_of_methodNamed B.named B.method).1 hK hB0 hE hz rfl _ hl hP hD.self va_S.rf (fun q h => Or.inr (by rw [← hz]; exact h))
end
theorem arr_prim {D : va_G} {ca : Nat → ClassId} {s : State} {cA : ClassId} {ty : FieldType} (k : Nat) {c0 : ClassId} (ht : (tyl ca)[k]? = some (c0, ty)) (hne : ∀ C, ty ≠ .object C) (h : va_K D vwCl (tyl ca ++ [(cA, ty)]) s) : c0 = cA := by
  have hl : k < (tyl ca).length := (List.getElem?_eq_some_iff.mp ht).1
  have h1 := (h.2 k (c0, ty) (by rw [List.getElem?_append_left hl]; exact ht)).2
  have h2 := (h.2 5 (cA, ty) rfl).2
  cases ty with
  | object C => exact absurd rfl (hne C)
  | _ => exact Option.some.inj (h1.symm.trans h2)
theorem arr_eq0 {D : va_G} {ca : Nat → ClassId} {s : State} {cA : ClassId} (h : va_K D vwCl (tyl ca ++ [(cA, .int)]) s) : ca 0 = cA := arr_prim 0 rfl (fun C z => by cases z) h
theorem arr_eq2 {D : va_G} {ca : Nat → ClassId} {s : State} {cA : ClassId} (h : va_K D vwCl (tyl ca ++ [(cA, .char)]) s) : ca 2 = cA := arr_prim 2 rfl (fun C z => by cases z) h
theorem arr_eq3 {D : va_G} {ca : Nat → ClassId} {s : State} {cA : ClassId} (h : va_K D vwCl (tyl ca ++ [(cA, .long)]) s) : ca 3 = cA := arr_prim 3 rfl (fun C z => by cases z) h
theorem arr_eq4 {D : va_G} {ca : Nat → ClassId} {s : State} {cA : ClassId} (h : va_K D vwCl (tyl ca ++ [(cA, .double)]) s) : ca 4 = cA := arr_prim 4 rfl (fun C z => by cases z) h
theorem arr_eq1 {D : va_G} {ca : Nat → ClassId} {s : State} {cA : ClassId} (h : va_K D vwCl (tyl ca ++ [(cA, .object "java/lang/Object")]) s) : ca 1 = cA := by
  have h1 := (h.2 1 (ca 1, .object "java/lang/Object") rfl).2
  have h2 := (h.2 5 (cA, .object "java/lang/Object") rfl).2
  obtain ⟨_, _, _, _, _, e1⟩ := h1
  obtain ⟨_, _, _, _, _, e2⟩ := h2
  exact Option.some.inj (e1.symm.trans e2)
theorem any_go {E : String} {s U : State} {x : Nat} {A : Nat → Prop} {H : Heap} {locs : List Loc} (h : va_Any E s s.heap x) (hx : ¬ A x) (hS : va_S A s.heap H locs) (hU : U.heap = H) (hW : s.WarmedH U.vm) : va_Any E U U.heap x := by
  obtain ⟨ce, h1, h2, ⟨k, h3⟩, h4⟩ := h
  have hl : x < s.heap.size := (Array.getElem?_eq_some_iff.mp h1).1
  obtain ⟨k', hk', -⟩ := hW.alike.2.2 _ _ h3
  exact ⟨ce, by rw [hU, hS.2.1 x hl hx]; exact h1, h2, ⟨k', hk'⟩, fun comp hc => by rw [hW.alike.assignable]; exact h4 comp (by rw [← hW.alike.findClass]; exact hc)⟩
theorem any_at {E : String} {s : State} {x : Nat} {A : Nat → Prop} {H : Heap} {locs : List Loc} (h : va_Any E s s.heap x) (hx : ¬ A x) (hS : va_S A s.heap H locs) : va_Any E s H x := by
  obtain ⟨ce, h1, h2, h3, h4⟩ := h
  have hl : x < s.heap.size := (Array.getElem?_eq_some_iff.mp h1).1
  exact ⟨ce, by rw [hS.2.1 x hl hx]; exact h1, h2, h3, h4⟩
theorem grow_sh {n : Nat} (h : n < 2 ^ 31) : nI n >>> ((1 : Int32) &&& 31) = nI (n / 2) := pk_shrN h _ 1 (by decide)
theorem grow_eq {n : Nat} (h1 : 2 ≤ n) (h2 : n ≤ 80000000) : nI n + (if nI (n + 1) - nI n < nI n >>> ((1 : Int32) &&& 31) then nI n >>> ((1 : Int32) &&& 31) else nI (n + 1) - nI n) = nI (n + n / 2) := by
  rw [grow_sh (by omega), pk_sub (by omega), Nat.add_sub_cancel_left]
  by_cases h : 1 < n / 2
  · rw [if_pos (nI_lt h (by omega)), nI_add]
  · have e : n / 2 = 1 := by omega
    rw [e, if_neg (nI_nlt (Nat.le_refl 1) (by omega)), nI_add]
theorem grow_max {n : Nat} (h2 : n ≤ 80000000) : ¬ (2147483639 : Int32) < nI (n + n / 2) := by
  have : (2147483639 : Int32) = nI 2147483639 := rfl
  rw [this]
  exact nI_nlt (by omega) (by omega)
theorem zq_any {C n d : String} {A : Nat → Prop} {U : State} {H : Heap} (h : va_Zq C n d A U H) : ∃ r : Option Nat, va_Z C n d (va_rf r) A U H := by
  rcases h with h | ⟨t, h⟩
  · exact ⟨none, h⟩
  · exact ⟨some t, h⟩
theorem KK.ro {D : va_G} {ca : Nat → ClassId} {zb : Nat → Nat} {s U : State} (hU : U.heap = s.heap) (hW : s.WarmedH U.vm) (h : KK D ca zb s) : KK D ca zb U := ⟨va_K.moved hW.alike h.1, h.2.1.warm hW, by rw [hU]; exact h.2.2.warm hW⟩
/-- a contract over listed cells of a method that writes nothing -/
def VrI (l : Launch) (D : va_G) (ca : Nat → ClassId) (zb : Nat → Nat) (y : MethodName) (cc : ByteArray) (nL : Nat) (ret : Option FieldType) (n : Nat) (av : List Value) (ws : va_W) (ov : Option Value) : Prop :=
  Met l y (ws_ y cc nL ret) { frames := n, cells := 0, slots := 0, locals := 40 * n } (va_Pc av (fun U => va_P D vwCl ws U.heap ∧ KK D ca zb U)) (fun _ st o t => o = .returned ov ∧ t.heap = st.heap) 0 0 (fun _ => False)
section
variable {p : Program} {l : Launch} {e : Env} {R : Room} {s : State} {m : MethodId} {args : Array Value} {below : List Frame} {meth : Method} {c : Code} {cc : ByteArray} {nL : Nat} {ret : Option FieldType} {D : va_G} {ca : Nat → ClassId} {zb : Nat → Nat} {own : String}
theorem vr_blind {av : List Value} {ws : va_W} : FrameBlind (va_Pc av (fun U => va_P D vwCl ws U.heap ∧ KK D ca zb U)) := fun a U g mk q => by
  obtain ⟨q0, qP, qK⟩ := q
  exact ⟨q0, qP, KK.same (u := U) (U := U.calling g mk a) rfl rfl qK⟩
theorem vr_start {y : MethodName} {n : Nat} {av : List Value} {ws : va_W} {ov : Option Value} (hy : plainName y.cls = true) (hc : y.cls = own) (hn : (lg_sl av).length ≤ nL)
    (body : ∀ p e s m below meth c, CallFix p m c cc nL s av.toArray lw_all own → meth.sig.returnType = ret → meth.locks = false → KK D ca zb s → ∀ ls, lv_has ls nL (lv_args 0 av) → va_P D vwCl ws s.heap → W p l e { frames := n, cells := 0, slots := 0, locals := 40 * n } s m av.toArray below meth c s.heap [] 0 0 (MQ below (fun _ st o t => o = .returned ov ∧ t.heap = st.heap) av.toArray s 0 0 (fun _ => False)) (F0 m 0 ls [])) : VrI l D ca zb y cc nL ret n av ws ov := by
  refine Met.ofW (cc := cc) (maxL := nL) (ret := ret) hy rfl ?_
  intro p e s m args below meth c s₁ B hml hv
  obtain ⟨rfl, hP, hK⟩ := hv
  have hts := atoms_spec (ws := ws_ y cc nL ret) B.pre
  have hts : ∀ w ∈ lw_all, w.before _ s = true := fun w h => hts w (List.mem_cons_of_mem _ h)
  have hown : s.vm.findClass own = some m.cls := by rw [← hc]; exact findClass_of_methodNamed B.named
  have hl := lv_entry av (n := nL) hn
  rw [lg_entry_eq]
  exact body p e s m below meth c ⟨B.exec, B.bytes, hml, hown, hts⟩ B.returns B.notSynchronized hK _ hl hP
end
