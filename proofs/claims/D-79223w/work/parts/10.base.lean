abbrev vwCl : List vw_C := [(RX1, TX1, 10), (RX2, TX2, 11), (RX6, TX6, 18), (RX3, TX3, 19), (RX12, TX12, 3), (RX9, TX9, 4), (RX7, TX7, 4), (RJ2, TJ2, 3), (RX10, TX10, 2), (RX11, TX11, 2), (RX13, TX13, 4), (RX14, TX14, 3), (RX4, TX4, 3), (RX8, TX8, 8), (RX15, TX15, 7)]
abbrev tyl (ca : Nat → ClassId) : List (ClassId × FieldType) := [(ca 0, .int), (ca 1, .object "java/lang/Object"), (ca 2, .char), (ca 3, .long), (ca 4, .double)]
theorem ob {α β : Type} {o : Option α} {f : α → Option β} {r : β} (h : o.bind f = some r) : ∃ a, o = some a ∧ f a = some r := by
  cases o with
  | none => cases h
  | some a => exact ⟨a, rfl, h⟩
/-- an index in range, or no answer -/
def gd {α : Type} (i : Int32) (n : Nat) (k : Option α) : Option α := if i < 0 ∨ n ≤ i.toNatClampNeg then none else k
theorem gs {α : Type} {i : Int32} {n : Nat} {k : Option α} {r : α} (h : gd i n k = some r) : vp_in i n ∧ k = some r := by
  unfold gd at h
  split at h
  · cases h
  · rename_i q; exact ⟨q, h⟩
theorem gd_in {α : Type} {i : Int32} {n : Nat} {k : Option α} (h : vp_in i n) : gd i n k = k := if_neg h
/-- a truth value, or no answer -/
def gb {α : Type} (v : Int32) (k : Option α) : Option α := if v = 0 ∨ v = 1 then k else none
theorem gbs {α : Type} {v : Int32} {k : Option α} {r : α} (h : gb v k = some r) : (v = 0 ∨ v = 1) ∧ k = some r := by
  unfold gb at h
  split at h
  · rename_i q; exact ⟨q, h⟩
  · cases h
theorem gb_n {v : Int32} (h : v = 0 ∨ v = 1) : narrow .boolean (.int v) = .int v := by rcases h with rfl | rfl <;> rfl
theorem gb_f {v : Int32} (h : v = 0 ∨ v = 1) : fits .boolean (.int v) = true := by rcases h with rfl | rfl <;> rfl
def gf {α : Type} (v : UInt32) (k : Option α) : Option α := if v &&& 0x7fffffff ≤ 0x7f800000 then k else none
theorem gfs {α : Type} {v : UInt32} {k : Option α} {r : α} (h : gf v k = some r) : vf_n32 v ∧ k = some r := by
  unfold gf at h
  split at h
  · rename_i q; exact ⟨q, h⟩
  · cases h
def gdd {α : Type} (v : UInt64) (k : Option α) : Option α := if v &&& 0x7fffffffffffffff ≤ 0x7ff0000000000000 then k else none
theorem gdds {α : Type} {v : UInt64} {k : Option α} {r : α} (h : gdd v k = some r) : vf_n64 v ∧ k = some r := by
  unfold gdd at h
  split at h
  · rename_i q; exact ⟨q, h⟩
  · cases h
/-- a name for a value -/
def st {α β : Type} (a : α) (f : α → β) : β := f a
theorem stE {α β : Type} {a b : α} {f : α → β} {r : β} (h : st a f = r) (e : b = a) : f b = r := by subst e; exact h
theorem if_p {α : Type} {c : Prop} [Decidable c] {a b : α} {r : α} (h : c) (e : (if c then a else b) = r) : a = r := by rwa [if_pos h] at e
theorem if_n {α : Type} {c : Prop} [Decidable c] {a b : α} {r : α} (h : ¬ c) (e : (if c then a else b) = r) : b = r := by rwa [if_neg h] at e
section
variable {p : Program} {l : Launch} {e : Env} {R : Room} {s : State} {m : MethodId} {args : Array Value} {below : List Frame} {meth : Method} {c : Code} {H H0 : Heap} {locs : List Loc} {cells slots mc ms : Nat} {Q : State → Prop} {pc : Nat} {ls : Array Slot} {rest st0 : List Value} {A0 A1 : Nat → Prop} {free : Addr → Prop}
/-- behind a call whose answer is known -/
theorem q_call {ov : Option Value} {Bq : State → Prop} (hr : va_Run p l e R s m args below meth c H locs cells slots mc ms (F0 m pc ls st0) rest (fun st o t => (o = .returned ov ∧ Bq t) ∧ va_F A1 st t) free) (hS : va_S A0 H0 H locs) (hA : ∀ q, q < H.size → A1 q → A0 q) (hf : ∀ q, free q → A0 q)
    (kk : ∀ (t : State) (H1 : Heap) (locs1 : List Loc), t.heap = H1 → s.vm.Alike t.vm → Bq t → H.size ≤ H1.size → (∀ q : Nat, q < H.size → ¬ A1 q → H1[q]? = H[q]?) → va_S A0 H0 H1 locs1 → W p l e R s m args below meth c H1 locs1 (cells + mc) (slots + ms) Q (F0 m (pc + 3) ls (ov.toList ++ rest))) : W p l e R s m args below meth c H locs cells slots Q (F0 m pc ls st0) := by
  intro T hT X
  obtain ⟨v, st₀, t, T', L, h0, X', hL, e1, e2, ⟨⟨hv, hb⟩, hz, hk⟩, st⟩ := hr T hT X
  cases hv
  rw [h0] at hz hk
  obtain ⟨t2, a1, b1⟩ := kk t T'.heap (locs ++ L) e1.symm (by rw [← e2]; exact X'.warmed.alike) hb (by rw [e1]; exact hz) (fun q h1 h2 => by rw [e1]; exact hk q h1 h2)
    ⟨Nat.le_trans hS.1 (by rw [e1]; exact hz), fun q h1 h2 => by rw [e1, hk q (Nat.lt_of_lt_of_le h1 hS.1) (fun z => h2 (hA q (Nat.lt_of_lt_of_le h1 hS.1) z))]; exact hS.2.1 q h1 h2, fun q hq => by
      rcases List.mem_append.mp hq with h | h
      · exact hS.2.2 q h
      · exact hf _ (hL q h)⟩ T' rfl X'
  exact ⟨t2, st t2 a1, b1⟩
/-- behind a call that leaves the heap as it was -/
theorem q_callS {ov : Option Value} (hr : va_Run p l e R s m args below meth c H locs cells slots 0 0 (F0 m pc ls st0) rest (fun st o t => o = .returned ov ∧ t.heap = st.heap) (fun _ => False))
    (kk : W p l e R s m args below meth c H locs cells slots Q (F0 m (pc + 3) ls (ov.toList ++ rest))) : W p l e R s m args below meth c H locs cells slots Q (F0 m pc ls st0) := by
  intro T hT X
  obtain ⟨v, st₀, t, T', L, h0, X', hL, e1, e2, ⟨hv, hh⟩, st⟩ := hr T hT X
  cases hv
  have X2 := Stand.forget X' (fun q h => (hL q h).elim)
  obtain ⟨t2, a1, b1⟩ := kk T' (by rw [e1, hh, h0]) X2
  exact ⟨t2, st t2 a1, b1⟩
end
/-- a contract of a method that reads nothing and writes nothing -/
def PmI (l : Launch) (y : MethodName) (cc : ByteArray) (nL : Nat) (ret : Option FieldType) (n : Nat) (av : List Value) (ov : Option Value) : Prop :=
  Met l y (ws_ y cc nL ret) { frames := n, cells := 0, slots := 0, locals := 40 * n } (va_Pc av (fun _ => True)) (fun _ st o t => o = .returned ov ∧ t.heap = st.heap) 0 0 (fun _ => False)

