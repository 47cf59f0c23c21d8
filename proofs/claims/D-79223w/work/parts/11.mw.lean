abbrev mMS : Type := Nat → Nat → Int32
def m_up (S : mMS) (a k : Nat) (v : Int32) : mMS := fun b => if b = a then upd (S a) k v else S b
abbrev m_fs (ad : Nat → Nat) (S : mMS) : List Value := [.ref (ad 1), .ref (ad 2), .ref (ad 3), .int (S 0 3), .int (S 0 4), .ref (ad 4), .int (S 0 6), .int (S 0 7), .int (S 0 8), .int (S 0 9), .int (S 0 10), .ref (ad 5), .ref (ad 6), .int (S 0 13), .int (S 0 14), .int (S 0 15), .ref (ad 7), .int (S 0 17), .ref (ad 8)]
abbrev m_len : Nat → Nat := fun a => match a with
  | 4 => 5600
  | 6 => 60
  | 7 => 128
  | 8 => 16
  | _ => 700
abbrev m_ws (ca : Nat → ClassId) (ad : Nat → Nat) (S : mMS) : va_W := [(ad 0, .inr (3, m_fs ad S)), (ad 1, .inl (ca 0, 700, .inl (S 1))), (ad 2, .inl (ca 0, 700, .inl (S 2))), (ad 3, .inl (ca 0, 700, .inl (S 3))), (ad 4, .inl (ca 0, 5600, .inl (S 4))), (ad 5, .inl (ca 0, 700, .inl (S 5))), (ad 6, .inl (ca 0, 60, .inl (S 6))), (ad 7, .inl (ca 0, 128, .inl (S 7))), (ad 8, .inl (ca 0, 16, .inl (S 8)))]
def mA (ad : Nat → Nat) : Nat → Prop := fun q => ∃ i, i < 9 ∧ q = ad i
def mInj (ad : Nat → Nat) : Prop := ∀ i j, i < 9 → j < 9 → ad i = ad j → i = j
theorem m_wsat (ca : Nat → ClassId) (ad : Nat → Nat) (S : mMS) : ∀ (k : Nat) (q : Nat × va_E), (m_ws ca ad S)[k]? = some q → k < 9 ∧ q.1 = ad k := by
  intro k q h
  match k, h with
  | 0, h => cases h; exact ⟨by decide, rfl⟩
  | 1, h => cases h; exact ⟨by decide, rfl⟩
  | 2, h => cases h; exact ⟨by decide, rfl⟩
  | 3, h => cases h; exact ⟨by decide, rfl⟩
  | 4, h => cases h; exact ⟨by decide, rfl⟩
  | 5, h => cases h; exact ⟨by decide, rfl⟩
  | 6, h => cases h; exact ⟨by decide, rfl⟩
  | 7, h => cases h; exact ⟨by decide, rfl⟩
  | 8, h => cases h; exact ⟨by decide, rfl⟩
  | k + 9, h => simp [m_ws] at h
theorem m_D {ca : Nat → ClassId} {ad : Nat → Nat} {S : mMS} (h : mInj ad) : va_D (mA ad) (m_ws ca ad S) := by
  refine ⟨fun i j x y hi hj hxy => ?_, fun k q hk => ?_⟩
  · obtain ⟨a1, a2⟩ := m_wsat ca ad S i x hi
    obtain ⟨b1, b2⟩ := m_wsat ca ad S j y hj
    exact h i j a1 b1 (by rw [← a2, ← b2]; exact hxy)
  · obtain ⟨a1, a2⟩ := m_wsat ca ad S k q hk
    exact ⟨k, a1, a2⟩
/-- what holds all through a walk of the twin's method -/
def MX (p : Program) (s : State) (m : MethodId) (args : Array Value) (meth : Method) (c : Code) (cc : ByteArray) (nL : Nat) (ret : Option FieldType) (D : va_G) (ca : Nat → ClassId) (ad : Nat → Nat) : Prop :=
  CallFix p m c cc nL s args lw_all RX3 ∧ meth.sig.returnType = ret ∧ meth.locks = false ∧ va_K D vwCl (tyl ca) s ∧ mInj ad
/-- the twin's world -/
def mI (D : va_G) (ca : Nat → ClassId) (ad : Nat → Nat) (s : State) (S : mMS) (H : Heap) (locs : List Loc) : Prop := va_P D vwCl (m_ws ca ad S) H ∧ va_S (mA ad) s.heap H locs
def mPre (D : va_G) (ca : Nat → ClassId) (ad : Nat → Nat) (S : mMS) : State → Prop := fun U => va_P D vwCl (m_ws ca ad S) U.heap ∧ va_K D vwCl (tyl ca) U ∧ mInj ad
def mQ (D : va_G) (ca : Nat → ClassId) (ad : Nat → Nat) (S : mMS) (ov : Option Value) : Array Value → State → Outcome → State → Prop := fun _ st o t => (o = .returned ov ∧ va_P D vwCl (m_ws ca ad S) t.heap) ∧ va_F (mA ad) st t
def MmI (l : Launch) (D : va_G) (ca : Nat → ClassId) (ad : Nat → Nat) (y : MethodName) (cc : ByteArray) (nL : Nat) (ret : Option FieldType) (n : Nat) (av : List Value) (S S' : mMS) (ov : Option Value) : Prop :=
  Met l y (ws_ y cc nL ret) { frames := n, cells := 0, slots := 0, locals := 40 * n } (va_Pc av (mPre D ca ad S)) (mQ D ca ad S' ov) 0 0 (mA ad)
section
variable {p : Program} {l : Launch} {e : Env} {R : Room} {s : State} {m : MethodId} {args : Array Value} {below : List Frame} {meth : Method} {c : Code} {H : Heap} {locs : List Loc} {cells slots : Nat} {Q : State → Prop} {pc : Nat} {ls : Array Slot} {rest st0 : List Value} {cc : ByteArray} {nL : Nat} {ret : Option FieldType} {D : va_G} {ca : Nat → ClassId} {ad : Nat → Nat} {S : mMS}
theorem m_get0 (X : MX p s m args meth c cc nL ret D ca ad) (hM : mI D ca ad s S H locs) {index : Nat} (hq : Cond.fieldLink RX3 index RX3 "g" "[I" ∈ lw_all) (hd : decode cc pc = .ok (.getfield index, 3)) (k : W p l e R s m args below meth c H locs cells slots Q (F0 m (pc + 3) ls (.ref (ad 1) :: rest))) : W p l e R s m args below meth c H locs cells slots Q (F0 m pc ls (.ref (ad 0) :: rest)) := by
  obtain ⟨⟨hx, hb, hml, hown, hts⟩, hrt, hlk, hK, hI⟩ := X
  exact va_get (D := D) (ci := 3) (v := .ref (ad 1)) (C := RX3) (T := TX3) (N := 19) hx hb hts in_X3 hown hK hM.1 0 rfl rfl 0 (by decide) (hts _ hq) (fun _ h9 => h9) rfl hd k
theorem m_get1 (X : MX p s m args meth c cc nL ret D ca ad) (hM : mI D ca ad s S H locs) {index : Nat} (hq : Cond.fieldLink RX3 index RX3 "kept" "[I" ∈ lw_all) (hd : decode cc pc = .ok (.getfield index, 3)) (k : W p l e R s m args below meth c H locs cells slots Q (F0 m (pc + 3) ls (.ref (ad 2) :: rest))) : W p l e R s m args below meth c H locs cells slots Q (F0 m pc ls (.ref (ad 0) :: rest)) := by
  obtain ⟨⟨hx, hb, hml, hown, hts⟩, hrt, hlk, hK, hI⟩ := X
  exact va_get (D := D) (ci := 3) (v := .ref (ad 2)) (C := RX3) (T := TX3) (N := 19) hx hb hts in_X3 hown hK hM.1 0 rfl rfl 1 (by decide) (hts _ hq) (fun _ h9 => h9) rfl hd k
theorem m_get2 (X : MX p s m args meth c cc nL ret D ca ad) (hM : mI D ca ad s S H locs) {index : Nat} (hq : Cond.fieldLink RX3 index RX3 "before" "[I" ∈ lw_all) (hd : decode cc pc = .ok (.getfield index, 3)) (k : W p l e R s m args below meth c H locs cells slots Q (F0 m (pc + 3) ls (.ref (ad 3) :: rest))) : W p l e R s m args below meth c H locs cells slots Q (F0 m pc ls (.ref (ad 0) :: rest)) := by
  obtain ⟨⟨hx, hb, hml, hown, hts⟩, hrt, hlk, hK, hI⟩ := X
  exact va_get (D := D) (ci := 3) (v := .ref (ad 3)) (C := RX3) (T := TX3) (N := 19) hx hb hts in_X3 hown hK hM.1 0 rfl rfl 2 (by decide) (hts _ hq) (fun _ h9 => h9) rfl hd k
theorem m_get3 (X : MX p s m args meth c cc nL ret D ca ad) (hM : mI D ca ad s S H locs) {index : Nat} (hq : Cond.fieldLink RX3 index RX3 "hasKept" "Z" ∈ lw_all) (hd : decode cc pc = .ok (.getfield index, 3)) (k : W p l e R s m args below meth c H locs cells slots Q (F0 m (pc + 3) ls (.int (S 0 3) :: rest))) : W p l e R s m args below meth c H locs cells slots Q (F0 m pc ls (.ref (ad 0) :: rest)) := by
  obtain ⟨⟨hx, hb, hml, hown, hts⟩, hrt, hlk, hK, hI⟩ := X
  exact va_get (D := D) (ci := 3) (v := .int (S 0 3)) (C := RX3) (T := TX3) (N := 19) hx hb hts in_X3 hown hK hM.1 0 rfl rfl 3 (by decide) (hts _ hq) (fun _ h9 => h9) rfl hd k
theorem m_set3 (ca : Nat → ClassId) (ad : Nat → Nat) (S : mMS) (v : Int32) : (m_ws ca ad S).set 0 (ad 0, .inr (3, (m_fs ad S).set 3 (.int v))) = m_ws ca ad (m_up S 0 3 v) := rfl
theorem m_put3 (X : MX p s m args meth c cc nL ret D ca ad) (hM : mI D ca ad s S H locs) {v : Int32} (hn : v = 0 ∨ v = 1) {index : Nat} (hq : Cond.fieldLink RX3 index RX3 "hasKept" "Z" ∈ lw_all) (hd : decode cc pc = .ok (.putfield index, 3)) (k : ∀ (H1 : Heap) (locs1 : List Loc) (S1 : mMS), S1 = m_up S 0 3 v → mI D ca ad s S1 H1 locs1 → W p l e R s m args below meth c H1 locs1 cells slots Q (F0 m (pc + 3) ls rest)) : W p l e R s m args below meth c H locs cells slots Q (F0 m pc ls (.int v :: .ref (ad 0) :: rest)) := by
  obtain ⟨⟨hx, hb, hml, hown, hts⟩, hrt, hlk, hK, hI⟩ := X
  refine va_put (D := D) (ci := 3) (v := .int v) (ty := .boolean) (C := RX3) (T := TX3) (N := 19) hx hb hts in_X3 tyX3 tyX3_ok nmX3 hown hK hM.1 (m_D hI) hM.2 0 rfl rfl 3 (by decide) (hts _ hq) (fun _ h9 => h9) rfl (by decide +kernel) (gb_n hn) (gb_f hn) (Nat.le_of_ble_eq_true rfl) hd (fun H1 locs1 hP hD hS => ?_)
  exact k H1 locs1 _ rfl ⟨hP, hS⟩
theorem m_get4 (X : MX p s m args meth c cc nL ret D ca ad) (hM : mI D ca ad s S H locs) {index : Nat} (hq : Cond.fieldLink RX3 index RX3 "isTextNow" "Z" ∈ lw_all) (hd : decode cc pc = .ok (.getfield index, 3)) (k : W p l e R s m args below meth c H locs cells slots Q (F0 m (pc + 3) ls (.int (S 0 4) :: rest))) : W p l e R s m args below meth c H locs cells slots Q (F0 m pc ls (.ref (ad 0) :: rest)) := by
  obtain ⟨⟨hx, hb, hml, hown, hts⟩, hrt, hlk, hK, hI⟩ := X
  exact va_get (D := D) (ci := 3) (v := .int (S 0 4)) (C := RX3) (T := TX3) (N := 19) hx hb hts in_X3 hown hK hM.1 0 rfl rfl 4 (by decide) (hts _ hq) (fun _ h9 => h9) rfl hd k
theorem m_set4 (ca : Nat → ClassId) (ad : Nat → Nat) (S : mMS) (v : Int32) : (m_ws ca ad S).set 0 (ad 0, .inr (3, (m_fs ad S).set 4 (.int v))) = m_ws ca ad (m_up S 0 4 v) := rfl
theorem m_put4 (X : MX p s m args meth c cc nL ret D ca ad) (hM : mI D ca ad s S H locs) {v : Int32} (hn : v = 0 ∨ v = 1) {index : Nat} (hq : Cond.fieldLink RX3 index RX3 "isTextNow" "Z" ∈ lw_all) (hd : decode cc pc = .ok (.putfield index, 3)) (k : ∀ (H1 : Heap) (locs1 : List Loc) (S1 : mMS), S1 = m_up S 0 4 v → mI D ca ad s S1 H1 locs1 → W p l e R s m args below meth c H1 locs1 cells slots Q (F0 m (pc + 3) ls rest)) : W p l e R s m args below meth c H locs cells slots Q (F0 m pc ls (.int v :: .ref (ad 0) :: rest)) := by
  obtain ⟨⟨hx, hb, hml, hown, hts⟩, hrt, hlk, hK, hI⟩ := X
  refine va_put (D := D) (ci := 3) (v := .int v) (ty := .boolean) (C := RX3) (T := TX3) (N := 19) hx hb hts in_X3 tyX3 tyX3_ok nmX3 hown hK hM.1 (m_D hI) hM.2 0 rfl rfl 4 (by decide) (hts _ hq) (fun _ h9 => h9) rfl (by decide +kernel) (gb_n hn) (gb_f hn) (Nat.le_of_ble_eq_true rfl) hd (fun H1 locs1 hP hD hS => ?_)
  exact k H1 locs1 _ rfl ⟨hP, hS⟩
theorem m_get5 (X : MX p s m args meth c cc nL ret D ca ad) (hM : mI D ca ad s S H locs) {index : Nat} (hq : Cond.fieldLink RX3 index RX3 "past" "[I" ∈ lw_all) (hd : decode cc pc = .ok (.getfield index, 3)) (k : W p l e R s m args below meth c H locs cells slots Q (F0 m (pc + 3) ls (.ref (ad 4) :: rest))) : W p l e R s m args below meth c H locs cells slots Q (F0 m pc ls (.ref (ad 0) :: rest)) := by
  obtain ⟨⟨hx, hb, hml, hown, hts⟩, hrt, hlk, hK, hI⟩ := X
  exact va_get (D := D) (ci := 3) (v := .ref (ad 4)) (C := RX3) (T := TX3) (N := 19) hx hb hts in_X3 hown hK hM.1 0 rfl rfl 5 (by decide) (hts _ hq) (fun _ h9 => h9) rfl hd k
theorem m_get6 (X : MX p s m args meth c cc nL ret D ca ad) (hM : mI D ca ad s S H locs) {index : Nat} (hq : Cond.fieldLink RX3 index RX3 "pasts" "I" ∈ lw_all) (hd : decode cc pc = .ok (.getfield index, 3)) (k : W p l e R s m args below meth c H locs cells slots Q (F0 m (pc + 3) ls (.int (S 0 6) :: rest))) : W p l e R s m args below meth c H locs cells slots Q (F0 m pc ls (.ref (ad 0) :: rest)) := by
  obtain ⟨⟨hx, hb, hml, hown, hts⟩, hrt, hlk, hK, hI⟩ := X
  exact va_get (D := D) (ci := 3) (v := .int (S 0 6)) (C := RX3) (T := TX3) (N := 19) hx hb hts in_X3 hown hK hM.1 0 rfl rfl 6 (by decide) (hts _ hq) (fun _ h9 => h9) rfl hd k
theorem m_set6 (ca : Nat → ClassId) (ad : Nat → Nat) (S : mMS) (v : Int32) : (m_ws ca ad S).set 0 (ad 0, .inr (3, (m_fs ad S).set 6 (.int v))) = m_ws ca ad (m_up S 0 6 v) := rfl
theorem m_put6 (X : MX p s m args meth c cc nL ret D ca ad) (hM : mI D ca ad s S H locs) {v : Int32} {index : Nat} (hq : Cond.fieldLink RX3 index RX3 "pasts" "I" ∈ lw_all) (hd : decode cc pc = .ok (.putfield index, 3)) (k : ∀ (H1 : Heap) (locs1 : List Loc) (S1 : mMS), S1 = m_up S 0 6 v → mI D ca ad s S1 H1 locs1 → W p l e R s m args below meth c H1 locs1 cells slots Q (F0 m (pc + 3) ls rest)) : W p l e R s m args below meth c H locs cells slots Q (F0 m pc ls (.int v :: .ref (ad 0) :: rest)) := by
  obtain ⟨⟨hx, hb, hml, hown, hts⟩, hrt, hlk, hK, hI⟩ := X
  refine va_put (D := D) (ci := 3) (v := .int v) (ty := .int) (C := RX3) (T := TX3) (N := 19) hx hb hts in_X3 tyX3 tyX3_ok nmX3 hown hK hM.1 (m_D hI) hM.2 0 rfl rfl 6 (by decide) (hts _ hq) (fun _ h9 => h9) rfl (by decide +kernel) rfl rfl (Nat.le_of_ble_eq_true rfl) hd (fun H1 locs1 hP hD hS => ?_)
  exact k H1 locs1 _ rfl ⟨hP, hS⟩
theorem m_get7 (X : MX p s m args meth c cc nL ret D ca ad) (hM : mI D ca ad s S H locs) {index : Nat} (hq : Cond.fieldLink RX3 index RX3 "reason" "I" ∈ lw_all) (hd : decode cc pc = .ok (.getfield index, 3)) (k : W p l e R s m args below meth c H locs cells slots Q (F0 m (pc + 3) ls (.int (S 0 7) :: rest))) : W p l e R s m args below meth c H locs cells slots Q (F0 m pc ls (.ref (ad 0) :: rest)) := by
  obtain ⟨⟨hx, hb, hml, hown, hts⟩, hrt, hlk, hK, hI⟩ := X
  exact va_get (D := D) (ci := 3) (v := .int (S 0 7)) (C := RX3) (T := TX3) (N := 19) hx hb hts in_X3 hown hK hM.1 0 rfl rfl 7 (by decide) (hts _ hq) (fun _ h9 => h9) rfl hd k
theorem m_set7 (ca : Nat → ClassId) (ad : Nat → Nat) (S : mMS) (v : Int32) : (m_ws ca ad S).set 0 (ad 0, .inr (3, (m_fs ad S).set 7 (.int v))) = m_ws ca ad (m_up S 0 7 v) := rfl
theorem m_put7 (X : MX p s m args meth c cc nL ret D ca ad) (hM : mI D ca ad s S H locs) {v : Int32} {index : Nat} (hq : Cond.fieldLink RX3 index RX3 "reason" "I" ∈ lw_all) (hd : decode cc pc = .ok (.putfield index, 3)) (k : ∀ (H1 : Heap) (locs1 : List Loc) (S1 : mMS), S1 = m_up S 0 7 v → mI D ca ad s S1 H1 locs1 → W p l e R s m args below meth c H1 locs1 cells slots Q (F0 m (pc + 3) ls rest)) : W p l e R s m args below meth c H locs cells slots Q (F0 m pc ls (.int v :: .ref (ad 0) :: rest)) := by
  obtain ⟨⟨hx, hb, hml, hown, hts⟩, hrt, hlk, hK, hI⟩ := X
  refine va_put (D := D) (ci := 3) (v := .int v) (ty := .int) (C := RX3) (T := TX3) (N := 19) hx hb hts in_X3 tyX3 tyX3_ok nmX3 hown hK hM.1 (m_D hI) hM.2 0 rfl rfl 7 (by decide) (hts _ hq) (fun _ h9 => h9) rfl (by decide +kernel) rfl rfl (Nat.le_of_ble_eq_true rfl) hd (fun H1 locs1 hP hD hS => ?_)
  exact k H1 locs1 _ rfl ⟨hP, hS⟩
theorem m_get8 (X : MX p s m args meth c cc nL ret D ca ad) (hM : mI D ca ad s S H locs) {index : Nat} (hq : Cond.fieldLink RX3 index RX3 "detail" "I" ∈ lw_all) (hd : decode cc pc = .ok (.getfield index, 3)) (k : W p l e R s m args below meth c H locs cells slots Q (F0 m (pc + 3) ls (.int (S 0 8) :: rest))) : W p l e R s m args below meth c H locs cells slots Q (F0 m pc ls (.ref (ad 0) :: rest)) := by
  obtain ⟨⟨hx, hb, hml, hown, hts⟩, hrt, hlk, hK, hI⟩ := X
  exact va_get (D := D) (ci := 3) (v := .int (S 0 8)) (C := RX3) (T := TX3) (N := 19) hx hb hts in_X3 hown hK hM.1 0 rfl rfl 8 (by decide) (hts _ hq) (fun _ h9 => h9) rfl hd k
theorem m_set8 (ca : Nat → ClassId) (ad : Nat → Nat) (S : mMS) (v : Int32) : (m_ws ca ad S).set 0 (ad 0, .inr (3, (m_fs ad S).set 8 (.int v))) = m_ws ca ad (m_up S 0 8 v) := rfl
theorem m_put8 (X : MX p s m args meth c cc nL ret D ca ad) (hM : mI D ca ad s S H locs) {v : Int32} {index : Nat} (hq : Cond.fieldLink RX3 index RX3 "detail" "I" ∈ lw_all) (hd : decode cc pc = .ok (.putfield index, 3)) (k : ∀ (H1 : Heap) (locs1 : List Loc) (S1 : mMS), S1 = m_up S 0 8 v → mI D ca ad s S1 H1 locs1 → W p l e R s m args below meth c H1 locs1 cells slots Q (F0 m (pc + 3) ls rest)) : W p l e R s m args below meth c H locs cells slots Q (F0 m pc ls (.int v :: .ref (ad 0) :: rest)) := by
  obtain ⟨⟨hx, hb, hml, hown, hts⟩, hrt, hlk, hK, hI⟩ := X
  refine va_put (D := D) (ci := 3) (v := .int v) (ty := .int) (C := RX3) (T := TX3) (N := 19) hx hb hts in_X3 tyX3 tyX3_ok nmX3 hown hK hM.1 (m_D hI) hM.2 0 rfl rfl 8 (by decide) (hts _ hq) (fun _ h9 => h9) rfl (by decide +kernel) rfl rfl (Nat.le_of_ble_eq_true rfl) hd (fun H1 locs1 hP hD hS => ?_)
  exact k H1 locs1 _ rfl ⟨hP, hS⟩
theorem m_get9 (X : MX p s m args meth c cc nL ret D ca ad) (hM : mI D ca ad s S H locs) {index : Nat} (hq : Cond.fieldLink RX3 index RX3 "entry" "I" ∈ lw_all) (hd : decode cc pc = .ok (.getfield index, 3)) (k : W p l e R s m args below meth c H locs cells slots Q (F0 m (pc + 3) ls (.int (S 0 9) :: rest))) : W p l e R s m args below meth c H locs cells slots Q (F0 m pc ls (.ref (ad 0) :: rest)) := by
  obtain ⟨⟨hx, hb, hml, hown, hts⟩, hrt, hlk, hK, hI⟩ := X
  exact va_get (D := D) (ci := 3) (v := .int (S 0 9)) (C := RX3) (T := TX3) (N := 19) hx hb hts in_X3 hown hK hM.1 0 rfl rfl 9 (by decide) (hts _ hq) (fun _ h9 => h9) rfl hd k
theorem m_set9 (ca : Nat → ClassId) (ad : Nat → Nat) (S : mMS) (v : Int32) : (m_ws ca ad S).set 0 (ad 0, .inr (3, (m_fs ad S).set 9 (.int v))) = m_ws ca ad (m_up S 0 9 v) := rfl
theorem m_put9 (X : MX p s m args meth c cc nL ret D ca ad) (hM : mI D ca ad s S H locs) {v : Int32} {index : Nat} (hq : Cond.fieldLink RX3 index RX3 "entry" "I" ∈ lw_all) (hd : decode cc pc = .ok (.putfield index, 3)) (k : ∀ (H1 : Heap) (locs1 : List Loc) (S1 : mMS), S1 = m_up S 0 9 v → mI D ca ad s S1 H1 locs1 → W p l e R s m args below meth c H1 locs1 cells slots Q (F0 m (pc + 3) ls rest)) : W p l e R s m args below meth c H locs cells slots Q (F0 m pc ls (.int v :: .ref (ad 0) :: rest)) := by
  obtain ⟨⟨hx, hb, hml, hown, hts⟩, hrt, hlk, hK, hI⟩ := X
  refine va_put (D := D) (ci := 3) (v := .int v) (ty := .int) (C := RX3) (T := TX3) (N := 19) hx hb hts in_X3 tyX3 tyX3_ok nmX3 hown hK hM.1 (m_D hI) hM.2 0 rfl rfl 9 (by decide) (hts _ hq) (fun _ h9 => h9) rfl (by decide +kernel) rfl rfl (Nat.le_of_ble_eq_true rfl) hd (fun H1 locs1 hP hD hS => ?_)
  exact k H1 locs1 _ rfl ⟨hP, hS⟩
theorem m_get10 (X : MX p s m args meth c cc nL ret D ca ad) (hM : mI D ca ad s S H locs) {index : Nat} (hq : Cond.fieldLink RX3 index RX3 "thrown" "I" ∈ lw_all) (hd : decode cc pc = .ok (.getfield index, 3)) (k : W p l e R s m args below meth c H locs cells slots Q (F0 m (pc + 3) ls (.int (S 0 10) :: rest))) : W p l e R s m args below meth c H locs cells slots Q (F0 m pc ls (.ref (ad 0) :: rest)) := by
  obtain ⟨⟨hx, hb, hml, hown, hts⟩, hrt, hlk, hK, hI⟩ := X
  exact va_get (D := D) (ci := 3) (v := .int (S 0 10)) (C := RX3) (T := TX3) (N := 19) hx hb hts in_X3 hown hK hM.1 0 rfl rfl 10 (by decide) (hts _ hq) (fun _ h9 => h9) rfl hd k
theorem m_set10 (ca : Nat → ClassId) (ad : Nat → Nat) (S : mMS) (v : Int32) : (m_ws ca ad S).set 0 (ad 0, .inr (3, (m_fs ad S).set 10 (.int v))) = m_ws ca ad (m_up S 0 10 v) := rfl
theorem m_put10 (X : MX p s m args meth c cc nL ret D ca ad) (hM : mI D ca ad s S H locs) {v : Int32} {index : Nat} (hq : Cond.fieldLink RX3 index RX3 "thrown" "I" ∈ lw_all) (hd : decode cc pc = .ok (.putfield index, 3)) (k : ∀ (H1 : Heap) (locs1 : List Loc) (S1 : mMS), S1 = m_up S 0 10 v → mI D ca ad s S1 H1 locs1 → W p l e R s m args below meth c H1 locs1 cells slots Q (F0 m (pc + 3) ls rest)) : W p l e R s m args below meth c H locs cells slots Q (F0 m pc ls (.int v :: .ref (ad 0) :: rest)) := by
  obtain ⟨⟨hx, hb, hml, hown, hts⟩, hrt, hlk, hK, hI⟩ := X
  refine va_put (D := D) (ci := 3) (v := .int v) (ty := .int) (C := RX3) (T := TX3) (N := 19) hx hb hts in_X3 tyX3 tyX3_ok nmX3 hown hK hM.1 (m_D hI) hM.2 0 rfl rfl 10 (by decide) (hts _ hq) (fun _ h9 => h9) rfl (by decide +kernel) rfl rfl (Nat.le_of_ble_eq_true rfl) hd (fun H1 locs1 hP hD hS => ?_)
  exact k H1 locs1 _ rfl ⟨hP, hS⟩
theorem m_get11 (X : MX p s m args meth c cc nL ret D ca ad) (hM : mI D ca ad s S H locs) {index : Nat} (hq : Cond.fieldLink RX3 index RX3 "tried" "[I" ∈ lw_all) (hd : decode cc pc = .ok (.getfield index, 3)) (k : W p l e R s m args below meth c H locs cells slots Q (F0 m (pc + 3) ls (.ref (ad 5) :: rest))) : W p l e R s m args below meth c H locs cells slots Q (F0 m pc ls (.ref (ad 0) :: rest)) := by
  obtain ⟨⟨hx, hb, hml, hown, hts⟩, hrt, hlk, hK, hI⟩ := X
  exact va_get (D := D) (ci := 3) (v := .ref (ad 5)) (C := RX3) (T := TX3) (N := 19) hx hb hts in_X3 hown hK hM.1 0 rfl rfl 11 (by decide) (hts _ hq) (fun _ h9 => h9) rfl hd k
theorem m_get12 (X : MX p s m args meth c cc nL ret D ca ad) (hM : mI D ca ad s S H locs) {index : Nat} (hq : Cond.fieldLink RX3 index RX3 "text" "[I" ∈ lw_all) (hd : decode cc pc = .ok (.getfield index, 3)) (k : W p l e R s m args below meth c H locs cells slots Q (F0 m (pc + 3) ls (.ref (ad 6) :: rest))) : W p l e R s m args below meth c H locs cells slots Q (F0 m pc ls (.ref (ad 0) :: rest)) := by
  obtain ⟨⟨hx, hb, hml, hown, hts⟩, hrt, hlk, hK, hI⟩ := X
  exact va_get (D := D) (ci := 3) (v := .ref (ad 6)) (C := RX3) (T := TX3) (N := 19) hx hb hts in_X3 hown hK hM.1 0 rfl rfl 12 (by decide) (hts _ hq) (fun _ h9 => h9) rfl hd k
theorem m_get13 (X : MX p s m args meth c cc nL ret D ca ad) (hM : mI D ca ad s S H locs) {index : Nat} (hq : Cond.fieldLink RX3 index RX3 "length" "I" ∈ lw_all) (hd : decode cc pc = .ok (.getfield index, 3)) (k : W p l e R s m args below meth c H locs cells slots Q (F0 m (pc + 3) ls (.int (S 0 13) :: rest))) : W p l e R s m args below meth c H locs cells slots Q (F0 m pc ls (.ref (ad 0) :: rest)) := by
  obtain ⟨⟨hx, hb, hml, hown, hts⟩, hrt, hlk, hK, hI⟩ := X
  exact va_get (D := D) (ci := 3) (v := .int (S 0 13)) (C := RX3) (T := TX3) (N := 19) hx hb hts in_X3 hown hK hM.1 0 rfl rfl 13 (by decide) (hts _ hq) (fun _ h9 => h9) rfl hd k
theorem m_set13 (ca : Nat → ClassId) (ad : Nat → Nat) (S : mMS) (v : Int32) : (m_ws ca ad S).set 0 (ad 0, .inr (3, (m_fs ad S).set 13 (.int v))) = m_ws ca ad (m_up S 0 13 v) := rfl
theorem m_put13 (X : MX p s m args meth c cc nL ret D ca ad) (hM : mI D ca ad s S H locs) {v : Int32} {index : Nat} (hq : Cond.fieldLink RX3 index RX3 "length" "I" ∈ lw_all) (hd : decode cc pc = .ok (.putfield index, 3)) (k : ∀ (H1 : Heap) (locs1 : List Loc) (S1 : mMS), S1 = m_up S 0 13 v → mI D ca ad s S1 H1 locs1 → W p l e R s m args below meth c H1 locs1 cells slots Q (F0 m (pc + 3) ls rest)) : W p l e R s m args below meth c H locs cells slots Q (F0 m pc ls (.int v :: .ref (ad 0) :: rest)) := by
  obtain ⟨⟨hx, hb, hml, hown, hts⟩, hrt, hlk, hK, hI⟩ := X
  refine va_put (D := D) (ci := 3) (v := .int v) (ty := .int) (C := RX3) (T := TX3) (N := 19) hx hb hts in_X3 tyX3 tyX3_ok nmX3 hown hK hM.1 (m_D hI) hM.2 0 rfl rfl 13 (by decide) (hts _ hq) (fun _ h9 => h9) rfl (by decide +kernel) rfl rfl (Nat.le_of_ble_eq_true rfl) hd (fun H1 locs1 hP hD hS => ?_)
  exact k H1 locs1 _ rfl ⟨hP, hS⟩
theorem m_get14 (X : MX p s m args meth c cc nL ret D ca ad) (hM : mI D ca ad s S H locs) {index : Nat} (hq : Cond.fieldLink RX3 index RX3 "spot" "I" ∈ lw_all) (hd : decode cc pc = .ok (.getfield index, 3)) (k : W p l e R s m args below meth c H locs cells slots Q (F0 m (pc + 3) ls (.int (S 0 14) :: rest))) : W p l e R s m args below meth c H locs cells slots Q (F0 m pc ls (.ref (ad 0) :: rest)) := by
  obtain ⟨⟨hx, hb, hml, hown, hts⟩, hrt, hlk, hK, hI⟩ := X
  exact va_get (D := D) (ci := 3) (v := .int (S 0 14)) (C := RX3) (T := TX3) (N := 19) hx hb hts in_X3 hown hK hM.1 0 rfl rfl 14 (by decide) (hts _ hq) (fun _ h9 => h9) rfl hd k
theorem m_set14 (ca : Nat → ClassId) (ad : Nat → Nat) (S : mMS) (v : Int32) : (m_ws ca ad S).set 0 (ad 0, .inr (3, (m_fs ad S).set 14 (.int v))) = m_ws ca ad (m_up S 0 14 v) := rfl
theorem m_put14 (X : MX p s m args meth c cc nL ret D ca ad) (hM : mI D ca ad s S H locs) {v : Int32} {index : Nat} (hq : Cond.fieldLink RX3 index RX3 "spot" "I" ∈ lw_all) (hd : decode cc pc = .ok (.putfield index, 3)) (k : ∀ (H1 : Heap) (locs1 : List Loc) (S1 : mMS), S1 = m_up S 0 14 v → mI D ca ad s S1 H1 locs1 → W p l e R s m args below meth c H1 locs1 cells slots Q (F0 m (pc + 3) ls rest)) : W p l e R s m args below meth c H locs cells slots Q (F0 m pc ls (.int v :: .ref (ad 0) :: rest)) := by
  obtain ⟨⟨hx, hb, hml, hown, hts⟩, hrt, hlk, hK, hI⟩ := X
  refine va_put (D := D) (ci := 3) (v := .int v) (ty := .int) (C := RX3) (T := TX3) (N := 19) hx hb hts in_X3 tyX3 tyX3_ok nmX3 hown hK hM.1 (m_D hI) hM.2 0 rfl rfl 14 (by decide) (hts _ hq) (fun _ h9 => h9) rfl (by decide +kernel) rfl rfl (Nat.le_of_ble_eq_true rfl) hd (fun H1 locs1 hP hD hS => ?_)
  exact k H1 locs1 _ rfl ⟨hP, hS⟩
theorem m_get15 (X : MX p s m args meth c cc nL ret D ca ad) (hM : mI D ca ad s S H locs) {index : Nat} (hq : Cond.fieldLink RX3 index RX3 "wrong" "I" ∈ lw_all) (hd : decode cc pc = .ok (.getfield index, 3)) (k : W p l e R s m args below meth c H locs cells slots Q (F0 m (pc + 3) ls (.int (S 0 15) :: rest))) : W p l e R s m args below meth c H locs cells slots Q (F0 m pc ls (.ref (ad 0) :: rest)) := by
  obtain ⟨⟨hx, hb, hml, hown, hts⟩, hrt, hlk, hK, hI⟩ := X
  exact va_get (D := D) (ci := 3) (v := .int (S 0 15)) (C := RX3) (T := TX3) (N := 19) hx hb hts in_X3 hown hK hM.1 0 rfl rfl 15 (by decide) (hts _ hq) (fun _ h9 => h9) rfl hd k
theorem m_set15 (ca : Nat → ClassId) (ad : Nat → Nat) (S : mMS) (v : Int32) : (m_ws ca ad S).set 0 (ad 0, .inr (3, (m_fs ad S).set 15 (.int v))) = m_ws ca ad (m_up S 0 15 v) := rfl
theorem m_put15 (X : MX p s m args meth c cc nL ret D ca ad) (hM : mI D ca ad s S H locs) {v : Int32} {index : Nat} (hq : Cond.fieldLink RX3 index RX3 "wrong" "I" ∈ lw_all) (hd : decode cc pc = .ok (.putfield index, 3)) (k : ∀ (H1 : Heap) (locs1 : List Loc) (S1 : mMS), S1 = m_up S 0 15 v → mI D ca ad s S1 H1 locs1 → W p l e R s m args below meth c H1 locs1 cells slots Q (F0 m (pc + 3) ls rest)) : W p l e R s m args below meth c H locs cells slots Q (F0 m pc ls (.int v :: .ref (ad 0) :: rest)) := by
  obtain ⟨⟨hx, hb, hml, hown, hts⟩, hrt, hlk, hK, hI⟩ := X
  refine va_put (D := D) (ci := 3) (v := .int v) (ty := .int) (C := RX3) (T := TX3) (N := 19) hx hb hts in_X3 tyX3 tyX3_ok nmX3 hown hK hM.1 (m_D hI) hM.2 0 rfl rfl 15 (by decide) (hts _ hq) (fun _ h9 => h9) rfl (by decide +kernel) rfl rfl (Nat.le_of_ble_eq_true rfl) hd (fun H1 locs1 hP hD hS => ?_)
  exact k H1 locs1 _ rfl ⟨hP, hS⟩
theorem m_get16 (X : MX p s m args meth c cc nL ret D ca ad) (hM : mI D ca ad s S H locs) {index : Nat} (hq : Cond.fieldLink RX3 index RX3 "told" "[I" ∈ lw_all) (hd : decode cc pc = .ok (.getfield index, 3)) (k : W p l e R s m args below meth c H locs cells slots Q (F0 m (pc + 3) ls (.ref (ad 7) :: rest))) : W p l e R s m args below meth c H locs cells slots Q (F0 m pc ls (.ref (ad 0) :: rest)) := by
  obtain ⟨⟨hx, hb, hml, hown, hts⟩, hrt, hlk, hK, hI⟩ := X
  exact va_get (D := D) (ci := 3) (v := .ref (ad 7)) (C := RX3) (T := TX3) (N := 19) hx hb hts in_X3 hown hK hM.1 0 rfl rfl 16 (by decide) (hts _ hq) (fun _ h9 => h9) rfl hd k
theorem m_get17 (X : MX p s m args meth c cc nL ret D ca ad) (hM : mI D ca ad s S H locs) {index : Nat} (hq : Cond.fieldLink RX3 index RX3 "tolds" "I" ∈ lw_all) (hd : decode cc pc = .ok (.getfield index, 3)) (k : W p l e R s m args below meth c H locs cells slots Q (F0 m (pc + 3) ls (.int (S 0 17) :: rest))) : W p l e R s m args below meth c H locs cells slots Q (F0 m pc ls (.ref (ad 0) :: rest)) := by
  obtain ⟨⟨hx, hb, hml, hown, hts⟩, hrt, hlk, hK, hI⟩ := X
  exact va_get (D := D) (ci := 3) (v := .int (S 0 17)) (C := RX3) (T := TX3) (N := 19) hx hb hts in_X3 hown hK hM.1 0 rfl rfl 17 (by decide) (hts _ hq) (fun _ h9 => h9) rfl hd k
theorem m_set17 (ca : Nat → ClassId) (ad : Nat → Nat) (S : mMS) (v : Int32) : (m_ws ca ad S).set 0 (ad 0, .inr (3, (m_fs ad S).set 17 (.int v))) = m_ws ca ad (m_up S 0 17 v) := rfl
theorem m_put17 (X : MX p s m args meth c cc nL ret D ca ad) (hM : mI D ca ad s S H locs) {v : Int32} {index : Nat} (hq : Cond.fieldLink RX3 index RX3 "tolds" "I" ∈ lw_all) (hd : decode cc pc = .ok (.putfield index, 3)) (k : ∀ (H1 : Heap) (locs1 : List Loc) (S1 : mMS), S1 = m_up S 0 17 v → mI D ca ad s S1 H1 locs1 → W p l e R s m args below meth c H1 locs1 cells slots Q (F0 m (pc + 3) ls rest)) : W p l e R s m args below meth c H locs cells slots Q (F0 m pc ls (.int v :: .ref (ad 0) :: rest)) := by
  obtain ⟨⟨hx, hb, hml, hown, hts⟩, hrt, hlk, hK, hI⟩ := X
  refine va_put (D := D) (ci := 3) (v := .int v) (ty := .int) (C := RX3) (T := TX3) (N := 19) hx hb hts in_X3 tyX3 tyX3_ok nmX3 hown hK hM.1 (m_D hI) hM.2 0 rfl rfl 17 (by decide) (hts _ hq) (fun _ h9 => h9) rfl (by decide +kernel) rfl rfl (Nat.le_of_ble_eq_true rfl) hd (fun H1 locs1 hP hD hS => ?_)
  exact k H1 locs1 _ rfl ⟨hP, hS⟩
theorem m_get18 (X : MX p s m args meth c cc nL ret D ca ad) (hM : mI D ca ad s S H locs) {index : Nat} (hq : Cond.fieldLink RX3 index RX3 "deep" "[I" ∈ lw_all) (hd : decode cc pc = .ok (.getfield index, 3)) (k : W p l e R s m args below meth c H locs cells slots Q (F0 m (pc + 3) ls (.ref (ad 8) :: rest))) : W p l e R s m args below meth c H locs cells slots Q (F0 m pc ls (.ref (ad 0) :: rest)) := by
  obtain ⟨⟨hx, hb, hml, hown, hts⟩, hrt, hlk, hK, hI⟩ := X
  exact va_get (D := D) (ci := 3) (v := .ref (ad 8)) (C := RX3) (T := TX3) (N := 19) hx hb hts in_X3 hown hK hM.1 0 rfl rfl 18 (by decide) (hts _ hq) (fun _ h9 => h9) rfl hd k
theorem m_wsa (ca : Nat → ClassId) (ad : Nat → Nat) (S : mMS) (a : Nat) (ha : 1 ≤ a ∧ a ≤ 8) : (m_ws ca ad S)[a]? = some (ad a, .inl (ca 0, m_len a, .inl (S a))) := by
  match a, ha with
  | 1, _ => rfl
  | 2, _ => rfl
  | 3, _ => rfl
  | 4, _ => rfl
  | 5, _ => rfl
  | 6, _ => rfl
  | 7, _ => rfl
  | 8, _ => rfl
  | a + 9, h => omega
theorem m_seta (ca : Nat → ClassId) (ad : Nat → Nat) (S : mMS) (a k : Nat) (v : Int32) (ha : 1 ≤ a ∧ a ≤ 8) : (m_ws ca ad S).set a (ad a, .inl (ca 0, m_len a, .inl (upd (S a) k v))) = m_ws ca ad (m_up S a k v) := by
  match a, ha with
  | 1, _ => rfl
  | 2, _ => rfl
  | 3, _ => rfl
  | 4, _ => rfl
  | 5, _ => rfl
  | 6, _ => rfl
  | 7, _ => rfl
  | 8, _ => rfl
  | a + 9, h => omega
theorem m_ald (a : Nat) (ha : 1 ≤ a ∧ a ≤ 8) (X : MX p s m args meth c cc nL ret D ca ad) (hM : mI D ca ad s S H locs) {i : Int32} (hin : vp_in i (m_len a)) (hd : decode cc pc = .ok (.iaload, 1)) (k : W p l e R s m args below meth c H locs cells slots Q (F0 m (pc + 1) ls (.int (S a i.toNatClampNeg) :: rest))) : W p l e R s m args below meth c H locs cells slots Q (F0 m pc ls (.int i :: .ref (ad a) :: rest)) := by
  obtain ⟨⟨hx, hb, hml, hown, hts⟩, hrt, hlk, hK, hI⟩ := X
  exact va_iald hx hb hK hM.1 a 0 (m_wsa ca ad S a ha) rfl hin hd k
theorem m_ast (a : Nat) (ha : 1 ≤ a ∧ a ≤ 8) (X : MX p s m args meth c cc nL ret D ca ad) (hM : mI D ca ad s S H locs) {i v : Int32} (hin : vp_in i (m_len a)) (hd : decode cc pc = .ok (.iastore, 1)) (k : ∀ (H1 : Heap) (locs1 : List Loc) (S1 : mMS), S1 = m_up S a i.toNatClampNeg v → mI D ca ad s S1 H1 locs1 → W p l e R s m args below meth c H1 locs1 cells slots Q (F0 m (pc + 1) ls rest)) : W p l e R s m args below meth c H locs cells slots Q (F0 m pc ls (.int v :: .int i :: .ref (ad a) :: rest)) := by
  obtain ⟨⟨hx, hb, hml, hown, hts⟩, hrt, hlk, hK, hI⟩ := X
  refine va_iast hx hb hK hM.1 (m_D hI) hM.2 a 0 (m_wsa ca ad S a ha) rfl hin hd (fun H1 locs1 hP hD hS => ?_)
  exact k H1 locs1 _ rfl ⟨by rw [← m_seta ca ad S a _ v ha]; exact hP, hS⟩
theorem mm_start {y : MethodName} {n : Nat} {av : List Value} {S' : mMS} {ov : Option Value} (hy : plainName y.cls = true) (hc : y.cls = RX3) (hn : (lg_sl av).length ≤ nL)
    (body : ∀ p e s m below meth c, MX p s m av.toArray meth c cc nL ret D ca ad → ∀ ls, lv_has ls nL (lv_args 0 av) → mI D ca ad s S s.heap [] → W p l e { frames := n, cells := 0, slots := 0, locals := 40 * n } s m av.toArray below meth c s.heap [] 0 0 (MQ below (mQ D ca ad S' ov) av.toArray s 0 0 (mA ad)) (F0 m 0 ls [])) : MmI l D ca ad y cc nL ret n av S S' ov := by
  refine Met.ofW (cc := cc) (maxL := nL) (ret := ret) hy rfl ?_
  intro p e s m args below meth c s₁ B hml hv
  obtain ⟨rfl, hP, hK, hI⟩ := hv
  have hts := atoms_spec (ws := ws_ y cc nL ret) B.pre
  have hts : ∀ w ∈ lw_all, w.before _ s = true := fun w h => hts w (List.mem_cons_of_mem _ h)
  have hown : s.vm.findClass RX3 = some m.cls := by rw [← hc]; exact findClass_of_methodNamed B.named
  have hl := lv_entry av (n := nL) hn
  rw [lg_entry_eq]
  exact body p e s m below meth c ⟨⟨B.exec, B.bytes, hml, hown, hts⟩, B.returns, B.notSynchronized, hK, hI⟩ _ hl ⟨hP, va_S.rf⟩
theorem m_iret (X : MX p s m args meth c cc nL (some .int) D ca ad) (hM : mI D ca ad s S H locs) {v : Int32} (hd : decode cc pc = .ok (.ireturn, 1)) : W p l e R s m args below meth c H locs 0 0 (MQ below (mQ D ca ad S (some (.int v))) args s 0 0 (mA ad)) (F0 m pc ls [.int v]) := by
  obtain ⟨⟨hx, hb, hml, hown, hts⟩, hrt, hlk, hK, hI⟩ := X
  exact W.iret (v := v) hx hb hrt (fun t ht hW => ⟨⟨rfl, by rw [ht]; exact hM.1⟩, hM.2.F ht⟩) hM.2.2.2 hd
theorem m_zret (X : MX p s m args meth c cc nL (some .boolean) D ca ad) (hM : mI D ca ad s S H locs) {v : Int32} (hv : v = 0 ∨ v = 1) (hd : decode cc pc = .ok (.ireturn, 1)) : W p l e R s m args below meth c H locs 0 0 (MQ below (mQ D ca ad S (some (.int v))) args s 0 0 (mA ad)) (F0 m pc ls [.int v]) := by
  obtain ⟨⟨hx, hb, hml, hown, hts⟩, hrt, hlk, hK, hI⟩ := X
  exact W.zret (v := v) hx hb hrt (gb_n hv) (fun t ht hW => ⟨⟨rfl, by rw [ht]; exact hM.1⟩, hM.2.F ht⟩) hM.2.2.2 hd
theorem m_cret (X : MX p s m args meth c cc nL (some .char) D ca ad) (hM : mI D ca ad s S H locs) {v : Int32} (hv : narrow .char (.int v) = .int v) (hd : decode cc pc = .ok (.ireturn, 1)) : W p l e R s m args below meth c H locs 0 0 (MQ below (mQ D ca ad S (some (.int v))) args s 0 0 (mA ad)) (F0 m pc ls [.int v]) := by
  obtain ⟨⟨hx, hb, hml, hown, hts⟩, hrt, hlk, hK, hI⟩ := X
  exact W.zret (v := v) hx hb hrt hv (fun t ht hW => ⟨⟨rfl, by rw [ht]; exact hM.1⟩, hM.2.F ht⟩) hM.2.2.2 hd
theorem m_fret (X : MX p s m args meth c cc nL (some .float) D ca ad) (hM : mI D ca ad s S H locs) {v : UInt32} (hd : decode cc pc = .ok (.freturn, 1)) : W p l e R s m args below meth c H locs 0 0 (MQ below (mQ D ca ad S (some (.float v))) args s 0 0 (mA ad)) (F0 m pc ls [.float v]) := by
  obtain ⟨⟨hx, hb, hml, hown, hts⟩, hrt, hlk, hK, hI⟩ := X
  exact W.fret (v := v) hx hb hrt (fun t ht hW => ⟨⟨rfl, by rw [ht]; exact hM.1⟩, hM.2.F ht⟩) hM.2.2.2 hd
theorem m_dret (X : MX p s m args meth c cc nL (some .double) D ca ad) (hM : mI D ca ad s S H locs) {v : UInt64} (hd : decode cc pc = .ok (.dreturn, 1)) : W p l e R s m args below meth c H locs 0 0 (MQ below (mQ D ca ad S (some (.double v))) args s 0 0 (mA ad)) (F0 m pc ls [.double v]) := by
  obtain ⟨⟨hx, hb, hml, hown, hts⟩, hrt, hlk, hK, hI⟩ := X
  exact W.dret (v := v) hx hb hrt (fun t ht hW => ⟨⟨rfl, by rw [ht]; exact hM.1⟩, hM.2.F ht⟩) hM.2.2.2 hd
theorem m_vret (X : MX p s m args meth c cc nL none D ca ad) (hM : mI D ca ad s S H locs) (hd : decode cc pc = .ok (.return_, 1)) : W p l e R s m args below meth c H locs 0 0 (MQ below (mQ D ca ad S none) args s 0 0 (mA ad)) (F0 m pc ls []) := by
  obtain ⟨⟨hx, hb, hml, hown, hts⟩, hrt, hlk, hK, hI⟩ := X
  exact W.vret hx hb hrt (fun t ht hW => ⟨⟨rfl, by rw [ht]; exact hM.1⟩, hM.2.F ht⟩) hM.2.2.2 hd
theorem m_recv (X : MX p s m args meth c cc nL ret D ca ad) (hM : mI D ca ad s S H locs) : ∃ cell : Cell, H[ad 0]? = some cell ∧ cell.vm.isStatics = false ∧ s.vm.findClass RX3 = some cell.cls := va_recv X.2.2.2.1 hM.1 (ci := 3) (q0 := 0) rfl rfl
theorem mPre_blind (av : List Value) : FrameBlind (va_Pc av (mPre D ca ad S)) := fun a U g mk q => by
  obtain ⟨q0, qP, qK, qI⟩ := q
  exact ⟨q0, qP, va_K.moved (u := U) (U := U.calling g mk a) (Vm.Alike.refl U.vm) qK, qI⟩
/-- a call of the twin's own method on itself -/
theorem m_cV (X : MX p s m args meth c cc nL ret D ca ad) (hM : mI D ca ad s S H locs) {y : MethodName} {cy : ByteArray} {nLy ny idx k9 : Nat} {rety : Option FieldType} {As : List Value} {S' : mMS} {ov : Option Value} (hc : MmI l D ca ad y cy nLy rety ny (.ref (ad 0) :: As) S S' ov) (g : GoodIn lw_all (wsV RX3 idx RX3 y (ws_ y cy nLy rety))) (hn : As.length = k9) (hyd : y.cls = RX3 ∧ y.cls ≠ "java/lang/invoke/MethodHandle" ∧ y.cls ≠ "java/lang/invoke/VarHandle" ∧ (parseMethodDescriptor y.desc).map (fun d => d.parameters.length) = some k9) (hR : ny + 1 ≤ R.frames ∧ 8 + (nLy + 11) + 40 * ny ≤ R.locals) (hls : ls.size = nL) (hst : st0 = As.reverse ++ .ref (ad 0) :: rest) (hrm : (rest.map fun v => v.category).sum ≤ 8) (hd : decode cc pc = .ok (.invokevirtual idx, 3))
    (k : ∀ (H1 : Heap) (locs1 : List Loc), mI D ca ad s S' H1 locs1 → W p l e R s m args below meth c H1 locs1 0 0 Q (F0 m (pc + 3) ls (ov.toList ++ rest))) : W p l e R s m args below meth c H locs 0 0 Q (F0 m pc ls st0) := by
  have hrv := m_recv X hM
  obtain ⟨hF, hrt, hlk, hK, hI⟩ := X
  have hw := cwV (R := R) (args := args) (s := s) (rm := { frames := ny, cells := 0, slots := 0, locals := 40 * ny }) (mc := 0) (ms := 0) k9 hF.2.2.2.2 g rfl rfl rfl hyd hR
  refine q_call (va_runV (As := As) (rest := rest) hF hc hw ⟨mPre_blind _, hrv, fun U hU hW => ⟨rfl, by rw [hU]; exact hM.1, va_K.moved hW.alike hK, hI⟩⟩ rfl hn hls hst (lv_room hrm) hd ⟨Nat.zero_le _, Nat.zero_le _⟩) hM.2 (fun q _ h => h) (fun q h => h) (fun t H1 locs1 ht _ hB _ _ hS => ?_)
  exact k H1 locs1 ⟨by rw [← ht]; exact hB, hS⟩
/-- a call of the twin's static method that works on its arrays -/
theorem m_cSM (X : MX p s m args meth c cc nL ret D ca ad) (hM : mI D ca ad s S H locs) {y : MethodName} {cy : ByteArray} {nLy ny idx k9 : Nat} {rety : Option FieldType} {As : List Value} {S' : mMS} {ov : Option Value} (hc : MmI l D ca ad y cy nLy rety ny As S S' ov) (g : GoodIn lw_all (va_wsS RX3 idx y (ws_ y cy nLy rety))) (hn : As.length = k9) (hyd : y.cls ≠ "java/lang/invoke/MethodHandle" ∧ y.cls ≠ "java/lang/invoke/VarHandle" ∧ (parseMethodDescriptor y.desc).map (fun d => d.parameters.length) = some k9) (hR : ny + 1 ≤ R.frames ∧ 8 + (nLy + 11) + 40 * ny ≤ R.locals) (hls : ls.size = nL) (hst : st0 = As.reverse ++ rest) (hrm : (rest.map fun v => v.category).sum ≤ 8) (hd : decode cc pc = .ok (.invokestatic idx, 3))
    (k : ∀ (H1 : Heap) (locs1 : List Loc), mI D ca ad s S' H1 locs1 → W p l e R s m args below meth c H1 locs1 0 0 Q (F0 m (pc + 3) ls (ov.toList ++ rest))) : W p l e R s m args below meth c H locs 0 0 Q (F0 m pc ls st0) := by
  obtain ⟨hF, hrt, hlk, hK, hI⟩ := X
  have hw := va_cwS (R := R) (args := args) (s := s) (rm := { frames := ny, cells := 0, slots := 0, locals := 40 * ny }) (mc := 0) (ms := 0) k9 hF.2.2.2.2 g rfl rfl rfl hyd hR
  refine q_call (va_runS (As := As) (rest := rest) hF hc hw ⟨mPre_blind _, fun U hU hW => ⟨rfl, by rw [hU]; exact hM.1, va_K.moved hW.alike hK, hI⟩⟩ rfl hn hls hst (lv_room hrm) hd ⟨Nat.zero_le _, Nat.zero_le _⟩) hM.2 (fun q _ h => h) (fun q h => h) (fun t H1 locs1 ht _ hB _ _ hS => ?_)
  exact k H1 locs1 ⟨by rw [← ht]; exact hB, hS⟩
theorem m_cVi (X : MX p s m args meth c cc nL ret D ca ad) (hM : mI D ca ad s S H locs) {y : MethodName} {cy : ByteArray} {nLy ny idx k9 : Nat} {rety : Option FieldType} {As : List Value} {S' : mMS} {v : Int32} (hc : MmI l D ca ad y cy nLy rety ny (.ref (ad 0) :: As) S S' (some (.int v))) (g : GoodIn lw_all (wsV RX3 idx RX3 y (ws_ y cy nLy rety))) (hn : As.length = k9) (hyd : y.cls = RX3 ∧ y.cls ≠ "java/lang/invoke/MethodHandle" ∧ y.cls ≠ "java/lang/invoke/VarHandle" ∧ (parseMethodDescriptor y.desc).map (fun d => d.parameters.length) = some k9) (hR : ny + 1 ≤ R.frames ∧ 8 + (nLy + 11) + 40 * ny ≤ R.locals) (hls : ls.size = nL) (hst : st0 = As.reverse ++ .ref (ad 0) :: rest) (hrm : (rest.map fun v => v.category).sum ≤ 8) (hd : decode cc pc = .ok (.invokevirtual idx, 3))
    (k : ∀ (H1 : Heap) (locs1 : List Loc), mI D ca ad s S' H1 locs1 → W p l e R s m args below meth c H1 locs1 0 0 Q (F0 m (pc + 3) ls (.int v :: rest))) : W p l e R s m args below meth c H locs 0 0 Q (F0 m pc ls st0) := m_cV X hM hc g hn hyd hR hls hst hrm hd k
theorem m_cVv (X : MX p s m args meth c cc nL ret D ca ad) (hM : mI D ca ad s S H locs) {y : MethodName} {cy : ByteArray} {nLy ny idx k9 : Nat} {rety : Option FieldType} {As : List Value} {S' : mMS}  (hc : MmI l D ca ad y cy nLy rety ny (.ref (ad 0) :: As) S S' (none)) (g : GoodIn lw_all (wsV RX3 idx RX3 y (ws_ y cy nLy rety))) (hn : As.length = k9) (hyd : y.cls = RX3 ∧ y.cls ≠ "java/lang/invoke/MethodHandle" ∧ y.cls ≠ "java/lang/invoke/VarHandle" ∧ (parseMethodDescriptor y.desc).map (fun d => d.parameters.length) = some k9) (hR : ny + 1 ≤ R.frames ∧ 8 + (nLy + 11) + 40 * ny ≤ R.locals) (hls : ls.size = nL) (hst : st0 = As.reverse ++ .ref (ad 0) :: rest) (hrm : (rest.map fun v => v.category).sum ≤ 8) (hd : decode cc pc = .ok (.invokevirtual idx, 3))
    (k : ∀ (H1 : Heap) (locs1 : List Loc), mI D ca ad s S' H1 locs1 → W p l e R s m args below meth c H1 locs1 0 0 Q (F0 m (pc + 3) ls (rest))) : W p l e R s m args below meth c H locs 0 0 Q (F0 m pc ls st0) := m_cV X hM hc g hn hyd hR hls hst hrm hd k
theorem m_cSMv (X : MX p s m args meth c cc nL ret D ca ad) (hM : mI D ca ad s S H locs) {y : MethodName} {cy : ByteArray} {nLy ny idx k9 : Nat} {rety : Option FieldType} {As : List Value} {S' : mMS}  (hc : MmI l D ca ad y cy nLy rety ny As S S' (none)) (g : GoodIn lw_all (va_wsS RX3 idx y (ws_ y cy nLy rety))) (hn : As.length = k9) (hyd : y.cls ≠ "java/lang/invoke/MethodHandle" ∧ y.cls ≠ "java/lang/invoke/VarHandle" ∧ (parseMethodDescriptor y.desc).map (fun d => d.parameters.length) = some k9) (hR : ny + 1 ≤ R.frames ∧ 8 + (nLy + 11) + 40 * ny ≤ R.locals) (hls : ls.size = nL) (hst : st0 = As.reverse ++ rest) (hrm : (rest.map fun v => v.category).sum ≤ 8) (hd : decode cc pc = .ok (.invokestatic idx, 3))
    (k : ∀ (H1 : Heap) (locs1 : List Loc), mI D ca ad s S' H1 locs1 → W p l e R s m args below meth c H1 locs1 0 0 Q (F0 m (pc + 3) ls (rest))) : W p l e R s m args below meth c H locs 0 0 Q (F0 m pc ls st0) := m_cSM X hM hc g hn hyd hR hls hst hrm hd k
end
section
variable {p : Program} {l : Launch} {e : Env} {R : Room} {s : State} {m : MethodId} {args : Array Value} {below : List Frame} {meth : Method} {c : Code} {H : Heap} {locs : List Loc} {cells slots : Nat} {Q : State → Prop} {pc : Nat} {ls : Array Slot} {rest st0 : List Value} {cc : ByteArray} {nL : Nat} {ret : Option FieldType} {own : String}
/-- a call of a static method that touches no heap -/
theorem p_cS (hF : CallFix p m c cc nL s args lw_all own) {y : MethodName} {cy : ByteArray} {nLy ny idx k9 : Nat} {rety : Option FieldType} {As : List Value} {ov : Option Value} (hc : PmI l y cy nLy rety ny As ov) (g : GoodIn lw_all (va_wsS own idx y (ws_ y cy nLy rety))) (hn : As.length = k9) (hyd : y.cls ≠ "java/lang/invoke/MethodHandle" ∧ y.cls ≠ "java/lang/invoke/VarHandle" ∧ (parseMethodDescriptor y.desc).map (fun d => d.parameters.length) = some k9) (hR : ny + 1 ≤ R.frames ∧ 8 + (nLy + 11) + 40 * ny ≤ R.locals) (hls : ls.size = nL) (hst : st0 = As.reverse ++ rest) (hrm : (rest.map fun v => v.category).sum ≤ 8) (hd : decode cc pc = .ok (.invokestatic idx, 3)) (hcl : cells ≤ R.cells ∧ slots ≤ R.slots)
    (k : W p l e R s m args below meth c H locs cells slots Q (F0 m (pc + 3) ls (ov.toList ++ rest))) : W p l e R s m args below meth c H locs cells slots Q (F0 m pc ls st0) := by
  have hw := va_cwS (R := R) (args := args) (s := s) (rm := { frames := ny, cells := 0, slots := 0, locals := 40 * ny }) (mc := 0) (ms := 0) k9 hF.2.2.2.2 g rfl rfl rfl hyd hR
  exact q_callS (va_runS (As := As) (rest := rest) hF hc hw ⟨fun a U g mk q => ⟨q.1, trivial⟩, fun U hU hW => ⟨rfl, trivial⟩⟩ rfl hn hls hst (lv_room hrm) hd hcl) k
theorem pp_start {y : MethodName} {n : Nat} {av : List Value} {ov : Option Value} (hy : plainName y.cls = true) (hc : y.cls = own) (hn : (lg_sl av).length ≤ nL)
    (body : ∀ p e s m below meth c, CallFix p m c cc nL s av.toArray lw_all own → meth.sig.returnType = ret → meth.locks = false → ∀ ls, lv_has ls nL (lv_args 0 av) → W p l e { frames := n, cells := 0, slots := 0, locals := 40 * n } s m av.toArray below meth c s.heap [] 0 0 (MQ below (fun _ st o t => o = .returned ov ∧ t.heap = st.heap) av.toArray s 0 0 (fun _ => False)) (F0 m 0 ls [])) : PmI l y cc nL ret n av ov := by
  refine Met.ofW (cc := cc) (maxL := nL) (ret := ret) hy rfl ?_
  intro p e s m args below meth c s₁ B hml hv
  obtain ⟨rfl, -⟩ := hv
  have hts := atoms_spec (ws := ws_ y cc nL ret) B.pre
  have hts : ∀ w ∈ lw_all, w.before _ s = true := fun w h => hts w (List.mem_cons_of_mem _ h)
  have hown : s.vm.findClass own = some m.cls := by rw [← hc]; exact findClass_of_methodNamed B.named
  have hl := lv_entry av (n := nL) hn
  rw [lg_entry_eq]
  exact body p e s m below meth c ⟨B.exec, B.bytes, hml, hown, hts⟩ B.returns B.notSynchronized _ hl
theorem p_iret (hF : CallFix p m c cc nL s args lw_all own) (hrt : meth.sig.returnType = some .int) (hlk : meth.locks = false) {v : Int32} (hd : decode cc pc = .ok (.ireturn, 1)) : W p l e R s m args below meth c s.heap [] 0 0 (MQ below (fun _ st o t => o = .returned (some (.int v)) ∧ t.heap = st.heap) args s 0 0 (fun _ => False)) (F0 m pc ls [.int v]) := by
  obtain ⟨hx, hb, hml, hown, hts⟩ := hF
  exact W.iret (v := v) hx hb hrt (fun t ht hW => ⟨rfl, ht⟩) (fun q h => by cases h) hd
theorem p_zret (hF : CallFix p m c cc nL s args lw_all own) (hrt : meth.sig.returnType = some .boolean) (hlk : meth.locks = false) {v : Int32} (hv : v = 0 ∨ v = 1) (hd : decode cc pc = .ok (.ireturn, 1)) : W p l e R s m args below meth c s.heap [] 0 0 (MQ below (fun _ st o t => o = .returned (some (.int v)) ∧ t.heap = st.heap) args s 0 0 (fun _ => False)) (F0 m pc ls [.int v]) := by
  obtain ⟨hx, hb, hml, hown, hts⟩ := hF
  exact W.zret (v := v) hx hb hrt (gb_n hv) (fun t ht hW => ⟨rfl, ht⟩) (fun q h => by cases h) hd
theorem p_cSi (hF : CallFix p m c cc nL s args lw_all own) {y : MethodName} {cy : ByteArray} {nLy ny idx k9 : Nat} {rety : Option FieldType} {As : List Value} {v : Int32} (hc : PmI l y cy nLy rety ny As (some (.int v))) (g : GoodIn lw_all (va_wsS own idx y (ws_ y cy nLy rety))) (hn : As.length = k9) (hyd : y.cls ≠ "java/lang/invoke/MethodHandle" ∧ y.cls ≠ "java/lang/invoke/VarHandle" ∧ (parseMethodDescriptor y.desc).map (fun d => d.parameters.length) = some k9) (hR : ny + 1 ≤ R.frames ∧ 8 + (nLy + 11) + 40 * ny ≤ R.locals) (hls : ls.size = nL) (hst : st0 = As.reverse ++ rest) (hrm : (rest.map fun v => v.category).sum ≤ 8) (hd : decode cc pc = .ok (.invokestatic idx, 3)) (hcl : cells ≤ R.cells ∧ slots ≤ R.slots)
    (k : W p l e R s m args below meth c H locs cells slots Q (F0 m (pc + 3) ls (.int v :: rest))) : W p l e R s m args below meth c H locs cells slots Q (F0 m pc ls st0) := p_cS hF hc g hn hyd hR hls hst hrm hd hcl k
end

