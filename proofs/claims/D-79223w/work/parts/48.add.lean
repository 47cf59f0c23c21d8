/-! the call of ArrayList.add on a list of the core -/
def gcC (n : Nat) : Nat := if n = capF n then 1 else 0
def gcS (n : Nat) : Nat := if n = capF n then capF (n + 1) else 0
theorem capF_z {n : Nat} (h : capF n = 0) : n = 0 := by
  unfold capF at h
  split at h
  · assumption
  · repeat' split at h
    all_goals omega
theorem capF_full {n : Nat} (h0 : n ≠ 0) (h : n = capF n) (hn : n ≤ 59) : 2 ≤ n ∧ capF (n + 1) = n + n / 2 := by
  have : n = 10 ∨ n = 15 ∨ n = 22 ∨ n = 33 ∨ n = 49 := by
    unfold capF at h
    rw [if_neg h0] at h
    repeat' split at h
    all_goals omega
  rcases this with rfl | rfl | rfl | rfl | rfl <;> decide
theorem capF_room {n : Nat} (h0 : capF n ≠ 0) (h : n ≠ capF n) (hn : n ≤ 59) : n < capF n ∧ capF (n + 1) = capF n ∧ capF n ≤ 73 := by
  have h1 : n ≠ 0 := fun z => h0 (by rw [z]; rfl)
  have : n ≠ 10 ∧ n ≠ 15 ∧ n ≠ 22 ∧ n ≠ 33 ∧ n ≠ 49 := by
    refine ⟨?_, ?_, ?_, ?_, ?_⟩ <;> (intro z; subst z; exact h rfl)
  refine ⟨?_, ?_, cap_le n⟩
  · unfold capF
    rw [if_neg h1]
    repeat' split
    all_goals omega
  · unfold capF
    rw [if_neg h1, if_neg (show n + 1 ≠ 0 by omega)]
    by_cases a1 : n ≤ 10
    · rw [if_pos a1, if_pos (show n + 1 ≤ 10 by omega)]
    rw [if_neg a1, if_neg (show ¬ n + 1 ≤ 10 by omega)]
    by_cases a2 : n ≤ 15
    · rw [if_pos a2, if_pos (show n + 1 ≤ 15 by omega)]
    rw [if_neg a2, if_neg (show ¬ n + 1 ≤ 15 by omega)]
    by_cases a3 : n ≤ 22
    · rw [if_pos a3, if_pos (show n + 1 ≤ 22 by omega)]
    rw [if_neg a3, if_neg (show ¬ n + 1 ≤ 22 by omega)]
    by_cases a4 : n ≤ 33
    · rw [if_pos a4, if_pos (show n + 1 ≤ 33 by omega)]
    rw [if_neg a4, if_neg (show ¬ n + 1 ≤ 33 by omega)]
    by_cases a5 : n ≤ 49
    · rw [if_pos a5, if_pos (show n + 1 ≤ 49 by omega)]
    rw [if_neg a5, if_neg (show ¬ n + 1 ≤ 49 by omega)]
theorem vaA1 {a sz q : Nat} {e : va_E} (h : va_A [(a, e)] sz q) : q = a ∨ sz ≤ q := by
  rcases h with ⟨k, e', hk⟩ | h
  · match k, hk with
    | 0, hk => cases hk; exact Or.inl rfl
    | k + 1, hk => simp at hk
  · exact Or.inr h
theorem vaA2 {a b sz q : Nat} {e f : va_E} (h : va_A [(a, e), (b, f)] sz q) : q = a ∨ q = b ∨ sz ≤ q := by
  rcases h with ⟨k, e', hk⟩ | h
  · match k, hk with
    | 0, hk => cases hk; exact Or.inl rfl
    | 1, hk => cases hk; exact Or.inr (Or.inl rfl)
    | k + 2, hk => simp at hk
  · exact Or.inr (Or.inr h)
theorem vaD1 {a : Nat} {e : va_E} : va_D (fun _ => True) [(a, e)] := ⟨fun i j p q hi hj _ => by
  match i, j, hi, hj with
  | 0, 0, _, _ => rfl
  | i + 1, _, hi, _ => simp at hi
  | _, j + 1, _, hj => simp at hj, fun _ _ _ => trivial⟩
theorem vaD2 {a b : Nat} {e f : va_E} (h : a ≠ b) : va_D (fun _ => True) [(a, e), (b, f)] := ⟨fun i j p q hi hj hq => by
  match i, j, hi, hj with
  | 0, 0, _, _ => rfl
  | 1, 1, _, _ => rfl
  | 0, 1, hi, hj => cases hi; cases hj; exact absurd hq h
  | 1, 0, hi, hj => cases hi; cases hj; exact absurd hq.symm h
  | i + 2, _, hi, _ => simp at hi
  | _, j + 2, _, hj => simp at hj, fun _ _ _ => trivial⟩
theorem vaP1 {D : va_G} {cl : List vw_C} {x : Nat × va_E} {H : Heap} (h : va_at D cl x H) : va_P D cl [x] H := fun k q hk => by
  match k, hk with
  | 0, hk => cases hk; exact h
  | k + 1, hk => simp at hk
theorem vaP2 {D : va_G} {cl : List vw_C} {x y : Nat × va_E} {H : Heap} (h : va_at D cl x H) (h2 : va_at D cl y H) : va_P D cl [x, y] H := fun k q hk => by
  match k, hk with
  | 0, hk => cases hk; exact h
  | 1, hk => cases hk; exact h2
  | k + 2, hk => simp at hk
theorem kEl_up {L L' : Nat → Nat} {n b x : Nat} (h1 : ∀ k, k < n → L' (b + k) = L (b + k)) (h2 : L' (b + n) = x) : va_up (kEl L n b) n (some x) = kEl L' (n + 1) b := by
  funext k
  unfold va_up kEl
  by_cases hk : k = n
  · rw [if_pos hk, if_pos (by omega), hk, h2]
  · rw [if_neg hk]
    by_cases hk2 : k < n
    · rw [if_pos hk2, if_pos (by omega), h1 k hk2]
    · rw [if_neg hk2, if_neg (by omega)]
theorem kEl_cpy {L : Nat → Nat} {n b : Nat} : va_cpy (kEl L n b) (fun _ => none) 0 0 n = kEl L n b := by
  funext k
  unfold va_cpy kEl
  by_cases hk : k < n
  · rw [if_pos ⟨by omega, by omega⟩, if_pos (by omega), if_pos hk, show 0 + (k - 0) = k by omega]
  · rw [if_neg (by omega), if_neg hk]
section
variable {p : Program} {l : Launch} {e : Env} {R : Room} {s : State} {m : MethodId} {args : Array Value} {below : List Frame} {meth : Method} {c : Code} {H : Heap} {locs : List Loc} {cells slots : Nat} {Q : State → Prop} {pc : Nat} {ls : Array Slot} {rest st0 : List Value} {own : String} {cc : ByteArray} {nL : Nat} {ret : Option FieldType} {D : va_G} {ca : Nat → ClassId} {zb N L : Nat → Nat} {G : mMS} {A0 : Nat → Prop}
theorem k_addL (X : KX p s m args meth c own cc nL ret D ca) (hKK : ∀ U : State, U.heap = H → s.WarmedH U.vm → KK D ca zb U) (hS : va_S A0 s.heap H locs) (hA1 : ∀ q, H.size ≤ q → A0 q) (hz : zb 1 ≤ H.size) {la ea b n x idx : Nat} {μ : Int32} (hn : n ≤ 59)
    (h1 : va_at D vwCl (la, .inr (7, [.int μ, .ref (if capF n = 0 then zb 0 else ea), .int (nI n)])) H) (h2 : capF n ≠ 0 → va_at D vwCl (ea, .inl (ca 1, capF n, .inr (.inr (.inr (.inr (kEl L n b)))))) H)
    (hla : A0 la ∧ zb 1 ≤ la) (hea : capF n ≠ 0 → A0 ea ∧ zb 1 ≤ ea ∧ la ≠ ea) (hx : ∀ U : State, U.heap = H → s.WarmedH U.vm → va_Any "java/lang/Object" U U.heap x) (hxl : x < H.size ∧ x ≠ la ∧ (capF n ≠ 0 → x ≠ ea))
    (hel : ∀ i, i < n → (∀ U : State, U.heap = H → s.WarmedH U.vm → va_Any "java/lang/Object" U U.heap (L (b + i))) ∧ L (b + i) < H.size ∧ L (b + i) ≠ la ∧ L (b + i) ≠ ea)
    (hq : Cond.methodLink own idx yJ2_add ∈ lw_all) (hfr : 7 ≤ R.frames) (hlo : 280 ≤ R.locals) (hls : ls.size = nL) (hrm : (rest.map fun v => v.category).sum ≤ 8) (hd : decode cc pc = .ok (.invokevirtual idx, 3)) (hcl : cells + gcC n ≤ R.cells ∧ slots + gcS n ≤ R.slots)
    (k : ∀ (H2 : Heap) (locs2 : List Loc) (ea2 : Nat), va_at D vwCl (la, .inr (7, [.int (μ + 1), .ref ea2, .int (nI (n + 1))])) H2 → (∀ L' : Nat → Nat, (∀ k, k < n → L' (b + k) = L (b + k)) → L' (b + n) = x → va_at D vwCl (ea2, .inl (ca 1, capF (n + 1), .inr (.inr (.inr (.inr (kEl L' (n + 1) b)))))) H2) →
      ((ea2 = ea ∧ capF n ≠ 0) ∨ H.size ≤ ea2) → (∀ a, a < H.size → a ≠ la → (capF n ≠ 0 → a ≠ ea) → H2[a]? = H[a]?) → H.size ≤ H2.size → va_S A0 s.heap H2 locs2 → W p l e R s m args below meth c H2 locs2 (cells + gcC n) (slots + gcS n) Q (F0 m (pc + 3) ls (.int 1 :: rest))) :
    W p l e R s m args below meth c H locs cells slots Q (F0 m pc ls (.ref x :: .ref la :: rest)) := by
  have hF := X.1
  by_cases hc0 : capF n = 0
  · have hn0 := capF_z hc0
    subst hn0
    rw [if_pos hc0] at h1
    have hP : va_P D vwCl [(la, .inr (7, [.int μ, .ref (zb 0), .int 0]))] H := vaP1 h1
    have hg1 : gcC 0 = 1 := rfl
    have hg2 : gcS 0 = 10 := rfl
    rw [hg1, hg2] at hcl k
    have hAA : ∀ q, va_A [(la, .inr (7, [.int μ, .ref (zb 0), .int 0]))] H.size q → A0 q ∧ zb 1 ≤ q := fun q h => by
      rcases vaA1 h with h | h
      · rw [h]; exact hla
      · exact ⟨hA1 q h, Nat.le_trans hz h⟩
    refine q_callE (va_runV (As := [.ref x]) (rest := rest) hF (v_L_addF (sz := H.size) (la := la) (x := x) (μ := μ) (D := D) (ca := ca) (zb := zb)) (cwV 1 hF.2.2.2.2 (lw_V hq q371 q372 q69 q373) rfl rfl rfl (by decide +kernel) ⟨Nat.le_trans (by decide) hfr, Nat.le_trans (m := 280) (by decide) hlo⟩) ⟨v_blind (fun _ _ _ _ h => h), va_recv X.2.2.2.1 hP (ci := 7) (q0 := 0) rfl rfl, fun U hU hW => ⟨rfl, by rw [hU], by rw [hU]; exact hP, hKK U hU hW, vaD1, fun q h => (hAA q h).2, hx U hU hW, fun h => by rcases vaA1 h with h | h; exact hxl.2.1 h; omega⟩⟩ rfl rfl hls rfl (lv_room hrm) hd hcl) hS (fun q _ h => (hAA q h).1) (fun q h => (hAA q h).1) (fun x1 t H1 locs1 ht hvm hB hz1 hk1 hS1 => ?_)
    obtain ⟨hP1, hD1⟩ := hB
    rw [ht] at hP1
    refine k H1 locs1 x1 (hP1 0 _ rfl) (fun L' a1 a2 => ?_) (Or.inr ?_) (fun a a1 a2 _ => hk1 a a1 fun z => ?_) hz1 hS1
    · rw [← kEl_up (L := L) a1 a2, show kEl L 0 b = fun _ => none from funext fun k => if_neg (by omega)]
      exact hP1 1 _ rfl
    · rcases vaA1 (hD1.2 1 _ rfl) with h | h
      · exact absurd (hD1.1 0 1 _ _ rfl rfl h.symm) (by decide)
      · exact h
    · rcases vaA1 z with h | h
      · exact a2 h
      · omega
  · rw [if_neg hc0] at h1
    have h2 := h2 hc0
    obtain ⟨e1, e2, e3⟩ := hea hc0
    have hxe := hxl.2.2 hc0
    have hP := vaP2 h1 h2
    have hAA : ∀ q, va_A [(la, .inr (7, [.int μ, .ref ea, .int (nI n)])), (ea, .inl (ca 1, capF n, .inr (.inr (.inr (.inr (kEl L n b))))))] H.size q → A0 q ∧ zb 1 ≤ q := fun q h => by
      rcases vaA2 h with h | h | h
      · rw [h]; exact hla
      · rw [h]; exact ⟨e1, e2⟩
      · exact ⟨hA1 q h, Nat.le_trans hz h⟩
    have hxn : ¬ va_A [(la, .inr (7, [.int μ, .ref ea, .int (nI n)])), (ea, .inl (ca 1, capF n, .inr (.inr (.inr (.inr (kEl L n b))))))] H.size x := fun h => by
      rcases vaA2 h with h | h | h
      · exact hxl.2.1 h
      · exact hxe h
      · omega
    by_cases hcf : n = capF n
    · obtain ⟨f1, f2⟩ := capF_full (fun z => hc0 (by rw [z]; rfl)) hcf hn
      have hg1 : gcC n = 1 := if_pos hcf
      have hg2 : gcS n = n + n / 2 := (if_pos hcf).trans f2
      rw [hg1, hg2] at hcl k
      rw [← hcf] at hP hAA hxn
      refine q_callE (va_runV (As := [.ref x]) (rest := rest) hF (v_L_addG (sz := H.size) (la := la) (ea := ea) (n := n) (x := x) (μ := μ) (f := kEl L n b) (D := D) (ca := ca) (zb := zb) f1 (by omega)) (cwV 1 hF.2.2.2.2 (lw_V hq q371 q372 q69 q373) rfl rfl rfl (by decide +kernel) ⟨Nat.le_trans (Nat.le_of_ble_eq_true rfl) hfr, Nat.le_trans (m := 280) (Nat.le_of_ble_eq_true rfl) hlo⟩) ⟨v_blind (fun _ _ _ _ h => h), va_recv X.2.2.2.1 hP (ci := 7) (q0 := 0) rfl rfl, fun U hU hW => ⟨rfl, by rw [hU], by rw [hU]; exact hP, hKK U hU hW, vaD2 e3, fun q h => (hAA q h).2, ⟨hx U hU hW, hxn⟩, fun i y hi hy => ?_⟩⟩ rfl rfl hls rfl (lv_room hrm) hd hcl) hS (fun q _ h => (hAA q h).1) (fun q h => (hAA q h).1) (fun x1 t H1 locs1 ht hvm hB hz1 hk1 hS1 => ?_)
      · unfold kEl at hy
        rw [if_pos hi] at hy
        cases hy
        obtain ⟨g1, g2, g3, g4⟩ := hel i hi
        refine ⟨g1 U hU hW, fun h => ?_⟩
        rcases vaA2 h with h | h | h
        · exact g3 h
        · exact g4 h
        · omega
      · obtain ⟨hP1, hD1⟩ := hB
        rw [ht] at hP1
        refine k H1 locs1 x1 (hP1 0 _ rfl) (fun L' a1 a2 => ?_) (Or.inr ?_) (fun a a1 a2 a3 => hk1 a a1 fun z => ?_) hz1 hS1
        · rw [f2, ← kEl_up (L := L) a1 a2, ← kEl_cpy (L := L)]
          exact hP1 2 _ rfl
        · rcases vaA2 (hD1.2 2 _ rfl) with h | h | h
          · exact absurd (hD1.1 0 2 _ _ rfl rfl h.symm) (by decide)
          · exact absurd (hD1.1 1 2 _ _ rfl rfl h.symm) (by decide)
          · exact h
        · rcases vaA2 z with h | h | h
          · exact a2 h
          · exact a3 hc0 h
          · omega
    · obtain ⟨f1, f2, f3⟩ := capF_room hc0 hcf hn
      have hg1 : gcC n = 0 := if_neg hcf
      have hg2 : gcS n = 0 := if_neg hcf
      rw [hg1, hg2] at hcl k
      refine q_callE (va_runV (As := [.ref x]) (rest := rest) hF (v_L_addR (sz := H.size) (la := la) (ea := ea) (n := capF n) (k := n) (x := x) (μ := μ) (f := kEl L n b) (D := D) (ca := ca) (zb := zb) f1 (by omega)) (cwV 1 hF.2.2.2.2 (lw_V hq q371 q372 q69 q373) rfl rfl rfl (by decide +kernel) ⟨Nat.le_trans (by decide) hfr, Nat.le_trans (m := 280) (by decide) hlo⟩) ⟨v_blind (fun _ _ _ _ h => h), va_recv X.2.2.2.1 hP (ci := 7) (q0 := 0) rfl rfl, fun U hU hW => ⟨rfl, by rw [hU], by rw [hU]; exact hP, hKK U hU hW, vaD2 e3, fun q h => (hAA q h).2, ⟨hx U hU hW, hxn⟩⟩⟩ rfl rfl hls rfl (lv_room hrm) hd hcl) hS (fun q _ h => (hAA q h).1) (fun q h => (hAA q h).1) (fun x1 t H1 locs1 ht hvm hB hz1 hk1 hS1 => ?_)
      obtain ⟨hP1, hD1⟩ := hB
      rw [ht] at hP1
      refine k H1 locs1 ea (hP1 0 _ rfl) (fun L' a1 a2 => ?_) (Or.inl ⟨rfl, hc0⟩) (fun a a1 a2 a3 => hk1 a a1 fun z => ?_) hz1 hS1
      · rw [f2, ← kEl_up (L := L) a1 a2]
        exact hP1 1 _ rfl
      · rcases vaA2 z with h | h | h
        · exact a2 h
        · exact a3 hc0 h
        · omega
end
