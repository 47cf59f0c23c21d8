/-! THE CORE's WORLD: its cells by codes. 0..3 lists (incidents, changes, actions, events), 4..6 reviews, targets, limits, 7 the core, 10..13 the lists' arrays, 100+k incidents, 200+k their counts, 300+k changes, 400+k actions, 500+k events -/
def capF (n : Nat) : Nat := if n = 0 then 0 else if n ≤ 10 then 10 else if n ≤ 15 then 15 else if n ≤ 22 then 22 else if n ≤ 33 then 33 else if n ≤ 49 then 49 else 73
def kBase (j : Nat) : Nat := match j with
  | 0 => 100
  | 1 => 300
  | 2 => 400
  | _ => 500
def kCnt (N : Nat → Nat) (n3 j : Nat) : Nat := if j < 3 then N j else n3
def kEl (L : Nat → Nat) (n b : Nat) : Nat → Option Nat := fun i => if i < n then some (L (b + i)) else none
abbrev coFs (L : Nat → Nat) (g : Nat → Int32) : List Value := [.ref (L 0), .ref (L 1), .ref (L 2), .ref (L 3), .ref (L 4), .ref (L 5), .ref (L 6), .int (g 7), .int (g 8), .int (g 9), .int (g 10)]
abbrev inFs (L : Nat → Nat) (g : Nat → Int32) (ct : Nat) : List Value := [.int (g 0), .int (g 1), .int (g 2), .ref ct, .int (g 4), .int (g 5), .int (g 6), .int (g 7), .int (g 8), .int (g 9), .int (g 10), .int (g 11), .int (g 12), .int (g 13), .int (g 14), .int (g 15), .int (g 16), .ref (L 7)]
abbrev f3 (g : Nat → Int32) : List Value := [.int (g 0), .int (g 1), .int (g 2)]
abbrev f4 (g : Nat → Int32) : List Value := [.int (g 0), .int (g 1), .int (g 2), .int (g 3)]
def kF (ca : Nat → ClassId) (zb : Nat → Nat) (N : Nat → Nat) (L : Nat → Nat) (n3 : Nat) (g : Nat → Int32) (i : Nat) : Option va_E :=
  if i < 4 then some (.inr (7, [.int (g 0), .ref (if capF (kCnt N n3 i) = 0 then zb 0 else L (10 + i)), .int (g 2)]))
  else if i = 4 then some (.inl (ca 0, 8, .inl g))
  else if i < 7 then some (.inl (ca 0, 4, .inl g))
  else if i = 7 then some (.inr (1, coFs L g))
  else if i < 10 then none
  else if i < 14 then (if capF (kCnt N n3 (i - 10)) = 0 then none else some (.inl (ca 1, capF (kCnt N n3 (i - 10)), .inr (.inr (.inr (.inr (kEl L (kCnt N n3 (i - 10)) (kBase (i - 10)))))))))
  else if i < 100 then none
  else if i < 200 then (if i < 100 + N 0 then some (.inr (2, inFs L g (L (i + 100)))) else none)
  else if i < 300 then (if i < 200 + N 0 then some (.inl (ca 0, 4, .inl g)) else none)
  else if i < 400 then (if i < 300 + N 1 then some (.inr (4, f3 g)) else none)
  else if i < 500 then (if i < 400 + N 2 then some (.inr (6, f4 g)) else none)
  else if i < 500 + n3 then some (.inr (5, f4 g)) else none
abbrev kN3 (G : mMS) : Nat := (G 3 2).toNatClampNeg
def kO (a i : Nat) : Nat × Nat := if (300 ≤ i ∧ i < 400) ∨ 500 ≤ i then (0, 0) else (a + 1, i)
def kBd (N : Nat → Nat) (G : mMS) : Prop := (N 0 ≤ 16 ∧ N 1 ≤ 12 ∧ N 2 ≤ 20 ∧ kN3 G ≤ 60) ∧ (G 0 2 = nI (N 0) ∧ G 1 2 = nI (N 1) ∧ G 2 2 = nI (N 2) ∧ G 3 2 = nI (kN3 G))
def CW (D : va_G) (ca : Nat → ClassId) (zb : Nat → Nat) (ow : Nat → Nat × Nat) (N : Nat → Nat) (L : Nat → Nat) (G : mMS) (H : Heap) : Prop :=
  (∀ (i : Nat) (x : va_E), kF ca zb N L (kN3 G) (G i) i = some x → va_at D vwCl (L i, x) H ∧ ow (L i) = kO (L 7) i ∧ zb 1 ≤ L i) ∧ kBd N G
def kst (i : Nat) : Prop := i < 10 ∨ (100 ≤ i ∧ i < 500)
/-- for reading -/
def CWx (D : va_G) (ca : Nat → ClassId) (zb : Nat → Nat) (N : Nat → Nat) (L : Nat → Nat) (G : mMS) (H : Heap) : Prop := ∃ (ow : Nat → Nat × Nat) (L' : Nat → Nat), (∀ i, kst i → L' i = L i) ∧ CW D ca zb ow N L' G H
theorem CWx.bd {D : va_G} {ca : Nat → ClassId} {zb N L : Nat → Nat} {G : mMS} {H : Heap} (h : CWx D ca zb N L G H) : kBd N G := by
  obtain ⟨_, _, _, h⟩ := h
  exact h.2
section
variable {D : va_G} {ca : Nat → ClassId} {zb N L : Nat → Nat} {G : mMS} {H : Heap} {n3 : Nat} {g : Nat → Int32}
theorem kF_core : kF ca zb N L n3 g 7 = some (.inr (1, coFs L g)) := rfl
theorem kF_arr4 : kF ca zb N L n3 g 4 = some (.inl (ca 0, 8, .inl g)) := rfl
theorem kF_arr5 : kF ca zb N L n3 g 5 = some (.inl (ca 0, 4, .inl g)) := rfl
theorem kF_arr6 : kF ca zb N L n3 g 6 = some (.inl (ca 0, 4, .inl g)) := rfl
theorem kF_list {j : Nat} (hj : j < 4) : kF ca zb N L n3 g j = some (.inr (7, [.int (g 0), .ref (if capF (kCnt N n3 j) = 0 then zb 0 else L (10 + j)), .int (g 2)])) := by
  unfold kF
  rw [if_pos hj]
theorem kF_el {j : Nat} (hj : j < 4) (hc : capF (kCnt N n3 j) ≠ 0) : kF ca zb N L n3 g (10 + j) = some (.inl (ca 1, capF (kCnt N n3 j), .inr (.inr (.inr (.inr (kEl L (kCnt N n3 j) (kBase j))))))) := by
  unfold kF
  rw [if_neg (by omega), if_neg (by omega), if_neg (by omega), if_neg (by omega), if_neg (by omega), if_pos (by omega), Nat.add_sub_cancel_left, if_neg hc]
theorem kF_inc {k : Nat} (hk : k < N 0) (hN : N 0 ≤ 16) : kF ca zb N L n3 g (100 + k) = some (.inr (2, inFs L g (L (200 + k)))) := by
  unfold kF
  rw [if_neg (by omega), if_neg (by omega), if_neg (by omega), if_neg (by omega), if_neg (by omega), if_neg (by omega), if_neg (by omega), if_pos (by omega), if_pos (by omega), show 100 + k + 100 = 200 + k by omega]
theorem kF_cnt {k : Nat} (hk : k < N 0) (hN : N 0 ≤ 16) : kF ca zb N L n3 g (200 + k) = some (.inl (ca 0, 4, .inl g)) := by
  unfold kF
  rw [if_neg (by omega), if_neg (by omega), if_neg (by omega), if_neg (by omega), if_neg (by omega), if_neg (by omega), if_neg (by omega), if_neg (by omega), if_pos (by omega), if_pos (by omega)]
theorem kF_chg {k : Nat} (hk : k < N 1) (hN : N 1 ≤ 12) : kF ca zb N L n3 g (300 + k) = some (.inr (4, f3 g)) := by
  unfold kF
  rw [if_neg (by omega), if_neg (by omega), if_neg (by omega), if_neg (by omega), if_neg (by omega), if_neg (by omega), if_neg (by omega), if_neg (by omega), if_neg (by omega), if_pos (by omega), if_pos (by omega)]
theorem kF_act {k : Nat} (hk : k < N 2) (hN : N 2 ≤ 20) : kF ca zb N L n3 g (400 + k) = some (.inr (6, f4 g)) := by
  unfold kF
  rw [if_neg (by omega), if_neg (by omega), if_neg (by omega), if_neg (by omega), if_neg (by omega), if_neg (by omega), if_neg (by omega), if_neg (by omega), if_neg (by omega), if_neg (by omega), if_pos (by omega), if_pos (by omega)]
theorem kF_evt {k : Nat} (hk : k < n3) : kF ca zb N L n3 g (500 + k) = some (.inr (5, f4 g)) := by
  unfold kF
  rw [if_neg (by omega), if_neg (by omega), if_neg (by omega), if_neg (by omega), if_neg (by omega), if_neg (by omega), if_neg (by omega), if_neg (by omega), if_neg (by omega), if_neg (by omega), if_neg (by omega), if_pos (by omega)]
/-- a cell of the world as a list of one -/
theorem CWx.one (h : CWx D ca zb N L G H) {i : Nat} {x : va_E} (hx : ∀ L', (∀ j, kst j → L' j = L j) → kF ca zb N L' (kN3 G) (G i) i = some x) (hi : kst i) : va_P D vwCl [(L i, x)] H := by
  obtain ⟨ow, L', hL, hC, -⟩ := h
  intro k q hk
  match k, hk with
  | 0, hk =>
    cases hk
    have := (hC i x (hx L' hL)).1
    rw [hL i hi] at this
    exact this
  | k + 1, hk => simp at hk
theorem kst_lt {i : Nat} (h : i < 10) : kst i := Or.inl h
theorem coFs_eq {L' : Nat → Nat} (h : ∀ j, kst j → L' j = L j) : coFs L' g = coFs L g := by
  simp only [coFs, h 0 (kst_lt (by decide)), h 1 (kst_lt (by decide)), h 2 (kst_lt (by decide)), h 3 (kst_lt (by decide)), h 4 (kst_lt (by decide)), h 5 (kst_lt (by decide)), h 6 (kst_lt (by decide))]
theorem CWx.core (h : CWx D ca zb N L G H) : va_P D vwCl [(L 7, .inr (1, coFs L (G 7)))] H := h.one (fun L' hL => by rw [kF_core, coFs_eq hL]) (kst_lt (by decide))
theorem CWx.arr4 (h : CWx D ca zb N L G H) : va_P D vwCl [(L 4, .inl (ca 0, 8, .inl (G 4)))] H := h.one (fun L' hL => kF_arr4) (kst_lt (by decide))
theorem CWx.arr5 (h : CWx D ca zb N L G H) : va_P D vwCl [(L 5, .inl (ca 0, 4, .inl (G 5)))] H := h.one (fun L' hL => kF_arr5) (kst_lt (by decide))
theorem CWx.arr6 (h : CWx D ca zb N L G H) : va_P D vwCl [(L 6, .inl (ca 0, 4, .inl (G 6)))] H := h.one (fun L' hL => kF_arr6) (kst_lt (by decide))
theorem CWx.inc (h : CWx D ca zb N L G H) {k : Nat} (hk : k < N 0) : va_P D vwCl [(L (100 + k), .inr (2, inFs L (G (100 + k)) (L (200 + k))))] H := by
  have hN := h.bd.1.1
  refine h.one (fun L' hL => ?_) (Or.inr ⟨by omega, by omega⟩)
  rw [kF_inc hk hN, hL (200 + k) (Or.inr ⟨by omega, by omega⟩)]
  simp only [inFs, hL 7 (kst_lt (by decide))]
theorem CWx.cnt (h : CWx D ca zb N L G H) {k : Nat} (hk : k < N 0) : va_P D vwCl [(L (200 + k), .inl (ca 0, 4, .inl (G (200 + k))))] H := by
  have hN := h.bd.1.1
  exact h.one (fun L' hL => kF_cnt hk hN) (Or.inr ⟨by omega, by omega⟩)
theorem CWx.chg (h : CWx D ca zb N L G H) {k : Nat} (hk : k < N 1) : va_P D vwCl [(L (300 + k), .inr (4, f3 (G (300 + k))))] H := by
  have hN := h.bd.1.2.1
  exact h.one (fun L' hL => kF_chg hk hN) (Or.inr ⟨by omega, by omega⟩)
theorem CWx.act (h : CWx D ca zb N L G H) {k : Nat} (hk : k < N 2) : va_P D vwCl [(L (400 + k), .inr (6, f4 (G (400 + k))))] H := by
  have hN := h.bd.1.2.2.1
  exact h.one (fun L' hL => kF_act hk hN) (Or.inr ⟨by omega, by omega⟩)
/-- a list and its array -/
theorem CWx.list (h : CWx D ca zb N L G H) {j : Nat} (hj : j < 4) : ∃ v1 : Value, va_P D vwCl [(L j, .inr (7, [.int (G j 0), v1, .int (G j 2)]))] H := by
  obtain ⟨ow, L', hL, hC, -⟩ := h
  refine ⟨.ref (if capF (kCnt N (kN3 G) j) = 0 then zb 0 else L' (10 + j)), ?_⟩
  intro k q hk
  match k, hk with
  | 0, hk =>
    cases hk
    have := (hC j _ (kF_list hj)).1
    rw [hL j (kst_lt (by omega))] at this
    exact this
  | k + 1, hk => simp at hk
theorem CWx.list2 (h : CWx D ca zb N L G H) {j : Nat} (hj : j < 4) (hc : capF (kCnt N (kN3 G) j) ≠ 0) : ∃ (ea : Nat) (L' : Nat → Nat), (∀ i, kst i → L' i = L i) ∧ va_P D vwCl [(L j, .inr (7, [.int (G j 0), .ref ea, .int (G j 2)])), (ea, .inl (ca 1, capF (kCnt N (kN3 G) j), .inr (.inr (.inr (.inr (kEl L' (kCnt N (kN3 G) j) (kBase j)))))))] H ∧ L j ≠ ea := by
  obtain ⟨ow, L', hL, hC, hB⟩ := h
  refine ⟨L' (10 + j), L', hL, ?_, ?_⟩
  · intro k q hk
    match k, hk with
    | 0, hk =>
      cases hk
      have := (hC j _ (kF_list hj)).1
      rw [hL j (kst_lt (by omega)), if_neg hc] at this
      exact this
    | 1, hk =>
      cases hk
      exact (hC (10 + j) _ (kF_el hj hc)).1
    | k + 2, hk => simp at hk
  · intro z
    have h1 := (hC j _ (kF_list hj)).2.1
    have h2 := (hC (10 + j) _ (kF_el hj hc)).2.1
    rw [hL j (kst_lt (by omega)), z, h2] at h1
    have : 10 + j = j := by
      have e1 : kO (L' 7) (10 + j) = (L' 7 + 1, 10 + j) := by unfold kO; rw [if_neg (by omega)]
      have e2 : kO (L' 7) j = (L' 7 + 1, j) := by unfold kO; rw [if_neg (by omega)]
      rw [e1, e2] at h1
      exact (Prod.mk.inj h1).2
    omega
end
