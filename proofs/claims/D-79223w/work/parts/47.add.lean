/-! a list of the core takes one more -/
section
variable {ca : Nat → ClassId} {zb N L : Nat → Nat} {n3 : Nat} {g : Nat → Int32} {i : Nat}
theorem kF_a (h : i < 4) : kF ca zb N L n3 g i = some (.inr (7, [.int (g 0), .ref (if capF (kCnt N n3 i) = 0 then zb 0 else L (10 + i)), .int (g 2)])) := kF_list h
theorem kF_b (h : 4 ≤ i) (h2 : i < 10) : kF ca zb N L n3 g i = (if i = 4 then some (.inl (ca 0, 8, .inl g)) else if i < 7 then some (.inl (ca 0, 4, .inl g)) else if i = 7 then some (.inr (1, coFs L g)) else none) := by
  unfold kF
  rw [if_neg (by omega)]
  by_cases h4 : i = 4
  · rw [if_pos h4, if_pos h4]
  · rw [if_neg h4, if_neg h4]
    by_cases h7 : i < 7
    · rw [if_pos h7, if_pos h7]
    · rw [if_neg h7, if_neg h7]
      by_cases h8 : i = 7
      · rw [if_pos h8, if_pos h8]
      · rw [if_neg h8, if_neg h8, if_pos h2]
theorem kF_c (h : 10 ≤ i) (h2 : i < 14) : kF ca zb N L n3 g i = (if capF (kCnt N n3 (i - 10)) = 0 then none else some (.inl (ca 1, capF (kCnt N n3 (i - 10)), .inr (.inr (.inr (.inr (kEl L (kCnt N n3 (i - 10)) (kBase (i - 10))))))))) := by
  unfold kF
  rw [if_neg (by omega), if_neg (by omega), if_neg (by omega), if_neg (by omega), if_neg (by omega), if_pos (by omega)]
theorem kF_d (h : 14 ≤ i) (h2 : i < 100) : kF ca zb N L n3 g i = none := by
  unfold kF
  rw [if_neg (by omega), if_neg (by omega), if_neg (by omega), if_neg (by omega), if_neg (by omega), if_neg (by omega), if_pos (by omega)]
theorem kF_e (h : 100 ≤ i) (h2 : i < 200) : kF ca zb N L n3 g i = (if i < 100 + N 0 then some (.inr (2, inFs L g (L (i + 100)))) else none) := by
  unfold kF
  rw [if_neg (by omega), if_neg (by omega), if_neg (by omega), if_neg (by omega), if_neg (by omega), if_neg (by omega), if_neg (by omega), if_pos (by omega)]
theorem kF_f (h : 200 ≤ i) (h2 : i < 300) : kF ca zb N L n3 g i = (if i < 200 + N 0 then some (.inl (ca 0, 4, .inl g)) else none) := by
  unfold kF
  rw [if_neg (by omega), if_neg (by omega), if_neg (by omega), if_neg (by omega), if_neg (by omega), if_neg (by omega), if_neg (by omega), if_neg (by omega), if_pos (by omega)]
theorem kF_g (h : 300 ≤ i) (h2 : i < 400) : kF ca zb N L n3 g i = (if i < 300 + N 1 then some (.inr (4, f3 g)) else none) := by
  unfold kF
  rw [if_neg (by omega), if_neg (by omega), if_neg (by omega), if_neg (by omega), if_neg (by omega), if_neg (by omega), if_neg (by omega), if_neg (by omega), if_neg (by omega), if_pos (by omega)]
theorem kF_h (h : 400 ≤ i) (h2 : i < 500) : kF ca zb N L n3 g i = (if i < 400 + N 2 then some (.inr (6, f4 g)) else none) := by
  unfold kF
  rw [if_neg (by omega), if_neg (by omega), if_neg (by omega), if_neg (by omega), if_neg (by omega), if_neg (by omega), if_neg (by omega), if_neg (by omega), if_neg (by omega), if_neg (by omega), if_pos (by omega)]
theorem kF_i (h : 500 ≤ i) : kF ca zb N L n3 g i = (if i < 500 + n3 then some (.inr (5, f4 g)) else none) := by
  unfold kF
  rw [if_neg (by omega), if_neg (by omega), if_neg (by omega), if_neg (by omega), if_neg (by omega), if_neg (by omega), if_neg (by omega), if_neg (by omega), if_neg (by omega), if_neg (by omega), if_neg (by omega)]
end
/-- counts behind one more in list j -/
def kNp (N : Nat → Nat) (j : Nat) : Nat → Nat := fun k => if k = j then N k + 1 else N k
theorem kBase_le {j : Nat} (hj : j < 4) : kBase j = 100 ∧ j = 0 ∨ kBase j = 300 ∧ j = 1 ∨ kBase j = 400 ∧ j = 2 ∨ kBase j = 500 ∧ j = 3 := by
  match j, hj with
  | 0, _ => exact Or.inl ⟨rfl, rfl⟩
  | 1, _ => exact Or.inr (Or.inl ⟨rfl, rfl⟩)
  | 2, _ => exact Or.inr (Or.inr (Or.inl ⟨rfl, rfl⟩))
  | 3, _ => exact Or.inr (Or.inr (Or.inr ⟨rfl, rfl⟩))
theorem kF_same {ca : Nat → ClassId} {zb N N' L L' : Nat → Nat} {n3 n3' j n c2 : Nat} {g : Nat → Int32} {i : Nat} (hj : j < 4) (hN : ∀ k, k < 3 → k ≠ j → N' k = N k) (hNj : j < 3 → N' j = n + 1 ∧ N j = n) (h3 : j ≠ 3 → n3' = n3) (h3j : j = 3 → n3' = n + 1 ∧ n3 = n)
    (hb : N 0 ≤ 16 ∧ N 1 ≤ 12 ∧ N 2 ≤ 20 ∧ n3 ≤ 60) (hc2 : (j = 0 ∧ c2 = 200 + n) ∨ (j ≠ 0 ∧ c2 = kBase j + n)) (hL : ∀ k, k ≠ 10 + j → k ≠ kBase j + n → k ≠ c2 → L' k = L k) (h1 : i ≠ j) (h2 : i ≠ 10 + j) (h4 : i ≠ kBase j + n) (h5 : i ≠ c2) :
    kF ca zb N' L' n3' g i = kF ca zb N L n3 g i := by
  have hcnt : ∀ k, k < 4 → k ≠ j → kCnt N' n3' k = kCnt N n3 k := fun k hk hkj => by
    unfold kCnt
    by_cases hk3 : k < 3
    · rw [if_pos hk3, if_pos hk3, hN k hk3 hkj]
    · rw [if_neg hk3, if_neg hk3, h3 (by omega)]
  have hB := kBase_le hj
  have hnb : n ≤ 60 ∧ (j = 0 → n = N 0 ∧ n ≤ 16) ∧ (j = 1 → n ≤ 12) ∧ (j = 2 → n ≤ 20) := by
    have : j = 0 ∨ j = 1 ∨ j = 2 ∨ j = 3 := by omega
    rcases this with h8 | h8 | h8 | h8
    · subst h8
      have := hNj (by decide)
      exact ⟨by omega, fun _ => ⟨by omega, by omega⟩, by omega, by omega⟩
    · subst h8
      have := hNj (by decide)
      exact ⟨by omega, by omega, by omega, by omega⟩
    · subst h8
      have := hNj (by decide)
      exact ⟨by omega, by omega, by omega, by omega⟩
    · have := h3j h8
      exact ⟨by omega, by omega, by omega, by omega⟩
  by_cases r1 : i < 4
  · rw [kF_a r1, kF_a r1, hcnt i r1 h1, hL (10 + i) (by omega) (by omega) (by omega)]
  by_cases r2 : i < 10
  · rw [kF_b (by omega) r2, kF_b (by omega) r2]
    have : coFs L' g = coFs L g := by
      simp only [coFs, hL 0 (by omega) (by omega) (by omega), hL 1 (by omega) (by omega) (by omega), hL 2 (by omega) (by omega) (by omega), hL 3 (by omega) (by omega) (by omega), hL 4 (by omega) (by omega) (by omega), hL 5 (by omega) (by omega) (by omega), hL 6 (by omega) (by omega) (by omega)]
    rw [this]
  by_cases r3 : i < 14
  · rw [kF_c (by omega) r3, kF_c (by omega) r3, hcnt (i - 10) (by omega) (by omega)]
    have : kEl L' (kCnt N n3 (i - 10)) (kBase (i - 10)) = kEl L (kCnt N n3 (i - 10)) (kBase (i - 10)) := by
      funext k
      unfold kEl
      by_cases hk : k < kCnt N n3 (i - 10)
      · have hB2 := kBase_le (show i - 10 < 4 by omega)
        have hck : kCnt N n3 (i - 10) ≤ 60 := by
          unfold kCnt
          split
          · rename_i h9
            have : i - 10 = 0 ∨ i - 10 = 1 ∨ i - 10 = 2 := by omega
            rcases this with h8 | h8 | h8 <;> rw [h8] <;> omega
          · omega
        rw [if_pos hk, if_pos hk, hL _ (by omega) (by omega) (by omega)]
      · rw [if_neg hk, if_neg hk]
    rw [this]
  by_cases r4 : i < 100
  · rw [kF_d (by omega) r4, kF_d (by omega) r4]
  by_cases r5 : i < 200
  · rw [kF_e (by omega) r5, kF_e (by omega) r5]
    have e1 : (i < 100 + N' 0) ↔ i < 100 + N 0 := by
      by_cases hj0 : j = 0
      · subst hj0
        have := hNj (by decide)
        have : kBase 0 = 100 := rfl
        omega
      · rw [hN 0 (by decide) (by omega)]
    by_cases r : i < 100 + N 0
    · have : inFs L' g (L' (i + 100)) = inFs L g (L (i + 100)) := by
        rw [hL (i + 100) (by omega) (by omega) (by omega)]
        simp only [inFs, hL 7 (by omega) (by omega) (by omega)]
      rw [if_pos r, if_pos (e1.mpr r), this]
    · rw [if_neg r, if_neg (fun z => r (e1.mp z))]
  by_cases r6 : i < 300
  · rw [kF_f (by omega) r6, kF_f (by omega) r6]
    have e1 : (i < 200 + N' 0) ↔ i < 200 + N 0 := by
      by_cases hj0 : j = 0
      · subst hj0
        have := hNj (by decide)
        omega
      · rw [hN 0 (by decide) (by omega)]
    by_cases r : i < 200 + N 0
    · rw [if_pos r, if_pos (e1.mpr r)]
    · rw [if_neg r, if_neg (fun z => r (e1.mp z))]
  by_cases r7 : i < 400
  · rw [kF_g (by omega) r7, kF_g (by omega) r7]
    have e1 : (i < 300 + N' 1) ↔ i < 300 + N 1 := by
      by_cases hj0 : j = 1
      · subst hj0
        have := hNj (by decide)
        have : kBase 1 = 300 := rfl
        omega
      · rw [hN 1 (by decide) (by omega)]
    by_cases r : i < 300 + N 1
    · rw [if_pos r, if_pos (e1.mpr r)]
    · rw [if_neg r, if_neg (fun z => r (e1.mp z))]
  by_cases r8 : i < 500
  · rw [kF_h (by omega) r8, kF_h (by omega) r8]
    have e1 : (i < 400 + N' 2) ↔ i < 400 + N 2 := by
      by_cases hj0 : j = 2
      · subst hj0
        have := hNj (by decide)
        have : kBase 2 = 400 := rfl
        omega
      · rw [hN 2 (by decide) (by omega)]
    by_cases r : i < 400 + N 2
    · rw [if_pos r, if_pos (e1.mpr r)]
    · rw [if_neg r, if_neg (fun z => r (e1.mp z))]
  rw [kF_i (by omega), kF_i (by omega)]
  have e1 : (i < 500 + n3') ↔ i < 500 + n3 := by
    by_cases hj0 : j = 3
    · subst hj0
      have := h3j rfl
      have : kBase 3 = 500 := rfl
      omega
    · rw [h3 hj0]
  by_cases r : i < 500 + n3
  · rw [if_pos r, if_pos (e1.mpr r)]
  · rw [if_neg r, if_neg (fun z => r (e1.mp z))]
/-- the world with one more in list j: the element at q (and its companion at q2), the list's array at ea -/
theorem CW.more {D : va_G} {ca : Nat → ClassId} {zb N N' L : Nat → Nat} {G G' : mMS} {H H2 : Heap} {ow : Nat → Nat × Nat} {j n c2 q q2 ea : Nat} {x x2 : va_E} {m' : Int32} (h : CW D ca zb ow N L G H) (hj : j < 4) (hn : n = kCnt N (kN3 G) j)
    (hN : ∀ k, k < 3 → k ≠ j → N' k = N k) (hNj : j < 3 → N' j = n + 1) (h3 : j ≠ 3 → kN3 G' = kN3 G) (h3j : j = 3 → kN3 G' = n + 1) (hB : kBd N' G') (hc2 : (j = 0 ∧ c2 = 200 + n) ∨ (j ≠ 0 ∧ c2 = kBase j + n ∧ q2 = q ∧ x2 = x))
    (hG : ∀ i, i ≠ j → i ≠ kBase j + n → i ≠ c2 → G' i = G i) (hk : ∀ a, a < H.size → a ≠ L j → (capF n ≠ 0 → a ≠ L (10 + j)) → H2[a]? = H[a]?)
    (hG0 : G' j 0 = m') (hG2 : G' j 2 = nI (n + 1)) (hx : ∀ L', (∀ k, kst k → k ≠ kBase j + n → k ≠ c2 → L' k = L k) → L' c2 = q2 → kF ca zb N' L' (kN3 G') (G' (kBase j + n)) (kBase j + n) = some x) (hx2 : ∀ L', kF ca zb N' L' (kN3 G') (G' c2) c2 = some x2 ∨ (j ≠ 0))
    (e1 : va_at D vwCl (L j, .inr (7, [.int m', .ref ea, .int (nI (n + 1))])) H2) (e2 : ∀ L' : Nat → Nat, (∀ k, k < n → L' (kBase j + k) = L (kBase j + k)) → L' (kBase j + n) = q → va_at D vwCl (ea, .inl (ca 1, capF (n + 1), .inr (.inr (.inr (.inr (kEl L' (n + 1) (kBase j))))))) H2) (e3 : va_at D vwCl (q, x) H2) (e4 : va_at D vwCl (q2, x2) H2)
    (hea : (ea = L (10 + j) ∧ capF n ≠ 0) ∨ H.size ≤ ea) (hq : H.size ≤ q ∨ (kO (L 7) (kBase j + n) = ow q ∧ zb 1 ≤ q)) (hq2 : H.size ≤ q2 ∨ (kO (L 7) c2 = ow q2 ∧ zb 1 ≤ q2)) (hqe : q ≠ ea) (hqe2 : q2 ≠ ea) (hqq : j = 0 → q ≠ q2) (hz : zb 1 ≤ H.size) :
    ∃ (ow' : Nat → Nat × Nat) (L' : Nat → Nat), (∀ a, a < H.size → ow' a = ow a) ∧ (∀ k, kst k → k ≠ kBase j + n → k ≠ c2 → L' k = L k) ∧ L' (kBase j + n) = q ∧ L' c2 = q2 ∧ CW D ca zb ow' N' L' G' H2 := by
  have hBs := kBase_le hj
  have hb := h.2.1
  have hcn : n ≤ 60 := by
    rw [hn]
    unfold kCnt
    split
    · have : j = 0 ∨ j = 1 ∨ j = 2 := by omega
      rcases this with h8 | h8 | h8 <;> rw [h8] <;> omega
    · omega
  have hcj : kCnt N' (kN3 G') j = n + 1 := by
    unfold kCnt
    by_cases h9 : j < 3
    · rw [if_pos h9]; exact hNj h9
    · rw [if_neg h9]; exact h3j (by omega)
  have hn60 : n + 1 ≤ 60 := by
    have h99 := hB.1
    rw [← hcj]
    unfold kCnt
    by_cases h9 : j < 3
    · rw [if_pos h9]
      have : j = 0 ∨ j = 1 ∨ j = 2 := by omega
      rcases this with h8 | h8 | h8 <;> rw [h8] <;> omega
    · rw [if_neg h9]
      exact h99.2.2.2
  have hcap : capF (n + 1) ≠ 0 := (cap_pos (i := n) (n := n + 1) (by omega) hn60).1
  let L' : Nat → Nat := fun i => if i = kBase j + n then q else if i = c2 then q2 else if i = 10 + j then ea else L i
  let ow' : Nat → Nat × Nat := fun a => if a = q then kO (L 7) (kBase j + n) else if a = q2 then kO (L 7) c2 else if a = ea then kO (L 7) (10 + j) else ow a
  have hL1 : L' (kBase j + n) = q := if_pos rfl
  have hL2 : L' c2 = q2 := by
    show (if c2 = kBase j + n then q else if c2 = c2 then q2 else _) = q2
    rcases hc2 with ⟨a1, a2⟩ | ⟨a1, a2, a3, -⟩
    · rw [if_neg (by omega), if_pos rfl]
    · rw [if_pos a2, a3]
  have hL3 : L' (10 + j) = ea := by
    show (if 10 + j = kBase j + n then q else if 10 + j = c2 then q2 else if 10 + j = 10 + j then ea else _) = ea
    rw [if_neg (by omega), if_neg (by omega), if_pos rfl]
  have hL : ∀ k, k ≠ 10 + j → k ≠ kBase j + n → k ≠ c2 → L' k = L k := fun k a b d => by
    show (if k = kBase j + n then q else if k = c2 then q2 else if k = 10 + j then ea else L k) = L k
    rw [if_neg b, if_neg d, if_neg a]
  have hlt : ∀ i y, kF ca zb N L (kN3 G) (G i) i = some y → L i < H.size := fun i y hy => (h.1 i y hy).1.lt
  have hoo : ∀ a, a < H.size → ow' a = ow a := fun a ha => by
    show (if a = q then kO (L 7) (kBase j + n) else if a = q2 then kO (L 7) c2 else if a = ea then kO (L 7) (10 + j) else ow a) = ow a
    by_cases haq : a = q
    · rw [if_pos haq, haq]
      rcases hq with h9 | h9
      · omega
      · exact h9.1
    rw [if_neg haq]
    by_cases haq2 : a = q2
    · rw [if_pos haq2, haq2]
      rcases hq2 with h9 | h9
      · omega
      · exact h9.1
    rw [if_neg haq2]
    by_cases hae : a = ea
    · rw [if_pos hae]
      rcases hea with ⟨e9, hc⟩ | hea
      · rw [hae, e9]
        have := kF_el (ca := ca) (zb := zb) (N := N) (L := L) (n3 := kN3 G) (g := G (10 + j)) hj (by rw [← hn]; exact hc)
        exact (h.1 (10 + j) _ this).2.1.symm
      · omega
    · rw [if_neg hae]
  have h7 : L' 7 = L 7 := hL 7 (by omega) (by omega) (by omega)
  refine ⟨ow', L', hoo, fun k hk b d => hL k (by unfold kst at hk; omega) b d, hL1, hL2, fun i y hy => ?_, hB⟩
  rw [h7]
  by_cases i1 : i = kBase j + n
  · subst i1
    rw [hx L' (fun k hk b d => hL k (by unfold kst at hk; omega) b d) hL2] at hy
    cases hy
    rw [hL1]
    exact ⟨e3, if_pos rfl, by rcases hq with h9 | h9; omega; exact h9.2⟩
  by_cases i2 : i = c2
  · rcases hc2 with ⟨a1, a2⟩ | ⟨a1, a2, a3, -⟩
    · rw [i2] at hy ⊢
      rcases hx2 L' with h9 | h9
      · rw [h9] at hy
        cases hy
        rw [hL2]
        refine ⟨e4, ?_, by rcases hq2 with h9 | h9; omega; exact h9.2⟩
        show (if q2 = q then kO (L 7) (kBase j + n) else if q2 = q2 then kO (L 7) c2 else _) = kO (L 7) c2
        rw [if_neg (fun z => hqq a1 z.symm), if_pos rfl]
      · exact absurd a1 h9
    · exact absurd (i2.trans a2) i1
  by_cases i3 : i = 10 + j
  · subst i3
    rw [kF_el hj (by rw [hcj]; exact hcap), hcj] at hy
    cases hy
    rw [hL3]
    refine ⟨e2 L' (fun k hk => hL _ (by omega) (by omega) (by omega)) hL1, ?_, ?_⟩
    · show (if ea = q then kO (L 7) (kBase j + n) else if ea = q2 then kO (L 7) c2 else if ea = ea then kO (L 7) (10 + j) else _) = kO (L 7) (10 + j)
      rw [if_neg (Ne.symm hqe), if_neg (Ne.symm hqe2), if_pos rfl]
    · rcases hea with ⟨e9, hc⟩ | hea
      · have := kF_el (ca := ca) (zb := zb) (N := N) (L := L) (n3 := kN3 G) (g := G (10 + j)) hj (by rw [← hn]; exact hc)
        rw [e9]
        exact (h.1 (10 + j) _ this).2.2
      · omega
  by_cases i4 : i = j
  · subst i4
    rw [kF_list hj, hcj, if_neg hcap, hG0, hG2, hL3] at hy
    cases hy
    rw [hL i (by omega) i1 i2]
    have := kF_list (ca := ca) (zb := zb) (N := N) (L := L) (n3 := kN3 G) (g := G i) hj
    have h9 := h.1 i _ this
    exact ⟨e1, (hoo _ (hlt i _ this)).trans h9.2.1, h9.2.2⟩
  · rw [hG i i4 i1 i2, kF_same (N := N) (L := L) (n3 := kN3 G) (c2 := c2) (n := n) hj hN (fun h9 => ⟨hNj h9, by rw [hn]; unfold kCnt; rw [if_pos h9]⟩) h3 (fun h9 => ⟨h3j h9, by rw [hn]; unfold kCnt; rw [if_neg (by omega)]⟩) hb (hc2.imp id (fun z => ⟨z.1, z.2.1⟩)) hL i4 i3 i1 i2] at hy
    obtain ⟨b1, b2, b3⟩ := h.1 i y hy
    have hl9 := hlt i y hy
    rw [hL i i3 i1 i2]
    have own : ∀ k z, kF ca zb N L (kN3 G) (G k) k = some z → ¬ ((300 ≤ k ∧ k < 400) ∨ 500 ≤ k) → i ≠ k → L i ≠ L k := fun k z hz hm hik e => by
      have := (h.1 k z hz).2.1
      rw [← e, b2] at this
      exact hik (kO_inj hm this.symm).symm
    refine ⟨b1.kept (hk _ hl9 (own j _ (kF_list hj) (by omega) i4) (fun hc => own (10 + j) _ (kF_el hj (by rw [← hn]; exact hc)) (by omega) i3)), (hoo _ hl9).trans b2, b3⟩
