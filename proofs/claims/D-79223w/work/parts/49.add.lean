/-! the events: the first goes, one comes -/
def evF (a b c d : Int32) : Nat → Int32 := fun f => if f = 0 then a else if f = 1 then b else if f = 2 then c else d
def addJ (G : mMS) (j n c2 : Nat) (g1 g2 : Nat → Int32) : mMS := fun c => if c = j then upd (upd (G j) 0 (G j 0 + 1)) 2 (nI (n + 1)) else if c = kBase j + n then g1 else if c = c2 then g2 else G c
def addE (G : mMS) (ev : Nat → Int32) : mMS := addJ G 3 (kN3 G) (500 + kN3 G) ev ev
def rem0 (G : mMS) : mMS := fun c => if c = 3 then upd (upd (G 3) 0 (G 3 0 + 1)) 2 (nI 59) else if 500 ≤ c then G (c + 1) else G c
def hapN (G : mMS) : Nat := if kN3 G = 60 then 59 else kN3 G
def hapG (G : mMS) (k i m : Int32) : mMS := addE (if kN3 G = 60 then rem0 G else G) (evF (G 7 10) k i m)
def remL (L : Nat → Nat) : Nat → Nat := fun i => if 500 ≤ i then L (i + 1) else L i
section
variable {D : va_G} {ca : Nat → ClassId} {zb N L : Nat → Nat} {G : mMS} {H H1 : Heap} {ow : Nat → Nat × Nat}
theorem rem0_3 : kN3 (rem0 G) = 59 := rfl
theorem addE_3 {ev : Nat → Int32} (h : kN3 G ≤ 59) : kN3 (addE G ev) = kN3 G + 1 := nI_clamp (by omega)
theorem rem0_ne {c : Nat} (h3 : c ≠ 3) (h : c < 500) : rem0 G c = G c := (if_neg h3).trans (if_neg (by omega))
theorem rem0_ge {c : Nat} (h : 500 ≤ c) : rem0 G c = G (c + 1) := (if_neg (by omega)).trans (if_pos h)
theorem addE_ne {ev : Nat → Int32} {c : Nat} (h3 : c ≠ 3) (h : c ≠ 500 + kN3 G) : addE G ev c = G c := (if_neg h3).trans ((if_neg h).trans (if_neg h))
theorem addE_eq {ev : Nat → Int32} : addE G ev (500 + kN3 G) = ev := (if_neg (by omega)).trans (if_pos rfl)
/-- the world without its first event -/
theorem CW.rem (h : CW D ca zb ow N L G H) (h60 : kN3 G = 60) (e1 : va_at D vwCl (L 3, .inr (7, [.int (G 3 0 + 1), .ref (L 13), .int (nI 59)])) H1) (e2 : va_at D vwCl (L 13, .inl (ca 1, 73, .inr (.inr (.inr (.inr (va_up (va_cpy (kEl L 60 500) (kEl L 60 500) 1 0 59) 59 none)))))) H1) (hk : ∀ a, a < H.size → a ≠ L 3 → a ≠ L 13 → H1[a]? = H[a]?) :
    CW D ca zb ow N (remL L) (rem0 G) H1 := by
  obtain ⟨hC, hb, g0, g1, g2, g3⟩ := h
  have hL : ∀ k, k < 500 → (remL L) k = L k := fun k hk => if_neg (by omega)
  have hE : va_up (va_cpy (kEl L 60 500) (kEl L 60 500) 1 0 59) 59 none = kEl (remL L) 59 500 := by
    funext k
    unfold va_up va_cpy kEl
    by_cases h1 : k = 59
    · rw [if_pos h1, if_neg (by omega)]
    · rw [if_neg h1]
      by_cases h2 : k < 59
      · rw [if_pos ⟨by omega, by omega⟩, if_pos h2, if_pos (by omega)]
        show some _ = some (remL L (500 + k))
        unfold remL
        rw [if_pos (show 500 ≤ 500 + k by omega), show 500 + (1 + (k - 0)) = 500 + k + 1 by omega]
      · rw [if_neg (by omega), if_neg h2, if_neg (by omega)]
  have hlt : ∀ i y, kF ca zb N L (kN3 G) (G i) i = some y → L i < H.size := fun i y hy => (hC i y hy).1.lt
  have own : ∀ i y k z, kF ca zb N L (kN3 G) (G i) i = some y → kF ca zb N L (kN3 G) (G k) k = some z → ¬ ((300 ≤ k ∧ k < 400) ∨ 500 ≤ k) → i ≠ k → L i ≠ L k := fun i y k z hy hz hm hik e => by
    have a1 := (hC k z hz).2.1
    have a2 := (hC i y hy).2.1
    rw [← e, a2] at a1
    exact hik (kO_inj hm a1.symm).symm
  have f3 := kF_list (ca := ca) (zb := zb) (N := N) (L := L) (n3 := kN3 G) (g := G 3) (j := 3) (by decide)
  have f13 := kF_el (ca := ca) (zb := zb) (N := N) (L := L) (n3 := kN3 G) (g := G 13) (j := 3) (by decide) (by rw [h60]; exact (by decide : capF 60 ≠ 0))
  refine ⟨fun i y hy => ?_, ⟨hb.1, hb.2.1, hb.2.2.1, by rw [rem0_3]; decide⟩, ?_, ?_, ?_, rfl⟩
  · rw [hL 7 (by decide)]
    rw [rem0_3] at hy
    by_cases i1 : 500 ≤ i
    · rw [kF_i i1, rem0_ge i1] at hy
      by_cases i2 : i < 500 + 59
      · rw [if_pos i2] at hy
        have h9 : kF ca zb N L (kN3 G) (G (i + 1)) (i + 1) = some y := by rw [kF_i (by omega), if_pos (by omega), ← hy]
        obtain ⟨b1, b2, b3⟩ := hC _ _ h9
        have hLi : remL L i = L (i + 1) := if_pos i1
        rw [hLi]
        refine ⟨b1.kept (hk _ b1.lt (own _ _ 3 _ h9 f3 (by omega) (by omega)) (own _ _ 13 _ h9 f13 (by omega) (by omega))), ?_, b3⟩
        rw [b2]
        unfold kO
        rw [if_pos (Or.inr (by omega)), if_pos (Or.inr i1)]
      · rw [if_neg i2] at hy
        cases hy
    · rw [hL i (by omega)]
      by_cases i3 : i = 3
      · subst i3
        rw [kF_list (by decide), show kCnt N 59 3 = 59 from rfl, if_neg (by decide), show 10 + 3 = 13 from rfl, hL 13 (by decide)] at hy
        cases hy
        obtain ⟨b1, b2, b3⟩ := hC _ _ f3
        exact ⟨e1, b2, b3⟩
      by_cases i4 : i = 13
      · subst i4
        rw [kF_el (j := 3) (by decide) (show capF 59 ≠ 0 by decide), show kCnt N 59 3 = 59 from rfl] at hy
        cases hy
        obtain ⟨b1, b2, b3⟩ := hC _ _ f13
        rw [hE] at e2
        exact ⟨e2, b2, b3⟩
      rw [rem0_ne i3 (by omega)] at hy
      have h9 : kF ca zb N (remL L) 59 (G i) i = kF ca zb N L (kN3 G) (G i) i := by
        by_cases r1 : i < 4
        · rw [kF_a r1, kF_a r1, hL (10 + i) (by omega)]
          have hc : kCnt N 59 i = kCnt N (kN3 G) i := by unfold kCnt; rw [if_pos (show i < 3 by omega), if_pos (show i < 3 by omega)]
          rw [hc]
        by_cases r2 : i < 10
        · rw [kF_b (by omega) r2, kF_b (by omega) r2]
          have : coFs (remL L) (G i) = coFs L (G i) := by simp only [coFs, hL 0 (by decide), hL 1 (by decide), hL 2 (by decide), hL 3 (by decide), hL 4 (by decide), hL 5 (by decide), hL 6 (by decide)]
          rw [this]
        by_cases r3 : i < 14
        · rw [kF_c (by omega) r3, kF_c (by omega) r3]
          have hc : kCnt N 59 (i - 10) = kCnt N (kN3 G) (i - 10) := by unfold kCnt; rw [if_pos (by omega), if_pos (by omega)]
          rw [hc]
          have hc2 : kCnt N (kN3 G) (i - 10) ≤ 20 := by
            unfold kCnt
            rw [if_pos (by omega)]
            have : i - 10 = 0 ∨ i - 10 = 1 ∨ i - 10 = 2 := by omega
            rcases this with h8 | h8 | h8 <;> rw [h8] <;> omega
          have hB := kBase_le (show i - 10 < 4 by omega)
          have : kEl (remL L) (kCnt N (kN3 G) (i - 10)) (kBase (i - 10)) = kEl L (kCnt N (kN3 G) (i - 10)) (kBase (i - 10)) := by
            funext k
            unfold kEl
            by_cases hk : k < kCnt N (kN3 G) (i - 10)
            · rw [if_pos hk, if_pos hk, hL _ (by omega)]
            · rw [if_neg hk, if_neg hk]
          rw [this]
        by_cases r4 : i < 100
        · rw [kF_d (by omega) r4, kF_d (by omega) r4]
        by_cases r5 : i < 200
        · rw [kF_e (by omega) r5, kF_e (by omega) r5, hL (i + 100) (by omega)]
          have : inFs (remL L) (G i) (L (i + 100)) = inFs L (G i) (L (i + 100)) := by simp only [inFs, hL 7 (by decide)]
          rw [this]
        by_cases r6 : i < 300
        · rw [kF_f (by omega) r6, kF_f (by omega) r6]
        by_cases r7 : i < 400
        · rw [kF_g (by omega) r7, kF_g (by omega) r7]
        rw [kF_h (by omega) (by omega), kF_h (by omega) (by omega)]
      rw [h9] at hy
      obtain ⟨b1, b2, b3⟩ := hC _ _ hy
      exact ⟨b1.kept (hk _ b1.lt (own _ _ 3 _ hy f3 (by omega) (by omega)) (own _ _ 13 _ hy f13 (by omega) (by omega))), b2, b3⟩
  · rw [rem0_ne (by decide) (by decide)]; exact g0
  · rw [rem0_ne (by decide) (by decide)]; exact g1
  · rw [rem0_ne (by decide) (by decide)]; exact g2
end
