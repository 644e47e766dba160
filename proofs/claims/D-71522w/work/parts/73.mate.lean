/-! MATES: the place that shuts an open one -/
set_option maxRecDepth 100000
/-- q shuts p: behind q the excess is first what it was ahead of p -/
def Shut (b : Nat → Bool) (p q : Nat) : Prop := p < q ∧ ex b (q + 1) = ex b p ∧ ∀ j, p < j → j ≤ q → ex b p < ex b j
theorem Shut.uniq {b : Nat → Bool} {p q q' : Nat} (h : Shut b p q) (h' : Shut b p q') : q = q' := by
  rcases Nat.lt_trichotomy q q' with g | g | g
  · have := h'.2.2 (q + 1) (by have := h.1; omega) (by omega)
    rw [h.2.1] at this; omega
  · exact g
  · have := h.2.2 (q' + 1) (by have := h'.1; omega) (by omega)
    rw [h'.2.1] at this; omega
/-- an open place of a tree is shut -/
theorem shut_ex {b : Nat → Bool} {n p : Nat} (hT : Tree b n) (hp : p < n) (hb : b p = true) : ∃ q, Shut b p q ∧ q < n := by
  have h0 : 0 ≤ ex b p := by
    by_cases hz : p = 0
    · rw [hz]; exact Int.le_refl _
    · have := hT.2 p (by omega) hp; omega
  have h1 : ex b (p + 1) = ex b p + 1 := by rw [ex_s, hb]; rfl
  have hex : ∃ j, j < n + 1 ∧ (p < j ∧ ex b j ≤ ex b p) := ⟨n, by omega, hp, by rw [hT.1]; exact h0⟩
  obtain ⟨j, hj, ⟨hpj, hle⟩, hfirst⟩ := fb_first hex
  have hj2 : p + 1 < j := by
    rcases Nat.lt_or_ge (p + 1) j with h | h
    · exact h
    · rw [show j = p + 1 by omega] at hle; omega
  have hall : ∀ i, p < i → i ≤ j - 1 → ex b p < ex b i := fun i h2 h3 => by
    have := hfirst i (by omega)
    rcases Int.lt_or_le (ex b p) (ex b i) with h | h
    · exact h
    · exact absurd ⟨h2, h⟩ this
  have hpm := ex_pm b (j - 1)
  rw [show j - 1 + 1 = j by omega] at hpm
  have h3 := hall (j - 1) (by omega) (Nat.le_refl _)
  exact ⟨j - 1, ⟨by omega, by rw [show j - 1 + 1 = j by omega]; omega, hall⟩, by omega⟩
theorem shutOf_loop {st : Nat → Int32} {b : Nat → Bool} {n : Nat} (hn : n ≤ 128) (hst : ∀ p, p < n → st p = if b p then 1 else 0) (x1 : Int32) {p q : Nat} (hs : Shut b p q) (hq : q < n) : ∀ (d k nn : Nat), q - k = d → p ≤ k → k ≤ q → d < nn → fX3_shutOf_L4 st x1 nn (iZ (ex b (k + 1) - ex b p)) (nI k) = some (nI q) := by
  intro d
  induction d with
  | zero =>
    intro k nn h1 h2 h3 h4
    obtain ⟨nn, rfl⟩ : ∃ q, nn = q + 1 := ⟨nn - 1, by omega⟩
    rw [show k = q by omega, hs.2.1, Int.sub_self, fX3_shutOf_L4, if_pos (by decide)]
  | succ d ih =>
    intro k nn h1 h2 h3 h4
    obtain ⟨nn, rfl⟩ : ∃ q, nn = q + 1 := ⟨nn - 1, by omega⟩
    have g := hs.2.2 (k + 1) (by omega) (by omega)
    have r1 := ex_rng b (k + 1)
    have r2 := ex_rng b p
    rw [fX3_shutOf_L4, if_neg (show ¬ iZ (ex b (k + 1) - ex b p) ≤ (0 : Int32) from fun h => by
      have := (iZ_le (b := 0) (by omega) (by omega)).mp h
      omega), nI_1, rdI_n (by omega) (by omega), hst (k + 1) (by omega)]
    simp only [bsm]
    have hB : ∀ x : Int32, x = iZ (if b (k + 1) then 1 else -1) → fX3_shutOf_B27 st x1 (fX3_shutOf_L4 st x1 nn) (nI (k + 1)) x (iZ (ex b (k + 1) - ex b p)) = some (nI q) := by
      intro x hx
      unfold fX3_shutOf_B27
      simp only [bsm]
      rw [hx, iZ_add, show ex b (k + 1) - ex b p + (if b (k + 1) = true then 1 else -1) = ex b (k + 1 + 1) - ex b p by rw [ex_s b (k + 1)]; omega]
      exact ih (k + 1) nn (by omega) (by omega) (by omega) (by omega)
    cases hbk : b (k + 1)
    · rw [if_neg (by simp)]; exact hB _ (by rw [hbk]; exact m1_iZ)
    · rw [if_pos (by simp)]; exact hB _ (by rw [hbk]; rfl)
theorem shutOf_spec {st : Nat → Int32} {b : Nat → Bool} {n : Nat} (hn : n ≤ 128) (hst : ∀ p, p < n → st p = if b p then 1 else 0) {p q : Nat} (hb : b p = true) (hs : Shut b p q) (hq : q < n) : fX3_shutOf st (nI p) = some (nI q) := by
  unfold fX3_shutOf
  have h1 : ex b (p + 1) - ex b p = 1 := by rw [ex_s, hb]; simp; omega
  have := shutOf_loop hn hst (nI p) hs hq (q - p) p FU rfl (Nat.le_refl _) (by have := hs.1; omega) (by unfold FU; omega)
  rw [h1] at this
  exact this
