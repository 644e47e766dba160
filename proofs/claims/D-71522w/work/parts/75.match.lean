/-! the call match -/
set_option maxRecDepth 100000
theorem matchM_loop {st : Nat → Int32} {b : Nat → Bool} {n : Nat} (hn : n ≤ 128) (hst : ∀ p, p < n → st p = if b p then 1 else 0) (x1 : Int32) {p q : Nat} (hs : Shut b q p) (hp : p < n) : ∀ (d k nn : Nat), k - q = d → q ≤ k → k ≤ p → d < nn → fX3_match_L38 st x1 nn (nI k) (iZ (ex b k - ex b (p + 1))) = some (nI q) := by
  intro d
  induction d with
  | zero =>
    intro k nn h1 h2 h3 h4
    obtain ⟨nn, rfl⟩ : ∃ q, nn = q + 1 := ⟨nn - 1, by omega⟩
    rw [show k = q by omega, hs.2.1, Int.sub_self, fX3_match_L38, if_pos (by decide)]
  | succ d ih =>
    intro k nn h1 h2 h3 h4
    obtain ⟨nn, rfl⟩ : ∃ q, nn = q + 1 := ⟨nn - 1, by omega⟩
    have g := hs.2.2 k (by omega) h3
    have g2 := hs.2.1
    have r1 := ex_rng b k
    have r2 := ex_rng b (p + 1)
    rw [fX3_match_L38, if_neg (show ¬ iZ (ex b k - ex b (p + 1)) ≤ (0 : Int32) from fun h => by
      have := (iZ_le (b := 0) (by omega) (by omega)).mp h
      omega), nI_m1 (by omega), rdI_n (by omega) (by omega), hst (k - 1) (by omega)]
    simp only [bsm]
    have e := ex_s b (k - 1)
    rw [show k - 1 + 1 = k by omega] at e
    have hB : ∀ x : Int32, x = iZ (ex b (k - 1) - ex b k) → fX3_match_B61 st x1 (fX3_match_L38 st x1 nn) (nI (k - 1)) x (iZ (ex b k - ex b (p + 1))) = some (nI q) := by
      intro x hx
      unfold fX3_match_B61
      simp only [bsm]
      rw [hx, iZ_add, show ex b k - ex b (p + 1) + (ex b (k - 1) - ex b k) = ex b (k - 1) - ex b (p + 1) by omega]
      exact ih (k - 1) nn (by omega) (by omega) (by omega) (by omega)
    cases hbk : b (k - 1)
    · rw [hbk] at e; simp at e
      rw [if_neg (by simp)]; exact hB _ (by rw [show ex b (k - 1) - ex b k = 1 by omega]; rfl)
    · rw [hbk] at e; simp at e
      rw [if_pos (by simp)]; exact hB _ (by rw [show ex b (k - 1) - ex b k = -1 by omega]; exact m1_iZ)
