/-! searchBack -/
set_option maxRecDepth 100000
theorem nI_m1 {k : Nat} (h : 0 < k) : nI k + (-1) = nI (k - 1) := by
  rw [m1_iZ, nI_iZ, iZ_add, nI_iZ]; congr 1; omega
theorem iZ_bitm (z : Int) (x : Bool) : iZ z - (if x = true then (1 : Int32) else -1) = iZ (z - if x = true then 1 else -1) := by
  cases x
  · simp only [Bool.false_eq_true, if_false]; rw [m1_iZ, iZ_sub]
  · simp only [if_true]; rw [show (1 : Int32) = iZ 1 from rfl, iZ_sub]
/-- the last place ahead of p with the excess sought -/
def Last (b : Nat → Bool) (D : Int) (p : Nat) (r : Int32) : Prop := (r = -4 ∧ ∀ q, q < p → ex b q ≠ D) ∨ ∃ q, q < p ∧ ex b q = D ∧ (∀ j, q < j → j < p → ex b j ≠ D) ∧ r = nI q
theorem Last.uniq {b : Nat → Bool} {D : Int} {p : Nat} {r r' : Int32} (h : Last b D p r) (h' : Last b D p r') : r = r' := by
  rcases h with ⟨h1, h2⟩ | ⟨q, h1, h2, h3, h4⟩ <;> rcases h' with ⟨g1, g2⟩ | ⟨q', g1, g2, g3, g4⟩
  · rw [h1, g1]
  · exact absurd g2 (h2 q' g1)
  · exact absurd h2 (g2 q h1)
  · have : q = q' := by
      rcases Nat.lt_trichotomy q q' with h | h | h
      · exact absurd g2 (h3 q' h g1)
      · exact h
      · exact absurd h2 (g3 q h h1)
    rw [h4, g4, this]
theorem backInBlock_loop {rs : RS} {b : Nat → Bool} (hb : ∀ p, p < 128 → rbit rs p = b p) {D : Int} (hD : -2147483648 ≤ D ∧ D < 2147483648) {p g : Nat} (x1 x2 : Int32) : ∀ (d k nn : Nat), k - g = d → g ≤ k → k ≤ 128 → k ≤ p → d < nn → (∀ j, k ≤ j → j < p → g < j ∨ j = 0 → ex b j ≠ D) → ∃ r, fX0_backInBlock_L6 rs x1 x2 (iZ D) (nI g) nn (nI k) (iZ (ex b k)) = some r ∧ ((r = -4 ∧ ∀ j, g ≤ j → j < p → g < j ∨ j = 0 → ex b j ≠ D) ∨ ∃ q, q < p ∧ (g < q ∨ q = 0) ∧ g ≤ q ∧ ex b q = D ∧ (∀ j, q < j → j < p → ex b j ≠ D) ∧ r = nI q) := by
  intro d
  induction d with
  | zero =>
    intro k nn h1 h2 h0 h0' h3 h4
    obtain ⟨nn, rfl⟩ : ∃ q, nn = q + 1 := ⟨nn - 1, by omega⟩
    rw [fX0_backInBlock_L6, if_pos (nI_le (by omega) (by omega))]
    exact ⟨-4, rfl, Or.inl ⟨rfl, fun j j1 j2 j3 => h4 j (by omega) j2 j3⟩⟩
  | succ d ih =>
    intro k nn h1 h2 h0 h0' h3 h4
    obtain ⟨nn, rfl⟩ : ∃ q, nn = q + 1 := ⟨nn - 1, by omega⟩
    rw [fX0_backInBlock_L6, if_neg (nI_ge (by omega) (by omega)), nI_m1 (by omega), step_spec rs (by omega), hb (k - 1) (by omega)]
    simp only [bsm]
    have e : iZ (ex b k) - (if b (k - 1) = true then (1 : Int32) else -1) = iZ (ex b (k - 1)) := by
      rw [iZ_bitm]; congr 1
      have := ex_s b (k - 1)
      rw [show k - 1 + 1 = k by omega] at this
      omega
    rw [e]
    have hr := ex_rng b (k - 1)
    by_cases h : ex b (k - 1) = D
    · rw [if_pos (by rw [h])]
      by_cases hg : g < k - 1
      · rw [if_pos (nI_lt hg (by omega))]
        exact ⟨_, rfl, Or.inr ⟨k - 1, by omega, Or.inl hg, by omega, h, fun j g1 g2 => h4 j (by omega) g2 (Or.inl (by omega)), rfl⟩⟩
      · rw [if_neg (nI_nlt (by omega) (by omega))]
        by_cases hz : k - 1 = 0
        · rw [hz, if_pos (show nI 0 = (0 : Int32) from rfl)]
          exact ⟨_, rfl, Or.inr ⟨0, by omega, Or.inr rfl, by omega, by rw [← hz]; exact h, fun j g1 g2 => h4 j (by omega) g2 (Or.inl (by omega)), rfl⟩⟩
        · rw [if_neg (nI_nz (by omega) (by omega))]
          exact ih (k - 1) nn (by omega) (by omega) (by omega) (by omega) (by omega) (fun j g1 g2 g3 => by
            by_cases hj : j = k - 1
            · omega
            · exact h4 j (by omega) g2 g3)
    · rw [if_neg (fun h2 => h ((iZ_eq (by omega) (by omega)).mp h2))]
      exact ih (k - 1) nn (by omega) (by omega) (by omega) (by omega) (by omega) (fun j g1 g2 g3 => by
        by_cases hj : j = k - 1
        · rw [hj]; exact h
        · exact h4 j (by omega) g2 g3)
