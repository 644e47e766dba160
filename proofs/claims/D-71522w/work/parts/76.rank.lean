/-! ranks -/
set_option maxRecDepth 100000
theorem oq_not (b : Nat → Bool) : ∀ p, oq (fun k => !b k) p + oq b p = p := by
  intro p
  induction p with
  | zero => rfl
  | succ p ih => rw [oq_s, oq_s]; cases b p <;> simp <;> omega
theorem isPair_spec {st : Nat → Int32} {b : Nat → Bool} {m : Nat} (hs : st 192 = nI m) (hm : m ≤ 64) (hst : ∀ p, p < 2 * m → st p = if b p then 1 else 0) {p : Nat} (hp : p < 2 * m) : fX3_isPair st (nI p) = some (if p + 1 < 2 * m ∧ b p = true ∧ b (p + 1) = false then 1 else 0) := by
  unfold fX3_isPair
  rw [places_spec hs]
  simp only [bsm]
  rw [nI_1]
  by_cases h : p + 1 < 2 * m
  · rw [if_neg (nI_ge h (by omega)), rdI_n (by omega) (by omega), rdI_n (by omega) (by omega), hst p hp, hst (p + 1) h]
    simp only [bsm]
    cases b p <;> cases b (p + 1) <;> simp [h]
  · rw [if_pos (nI_le (by omega) (by omega)), if_neg (fun h2 => h h2.1)]
