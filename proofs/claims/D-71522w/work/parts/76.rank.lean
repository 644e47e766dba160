/-! ranks -/
set_option maxRecDepth 100000
theorem oq_not (b : Nat → Bool) : ∀ p, oq (fun k => !b k) p + oq b p = p := by
  intro p
  induction p with
  | zero => rfl
  | succ p ih => rw [oq_s, oq_s]; cases b p <;> simp <;> omega
theorem isPair_spec {st : Nat → Int32} {b : Nat → Bool} {m : Nat} (hs : st 192 = nI m) (hm : m ≤ 64) (hst : ∀ p, p < 2 * m → st p = if b p then 1 else 0) {p : Nat} (hp : p < 2 * m) : fX3_isPair st (nI p) = some (if p + 1 < 2 * m ∧ b p = true ∧ b (p + 1) = false then 1 else 0) := by
  unfold fX3_isPair
  rw [places_spec hs]
  simp only [bsm]
  rw [nI_1]
  by_cases h : p + 1 < 2 * m
  · rw [if_neg (nI_ge h (by omega)), rdI_n (by omega) (by omega), rdI_n (by omega) (by omega), hst p hp, hst (p + 1) h]
    simp only [bsm]
    cases b p <;> cases b (p + 1) <;> simp [h]
  · rw [if_pos (nI_le (by omega) (by omega)), if_neg (fun h2 => h h2.1)]
/-- what a sort of place is: 0 open, 1 shut, 2 a leaf's -/
def srt (b : Nat → Bool) (n what p : Nat) : Bool := if what = 2 then decide (p + 1 < n) && (b p && !b (p + 1)) else if what = 0 then b p else !b p
theorem isSort_spec {st : Nat → Int32} {b : Nat → Bool} {m : Nat} (hs : st 192 = nI m) (hm : m ≤ 64) (hst : ∀ p, p < 2 * m → st p = if b p then 1 else 0) {p what : Nat} (hp : p < 2 * m) (hw : what ≤ 2) : fX3_isSort st (nI p) (nI what) = some (if srt b (2 * m) what p then 1 else 0) := by
  unfold fX3_isSort srt
  have h3 : what = 0 ∨ what = 1 ∨ what = 2 := by omega
  rcases h3 with rfl | rfl | rfl
  · rw [if_neg (by decide), rdI_n (by omega) (by omega), hst p hp]
    simp only [bsm]
    cases b p <;> rfl
  · rw [if_neg (by decide), rdI_n (by omega) (by omega), hst p hp]
    simp only [bsm]
    cases b p <;> rfl
  · rw [if_pos (by decide), isPair_spec hs hm hst hp]
    simp only [bsm]
    by_cases h : p + 1 < 2 * m <;> cases b p <;> cases b (p + 1) <;> simp [h]
