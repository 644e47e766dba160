/-! SEARCHES: on and back, in blocks and by the heap -/
set_option maxRecDepth 100000
theorem ex_pm (b : Nat → Bool) (p : Nat) : ex b (p + 1) = ex b p + 1 ∨ ex b (p + 1) = ex b p - 1 := by
  rw [ex_s]; cases b p <;> simp <;> omega
/-- what lies between is reached -/
theorem ivt_up (b : Nat → Bool) (D : Int) (a : Nat) : ∀ d : Nat, ex b a ≤ D → D ≤ ex b (a + d) → ∃ p, a ≤ p ∧ p ≤ a + d ∧ ex b p = D := by
  intro d
  induction d with
  | zero => intro h1 h2; exact ⟨a, Nat.le_refl _, Nat.le_refl _, by rw [Nat.add_zero] at h2; omega⟩
  | succ d ih =>
    intro h1 h2
    by_cases h : D ≤ ex b (a + d)
    · obtain ⟨p, h3, h4, h5⟩ := ih h1 h; exact ⟨p, h3, by omega, h5⟩
    · have := ex_pm b (a + d)
      rw [Nat.add_assoc] at this
      exact ⟨a + (d + 1), by omega, Nat.le_refl _, by omega⟩
theorem ivt_dn (b : Nat → Bool) (D : Int) (a : Nat) : ∀ d : Nat, D ≤ ex b a → ex b (a + d) ≤ D → ∃ p, a ≤ p ∧ p ≤ a + d ∧ ex b p = D := by
  intro d
  induction d with
  | zero => intro h1 h2; exact ⟨a, Nat.le_refl _, Nat.le_refl _, by rw [Nat.add_zero] at h2; omega⟩
  | succ d ih =>
    intro h1 h2
    by_cases h : ex b (a + d) ≤ D
    · obtain ⟨p, h3, h4, h5⟩ := ih h1 h; exact ⟨p, h3, by omega, h5⟩
    · have := ex_pm b (a + d)
      rw [Nat.add_assoc] at this
      exact ⟨a + (d + 1), by omega, Nat.le_refl _, by omega⟩
theorem ivt {b : Nat → Bool} {D : Int} {p q lo hi : Nat} (h1 : lo < p) (h2 : p ≤ hi) (h3 : lo < q) (h4 : q ≤ hi) (h5 : ex b p ≤ D) (h6 : D ≤ ex b q) : ∃ r, lo < r ∧ r ≤ hi ∧ ex b r = D := by
  by_cases h : p ≤ q
  · obtain ⟨r, g1, g2, g3⟩ := ivt_up b D p (q - p) h5 (by rw [show p + (q - p) = q by omega]; exact h6)
    exact ⟨r, by omega, by omega, g3⟩
  · obtain ⟨r, g1, g2, g3⟩ := ivt_dn b D q (p - q) h6 (by rw [show q + (p - q) = p by omega]; exact h5)
    exact ⟨r, by omega, by omega, g3⟩
/-- a place in (lo, hi] with the excess sought -/
def Hit (b : Nat → Bool) (D : Int) (lo hi : Nat) : Prop := ∃ p, lo < p ∧ p ≤ hi ∧ ex b p = D
theorem hit_sum {b : Nat → Bool} {lo hi : Nat} {g l h D : Int} (hs : SumOf b lo hi g l h) (hlo : lo ≤ 128) : (ex b lo + l ≤ D ∧ D ≤ ex b lo + h) ↔ Hit b D lo hi := by
  obtain ⟨h1, h2, h3⟩ := hs
  have hr := ex_rng b lo
  by_cases hlt : lo < hi
  · obtain ⟨g1, ⟨p, g2, g3, g4⟩, ⟨q, g5, g6, g7⟩⟩ := h3 hlt
    constructor
    · intro hh
      exact ivt g2 g3 g5 g6 (by omega) (by omega)
    · rintro ⟨r, k1, k2, k3⟩
      have := g1 r k1 k2
      omega
  · have := h2 (by omega)
    constructor
    · intro hh; omega
    · rintro ⟨r, k1, k2, k3⟩; omega
theorem bl_1 : ∀ k, k < 8 → 0 < k → blo (2 * k) = blo k ∧ bhi (2 * k) = blo (2 * k + 1) ∧ bhi (2 * k + 1) = bhi k ∧ bhi k ≤ 8 ∧ blo k < bhi k := by decide
theorem bl_8 {k : Nat} (h : 8 ≤ k) : blo k = k - 8 ∧ bhi k = k - 7 := by
  match k, h with
  | k + 8, _ => exact ⟨rfl, rfl⟩
theorem bl_r : ∀ k, k < 16 → 0 < k → blo k < 8 ∧ bhi k ≤ 8 ∧ blo k < bhi k := by decide
theorem s_rng {b : Nat → Bool} {lo hi : Nat} {g l h : Int} (hs : SumOf b lo hi g l h) (h1 : lo ≤ 128) (h2 : hi ≤ 128) : -1000 ≤ l ∧ l ≤ 1000 ∧ -1000 ≤ h ∧ h ≤ 1000 ∧ -1000 ≤ g ∧ g ≤ 1000 := by
  obtain ⟨e1, e2, e3⟩ := hs
  have r1 := ex_rng b lo
  have r2 := ex_rng b hi
  by_cases hlt : lo < hi
  · obtain ⟨g1, ⟨p, g2, g3, g4⟩, ⟨q, g5, g6, g7⟩⟩ := e3 hlt
    have r3 := ex_rng b p
    have r4 := ex_rng b q
    omega
  · have := e2 (by omega)
    omega
theorem comesTo_spec {rs : RS} {b : Nat → Bool} {n k : Nat} {D e : Int} (hS : Sums rs b n) (hn : n ≤ 128) (hk : 0 < k) (hk2 : k < 16) (hD : -2147483648 ≤ D ∧ D < 2147483648) (he : e = ex b (min n (16 * blo k))) : (fX1_comesTo rs (nI k) (iZ e) (iZ D) = some 1 ∧ Hit b D (min n (16 * blo k)) (min n (16 * bhi k))) ∨ (fX1_comesTo rs (nI k) (iZ e) (iZ D) = some 0 ∧ ¬ Hit b D (min n (16 * blo k)) (min n (16 * bhi k))) := by
  have hs := hS k hk hk2
  have hh := hit_sum (D := D) hs (by omega)
  have hr := s_rng hs (by omega) (by omega)
  have he2 := ex_rng b (min n (16 * blo k))
  unfold fX1_comesTo
  rw [rdI_n (by omega) (by omega), rdI_n (by omega) (by omega)]
  simp only [Option.bind_some]
  rw [iZ_of (rL rs k), iZ_of (rH rs k), iZ_add, iZ_add]
  by_cases h1 : D < e + (rL rs k).toInt
  · right
    rw [if_pos ((iZ_lt (by omega) (by omega)).mpr h1)]
    exact ⟨rfl, fun h => by have := hh.mpr h; omega⟩
  · rw [if_neg (fun h => h1 ((iZ_lt (by omega) (by omega)).mp h))]
    by_cases h2 : e + (rH rs k).toInt < D
    · right
      rw [if_pos ((iZ_lt (by omega) (by omega)).mpr h2)]
      exact ⟨rfl, fun h => by have := hh.mpr h; omega⟩
    · left
      rw [if_neg (fun h => h2 ((iZ_lt (by omega) (by omega)).mp h))]
      exact ⟨rfl, hh.mp (by omega)⟩
theorem gain_spec {rs : RS} {b : Nat → Bool} {n k : Nat} (hS : Sums rs b n) (hn : n ≤ 128) (hk : 0 < k) (hk2 : k < 16) : rdI 16 (rG rs) (nI k) = some (iZ (ex b (min n (16 * bhi k)) - ex b (min n (16 * blo k)))) := by
  rw [rdI_n (by omega) (by omega)]
  have hs := (hS k hk hk2).1
  rw [← hs, ← iZ_of]
/-- the first place behind p, up to hi, with the excess sought: its place, or none -/
def First (b : Nat → Bool) (D : Int) (p hi : Nat) (r : Int32) : Prop := (r = -4 ∧ ¬ Hit b D p hi) ∨ ∃ q, p < q ∧ q ≤ hi ∧ ex b q = D ∧ (∀ j, p < j → j < q → ex b j ≠ D) ∧ r = nI q
theorem First.uniq {b : Nat → Bool} {D : Int} {p hi : Nat} {r r' : Int32} (h : First b D p hi r) (h' : First b D p hi r') : r = r' := by
  rcases h with ⟨h1, h2⟩ | ⟨q, h1, h2, h3, h4, h5⟩ <;> rcases h' with ⟨g1, g2⟩ | ⟨q', g1, g2, g3, g4, g5⟩
  · rw [h1, g1]
  · exact absurd ⟨q', g1, g2, g3⟩ h2
  · exact absurd ⟨q, h1, h2, h3⟩ g2
  · have : q = q' := by
      rcases Nat.lt_trichotomy q q' with h | h | h
      · exact absurd h3 (g4 q h1 h)
      · exact h
      · exact absurd g3 (h4 q' g1 h)
    rw [h5, g5, this]
theorem m1_iZ : (-1 : Int32) = iZ (-1) := by decide
theorem iZ_bit (z : Int) (x : Bool) : iZ z + (if x = true then (1 : Int32) else -1) = iZ (z + if x = true then 1 else -1) := by
  cases x
  · simp only [Bool.false_eq_true, if_false]; rw [m1_iZ, iZ_add]
  · simp only [if_true]; rw [show (1 : Int32) = iZ 1 from rfl, iZ_add]
theorem onInBlock_loop {rs : RS} {b : Nat → Bool} (hb : ∀ p, p < 128 → rbit rs p = b p) {D : Int} (hD : -2147483648 ≤ D ∧ D < 2147483648) {p hi : Nat} (hhi : hi ≤ 128) (x1 x2 : Int32) : ∀ (d k nn : Nat), hi - k = d → p ≤ k → k ≤ 128 → d < nn → (∀ j, p < j → j ≤ k → ex b j ≠ D) → ∃ r, fX0_onInBlock_L27 rs x1 x2 (iZ D) nn (nI k) (iZ (ex b k)) (nI hi) = some r ∧ First b D p hi r := by
  intro d
  induction d with
  | zero =>
    intro k nn h1 h2 h0 h3 h4
    obtain ⟨nn, rfl⟩ : ∃ q, nn = q + 1 := ⟨nn - 1, by omega⟩
    rw [fX0_onInBlock_L27, if_pos (nI_le (by omega) (by omega))]
    exact ⟨-4, rfl, Or.inl ⟨rfl, fun ⟨q, g1, g2, g3⟩ => h4 q g1 (by omega) g3⟩⟩
  | succ d ih =>
    intro k nn h1 h2 h0 h3 h4
    obtain ⟨nn, rfl⟩ : ∃ q, nn = q + 1 := ⟨nn - 1, by omega⟩
    rw [fX0_onInBlock_L27, if_neg (nI_ge (by omega) (by omega)), step_spec rs (by omega), hb k (by omega)]
    simp only [Option.bind_some]
    have e : iZ (ex b k) + (if b k = true then (1 : Int32) else -1) = iZ (ex b (k + 1)) := by
      rw [ex_s]; exact iZ_bit _ _
    rw [e, nI_1]
    have hr := ex_rng b (k + 1)
    by_cases h : ex b (k + 1) = D
    · rw [if_pos (by rw [h])]
      exact ⟨_, rfl, Or.inr ⟨k + 1, by omega, by omega, h, fun j g1 g2 => h4 j g1 (by omega), rfl⟩⟩
    · rw [if_neg (fun h2 => h ((iZ_eq (by omega) (by omega)).mp h2))]
      exact ih (k + 1) nn (by omega) (by omega) (by omega) (by omega) (fun j g1 g2 => by
        by_cases hj : j = k + 1
        · rw [hj]; exact h
        · exact h4 j g1 (by omega))
