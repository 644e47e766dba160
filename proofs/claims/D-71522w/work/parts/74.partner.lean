/-! partner -/
set_option maxRecDepth 100000
theorem partner_open {rs : RS} {b : Nat → Bool} {n p q : Nat} (hb : ∀ p, p < 128 → rbit rs p = b p) (hP : rP rs = nI n) (hn : n ≤ 128) (hS : Sums rs b n) (hp : p < n) (ho : b p = true) (hs : Shut b p q) (hq : q < n) : fX0_partner rs (nI p) = some (nI q) := by
  unfold fX0_partner
  rw [isOpen_spec rs (by omega), hb p (by omega), ho, if_pos rfl]
  simp only [bsm]
  rw [if_neg one_nz, excess_spec hb (by omega)]
  simp only [bsm]
  have hr := ex_rng b p
  obtain ⟨r, g1, g2⟩ := searchOn_spec (D := ex b p) hb hP hn hS (by omega) (Nat.le_of_lt hp)
  rw [g1]
  simp only [bsm]
  have hF : First b (ex b p) p n (nI (q + 1)) := Or.inr ⟨q + 1, by have := hs.1; omega, by omega, hs.2.1, fun j j1 j2 => by have := hs.2.2 j j1 (by omega); omega, rfl⟩
  rw [First.uniq g2 hF, show nI (q + 1) - (1 : Int32) = nI (q + 1 - 1) from nI_subN (c := 1) (by omega), Nat.add_sub_cancel]
theorem partner_shut {rs : RS} {b : Nat → Bool} {n p q : Nat} (hb : ∀ p, p < 128 → rbit rs p = b p) (hn : n ≤ 128) (hS : Sums rs b n) (hp : p < n) (ho : b p = false) (hs : Shut b q p) : fX0_partner rs (nI p) = some (nI q) := by
  unfold fX0_partner
  rw [isOpen_spec rs (by omega), hb p (by omega), ho, if_neg (by decide)]
  simp only [bsm]
  rw [if_pos trivial, nI_1, excess_spec hb (by omega)]
  simp only [bsm]
  have hr := ex_rng b (p + 1)
  obtain ⟨r, g1, g2⟩ := searchBack_spec (D := ex b (p + 1)) hb hn hS (by omega) (show p + 1 ≤ n by omega)
  rw [g1]
  simp only [bsm]
  have h0 := hs.1
  have hF : Last b (ex b (p + 1)) (p + 1) (nI q) := Or.inr ⟨q, by omega, hs.2.1.symm, fun j j1 j2 => by
    have h1 := hs.2.2 j j1 (by omega)
    have h2 := hs.2.1
    omega, rfl⟩
  rw [Last.uniq g2 hF]
theorem ex_nn {b : Nat → Bool} {n p : Nat} (hT : Tree b n) (hp : p ≤ n) : 0 ≤ ex b p := by
  by_cases hz : p = 0
  · rw [hz]; exact Int.le_refl _
  · by_cases hn : p = n
    · rw [hn, hT.1]; exact Int.le_refl _
    · have := hT.2 p (by omega) (by omega); omega
/-- a shut place of a tree was opened -/
theorem open_ex {b : Nat → Bool} {n p : Nat} (hT : Tree b n) (hp : p < n) (hb : b p = false) : ∃ q, Shut b q p ∧ b q = true := by
  have h1 : ex b (p + 1) = ex b p - 1 := by rw [ex_s, hb]; simp; omega
  have h0 := ex_nn hT (show p + 1 ≤ n by omega)
  have hex : ∃ j, j < p + 1 ∧ ex b j ≤ ex b (p + 1) := ⟨0, by omega, h0⟩
  obtain ⟨j, hj, hle, hlast⟩ := fb_last hex
  have hjp : j < p := by
    rcases Nat.lt_or_ge j p with h | h
    · exact h
    · rw [show j = p by omega] at hle; omega
  have hall : ∀ i, j < i → i ≤ p → ex b (p + 1) < ex b i := fun i h2 h3 => by
    have := hlast i h2 (by omega)
    omega
  have h3 := hall (j + 1) (by omega) (by omega)
  have hpm := ex_s b j
  cases hbj : b j
  · rw [hbj] at hpm; simp at hpm; omega
  · rw [hbj] at hpm; simp at hpm
    refine ⟨j, ⟨hjp, by omega, fun i h4 h5 => by have := hall i h4 h5; omega⟩, hbj⟩
