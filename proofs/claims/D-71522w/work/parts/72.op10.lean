/-! the call backward -/
set_option maxRecDepth 100000
theorem backwardM_loop {st : Nat → Int32} {b : Nat → Bool} {m : Nat} (hm : m ≤ 64) (hst : ∀ p, p < 2 * m → st p = if b p then 1 else 0) {D : Int} (hD : -2147483648 ≤ D ∧ D < 2147483648) (x1 : Int32) {p : Nat} (hp : p ≤ 2 * m) : ∀ (k nn : Nat), k ≤ p → k < nn → (∀ j, k ≤ j → j < p → ex b j ≠ D) → ∃ r, fX3_backward_L14 st x1 (iZ D) nn (iZ ((k : Int) - 1)) = some r ∧ Last b D p r := by
  intro k
  induction k with
  | zero =>
    intro nn h2 h4 h5
    obtain ⟨nn, rfl⟩ : ∃ q, nn = q + 1 := ⟨nn - 1, by omega⟩
    rw [fX3_backward_L14, if_pos (by decide)]
    exact ⟨-4, rfl, Or.inl ⟨rfl, fun q hq => h5 q (by omega) hq⟩⟩
  | succ k ih =>
    intro nn h2 h4 h5
    obtain ⟨nn, rfl⟩ : ∃ q, nn = q + 1 := ⟨nn - 1, by omega⟩
    rw [show ((k + 1 : Nat) : Int) - 1 = (k : Int) by omega, ← nI_iZ, fX3_backward_L14, if_neg (nI_pos (by omega)), excessAt_spec hst (by omega) (by omega)]
    simp only [bsm]
    have hr := ex_rng b k
    by_cases h : ex b k = D
    · rw [if_pos (by rw [h])]
      exact ⟨_, rfl, Or.inr ⟨k, by omega, h, fun j g1 g2 => h5 j (by omega) g2, rfl⟩⟩
    · rw [if_neg (fun h2 => h ((iZ_eq (by omega) (by omega)).mp h2)), nI_iZ, m1_iZ, iZ_add, show (k : Int) + -1 = (k : Int) - 1 by omega]
      exact ih nn (by omega) (by omega) (fun j g1 g2 => by
        by_cases hj : j = k
        · rw [hj]; exact h
        · exact h5 j (by omega) g2)
theorem op_10 {xi : Nat → Int32} {rs r0 r1 rt : RS} {tp : Nat → Int32} {kd sn : Nat → Nat} {sf : Nat → Nat → Int32} {sg : Nat → Nat → Int64} {mi st tm ik ln lg : Nat → Int32} {ce : Nat → Int64} (hR : Rel xi rs r0 r1 rt tp kd sn sf sg mi st tm ik ln lg ce) (a1 : Int32) (a2 : Int32) : ∃ (r : Int32), fX0_backward rs a1 a2 = some r ∧ fX3_backward st a1 a2 = some r ∧ Rel xi rs r0 r1 rt tp kd sn sf sg mi st tm ik ln lg ce := by
  obtain ⟨b, m, ⟨hm, hP, hb, hz, hT, hS⟩, ⟨hs, hp⟩, hW⟩ := hR.1
  unfold fX0_backward fX3_backward
  rcases isMark_both hP hm hs a1 with ⟨h1, h2⟩ | ⟨p, hp2, rfl, h1, h2⟩
  · exact ⟨-1, by rw [h1]; simp only [bsm]; rw [if_pos trivial], by rw [h2]; simp only [bsm]; rw [if_pos trivial], hR⟩
  · rw [h1, h2]
    simp only [bsm]
    have hD := fb_rng a2
    obtain ⟨D, hd⟩ : ∃ D : Int, D = a2.toInt := ⟨_, rfl⟩
    have ha : a2 = iZ D := by rw [hd]; exact iZ_of a2
    rw [← hd] at hD
    rw [ha]
    clear ha hd
    rw [if_neg one_nz, if_neg one_nz, show nI p - (1 : Int32) = iZ ((p : Int) - 1) from iZ_sub (p : Int) 1]
    obtain ⟨r, g1, g2⟩ := searchBack_spec (D := D) hb (by omega) hS hD hp2
    obtain ⟨r', g3, g4⟩ := backwardM_loop (D := D) hm hp hD (nI p) hp2 p FU (Nat.le_refl _) (by unfold FU; omega) (fun j j1 j2 => by omega)
    have e := Last.uniq g2 g4
    subst e
    exact ⟨r, by rw [g1]; simp only [bsm], g3, hR⟩
