/-! searchBack: the climb; backward -/
set_option maxRecDepth 100000
theorem bclimb_spec {rs : RS} {b : Nat → Bool} {n p : Nat} {D : Int} (hb : ∀ p, p < 128 → rbit rs p = b p) (hn : n ≤ 128) (hpn : p ≤ n) (hS : Sums rs b n) (hD : -2147483648 ≤ D ∧ D < 2147483648) (x1 : Int32) : ∀ (k nn : Nat), 0 < k → k < 16 → k < nn → 16 * blo k < p → (∀ j, 16 * blo k < j → j < p → ex b j ≠ D) → ∃ r, fX0_searchBack_L67 rs x1 (iZ D) nn (iZ (ex b (16 * blo k))) (nI k) = some r ∧ Last b D p r := by
  intro k
  induction k using Nat.strongRecOn with
  | ind k ih =>
    intro nn h2 h3 h4 h6 h7
    obtain ⟨nn, rfl⟩ : ∃ q, nn = q + 1 := ⟨nn - 1, by omega⟩
    rw [fX0_searchBack_L67]
    by_cases hk : k = 1
    · subst hk
      rw [if_pos (show nI 1 = (1 : Int32) from rfl)]
      have h7' : ∀ j, 0 < j → j < p → ex b j ≠ D := h7
      by_cases h : D = 0
      · subst h
        rw [if_pos (show iZ 0 = (0 : Int32) from rfl)]
        exact ⟨_, rfl, Or.inr ⟨0, by omega, rfl, h7', rfl⟩⟩
      · rw [if_neg (show ¬ iZ D = (0 : Int32) from fun h2 => h ((iZ_eq (b := 0) (by omega) (by omega)).mp h2))]
        refine ⟨-4, rfl, Or.inl ⟨rfl, fun q hq => ?_⟩⟩
        by_cases hq0 : q = 0
        · rw [hq0]; exact fun h8 => h h8.symm
        · exact h7' q (by omega) hq
    · rw [if_neg (show ¬ nI k = (1 : Int32) from nI_neq (c := 1) hk (by omega) (by omega)), show (2 : Int32) = nI 2 from rfl, nI_mod (by omega) (by omega) (by omega)]
      obtain ⟨b1, b2, b3⟩ := bl_c k h3 (by omega)
      by_cases hev : k % 2 = 1
      · obtain ⟨e1, e2, e3⟩ := b2 hev
        obtain ⟨t1, t2, t3⟩ := bl_r (k - 1) (by omega) (by omega)
        have m1 : min n (16 * bhi (k - 1)) = 16 * blo k := by rw [e2]; omega
        have m2 : min n (16 * blo (k - 1)) = 16 * blo (k - 1) := by rw [e2] at t3; omega
        rw [hev, if_pos (show nI 1 = (1 : Int32) from rfl), show (1 : Int32) = nI 1 from rfl, nI_subN (by omega), gain_spec hS hn (by omega) (by omega), m1, m2]
        simp only [bsm]
        rw [iZ_sub, show ex b (16 * blo k) - (ex b (16 * blo k) - ex b (16 * blo (k - 1))) = ex b (16 * blo (k - 1)) by omega]
        rcases comesTo_spec (k := k - 1) (e := ex b (16 * blo (k - 1))) hS hn (by omega) (by omega) hD (by rw [m2]) with ⟨c1, c2⟩ | ⟨c1, c2⟩
        · rw [c1]
          simp only [bsm]
          rw [if_neg (show ¬ (1 : Int32) = 0 from one_nz), show -nI 1 = (-1 : Int32) from rfl, nI_m1 (by omega), ← e2]
          rw [m1, m2, ← e2] at c2
          exact bdescend_spec hb hn hpn hS hD x1 (16 - (k - 1)) (k - 1) FU rfl (by omega) (by omega) (by unfold FU; omega) c2 (by rw [e2]; exact h6) (by rw [e2]; exact h7)
        · rw [c1]
          simp only [bsm]
          rw [if_pos trivial]
          unfold fX0_searchBack_B145
          simp only [bsm]
          rw [show (2 : Int32) = nI 2 from rfl, nI_div (by omega) (by omega) (by omega), ← e3]
          rw [m1, m2] at c2
          refine ih (k / 2) (by omega) nn (by omega) (by omega) (by omega) (by rw [e3]; rw [e2] at t3; omega) ?_
          intro j j1 j2 j3
          rw [e3] at j1
          by_cases hj : j ≤ 16 * blo k
          · exact c2 ⟨j, j1, hj, j3⟩
          · exact h7 j (by omega) j2 j3
      · have e3 := b3 (by omega)
        rw [show k % 2 = 0 by omega, if_neg (show ¬ nI 0 = (1 : Int32) by decide)]
        unfold fX0_searchBack_B145
        simp only [bsm]
        rw [show (2 : Int32) = nI 2 from rfl, nI_div (by omega) (by omega) (by omega), ← e3]
        exact ih (k / 2) (by omega) nn (by omega) (by omega) (by omega) (by rw [e3]; exact h6) (by rw [e3]; exact h7)
