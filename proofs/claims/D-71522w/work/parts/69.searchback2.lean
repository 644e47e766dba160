/-! searchBack: the heap -/
set_option maxRecDepth 100000
theorem bdescend_spec {rs : RS} {b : Nat → Bool} {n p : Nat} {D : Int} (hb : ∀ p, p < 128 → rbit rs p = b p) (hn : n ≤ 128) (hpn : p ≤ n) (hS : Sums rs b n) (hD : -2147483648 ≤ D ∧ D < 2147483648) (x1 : Int32) : ∀ (d k nn : Nat), 16 - k = d → 0 < k → k < 16 → d < nn → Hit b D (16 * blo k) (16 * bhi k) → 16 * bhi k < p → (∀ j, 16 * bhi k < j → j < p → ex b j ≠ D) → ∃ r, fX0_searchBack_L154 rs x1 (iZ D) nn (iZ (ex b (16 * bhi k))) (nI k) = some r ∧ Last b D p r := by
  intro d
  induction d using Nat.strongRecOn with
  | ind d ih =>
    intro k nn h1 h2 h3 h4 h5 h6 h7
    obtain ⟨nn, rfl⟩ : ∃ q, nn = q + 1 := ⟨nn - 1, by omega⟩
    rw [fX0_searchBack_L154]
    by_cases hk : 8 ≤ k
    · obtain ⟨e1, e2⟩ := bl_8 hk
      rw [e1, e2] at h5
      rw [e2] at h6 h7 ⊢
      rw [show (8 : Int32) = nI 8 from rfl, if_pos (nI_le hk (by omega)), nI_subN hk, nI_1, show (16 : Int32) = nI 16 from rfl, nI_mul, show k - 8 + 1 = k - 7 by omega]
      simp only [bsm]
      have hr := ex_rng b (16 * (k - 7))
      by_cases h : ex b (16 * (k - 7)) = D
      · rw [if_pos (by rw [h])]
        exact ⟨_, rfl, Or.inr ⟨_, h6, h, h7, rfl⟩⟩
      · rw [if_neg (fun h2 => h ((iZ_eq (by omega) (by omega)).mp h2))]
        rw [nI_subN (by omega)]
        unfold fX0_backInBlock
        obtain ⟨r, g1, g2⟩ := backInBlock_loop (p := 16 * (k - 7)) (g := 16 * (k - 7) - 16) hb hD (nI (16 * (k - 7))) (iZ (ex b (16 * (k - 7)))) _ (16 * (k - 7)) FU rfl (by omega) (by omega) (Nat.le_refl _) (by unfold FU; omega) (fun j j1 j2 _ => by omega)
        rw [g1]
        refine ⟨r, by simp only [bsm], ?_⟩
        obtain ⟨q, q1, q2, q3⟩ := h5
        have hq : q < 16 * (k - 7) := by
          rcases Nat.lt_or_ge q (16 * (k - 7)) with h8 | h8
          · exact h8
          · rw [show q = 16 * (k - 7) by omega] at q3; exact absurd q3 h
        rcases g2 with ⟨c1, c2⟩ | ⟨q', c1, c2, c3, c4, c5, c6⟩
        · exact absurd q3 (c2 q (by omega) hq (Or.inl (by omega)))
        · refine Or.inr ⟨q', by omega, c4, fun j j1 j2 => ?_, c6⟩
          by_cases hj : j < 16 * (k - 7)
          · exact c5 j j1 hj
          · by_cases hj2 : j = 16 * (k - 7)
            · rw [hj2]; exact h
            · exact h7 j (by omega) j2
    · obtain ⟨e1, e2, e3, e4, e5⟩ := bl_1 k (by omega) h2
      obtain ⟨t1, t2, t3⟩ := bl_r (2 * k + 1) (by omega) (by omega)
      have m1 : min n (16 * bhi (2 * k + 1)) = 16 * bhi (2 * k + 1) := by rw [e3]; omega
      have m2 : min n (16 * blo (2 * k + 1)) = 16 * blo (2 * k + 1) := by rw [e3] at t3; omega
      rw [show (8 : Int32) = nI 8 from rfl, if_neg (nI_ge (by omega) (by omega)), show (2 : Int32) = nI 2 from rfl, nI_mul, nI_1]
      simp only [bsm]
      rw [gain_spec hS hn (by omega) (by omega), m1, m2]
      simp only [bsm]
      rw [iZ_sub, e3, show ex b (16 * bhi k) - (ex b (16 * bhi k) - ex b (16 * blo (2 * k + 1))) = ex b (16 * blo (2 * k + 1)) by omega]
      rcases comesTo_spec (k := 2 * k + 1) (e := ex b (16 * blo (2 * k + 1))) hS hn (by omega) (by omega) hD (by rw [m2]) with ⟨c1, c2⟩ | ⟨c1, c2⟩
      · rw [c1]
        simp only [bsm]
        rw [if_neg one_nz]
        rw [m1, m2] at c2
        have := ih (16 - (2 * k + 1)) (by omega) (2 * k + 1) nn rfl (by omega) (by omega) (by omega) c2 (by rw [e3]; exact h6) (by rw [e3]; exact h7)
        rw [e3] at this
        exact this
      · rw [c1]
        simp only [bsm]
        rw [if_pos trivial, nI_m1 (by omega), show 2 * k + 1 - 1 = 2 * k by omega, ← e2]
        rw [m1, m2, e3] at c2
        refine ih (16 - 2 * k) (by omega) (2 * k) nn rfl (by omega) (by omega) (by omega) ?_ ?_ ?_
        · obtain ⟨q, g1, g2, g3⟩ := h5
          rw [e1, e2]
          refine ⟨q, g1, ?_, g3⟩
          rcases Nat.lt_or_ge (16 * blo (2 * k + 1)) q with h | h
          · exact absurd ⟨q, h, g2, g3⟩ c2
          · exact h
        · rw [e2]; rw [e3] at t3; omega
        · intro j j1 j2 j3
          rw [e2] at j1
          by_cases hj : j ≤ 16 * bhi k
          · exact c2 ⟨j, j1, hj, j3⟩
          · exact h7 j (by omega) j2 j3
