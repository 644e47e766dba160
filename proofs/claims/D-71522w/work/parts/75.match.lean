/-! the call match -/
set_option maxRecDepth 100000
theorem matchM_loop {st : Nat → Int32} {b : Nat → Bool} {n : Nat} (hn : n ≤ 128) (hst : ∀ p, p < n → st p = if b p then 1 else 0) (x1 : Int32) {p q : Nat} (hs : Shut b q p) (hp : p < n) : ∀ (d k nn : Nat), k - q = d → q ≤ k → k ≤ p → d < nn → fX3_match_L38 st x1 nn (nI k) (iZ (ex b k - ex b (p + 1))) = some (nI q) := by
  intro d
  induction d with
  | zero =>
    intro k nn h1 h2 h3 h4
    obtain ⟨nn, rfl⟩ : ∃ q, nn = q + 1 := ⟨nn - 1, by omega⟩
    rw [show k = q by omega, hs.2.1, Int.sub_self, fX3_match_L38, if_pos (by decide)]
  | succ d ih =>
    intro k nn h1 h2 h3 h4
    obtain ⟨nn, rfl⟩ : ∃ q, nn = q + 1 := ⟨nn - 1, by omega⟩
    have g := hs.2.2 k (by omega) h3
    have g2 := hs.2.1
    have r1 := ex_rng b k
    have r2 := ex_rng b (p + 1)
    rw [fX3_match_L38, if_neg (show ¬ iZ (ex b k - ex b (p + 1)) ≤ (0 : Int32) from fun h => by
      have := (iZ_le (b := 0) (by omega) (by omega)).mp h
      omega), nI_m1 (by omega), rdI_n (by omega) (by omega), hst (k - 1) (by omega)]
    simp only [bsm]
    have e := ex_s b (k - 1)
    rw [show k - 1 + 1 = k by omega] at e
    have hB : ∀ x : Int32, x = iZ (ex b (k - 1) - ex b k) → fX3_match_B61 st x1 (fX3_match_L38 st x1 nn) (nI (k - 1)) x (iZ (ex b k - ex b (p + 1))) = some (nI q) := by
      intro x hx
      unfold fX3_match_B61
      simp only [bsm]
      rw [hx, iZ_add, show ex b k - ex b (p + 1) + (ex b (k - 1) - ex b k) = ex b (k - 1) - ex b (p + 1) by omega]
      exact ih (k - 1) nn (by omega) (by omega) (by omega) (by omega)
    cases hbk : b (k - 1)
    · rw [hbk] at e; simp at e
      rw [if_neg (by simp)]; exact hB _ (by rw [show ex b (k - 1) - ex b k = 1 by omega]; rfl)
    · rw [hbk] at e; simp at e
      rw [if_pos (by simp)]; exact hB _ (by rw [show ex b (k - 1) - ex b k = -1 by omega]; exact m1_iZ)
theorem op_11 {xi : Nat → Int32} {rs r0 r1 rt : RS} {tp : Nat → Int32} {kd sn : Nat → Nat} {sf : Nat → Nat → Int32} {sg : Nat → Nat → Int64} {mi st tm ik ln lg : Nat → Int32} {ce : Nat → Int64} (hR : Rel xi rs r0 r1 rt tp kd sn sf sg mi st tm ik ln lg ce) (a1 : Int32) : ∃ (r : Int32), fX0_match rs a1 = some r ∧ fX3_match st a1 = some r ∧ Rel xi rs r0 r1 rt tp kd sn sf sg mi st tm ik ln lg ce := by
  obtain ⟨b, m, ⟨hm, hP, hb, hz, hT, hS⟩, ⟨hs, hp⟩, hW⟩ := hR.1
  unfold fX0_match fX3_match
  rw [places_spec hs]
  simp only [bsm]
  rcases isPlace_both hP hm hs a1 with ⟨h1, h2⟩ | ⟨p, hp2, rfl, h1, h2⟩
  · exact ⟨-1, by rw [h1]; simp only [bsm]; rw [if_pos trivial], by rw [h2]; simp only [bsm]; rw [if_pos trivial], hR⟩
  · rw [h1, h2]
    simp only [bsm]
    rw [if_neg one_nz, if_neg one_nz, rdI_n (by omega) (by omega), hp p hp2]
    simp only [bsm]
    cases hbp : b p
    · obtain ⟨q, hq, hqb⟩ := open_ex hT hp2 hbp
      have h9 := matchM_loop (by omega) hp (nI p) hq hp2 (p - q) p FU rfl (by have := hq.1; omega) (Nat.le_refl _) (by unfold FU; omega)
      have e : ex b p - ex b (p + 1) = 1 := by rw [ex_s, hbp]; simp; omega
      rw [e] at h9
      rw [if_neg (by simp), partner_shut hb (by omega) hS hp2 hbp hq]
      exact ⟨nI q, by simp only [bsm], h9, hR⟩
    · obtain ⟨q, hq, hqn⟩ := shut_ex hT hp2 hbp
      rw [if_pos (by simp), partner_open hb hP (by omega) hS hp2 hbp hq hqn, shutOf_spec (by omega) hp hbp hq hqn]
      exact ⟨nI q, by simp only [bsm], by simp only [bsm], hR⟩
