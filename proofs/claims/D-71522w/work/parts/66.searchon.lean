/-! searchOn -/
set_option maxRecDepth 100000
theorem min32_n {a c : Nat} (ha : a < 2 ^ 31) (hc : c < 2 ^ 31) : min32 (nI a) (nI c) = nI (min a c) := by
  unfold min32
  by_cases h : c < a
  · rw [if_pos (nI_lt h ha), show min a c = c by omega]
  · rw [if_neg (nI_nlt (by omega) hc), show min a c = a by omega]
theorem max32_n {a c : Nat} (ha : a < 2 ^ 31) (hc : c < 2 ^ 31) : max32 (nI a) (nI c) = nI (max a c) := by
  unfold max32
  by_cases h : a < c
  · rw [if_pos (nI_lt h hc), show max a c = c by omega]
  · rw [if_neg (nI_nlt (by omega) ha), show max a c = a by omega]
theorem nI_neq {a c : Nat} (h : a ≠ c) (ha : a < 2 ^ 31) (hc : c < 2 ^ 31) : ¬ nI a = nI c := fun e => h ((nI_eq ha hc).mp e)
theorem m4_ne {q : Nat} (h : q < 2 ^ 31) : ¬ nI q = (-4 : Int32) := fun e => nI_pos h (by rw [e]; decide)
theorem blkend {rs : RS} {n p : Nat} (hP : rP rs = nI n) (hn : n ≤ 128) (hp : p ≤ 128) : min32 (rP rs) (((nI p / (16 : Int32)) + (1 : Int32)) * (16 : Int32)) = nI (min n (16 * (p / 16 + 1))) := by
  rw [hP, show (16 : Int32) = nI 16 from rfl, nI_div (by omega) (by omega) (by omega), nI_1, nI_mul, min32_n (by omega) (by omega), Nat.mul_comm]
theorem onInBlock_spec {rs : RS} {b : Nat → Bool} {n p : Nat} {D : Int} (hb : ∀ p, p < 128 → rbit rs p = b p) (hP : rP rs = nI n) (hn : n ≤ 128) (hp : p ≤ 128) (hD : -2147483648 ≤ D ∧ D < 2147483648) : ∃ r, fX0_onInBlock rs (nI p) (iZ (ex b p)) (iZ D) = some r ∧ First b D p (min n (16 * (p / 16 + 1))) r := by
  unfold fX0_onInBlock
  rw [blkend hP hn hp]
  simp only [Option.bind_some]
  exact onInBlock_loop hb hD (by omega) _ _ _ p FU rfl (Nat.le_refl _) hp (by unfold FU; omega) (fun j h1 h2 => by omega)
theorem descend_spec {rs : RS} {b : Nat → Bool} {n p : Nat} {D : Int} (hb : ∀ p, p < 128 → rbit rs p = b p) (hP : rP rs = nI n) (hn : n ≤ 128) (hS : Sums rs b n) (hD : -2147483648 ≤ D ∧ D < 2147483648) (x1 : Int32) : ∀ (d k nn : Nat), 16 - k = d → 0 < k → k < 16 → d < nn → Hit b D (min n (16 * blo k)) (min n (16 * bhi k)) → p ≤ 16 * blo k → ¬ Hit b D p (min n (16 * blo k)) → ∃ r, fX0_searchOn_L143 rs x1 (iZ D) nn (iZ (ex b (min n (16 * blo k)))) (nI k) = some r ∧ First b D p n r := by
  intro d
  induction d using Nat.strongRecOn with
  | ind d ih =>
    intro k nn h1 h2 h3 h4 h5 h6 h7
    obtain ⟨nn, rfl⟩ : ∃ q, nn = q + 1 := ⟨nn - 1, by omega⟩
    have hlt : 16 * blo k < n := by
      obtain ⟨q, g1, g2, g3⟩ := h5
      omega
    rw [fX0_searchOn_L143]
    by_cases hk : 8 ≤ k
    · obtain ⟨e1, e2⟩ := bl_8 hk
      rw [show (8 : Int32) = nI 8 from rfl, if_pos (nI_le hk (by omega)), nI_subN hk, show (16 : Int32) = nI 16 from rfl, nI_mul]
      rw [e1] at h5 h6 h7 hlt ⊢
      rw [e2] at h5
      rw [show min n (16 * (k - 8)) = 16 * (k - 8) by omega] at h5 h7 ⊢
      obtain ⟨r, g1, g2⟩ := onInBlock_spec (p := 16 * (k - 8)) hb hP hn (by omega) hD
      rw [show 16 * (16 * (k - 8) / 16 + 1) = 16 * (k - 7) by omega] at g2
      rw [g1]
      refine ⟨r, rfl, ?_⟩
      rcases g2 with ⟨c1, c2⟩ | ⟨q, c1, c2, c3, c4, c5⟩
      · exact absurd h5 c2
      · refine Or.inr ⟨q, by omega, by omega, c3, fun j j1 j2 => ?_, c5⟩
        by_cases hj : j ≤ 16 * (k - 8)
        · exact fun h => h7 ⟨j, j1, hj, h⟩
        · exact c4 j (by omega) j2
    · obtain ⟨e1, e2, e3, e4, e5⟩ := bl_1 k (by omega) h2
      rw [show (8 : Int32) = nI 8 from rfl, if_neg (nI_ge (by omega) (by omega)), show (2 : Int32) = nI 2 from rfl, nI_mul]
      simp only [Option.bind_some]
      rw [show k * 2 = 2 * k by omega]
      rcases comesTo_spec (k := 2 * k) (e := ex b (min n (16 * blo k))) hS hn (by omega) (by omega) hD (by rw [e1]) with ⟨c1, c2⟩ | ⟨c1, c2⟩
      · rw [c1]
        simp only [Option.bind_some]
        rw [if_neg one_nz]
        have := ih (16 - 2 * k) (by omega) (2 * k) nn rfl (by omega) (by omega) (by omega) c2 (by rw [e1]; exact h6) (by rw [e1]; exact h7)
        rw [e1] at this
        exact this
      · rw [c1]
        simp only [Option.bind_some]
        rw [if_pos trivial, gain_spec hS hn (by omega) (by omega)]
        simp only [Option.bind_some]
        rw [iZ_add, nI_1]
        rw [e1, e2] at c2 ⊢
        have hx : ex b (min n (16 * blo k)) + (ex b (min n (16 * blo (2 * k + 1))) - ex b (min n (16 * blo k))) = ex b (min n (16 * blo (2 * k + 1))) := by omega
        rw [hx]
        obtain ⟨f1, f2, f3⟩ := bl_r (2 * k + 1) (by omega) (by omega)
        obtain ⟨t1, t2, t3⟩ := bl_r (2 * k) (by omega) (by omega)
        rw [e1, e2] at t3
        refine ih (16 - (2 * k + 1)) (by omega) (2 * k + 1) nn rfl (by omega) (by omega) (by omega) ?_ (by omega) ?_
        · obtain ⟨q, g1, g2, g3⟩ := h5
          rw [e3]
          refine ⟨q, ?_, g2, g3⟩
          rcases Nat.lt_or_ge (min n (16 * blo (2 * k + 1))) q with h | h
          · exact h
          · exact absurd ⟨q, g1, h, g3⟩ c2
        · rintro ⟨q, g1, g2, g3⟩
          by_cases hq : q ≤ min n (16 * blo k)
          · exact h7 ⟨q, g1, hq, g3⟩
          · exact c2 ⟨q, by omega, g2, g3⟩
theorem bl_c : ∀ k, k < 16 → 1 < k → (k % 2 = 0 → blo (k + 1) = bhi k ∧ bhi (k / 2) = bhi (k + 1) ∧ k + 1 < 16) ∧ (k % 2 = 1 → bhi (k / 2) = bhi k ∧ bhi (k - 1) = blo k ∧ blo (k / 2) = blo (k - 1)) ∧ (k % 2 = 0 → blo (k / 2) = blo k) := by decide
theorem climb_spec {rs : RS} {b : Nat → Bool} {n p : Nat} {D : Int} (hb : ∀ p, p < 128 → rbit rs p = b p) (hP : rP rs = nI n) (hn : n ≤ 128) (hS : Sums rs b n) (hD : -2147483648 ≤ D ∧ D < 2147483648) (x1 : Int32) : ∀ (k nn : Nat), 0 < k → k < 16 → k < nn → p < 16 * bhi k → ¬ Hit b D p (min n (16 * bhi k)) → ∃ r, fX0_searchOn_L78 rs x1 (iZ D) nn (iZ (ex b (min n (16 * bhi k)))) (nI k) = some r ∧ First b D p n r := by
  intro k
  induction k using Nat.strongRecOn with
  | ind k ih =>
    intro nn h2 h3 h4 h6 h7
    obtain ⟨nn, rfl⟩ : ∃ q, nn = q + 1 := ⟨nn - 1, by omega⟩
    rw [fX0_searchOn_L78]
    by_cases hk : k = 1
    · subst hk
      rw [if_pos (show nI 1 = (1 : Int32) from rfl)]
      refine ⟨-4, rfl, Or.inl ⟨rfl, ?_⟩⟩
      rw [show min n (16 * bhi 1) = n by show min n (16 * 8) = n; omega] at h7
      exact h7
    · rw [if_neg (show ¬ nI k = (1 : Int32) from nI_neq (c := 1) hk (by omega) (by omega)), show (2 : Int32) = nI 2 from rfl, nI_mod (by omega) (by omega) (by omega)]
      obtain ⟨b1, b2, b3⟩ := bl_c k h3 (by omega)
      by_cases hev : k % 2 = 0
      · obtain ⟨e1, e2, e3⟩ := b1 hev
        rw [hev, if_pos (show nI 0 = (0 : Int32) from rfl), nI_1]
        rcases comesTo_spec (k := k + 1) (e := ex b (min n (16 * bhi k))) hS hn (by omega) e3 hD (by rw [e1]) with ⟨c1, c2⟩ | ⟨c1, c2⟩
        · rw [c1]
          simp only [Option.bind_some]
          rw [if_neg one_nz, ← e1]
          exact descend_spec hb hP hn hS hD x1 (16 - (k + 1)) (k + 1) FU rfl (by omega) e3 (by unfold FU; omega) c2 (by omega) (by rw [e1]; exact h7)
        · rw [c1]
          simp only [Option.bind_some]
          rw [if_pos trivial, gain_spec hS hn (by omega) e3]
          simp only [Option.bind_some]
          unfold fX0_searchOn_B134
          simp only [Option.bind_some]
          rw [iZ_add, show (2 : Int32) = nI 2 from rfl, nI_div (by omega) (by omega) (by omega), e1]
          rw [show ex b (min n (16 * bhi k)) + (ex b (min n (16 * bhi (k + 1))) - ex b (min n (16 * bhi k))) = ex b (min n (16 * bhi (k + 1))) by omega, ← e2]
          obtain ⟨t1, t2, t3⟩ := bl_r (k + 1) (by omega) (by omega)
          refine ih (k / 2) (by omega) nn (by omega) (by omega) (by omega) (by rw [e2]; omega) ?_
          rw [e2]
          rintro ⟨q, g1, g2, g3⟩
          by_cases hq : q ≤ min n (16 * bhi k)
          · exact h7 ⟨q, g1, hq, g3⟩
          · exact c2 ⟨q, by rw [e1]; omega, g2, g3⟩
      · obtain ⟨e1, e2, e3⟩ := b2 (by omega)
        rw [show k % 2 = 1 by omega, if_neg (show ¬ nI 1 = (0 : Int32) by decide)]
        unfold fX0_searchOn_B134
        simp only [Option.bind_some]
        rw [show (2 : Int32) = nI 2 from rfl, nI_div (by omega) (by omega) (by omega), ← e1]
        exact ih (k / 2) (by omega) nn (by omega) (by omega) (by omega) (by rw [e1]; exact h6) (by rw [e1]; exact h7)
theorem searchOn_spec {rs : RS} {b : Nat → Bool} {n p : Nat} {D : Int} (hb : ∀ p, p < 128 → rbit rs p = b p) (hP : rP rs = nI n) (hn : n ≤ 128) (hS : Sums rs b n) (hD : -2147483648 ≤ D ∧ D < 2147483648) (hp : p ≤ n) : ∃ r, fX0_searchOn rs (nI p) (iZ D) = some r ∧ First b D p n r := by
  unfold fX0_searchOn
  rw [hP]
  by_cases h : p < n
  · rw [if_pos (nI_lt h (by omega)), excess_spec hb (by omega)]
    simp only [Option.bind_some]
    obtain ⟨r, g1, g2⟩ := onInBlock_spec (p := p) hb hP hn (by omega) hD
    rw [g1]
    simp only [Option.bind_some]
    rcases g2 with ⟨c1, c2⟩ | ⟨q, c1, c2, c3, c4, c5⟩
    · have hE := blkend hP hn (p := p) (by omega)
      rw [hP] at hE
      rw [if_pos c1, hE, excess_spec hb (by omega), show (16 : Int32) = nI 16 from rfl, nI_div (by omega) (by omega) (by omega), show (8 : Int32) = nI 8 from rfl, nI_add]
      simp only [Option.bind_some]
      have e : bhi (8 + p / 16) = p / 16 + 1 := by rw [(bl_8 (k := 8 + p / 16) (by omega)).2]; omega
      rw [← e] at c2 ⊢
      exact climb_spec hb hP hn hS hD _ (8 + p / 16) FU (by omega) (by omega) (by unfold FU; omega) (by rw [e]; omega) c2
    · rw [c5, if_neg (m4_ne (by omega))]
      exact ⟨_, rfl, Or.inr ⟨q, c1, by omega, c3, c4, rfl⟩⟩
  · rw [if_neg (nI_nlt (by omega) (by omega))]
    exact ⟨-4, rfl, Or.inl ⟨rfl, fun ⟨q, g1, g2, g3⟩ => by omega⟩⟩
theorem forwardM_loop {st : Nat → Int32} {b : Nat → Bool} {m : Nat} (hs : st 192 = nI m) (hm : m ≤ 64) (hst : ∀ p, p < 2 * m → st p = if b p then 1 else 0) {D : Int} (hD : -2147483648 ≤ D ∧ D < 2147483648) (x1 : Int32) {p : Nat} : ∀ (d q nn : Nat), 2 * m + 1 - q = d → p < q → q ≤ 2 * m + 1 → d < nn → (∀ j, p < j → j < q → ex b j ≠ D) → ∃ r, fX3_forward_L14 st x1 (iZ D) nn (nI q) = some r ∧ First b D p (2 * m) r := by
  intro d
  induction d with
  | zero =>
    intro q nn h1 h2 h3 h4 h5
    obtain ⟨nn, rfl⟩ : ∃ q, nn = q + 1 := ⟨nn - 1, by omega⟩
    rw [fX3_forward_L14, places_spec hs]
    simp only [Option.bind_some]
    rw [if_pos (nI_lt (by omega) (by omega))]
    exact ⟨-4, rfl, Or.inl ⟨rfl, fun ⟨j, g1, g2, g3⟩ => h5 j g1 (by omega) g3⟩⟩
  | succ d ih =>
    intro q nn h1 h2 h3 h4 h5
    obtain ⟨nn, rfl⟩ : ∃ q, nn = q + 1 := ⟨nn - 1, by omega⟩
    rw [fX3_forward_L14, places_spec hs]
    simp only [Option.bind_some]
    rw [if_neg (nI_nlt (by omega) (by omega)), excessAt_spec hst (by omega) (by omega)]
    simp only [Option.bind_some]
    have hr := ex_rng b q
    by_cases h : ex b q = D
    · rw [if_pos (by rw [h])]
      exact ⟨_, rfl, Or.inr ⟨q, h2, by omega, h, h5, rfl⟩⟩
    · rw [if_neg (fun h2 => h ((iZ_eq (by omega) (by omega)).mp h2)), nI_1]
      exact ih (q + 1) nn (by omega) (by omega) (by omega) (by omega) (fun j g1 g2 => by
        by_cases hj : j = q
        · rw [hj]; exact h
        · exact h5 j g1 (by omega))
