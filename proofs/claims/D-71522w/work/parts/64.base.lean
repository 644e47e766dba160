/-! NODES, PLACES, MARKS; the small calls -/
set_option maxRecDepth 100000
theorem nodes_spec {rs : RS} {m : Nat} (hP : rP rs = nI (2 * m)) (hm : m ≤ 64) : fX0_nodes rs = some (nI m) := by
  unfold fX0_nodes
  rw [hP, show (2 : Int32) = nI 2 from rfl, nI_div (by omega) (by omega) (by omega), show 2 * m / 2 = m by omega]
theorem many_spec {st : Nat → Int32} {m : Nat} (h : st 192 = nI m) : fX3_many st = some (nI m) := by
  unfold fX3_many
  rw [show (192 : Int32) = nI 192 from rfl, rdI_n (by omega) (by omega), h]; rfl
theorem places_spec {st : Nat → Int32} {m : Nat} (h : st 192 = nI m) : fX3_places st = some (nI (2 * m)) := by
  unfold fX3_places
  rw [show (192 : Int32) = nI 192 from rfl, rdI_n (by omega) (by omega), h]
  simp only [Option.bind_some]
  rw [show (2 : Int32) = nI 2 from rfl, nI_mul]
/-- a number below a known one -/
theorem inl (a : Int32) {n : Nat} (hn : n < 2 ^ 31) : (fX0_in a.toInt64 (0 : Int64) (nI n - 1).toInt64 = some 0 ∧ fX3_in a.toInt64 (0 : Int64) (nI n - 1).toInt64 = some 0) ∨ ∃ p : Nat, p < n ∧ a = nI p ∧ fX0_in a.toInt64 (0 : Int64) (nI n - 1).toInt64 = some 1 ∧ fX3_in a.toInt64 (0 : Int64) (nI n - 1).toInt64 = some 1 := by
  cases n with
  | zero => exact Or.inl (inm1 a)
  | succ n =>
    rw [nI_pred]
    rcases in0 a (n := n) (by omega) with h | ⟨p, hp, h1, h2, h3⟩
    · exact Or.inl ⟨h.1, h.2.1⟩
    · exact Or.inr ⟨p, by omega, h1, h2, h3⟩
theorem isNode_both {rs : RS} {st : Nat → Int32} {m : Nat} (hP : rP rs = nI (2 * m)) (hm : m ≤ 64) (hs : st 192 = nI m) (a : Int32) : (fX0_isNode rs a = some 0 ∧ fX3_isNode st a = some 0) ∨ ∃ v : Nat, v < m ∧ a = nI v ∧ fX0_isNode rs a = some 1 ∧ fX3_isNode st a = some 1 := by
  unfold fX0_isNode fX3_isNode
  rw [nodes_spec hP hm, many_spec hs]
  simp only [Option.bind_some]
  rcases inl a (n := m) (by omega) with h | ⟨p, hp, h1, h2, h3⟩
  · left; rw [h.1, h.2]; exact ⟨rfl, rfl⟩
  · right; exact ⟨p, hp, h1, by rw [h2]; rfl, by rw [h3]; rfl⟩
theorem isPlace_both {rs : RS} {st : Nat → Int32} {m : Nat} (hP : rP rs = nI (2 * m)) (hm : m ≤ 64) (hs : st 192 = nI m) (a : Int32) : (fX0_isPlace rs a = some 0 ∧ fX3_in a.toInt64 (0 : Int64) (nI (2 * m) - 1).toInt64 = some 0) ∨ ∃ p : Nat, p < 2 * m ∧ a = nI p ∧ fX0_isPlace rs a = some 1 ∧ fX3_in a.toInt64 (0 : Int64) (nI (2 * m) - 1).toInt64 = some 1 := by
  unfold fX0_isPlace
  rw [hP]
  rcases inl a (n := 2 * m) (by omega) with h | ⟨p, hp, h1, h2, h3⟩
  · left; rw [h.1, h.2]; exact ⟨rfl, rfl⟩
  · right; exact ⟨p, hp, h1, by rw [h2]; rfl, h3⟩
theorem isMark_both {rs : RS} {st : Nat → Int32} {m : Nat} (hP : rP rs = nI (2 * m)) (hm : m ≤ 64) (hs : st 192 = nI m) (a : Int32) : (fX0_isBetween rs a = some 0 ∧ fX3_isMark st a = some 0) ∨ ∃ p : Nat, p ≤ 2 * m ∧ a = nI p ∧ fX0_isBetween rs a = some 1 ∧ fX3_isMark st a = some 1 := by
  unfold fX0_isBetween fX3_isMark
  rw [hP, places_spec hs]
  simp only [Option.bind_some]
  rcases in0 a (n := 2 * m) (by omega) with h | ⟨p, hp, h1, h2, h3⟩
  · left; rw [h.1, h.2.1]; exact ⟨rfl, rfl⟩
  · right; exact ⟨p, hp, h1, by rw [h2]; rfl, by rw [h3]; rfl⟩
/-- what a choice between 0 and n says -/
theorem what_both (a : Int32) (n : Nat) (hn : n < 2 ^ 31) : (fX0_in a.toInt64 (0 : Int64) (lN n) = some 0 ∧ fX3_in a.toInt64 (0 : Int64) (lN n) = some 0) ∨ ∃ p : Nat, p ≤ n ∧ a = nI p ∧ fX0_in a.toInt64 (0 : Int64) (lN n) = some 1 ∧ fX3_in a.toInt64 (0 : Int64) (lN n) = some 1 := by
  rw [← nI_l hn]
  rcases in0 a hn with h | ⟨p, hp, h1, h2, h3⟩
  · exact Or.inl ⟨h.1, h.2.1⟩
  · exact Or.inr ⟨p, hp, h1, h2, h3⟩
theorem nI_nz {p : Nat} (h : 0 < p) (h2 : p < 2 ^ 31) : ¬ nI p = 0 := nI_ne0 h h2
theorem one_nz : ¬ (1 : Int32) = 0 := by decide
section OPS
variable {xi : Nat → Int32} {rs r0 r1 rt : RS} {tp : Nat → Int32} {kd sn : Nat → Nat} {sf : Nat → Nat → Int32} {sg : Nat → Nat → Int64} {mi st tm ik ln lg : Nat → Int32} {ce : Nat → Int64}
theorem op_3 (hR : Rel xi rs r0 r1 rt tp kd sn sf sg mi st tm ik ln lg ce) : ∃ (r : Int32), fX0_fault xi = some r ∧ fX3_fault mi = some r ∧ Rel xi rs r0 r1 rt tp kd sn sf sg mi st tm ik ln lg ce :=
  ⟨xi 7, rfl, congrArg some hR.2.2.2.2.1.symm, hR⟩
theorem op_43 (hR : Rel xi rs r0 r1 rt tp kd sn sf sg mi st tm ik ln lg ce) : ∃ (r : Int32), fX0_torn xi = some r ∧ fX3_torn mi = some r ∧ Rel xi rs r0 r1 rt tp kd sn sf sg mi st tm ik ln lg ce :=
  ⟨xi 8, rfl, congrArg some hR.2.2.2.2.2.1.symm, hR⟩
theorem op_6 (hR : Rel xi rs r0 r1 rt tp kd sn sf sg mi st tm ik ln lg ce) (a1 : Int32) : ∃ (r : Int32), fX0_excess rs a1 = some r ∧ fX3_excess st a1 = some r ∧ Rel xi rs r0 r1 rt tp kd sn sf sg mi st tm ik ln lg ce := by
  obtain ⟨b, m, ⟨hm, hP, hb, hz, hT, hS⟩, ⟨hs, hp⟩, hW⟩ := hR.1
  unfold fX0_excess fX3_excess
  rcases isMark_both hP hm hs a1 with ⟨h1, h2⟩ | ⟨p, hp2, rfl, h1, h2⟩
  · exact ⟨-1, by rw [h1]; rfl, by rw [h2]; rfl, hR⟩
  · refine ⟨iZ (ex b p), ?_, ?_, hR⟩
    · rw [h1]; simp only [Option.bind_some]; rw [if_neg one_nz, excess_spec hb (by omega)]; rfl
    · rw [h2]; simp only [Option.bind_some]; rw [if_neg one_nz, excessAt_spec hp (by omega) hp2]; rfl
theorem op_5 (hR : Rel xi rs r0 r1 rt tp kd sn sf sg mi st tm ik ln lg ce) (a1 : Int32) : ∃ (r : Int32), fX0_bit rs a1 = some r ∧ fX3_bit st a1 = some r ∧ Rel xi rs r0 r1 rt tp kd sn sf sg mi st tm ik ln lg ce := by
  obtain ⟨b, m, ⟨hm, hP, hb, hz, hT, hS⟩, ⟨hs, hp⟩, hW⟩ := hR.1
  unfold fX0_bit fX3_bit
  rw [places_spec hs]
  simp only [Option.bind_some]
  rcases isPlace_both hP hm hs a1 with ⟨h1, h2⟩ | ⟨p, hp2, rfl, h1, h2⟩
  · exact ⟨-1, by rw [h1]; rfl, by rw [h2]; rfl, hR⟩
  · refine ⟨if b p then 1 else 0, ?_, ?_, hR⟩
    · rw [h1]; simp only [Option.bind_some]; rw [if_neg one_nz, isOpen_spec rs (by omega), hb p (by omega)]
      cases b p <;> rfl
    · rw [h2]; simp only [Option.bind_some]; rw [if_neg one_nz, rdI_n (by omega) (by omega), hp p hp2]; rfl
theorem op_24 (hR : Rel xi rs r0 r1 rt tp kd sn sf sg mi st tm ik ln lg ce) (a1 : Int32) : ∃ (r : Int32), fX0_weight rs a1 = some r ∧ fX3_weight st a1 = some r ∧ Rel xi rs r0 r1 rt tp kd sn sf sg mi st tm ik ln lg ce := by
  obtain ⟨b, m, ⟨hm, hP, hb, hz, hT, hS⟩, ⟨hs, hp⟩, hW⟩ := hR.1
  unfold fX0_weight fX3_weight
  rcases isNode_both hP hm hs a1 with ⟨h1, h2⟩ | ⟨v, hv, rfl, h1, h2⟩
  · exact ⟨-1, by rw [h1]; rfl, by rw [h2]; rfl, hR⟩
  · refine ⟨rT rs v, ?_, ?_, hR⟩
    · rw [h1]; simp only [Option.bind_some]; rw [if_neg one_nz, rdI_n (by omega) (by omega)]; rfl
    · rw [h2]; simp only [Option.bind_some]; rw [if_neg one_nz, show (128 : Int32) = nI 128 from rfl, nI_add, rdI_n (by omega) (by omega), (hW v hv).1]; rfl
theorem op_1 (hR : Rel xi rs r0 r1 rt tp kd sn sf sg mi st tm ik ln lg ce) (a1 : Int32) : ∃ (r : Int32) (xi_o : Nat → Int32) (mi_o : Nat → Int32), fX0_end xi a1 = some (r, xi_o) ∧ fX3_end mi a1 = some (r, mi_o) ∧ Rel xi_o rs r0 r1 rt tp kd sn sf sg mi_o st tm ik ln lg ce := by
  obtain ⟨h1, h2, h3, ⟨n, hn, e1, e2, ht⟩, h5, h6, h7⟩ := hR
  unfold fX0_end fX3_end
  rw [e1, e2]
  rcases in0 a1 (n := n) (by omega) with h | ⟨p, hp, rfl, g1, g2⟩
  · exact ⟨-1, xi, mi, by rw [h.1]; rfl, by rw [h.2.1]; rfl, h1, h2, h3, ⟨n, hn, e1, e2, ht⟩, h5, h6, h7⟩
  · exact ⟨nI n, upd xi 6 (nI p), upd mi 0 (nI p), by rw [g1]; rfl, by rw [g2]; rfl, h1, h2, h3, ⟨p, by omega, rfl, rfl, ht⟩, h5, h6, h7⟩
theorem upd_at {f : Nat → Int32} {i : Nat} {x : Int32} : upd f i x i = x := if_pos rfl
theorem upd_off {f : Nat → Int32} {i j : Nat} {x : Int32} (h : j ≠ i) : upd f i x j = f j := if_neg h
theorem op_0 (hR : Rel xi rs r0 r1 rt tp kd sn sf sg mi st tm ik ln lg ce) (a1 : Int32) : ∃ (r : Int32) (xi_o : Nat → Int32) (tp_o : Nat → Int32) (mi_o : Nat → Int32) (tm_o : Nat → Int32), fX0_feed xi tp a1 = some (r, xi_o, tp_o) ∧ fX3_feed mi tm a1 = some (r, mi_o, tm_o) ∧ Rel xi_o rs r0 r1 rt tp_o kd sn sf sg mi_o st tm_o ik ln lg ce := by
  have hR0 := hR
  obtain ⟨h1, h2, h3, ⟨n, hn, e1, e2, ht⟩, h5, h6, h7⟩ := hR
  unfold fX0_feed fX3_feed
  rw [e1, e2]
  rcases what_both a1 127 (by omega) with h | ⟨p, hp, rfl, g1, g2⟩
  · exact ⟨-1, xi, tp, mi, tm, by rw [show (127 : Int64) = lN 127 from rfl, h.1]; rfl, by rw [show (127 : Int64) = lN 127 from rfl, h.2]; rfl, hR0⟩
  · rw [show (127 : Int64) = lN 127 from rfl, g1, g2]
    simp only [Option.bind_some]
    rw [if_neg one_nz, if_neg one_nz]
    by_cases h : n = 160
    · subst h
      exact ⟨-3, xi, tp, mi, tm, if_pos (show nI 160 = (160 : Int32) from rfl), if_pos (show nI 160 = (160 : Int32) from rfl), hR0⟩
    · have hne : ¬ nI n = (160 : Int32) := fun h8 => h ((nI_eq (a := n) (b := 160) (by omega) (by omega)).mp h8)
      have hpI : (nI p).toInt = p := nI_toInt (by omega)
      have hb : vp_nar .byte ((nI p).toInt8.toInt32) = nI p := by
        show (nI p).toInt8.toInt32.toInt8.toInt32 = nI p
        rw [fb_byte_twice, fb_byte (by omega) (by omega)]
      rw [if_neg hne, if_neg hne, hb, wrI_n (by omega) (by omega), wrI_n (by omega) (by omega)]
      refine ⟨nI (n + 1), upd xi 6 (nI n + 1), upd tp n (nI p), upd mi 0 (nI n + 1), upd tm n (nI p), ?_, ?_, h1, h2, h3, ⟨n + 1, by omega, ?_, ?_, fun q hq => ?_⟩, ?_, ?_, h7⟩
      · simp only [Option.bind_some, upd_at]; rw [nI_1]
      · simp only [Option.bind_some, upd_at]; rw [nI_1]
      · rw [upd_at, nI_1]
      · rw [upd_at, nI_1]
      · by_cases hqn : q = n
        · subst hqn
          rw [upd_at, upd_at]
          exact ⟨rfl, nI_pos' (by omega), nI_le (b := 127) hp (by omega)⟩
        · rw [upd_off hqn, upd_off hqn]; exact ht q hq
      · exact h5
      · exact h6
theorem op_25 (hR : Rel xi rs r0 r1 rt tp kd sn sf sg mi st tm ik ln lg ce) (a1 : Int32) (a2 : Int32) : ∃ (r : Int32) (rs_o : RS) (st_o : Nat → Int32), fX0_set rs a1 a2 = some (r, rs_o) ∧ fX3_set st a1 a2 = some (r, st_o) ∧ Rel xi rs_o r0 r1 rt tp kd sn sf sg mi st_o tm ik ln lg ce := by
  have hR0 := hR
  obtain ⟨⟨b, m, ⟨hm, hP, hb, hz, hT, hS⟩, ⟨hs, hp⟩, hW⟩, ⟨k0, k1, hk0, hk1, i1, i2, i3, i4, i5⟩, h3, h4, h5, h6, h7⟩ := hR
  unfold fX0_set fX3_set
  rcases isNode_both hP hm hs a1 with ⟨h1, h2⟩ | ⟨v, hv, rfl, h1, h2⟩
  · exact ⟨-1, rs, st, by rw [h1]; rfl, by rw [h2]; rfl, hR0⟩
  · rw [h1, h2]
    simp only [Option.bind_some]
    rw [if_neg one_nz, if_neg one_nz]
    by_cases h : (0 : Int32) ≤ a2
    · rw [if_pos h, if_pos h, show (128 : Int32) = nI 128 from rfl, nI_add, rdI_n (by omega) (by omega), rdI_n (by omega) (by omega), wrI_n (by omega) (by omega), wrI_n (by omega) (by omega)]
      refine ⟨rT rs v, rsT rs (upd (rT rs) v a2), upd st (128 + v) a2, rfl, by rw [← (hW v hv).1]; rfl, ⟨b, m, ⟨hm, hP, hb, hz, hT, hS⟩, ⟨?_, fun p hp2 => ?_⟩, fun w hw => ?_⟩, ⟨k0, k1, hk0, hk1, i1, i2, i3, fun h9 => ?_, fun h9 => ?_⟩, h3, h4, h5, h6, h7⟩
      · rw [upd_off (by omega), hs]
      · rw [upd_off (by omega), hp p hp2]
      · show upd (rT rs) v a2 w = upd st (128 + v) a2 (128 + w) ∧ 0 ≤ upd (rT rs) v a2 w
        by_cases hwv : w = v
        · subst hwv; rw [upd_at, upd_at]; exact ⟨rfl, h⟩
        · rw [upd_off hwv, upd_off (by omega)]; exact hW w hw
      · have e : (fun i => upd st (128 + v) a2 (193 + i)) = (fun i => st (193 + i)) := by
          funext i; rw [upd_off (by omega)]
        rw [e]; exact i4 h9
      · have e : (fun i => upd st (128 + v) a2 (386 + i)) = (fun i => st (386 + i)) := by
          funext i; rw [upd_off (by omega)]
        rw [e]; exact i5 h9
    · exact ⟨-1, rs, st, by rw [if_neg h], by rw [if_neg h], hR0⟩
end OPS
