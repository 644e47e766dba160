/-! ONE CALL OF THE LAW; the loop -/
set_option maxRecDepth 100000
theorem lw_sn {xi : Nat → Int32} {rs r0 r1 rt : RS} {tp : Nat → Int32} {kd sn : Nat → Nat} {sf : Nat → Nat → Int32} {sg : Nat → Nat → Int64} {mi st tm ik ln lg : Nat → Int32} {ce : Nat → Int64} (hR : Rel xi rs r0 r1 rt tp kd sn sf sg mi st tm ik ln lg ce) {j : Nat} (hj : j < 4) : sn j < 2 ^ 31 := by
  have h := (hR.2.2.2.2.2.2 j hj).2.1
  omega
section LO
variable {p : Program} {l : Launch} {e : Env} {s : State} {m : MethodId} {below : List Frame} {meth : Method} {c : Code} {H : Heap} {locs : List Loc} {cells slots : Nat} {Q : State → Prop}
variable {ls : Array Slot} {D : va_G} {k : Nat → ClassId} {A : Nat → Prop} {b L : Nat} {xs : Nat → Int32} {i : Nat} {xa sa : Nat → Nat} {ra : Nat → Nat → Nat} {ma : Nat → Nat} {xi : Nat → Int32} {rs r0 r1 rc rt : RS} {tp : Nat → Int32} {mi st rp tm cr cw ik ln lg : Nat → Int32} {ce : Nat → Int64} {kd qa sn : Nat → Nat} {sf : Nat → Nat → Int32} {sg : Nat → Nat → Int64}

set_option maxHeartbeats 4000000 in
theorem lz_0 (C : LC p l s m meth c b L xs D k A) (hl : LL ls b (xa 0) (ma 0) i) (hi : i + 5 ≤ L) (hP : PD D A ((LA k xa sa ra ma xi rs r0 r1 rc rt tp mi st rp tm cr cw ik ln lg ce) ++ (LT k sa kd qa sn sf sg)) H) (hS : va_S A s.heap H locs) (hR : Rel xi rs r0 r1 rt tp kd sn sf sg mi st tm ik ln lg ce) (hc : cells ≤ 1000) (hs : slots ≤ 100000)
    (kk : ∀ (xi : Nat → Int32) (rs : RS) (r0 : RS) (r1 : RS) (rc : RS) (rt : RS) (tp : Nat → Int32) (kd : Nat → Nat) (qa : Nat → Nat) (sn : Nat → Nat) (sf : Nat → Nat → Int32) (sg : Nat → Nat → Int64) (mi : Nat → Int32) (st : Nat → Int32) (rp : Nat → Int32) (tm : Nat → Int32) (cr : Nat → Int32) (cw : Nat → Int32) (ik : Nat → Int32) (ln : Nat → Int32) (lg : Nat → Int32) (ce : Nat → Int64) (H1 : Heap) (locs1 : List Loc), PD D A ((LA k xa sa ra ma xi rs r0 r1 rc rt tp mi st rp tm cr cw ik ln lg ce) ++ (LT k sa kd qa sn sf sg)) H1 → va_S A s.heap H1 locs1 → Rel xi rs r0 r1 rt tp kd sn sf sg mi st tm ik ln lg ce → W p l e room_1 s m #[Value.ref b] below meth c H1 locs1 (cells + 9) (slots + 300) Q (F0 m 1614 ls [])) : W p l e room_1 s m #[Value.ref b] below meth c H locs cells slots Q (F0 m 228 ls []) := by
  obtain ⟨r, xi_o, tp_o, mi_o, tm_o, eX, eM, hR1⟩ := op_0 hR (xs (i + 1))
  exact lo_0 C hl hi hP.1 hP.2 hS hc hs eX eM (fun H locs h1 h2 hS => kk xi_o rs r0 r1 rc rt tp_o kd qa sn sf sg mi_o st rp tm_o cr cw ik ln lg ce H locs ⟨h1, h2⟩ hS hR1)
set_option maxHeartbeats 4000000 in
theorem lz_1 (C : LC p l s m meth c b L xs D k A) (hl : LL ls b (xa 0) (ma 0) i) (hi : i + 5 ≤ L) (hP : PD D A ((LA k xa sa ra ma xi rs r0 r1 rc rt tp mi st rp tm cr cw ik ln lg ce) ++ (LT k sa kd qa sn sf sg)) H) (hS : va_S A s.heap H locs) (hR : Rel xi rs r0 r1 rt tp kd sn sf sg mi st tm ik ln lg ce) (hc : cells ≤ 1000) (hs : slots ≤ 100000)
    (kk : ∀ (xi : Nat → Int32) (rs : RS) (r0 : RS) (r1 : RS) (rc : RS) (rt : RS) (tp : Nat → Int32) (kd : Nat → Nat) (qa : Nat → Nat) (sn : Nat → Nat) (sf : Nat → Nat → Int32) (sg : Nat → Nat → Int64) (mi : Nat → Int32) (st : Nat → Int32) (rp : Nat → Int32) (tm : Nat → Int32) (cr : Nat → Int32) (cw : Nat → Int32) (ik : Nat → Int32) (ln : Nat → Int32) (lg : Nat → Int32) (ce : Nat → Int64) (H1 : Heap) (locs1 : List Loc), PD D A ((LA k xa sa ra ma xi rs r0 r1 rc rt tp mi st rp tm cr cw ik ln lg ce) ++ (LT k sa kd qa sn sf sg)) H1 → va_S A s.heap H1 locs1 → Rel xi rs r0 r1 rt tp kd sn sf sg mi st tm ik ln lg ce → W p l e room_1 s m #[Value.ref b] below meth c H1 locs1 (cells + 9) (slots + 300) Q (F0 m 1614 ls [])) : W p l e room_1 s m #[Value.ref b] below meth c H locs cells slots Q (F0 m 251 ls []) := by
  obtain ⟨r, xi_o, mi_o, eX, eM, hR1⟩ := op_1 hR (xs (i + 1))
  exact lo_1 C hl hi hP.1 hP.2 hS hc hs eX eM (fun H locs h1 h2 hS => kk xi_o rs r0 r1 rc rt tp kd qa sn sf sg mi_o st rp tm cr cw ik ln lg ce H locs ⟨h1, h2⟩ hS hR1)
set_option maxHeartbeats 4000000 in
theorem lz_2 (C : LC p l s m meth c b L xs D k A) (hl : LL ls b (xa 0) (ma 0) i) (hi : i + 5 ≤ L) (hP : PD D A ((LA k xa sa ra ma xi rs r0 r1 rc rt tp mi st rp tm cr cw ik ln lg ce) ++ (LT k sa kd qa sn sf sg)) H) (hS : va_S A s.heap H locs) (hR : Rel xi rs r0 r1 rt tp kd sn sf sg mi st tm ik ln lg ce) (hc : cells ≤ 1000) (hs : slots ≤ 100000)
    (kk : ∀ (xi : Nat → Int32) (rs : RS) (r0 : RS) (r1 : RS) (rc : RS) (rt : RS) (tp : Nat → Int32) (kd : Nat → Nat) (qa : Nat → Nat) (sn : Nat → Nat) (sf : Nat → Nat → Int32) (sg : Nat → Nat → Int64) (mi : Nat → Int32) (st : Nat → Int32) (rp : Nat → Int32) (tm : Nat → Int32) (cr : Nat → Int32) (cw : Nat → Int32) (ik : Nat → Int32) (ln : Nat → Int32) (lg : Nat → Int32) (ce : Nat → Int64) (H1 : Heap) (locs1 : List Loc), PD D A ((LA k xa sa ra ma xi rs r0 r1 rc rt tp mi st rp tm cr cw ik ln lg ce) ++ (LT k sa kd qa sn sf sg)) H1 → va_S A s.heap H1 locs1 → Rel xi rs r0 r1 rt tp kd sn sf sg mi st tm ik ln lg ce → W p l e room_1 s m #[Value.ref b] below meth c H1 locs1 (cells + 9) (slots + 300) Q (F0 m 1614 ls [])) : W p l e room_1 s m #[Value.ref b] below meth c H locs cells slots Q (F0 m 274 ls []) := by
  obtain ⟨r, xi_o, rs_o, mi_o, st_o, rp_o, ik_o, eX, eM, hR1⟩ := op_2 (rp := rp) hR 
  exact lo_2 C hl hi hP.1 hP.2 hS hc hs eX eM (fun H locs h1 h2 hS => kk xi_o rs_o r0 r1 rc rt tp kd qa sn sf sg mi_o st_o rp_o tm cr cw ik_o ln lg ce H locs ⟨h1, h2⟩ hS hR1)
set_option maxHeartbeats 4000000 in
theorem lz_3 (C : LC p l s m meth c b L xs D k A) (hl : LL ls b (xa 0) (ma 0) i) (hi : i + 5 ≤ L) (hP : PD D A ((LA k xa sa ra ma xi rs r0 r1 rc rt tp mi st rp tm cr cw ik ln lg ce) ++ (LT k sa kd qa sn sf sg)) H) (hS : va_S A s.heap H locs) (hR : Rel xi rs r0 r1 rt tp kd sn sf sg mi st tm ik ln lg ce) (hc : cells ≤ 1000) (hs : slots ≤ 100000)
    (kk : ∀ (xi : Nat → Int32) (rs : RS) (r0 : RS) (r1 : RS) (rc : RS) (rt : RS) (tp : Nat → Int32) (kd : Nat → Nat) (qa : Nat → Nat) (sn : Nat → Nat) (sf : Nat → Nat → Int32) (sg : Nat → Nat → Int64) (mi : Nat → Int32) (st : Nat → Int32) (rp : Nat → Int32) (tm : Nat → Int32) (cr : Nat → Int32) (cw : Nat → Int32) (ik : Nat → Int32) (ln : Nat → Int32) (lg : Nat → Int32) (ce : Nat → Int64) (H1 : Heap) (locs1 : List Loc), PD D A ((LA k xa sa ra ma xi rs r0 r1 rc rt tp mi st rp tm cr cw ik ln lg ce) ++ (LT k sa kd qa sn sf sg)) H1 → va_S A s.heap H1 locs1 → Rel xi rs r0 r1 rt tp kd sn sf sg mi st tm ik ln lg ce → W p l e room_1 s m #[Value.ref b] below meth c H1 locs1 (cells + 9) (slots + 300) Q (F0 m 1614 ls [])) : W p l e room_1 s m #[Value.ref b] below meth c H locs cells slots Q (F0 m 287 ls []) := by
  obtain ⟨r, eX, eM, hR1⟩ := op_3 hR 
  exact lo_3 C hl hi hP.1 hP.2 hS hc hs eX eM (fun H locs h1 h2 hS => kk xi rs r0 r1 rc rt tp kd qa sn sf sg mi st rp tm cr cw ik ln lg ce H locs ⟨h1, h2⟩ hS hR1)
set_option maxHeartbeats 4000000 in
theorem lz_4 (C : LC p l s m meth c b L xs D k A) (hl : LL ls b (xa 0) (ma 0) i) (hi : i + 5 ≤ L) (hP : PD D A ((LA k xa sa ra ma xi rs r0 r1 rc rt tp mi st rp tm cr cw ik ln lg ce) ++ (LT k sa kd qa sn sf sg)) H) (hS : va_S A s.heap H locs) (hR : Rel xi rs r0 r1 rt tp kd sn sf sg mi st tm ik ln lg ce) (hc : cells ≤ 1000) (hs : slots ≤ 100000)
    (kk : ∀ (xi : Nat → Int32) (rs : RS) (r0 : RS) (r1 : RS) (rc : RS) (rt : RS) (tp : Nat → Int32) (kd : Nat → Nat) (qa : Nat → Nat) (sn : Nat → Nat) (sf : Nat → Nat → Int32) (sg : Nat → Nat → Int64) (mi : Nat → Int32) (st : Nat → Int32) (rp : Nat → Int32) (tm : Nat → Int32) (cr : Nat → Int32) (cw : Nat → Int32) (ik : Nat → Int32) (ln : Nat → Int32) (lg : Nat → Int32) (ce : Nat → Int64) (H1 : Heap) (locs1 : List Loc), PD D A ((LA k xa sa ra ma xi rs r0 r1 rc rt tp mi st rp tm cr cw ik ln lg ce) ++ (LT k sa kd qa sn sf sg)) H1 → va_S A s.heap H1 locs1 → Rel xi rs r0 r1 rt tp kd sn sf sg mi st tm ik ln lg ce → W p l e room_1 s m #[Value.ref b] below meth c H1 locs1 (cells + 9) (slots + 300) Q (F0 m 1614 ls [])) : W p l e room_1 s m #[Value.ref b] below meth c H locs cells slots Q (F0 m 300 ls []) := by
  obtain ⟨r, eX, eM, hR1⟩ := op_4 hR (xs (i + 1))
  exact lo_4 C hl hi hP.1 hP.2 hS hc hs eX eM (fun H locs h1 h2 hS => kk xi rs r0 r1 rc rt tp kd qa sn sf sg mi st rp tm cr cw ik ln lg ce H locs ⟨h1, h2⟩ hS hR1)
set_option maxHeartbeats 4000000 in
theorem lz_5 (C : LC p l s m meth c b L xs D k A) (hl : LL ls b (xa 0) (ma 0) i) (hi : i + 5 ≤ L) (hP : PD D A ((LA k xa sa ra ma xi rs r0 r1 rc rt tp mi st rp tm cr cw ik ln lg ce) ++ (LT k sa kd qa sn sf sg)) H) (hS : va_S A s.heap H locs) (hR : Rel xi rs r0 r1 rt tp kd sn sf sg mi st tm ik ln lg ce) (hc : cells ≤ 1000) (hs : slots ≤ 100000)
    (kk : ∀ (xi : Nat → Int32) (rs : RS) (r0 : RS) (r1 : RS) (rc : RS) (rt : RS) (tp : Nat → Int32) (kd : Nat → Nat) (qa : Nat → Nat) (sn : Nat → Nat) (sf : Nat → Nat → Int32) (sg : Nat → Nat → Int64) (mi : Nat → Int32) (st : Nat → Int32) (rp : Nat → Int32) (tm : Nat → Int32) (cr : Nat → Int32) (cw : Nat → Int32) (ik : Nat → Int32) (ln : Nat → Int32) (lg : Nat → Int32) (ce : Nat → Int64) (H1 : Heap) (locs1 : List Loc), PD D A ((LA k xa sa ra ma xi rs r0 r1 rc rt tp mi st rp tm cr cw ik ln lg ce) ++ (LT k sa kd qa sn sf sg)) H1 → va_S A s.heap H1 locs1 → Rel xi rs r0 r1 rt tp kd sn sf sg mi st tm ik ln lg ce → W p l e room_1 s m #[Value.ref b] below meth c H1 locs1 (cells + 9) (slots + 300) Q (F0 m 1614 ls [])) : W p l e room_1 s m #[Value.ref b] below meth c H locs cells slots Q (F0 m 323 ls []) := by
  obtain ⟨r, eX, eM, hR1⟩ := op_5 hR (xs (i + 1))
  exact lo_5 C hl hi hP.1 hP.2 hS hc hs eX eM (fun H locs h1 h2 hS => kk xi rs r0 r1 rc rt tp kd qa sn sf sg mi st rp tm cr cw ik ln lg ce H locs ⟨h1, h2⟩ hS hR1)
set_option maxHeartbeats 4000000 in
theorem lz_6 (C : LC p l s m meth c b L xs D k A) (hl : LL ls b (xa 0) (ma 0) i) (hi : i + 5 ≤ L) (hP : PD D A ((LA k xa sa ra ma xi rs r0 r1 rc rt tp mi st rp tm cr cw ik ln lg ce) ++ (LT k sa kd qa sn sf sg)) H) (hS : va_S A s.heap H locs) (hR : Rel xi rs r0 r1 rt tp kd sn sf sg mi st tm ik ln lg ce) (hc : cells ≤ 1000) (hs : slots ≤ 100000)
    (kk : ∀ (xi : Nat → Int32) (rs : RS) (r0 : RS) (r1 : RS) (rc : RS) (rt : RS) (tp : Nat → Int32) (kd : Nat → Nat) (qa : Nat → Nat) (sn : Nat → Nat) (sf : Nat → Nat → Int32) (sg : Nat → Nat → Int64) (mi : Nat → Int32) (st : Nat → Int32) (rp : Nat → Int32) (tm : Nat → Int32) (cr : Nat → Int32) (cw : Nat → Int32) (ik : Nat → Int32) (ln : Nat → Int32) (lg : Nat → Int32) (ce : Nat → Int64) (H1 : Heap) (locs1 : List Loc), PD D A ((LA k xa sa ra ma xi rs r0 r1 rc rt tp mi st rp tm cr cw ik ln lg ce) ++ (LT k sa kd qa sn sf sg)) H1 → va_S A s.heap H1 locs1 → Rel xi rs r0 r1 rt tp kd sn sf sg mi st tm ik ln lg ce → W p l e room_1 s m #[Value.ref b] below meth c H1 locs1 (cells + 9) (slots + 300) Q (F0 m 1614 ls [])) : W p l e room_1 s m #[Value.ref b] below meth c H locs cells slots Q (F0 m 346 ls []) := by
  obtain ⟨r, eX, eM, hR1⟩ := op_6 hR (xs (i + 1))
  exact lo_6 C hl hi hP.1 hP.2 hS hc hs eX eM (fun H locs h1 h2 hS => kk xi rs r0 r1 rc rt tp kd qa sn sf sg mi st rp tm cr cw ik ln lg ce H locs ⟨h1, h2⟩ hS hR1)
set_option maxHeartbeats 4000000 in
theorem lz_7 (C : LC p l s m meth c b L xs D k A) (hl : LL ls b (xa 0) (ma 0) i) (hi : i + 5 ≤ L) (hP : PD D A ((LA k xa sa ra ma xi rs r0 r1 rc rt tp mi st rp tm cr cw ik ln lg ce) ++ (LT k sa kd qa sn sf sg)) H) (hS : va_S A s.heap H locs) (hR : Rel xi rs r0 r1 rt tp kd sn sf sg mi st tm ik ln lg ce) (hc : cells ≤ 1000) (hs : slots ≤ 100000)
    (kk : ∀ (xi : Nat → Int32) (rs : RS) (r0 : RS) (r1 : RS) (rc : RS) (rt : RS) (tp : Nat → Int32) (kd : Nat → Nat) (qa : Nat → Nat) (sn : Nat → Nat) (sf : Nat → Nat → Int32) (sg : Nat → Nat → Int64) (mi : Nat → Int32) (st : Nat → Int32) (rp : Nat → Int32) (tm : Nat → Int32) (cr : Nat → Int32) (cw : Nat → Int32) (ik : Nat → Int32) (ln : Nat → Int32) (lg : Nat → Int32) (ce : Nat → Int64) (H1 : Heap) (locs1 : List Loc), PD D A ((LA k xa sa ra ma xi rs r0 r1 rc rt tp mi st rp tm cr cw ik ln lg ce) ++ (LT k sa kd qa sn sf sg)) H1 → va_S A s.heap H1 locs1 → Rel xi rs r0 r1 rt tp kd sn sf sg mi st tm ik ln lg ce → W p l e room_1 s m #[Value.ref b] below meth c H1 locs1 (cells + 9) (slots + 300) Q (F0 m 1614 ls [])) : W p l e room_1 s m #[Value.ref b] below meth c H locs cells slots Q (F0 m 369 ls []) := by
  obtain ⟨r, eX, eM, hR1⟩ := op_7 hR (xs (i + 1)) (xs (i + 2))
  exact lo_7 C hl hi hP.1 hP.2 hS hc hs eX eM (fun H locs h1 h2 hS => kk xi rs r0 r1 rc rt tp kd qa sn sf sg mi st rp tm cr cw ik ln lg ce H locs ⟨h1, h2⟩ hS hR1)
set_option maxHeartbeats 4000000 in
theorem lz_8 (C : LC p l s m meth c b L xs D k A) (hl : LL ls b (xa 0) (ma 0) i) (hi : i + 5 ≤ L) (hP : PD D A ((LA k xa sa ra ma xi rs r0 r1 rc rt tp mi st rp tm cr cw ik ln lg ce) ++ (LT k sa kd qa sn sf sg)) H) (hS : va_S A s.heap H locs) (hR : Rel xi rs r0 r1 rt tp kd sn sf sg mi st tm ik ln lg ce) (hc : cells ≤ 1000) (hs : slots ≤ 100000)
    (kk : ∀ (xi : Nat → Int32) (rs : RS) (r0 : RS) (r1 : RS) (rc : RS) (rt : RS) (tp : Nat → Int32) (kd : Nat → Nat) (qa : Nat → Nat) (sn : Nat → Nat) (sf : Nat → Nat → Int32) (sg : Nat → Nat → Int64) (mi : Nat → Int32) (st : Nat → Int32) (rp : Nat → Int32) (tm : Nat → Int32) (cr : Nat → Int32) (cw : Nat → Int32) (ik : Nat → Int32) (ln : Nat → Int32) (lg : Nat → Int32) (ce : Nat → Int64) (H1 : Heap) (locs1 : List Loc), PD D A ((LA k xa sa ra ma xi rs r0 r1 rc rt tp mi st rp tm cr cw ik ln lg ce) ++ (LT k sa kd qa sn sf sg)) H1 → va_S A s.heap H1 locs1 → Rel xi rs r0 r1 rt tp kd sn sf sg mi st tm ik ln lg ce → W p l e room_1 s m #[Value.ref b] below meth c H1 locs1 (cells + 9) (slots + 300) Q (F0 m 1614 ls [])) : W p l e room_1 s m #[Value.ref b] below meth c H locs cells slots Q (F0 m 402 ls []) := by
  obtain ⟨r, eX, eM, hR1⟩ := op_8 hR (xs (i + 1)) (xs (i + 2))
  exact lo_8 C hl hi hP.1 hP.2 hS hc hs eX eM (fun H locs h1 h2 hS => kk xi rs r0 r1 rc rt tp kd qa sn sf sg mi st rp tm cr cw ik ln lg ce H locs ⟨h1, h2⟩ hS hR1)
set_option maxHeartbeats 4000000 in
theorem lz_9 (C : LC p l s m meth c b L xs D k A) (hl : LL ls b (xa 0) (ma 0) i) (hi : i + 5 ≤ L) (hP : PD D A ((LA k xa sa ra ma xi rs r0 r1 rc rt tp mi st rp tm cr cw ik ln lg ce) ++ (LT k sa kd qa sn sf sg)) H) (hS : va_S A s.heap H locs) (hR : Rel xi rs r0 r1 rt tp kd sn sf sg mi st tm ik ln lg ce) (hc : cells ≤ 1000) (hs : slots ≤ 100000)
    (kk : ∀ (xi : Nat → Int32) (rs : RS) (r0 : RS) (r1 : RS) (rc : RS) (rt : RS) (tp : Nat → Int32) (kd : Nat → Nat) (qa : Nat → Nat) (sn : Nat → Nat) (sf : Nat → Nat → Int32) (sg : Nat → Nat → Int64) (mi : Nat → Int32) (st : Nat → Int32) (rp : Nat → Int32) (tm : Nat → Int32) (cr : Nat → Int32) (cw : Nat → Int32) (ik : Nat → Int32) (ln : Nat → Int32) (lg : Nat → Int32) (ce : Nat → Int64) (H1 : Heap) (locs1 : List Loc), PD D A ((LA k xa sa ra ma xi rs r0 r1 rc rt tp mi st rp tm cr cw ik ln lg ce) ++ (LT k sa kd qa sn sf sg)) H1 → va_S A s.heap H1 locs1 → Rel xi rs r0 r1 rt tp kd sn sf sg mi st tm ik ln lg ce → W p l e room_1 s m #[Value.ref b] below meth c H1 locs1 (cells + 9) (slots + 300) Q (F0 m 1614 ls [])) : W p l e room_1 s m #[Value.ref b] below meth c H locs cells slots Q (F0 m 435 ls []) := by
  obtain ⟨r, eX, eM, hR1⟩ := op_9 hR (xs (i + 1)) (xs (i + 2))
  exact lo_9 C hl hi hP.1 hP.2 hS hc hs eX eM (fun H locs h1 h2 hS => kk xi rs r0 r1 rc rt tp kd qa sn sf sg mi st rp tm cr cw ik ln lg ce H locs ⟨h1, h2⟩ hS hR1)
set_option maxHeartbeats 4000000 in
theorem lz_10 (C : LC p l s m meth c b L xs D k A) (hl : LL ls b (xa 0) (ma 0) i) (hi : i + 5 ≤ L) (hP : PD D A ((LA k xa sa ra ma xi rs r0 r1 rc rt tp mi st rp tm cr cw ik ln lg ce) ++ (LT k sa kd qa sn sf sg)) H) (hS : va_S A s.heap H locs) (hR : Rel xi rs r0 r1 rt tp kd sn sf sg mi st tm ik ln lg ce) (hc : cells ≤ 1000) (hs : slots ≤ 100000)
    (kk : ∀ (xi : Nat → Int32) (rs : RS) (r0 : RS) (r1 : RS) (rc : RS) (rt : RS) (tp : Nat → Int32) (kd : Nat → Nat) (qa : Nat → Nat) (sn : Nat → Nat) (sf : Nat → Nat → Int32) (sg : Nat → Nat → Int64) (mi : Nat → Int32) (st : Nat → Int32) (rp : Nat → Int32) (tm : Nat → Int32) (cr : Nat → Int32) (cw : Nat → Int32) (ik : Nat → Int32) (ln : Nat → Int32) (lg : Nat → Int32) (ce : Nat → Int64) (H1 : Heap) (locs1 : List Loc), PD D A ((LA k xa sa ra ma xi rs r0 r1 rc rt tp mi st rp tm cr cw ik ln lg ce) ++ (LT k sa kd qa sn sf sg)) H1 → va_S A s.heap H1 locs1 → Rel xi rs r0 r1 rt tp kd sn sf sg mi st tm ik ln lg ce → W p l e room_1 s m #[Value.ref b] below meth c H1 locs1 (cells + 9) (slots + 300) Q (F0 m 1614 ls [])) : W p l e room_1 s m #[Value.ref b] below meth c H locs cells slots Q (F0 m 468 ls []) := by
  obtain ⟨r, eX, eM, hR1⟩ := op_10 hR (xs (i + 1)) (xs (i + 2))
  exact lo_10 C hl hi hP.1 hP.2 hS hc hs eX eM (fun H locs h1 h2 hS => kk xi rs r0 r1 rc rt tp kd qa sn sf sg mi st rp tm cr cw ik ln lg ce H locs ⟨h1, h2⟩ hS hR1)
set_option maxHeartbeats 4000000 in
theorem lz_11 (C : LC p l s m meth c b L xs D k A) (hl : LL ls b (xa 0) (ma 0) i) (hi : i + 5 ≤ L) (hP : PD D A ((LA k xa sa ra ma xi rs r0 r1 rc rt tp mi st rp tm cr cw ik ln lg ce) ++ (LT k sa kd qa sn sf sg)) H) (hS : va_S A s.heap H locs) (hR : Rel xi rs r0 r1 rt tp kd sn sf sg mi st tm ik ln lg ce) (hc : cells ≤ 1000) (hs : slots ≤ 100000)
    (kk : ∀ (xi : Nat → Int32) (rs : RS) (r0 : RS) (r1 : RS) (rc : RS) (rt : RS) (tp : Nat → Int32) (kd : Nat → Nat) (qa : Nat → Nat) (sn : Nat → Nat) (sf : Nat → Nat → Int32) (sg : Nat → Nat → Int64) (mi : Nat → Int32) (st : Nat → Int32) (rp : Nat → Int32) (tm : Nat → Int32) (cr : Nat → Int32) (cw : Nat → Int32) (ik : Nat → Int32) (ln : Nat → Int32) (lg : Nat → Int32) (ce : Nat → Int64) (H1 : Heap) (locs1 : List Loc), PD D A ((LA k xa sa ra ma xi rs r0 r1 rc rt tp mi st rp tm cr cw ik ln lg ce) ++ (LT k sa kd qa sn sf sg)) H1 → va_S A s.heap H1 locs1 → Rel xi rs r0 r1 rt tp kd sn sf sg mi st tm ik ln lg ce → W p l e room_1 s m #[Value.ref b] below meth c H1 locs1 (cells + 9) (slots + 300) Q (F0 m 1614 ls [])) : W p l e room_1 s m #[Value.ref b] below meth c H locs cells slots Q (F0 m 501 ls []) := by
  obtain ⟨r, eX, eM, hR1⟩ := op_11 hR (xs (i + 1))
  exact lo_11 C hl hi hP.1 hP.2 hS hc hs eX eM (fun H locs h1 h2 hS => kk xi rs r0 r1 rc rt tp kd qa sn sf sg mi st rp tm cr cw ik ln lg ce H locs ⟨h1, h2⟩ hS hR1)
set_option maxHeartbeats 4000000 in
theorem lz_12 (C : LC p l s m meth c b L xs D k A) (hl : LL ls b (xa 0) (ma 0) i) (hi : i + 5 ≤ L) (hP : PD D A ((LA k xa sa ra ma xi rs r0 r1 rc rt tp mi st rp tm cr cw ik ln lg ce) ++ (LT k sa kd qa sn sf sg)) H) (hS : va_S A s.heap H locs) (hR : Rel xi rs r0 r1 rt tp kd sn sf sg mi st tm ik ln lg ce) (hc : cells ≤ 1000) (hs : slots ≤ 100000)
    (kk : ∀ (xi : Nat → Int32) (rs : RS) (r0 : RS) (r1 : RS) (rc : RS) (rt : RS) (tp : Nat → Int32) (kd : Nat → Nat) (qa : Nat → Nat) (sn : Nat → Nat) (sf : Nat → Nat → Int32) (sg : Nat → Nat → Int64) (mi : Nat → Int32) (st : Nat → Int32) (rp : Nat → Int32) (tm : Nat → Int32) (cr : Nat → Int32) (cw : Nat → Int32) (ik : Nat → Int32) (ln : Nat → Int32) (lg : Nat → Int32) (ce : Nat → Int64) (H1 : Heap) (locs1 : List Loc), PD D A ((LA k xa sa ra ma xi rs r0 r1 rc rt tp mi st rp tm cr cw ik ln lg ce) ++ (LT k sa kd qa sn sf sg)) H1 → va_S A s.heap H1 locs1 → Rel xi rs r0 r1 rt tp kd sn sf sg mi st tm ik ln lg ce → W p l e room_1 s m #[Value.ref b] below meth c H1 locs1 (cells + 9) (slots + 300) Q (F0 m 1614 ls [])) : W p l e room_1 s m #[Value.ref b] below meth c H locs cells slots Q (F0 m 524 ls []) := by
  obtain ⟨r, xi_o, eX, eM, hR1⟩ := op_12 hR (xs (i + 1)) (xs (i + 2)) (xs (i + 3))
  exact lo_12 C hl hi hP.1 hP.2 hS hc hs eX eM (fun H locs h1 h2 hS => kk xi_o rs r0 r1 rc rt tp kd qa sn sf sg mi st rp tm cr cw ik ln lg ce H locs ⟨h1, h2⟩ hS hR1)
set_option maxHeartbeats 4000000 in
theorem lz_13 (C : LC p l s m meth c b L xs D k A) (hl : LL ls b (xa 0) (ma 0) i) (hi : i + 5 ≤ L) (hP : PD D A ((LA k xa sa ra ma xi rs r0 r1 rc rt tp mi st rp tm cr cw ik ln lg ce) ++ (LT k sa kd qa sn sf sg)) H) (hS : va_S A s.heap H locs) (hR : Rel xi rs r0 r1 rt tp kd sn sf sg mi st tm ik ln lg ce) (hc : cells ≤ 1000) (hs : slots ≤ 100000)
    (kk : ∀ (xi : Nat → Int32) (rs : RS) (r0 : RS) (r1 : RS) (rc : RS) (rt : RS) (tp : Nat → Int32) (kd : Nat → Nat) (qa : Nat → Nat) (sn : Nat → Nat) (sf : Nat → Nat → Int32) (sg : Nat → Nat → Int64) (mi : Nat → Int32) (st : Nat → Int32) (rp : Nat → Int32) (tm : Nat → Int32) (cr : Nat → Int32) (cw : Nat → Int32) (ik : Nat → Int32) (ln : Nat → Int32) (lg : Nat → Int32) (ce : Nat → Int64) (H1 : Heap) (locs1 : List Loc), PD D A ((LA k xa sa ra ma xi rs r0 r1 rc rt tp mi st rp tm cr cw ik ln lg ce) ++ (LT k sa kd qa sn sf sg)) H1 → va_S A s.heap H1 locs1 → Rel xi rs r0 r1 rt tp kd sn sf sg mi st tm ik ln lg ce → W p l e room_1 s m #[Value.ref b] below meth c H1 locs1 (cells + 9) (slots + 300) Q (F0 m 1614 ls [])) : W p l e room_1 s m #[Value.ref b] below meth c H locs cells slots Q (F0 m 567 ls []) := by
  obtain ⟨r, eX, eM, hR1⟩ := op_13 hR (xs (i + 1)) (xs (i + 2))
  exact lo_13 C hl hi hP.1 hP.2 hS hc hs eX eM (fun H locs h1 h2 hS => kk xi rs r0 r1 rc rt tp kd qa sn sf sg mi st rp tm cr cw ik ln lg ce H locs ⟨h1, h2⟩ hS hR1)
set_option maxHeartbeats 4000000 in
theorem lz_14 (C : LC p l s m meth c b L xs D k A) (hl : LL ls b (xa 0) (ma 0) i) (hi : i + 5 ≤ L) (hP : PD D A ((LA k xa sa ra ma xi rs r0 r1 rc rt tp mi st rp tm cr cw ik ln lg ce) ++ (LT k sa kd qa sn sf sg)) H) (hS : va_S A s.heap H locs) (hR : Rel xi rs r0 r1 rt tp kd sn sf sg mi st tm ik ln lg ce) (hc : cells ≤ 1000) (hs : slots ≤ 100000)
    (kk : ∀ (xi : Nat → Int32) (rs : RS) (r0 : RS) (r1 : RS) (rc : RS) (rt : RS) (tp : Nat → Int32) (kd : Nat → Nat) (qa : Nat → Nat) (sn : Nat → Nat) (sf : Nat → Nat → Int32) (sg : Nat → Nat → Int64) (mi : Nat → Int32) (st : Nat → Int32) (rp : Nat → Int32) (tm : Nat → Int32) (cr : Nat → Int32) (cw : Nat → Int32) (ik : Nat → Int32) (ln : Nat → Int32) (lg : Nat → Int32) (ce : Nat → Int64) (H1 : Heap) (locs1 : List Loc), PD D A ((LA k xa sa ra ma xi rs r0 r1 rc rt tp mi st rp tm cr cw ik ln lg ce) ++ (LT k sa kd qa sn sf sg)) H1 → va_S A s.heap H1 locs1 → Rel xi rs r0 r1 rt tp kd sn sf sg mi st tm ik ln lg ce → W p l e room_1 s m #[Value.ref b] below meth c H1 locs1 (cells + 9) (slots + 300) Q (F0 m 1614 ls [])) : W p l e room_1 s m #[Value.ref b] below meth c H locs cells slots Q (F0 m 600 ls []) := by
  obtain ⟨r, xi_o, eX, eM, hR1⟩ := op_14 hR (xs (i + 1)) (xs (i + 2))
  exact lo_14 C hl hi hP.1 hP.2 hS hc hs eX eM (fun H locs h1 h2 hS => kk xi_o rs r0 r1 rc rt tp kd qa sn sf sg mi st rp tm cr cw ik ln lg ce H locs ⟨h1, h2⟩ hS hR1)
set_option maxHeartbeats 4000000 in
theorem lz_15 (C : LC p l s m meth c b L xs D k A) (hl : LL ls b (xa 0) (ma 0) i) (hi : i + 5 ≤ L) (hP : PD D A ((LA k xa sa ra ma xi rs r0 r1 rc rt tp mi st rp tm cr cw ik ln lg ce) ++ (LT k sa kd qa sn sf sg)) H) (hS : va_S A s.heap H locs) (hR : Rel xi rs r0 r1 rt tp kd sn sf sg mi st tm ik ln lg ce) (hc : cells ≤ 1000) (hs : slots ≤ 100000)
    (kk : ∀ (xi : Nat → Int32) (rs : RS) (r0 : RS) (r1 : RS) (rc : RS) (rt : RS) (tp : Nat → Int32) (kd : Nat → Nat) (qa : Nat → Nat) (sn : Nat → Nat) (sf : Nat → Nat → Int32) (sg : Nat → Nat → Int64) (mi : Nat → Int32) (st : Nat → Int32) (rp : Nat → Int32) (tm : Nat → Int32) (cr : Nat → Int32) (cw : Nat → Int32) (ik : Nat → Int32) (ln : Nat → Int32) (lg : Nat → Int32) (ce : Nat → Int64) (H1 : Heap) (locs1 : List Loc), PD D A ((LA k xa sa ra ma xi rs r0 r1 rc rt tp mi st rp tm cr cw ik ln lg ce) ++ (LT k sa kd qa sn sf sg)) H1 → va_S A s.heap H1 locs1 → Rel xi rs r0 r1 rt tp kd sn sf sg mi st tm ik ln lg ce → W p l e room_1 s m #[Value.ref b] below meth c H1 locs1 (cells + 9) (slots + 300) Q (F0 m 1614 ls [])) : W p l e room_1 s m #[Value.ref b] below meth c H locs cells slots Q (F0 m 633 ls []) := by
  obtain ⟨r, eX, eM, hR1⟩ := op_15 hR (xs (i + 1)) (xs (i + 2))
  exact lo_15 C hl hi hP.1 hP.2 hS hc hs eX eM (fun H locs h1 h2 hS => kk xi rs r0 r1 rc rt tp kd qa sn sf sg mi st rp tm cr cw ik ln lg ce H locs ⟨h1, h2⟩ hS hR1)
set_option maxHeartbeats 4000000 in
theorem lz_16 (C : LC p l s m meth c b L xs D k A) (hl : LL ls b (xa 0) (ma 0) i) (hi : i + 5 ≤ L) (hP : PD D A ((LA k xa sa ra ma xi rs r0 r1 rc rt tp mi st rp tm cr cw ik ln lg ce) ++ (LT k sa kd qa sn sf sg)) H) (hS : va_S A s.heap H locs) (hR : Rel xi rs r0 r1 rt tp kd sn sf sg mi st tm ik ln lg ce) (hc : cells ≤ 1000) (hs : slots ≤ 100000)
    (kk : ∀ (xi : Nat → Int32) (rs : RS) (r0 : RS) (r1 : RS) (rc : RS) (rt : RS) (tp : Nat → Int32) (kd : Nat → Nat) (qa : Nat → Nat) (sn : Nat → Nat) (sf : Nat → Nat → Int32) (sg : Nat → Nat → Int64) (mi : Nat → Int32) (st : Nat → Int32) (rp : Nat → Int32) (tm : Nat → Int32) (cr : Nat → Int32) (cw : Nat → Int32) (ik : Nat → Int32) (ln : Nat → Int32) (lg : Nat → Int32) (ce : Nat → Int64) (H1 : Heap) (locs1 : List Loc), PD D A ((LA k xa sa ra ma xi rs r0 r1 rc rt tp mi st rp tm cr cw ik ln lg ce) ++ (LT k sa kd qa sn sf sg)) H1 → va_S A s.heap H1 locs1 → Rel xi rs r0 r1 rt tp kd sn sf sg mi st tm ik ln lg ce → W p l e room_1 s m #[Value.ref b] below meth c H1 locs1 (cells + 9) (slots + 300) Q (F0 m 1614 ls [])) : W p l e room_1 s m #[Value.ref b] below meth c H locs cells slots Q (F0 m 666 ls []) := by
  obtain ⟨r, eX, eM, hR1⟩ := op_16 hR (xs (i + 1))
  exact lo_16 C hl hi hP.1 hP.2 hS hc hs eX eM (fun H locs h1 h2 hS => kk xi rs r0 r1 rc rt tp kd qa sn sf sg mi st rp tm cr cw ik ln lg ce H locs ⟨h1, h2⟩ hS hR1)
set_option maxHeartbeats 4000000 in
theorem lz_17 (C : LC p l s m meth c b L xs D k A) (hl : LL ls b (xa 0) (ma 0) i) (hi : i + 5 ≤ L) (hP : PD D A ((LA k xa sa ra ma xi rs r0 r1 rc rt tp mi st rp tm cr cw ik ln lg ce) ++ (LT k sa kd qa sn sf sg)) H) (hS : va_S A s.heap H locs) (hR : Rel xi rs r0 r1 rt tp kd sn sf sg mi st tm ik ln lg ce) (hc : cells ≤ 1000) (hs : slots ≤ 100000)
    (kk : ∀ (xi : Nat → Int32) (rs : RS) (r0 : RS) (r1 : RS) (rc : RS) (rt : RS) (tp : Nat → Int32) (kd : Nat → Nat) (qa : Nat → Nat) (sn : Nat → Nat) (sf : Nat → Nat → Int32) (sg : Nat → Nat → Int64) (mi : Nat → Int32) (st : Nat → Int32) (rp : Nat → Int32) (tm : Nat → Int32) (cr : Nat → Int32) (cw : Nat → Int32) (ik : Nat → Int32) (ln : Nat → Int32) (lg : Nat → Int32) (ce : Nat → Int64) (H1 : Heap) (locs1 : List Loc), PD D A ((LA k xa sa ra ma xi rs r0 r1 rc rt tp mi st rp tm cr cw ik ln lg ce) ++ (LT k sa kd qa sn sf sg)) H1 → va_S A s.heap H1 locs1 → Rel xi rs r0 r1 rt tp kd sn sf sg mi st tm ik ln lg ce → W p l e room_1 s m #[Value.ref b] below meth c H1 locs1 (cells + 9) (slots + 300) Q (F0 m 1614 ls [])) : W p l e room_1 s m #[Value.ref b] below meth c H locs cells slots Q (F0 m 689 ls []) := by
  obtain ⟨r, eX, eM, hR1⟩ := op_17 hR (xs (i + 1)) (xs (i + 2))
  exact lo_17 C hl hi hP.1 hP.2 hS hc hs eX eM (fun H locs h1 h2 hS => kk xi rs r0 r1 rc rt tp kd qa sn sf sg mi st rp tm cr cw ik ln lg ce H locs ⟨h1, h2⟩ hS hR1)
set_option maxHeartbeats 4000000 in
theorem lz_18 (C : LC p l s m meth c b L xs D k A) (hl : LL ls b (xa 0) (ma 0) i) (hi : i + 5 ≤ L) (hP : PD D A ((LA k xa sa ra ma xi rs r0 r1 rc rt tp mi st rp tm cr cw ik ln lg ce) ++ (LT k sa kd qa sn sf sg)) H) (hS : va_S A s.heap H locs) (hR : Rel xi rs r0 r1 rt tp kd sn sf sg mi st tm ik ln lg ce) (hc : cells ≤ 1000) (hs : slots ≤ 100000)
    (kk : ∀ (xi : Nat → Int32) (rs : RS) (r0 : RS) (r1 : RS) (rc : RS) (rt : RS) (tp : Nat → Int32) (kd : Nat → Nat) (qa : Nat → Nat) (sn : Nat → Nat) (sf : Nat → Nat → Int32) (sg : Nat → Nat → Int64) (mi : Nat → Int32) (st : Nat → Int32) (rp : Nat → Int32) (tm : Nat → Int32) (cr : Nat → Int32) (cw : Nat → Int32) (ik : Nat → Int32) (ln : Nat → Int32) (lg : Nat → Int32) (ce : Nat → Int64) (H1 : Heap) (locs1 : List Loc), PD D A ((LA k xa sa ra ma xi rs r0 r1 rc rt tp mi st rp tm cr cw ik ln lg ce) ++ (LT k sa kd qa sn sf sg)) H1 → va_S A s.heap H1 locs1 → Rel xi rs r0 r1 rt tp kd sn sf sg mi st tm ik ln lg ce → W p l e room_1 s m #[Value.ref b] below meth c H1 locs1 (cells + 9) (slots + 300) Q (F0 m 1614 ls [])) : W p l e room_1 s m #[Value.ref b] below meth c H locs cells slots Q (F0 m 722 ls []) := by
  obtain ⟨r, xi_o, eX, eM, hR1⟩ := op_18 hR (xs (i + 1)) (xs (i + 2))
  exact lo_18 C hl hi hP.1 hP.2 hS hc hs eX eM (fun H locs h1 h2 hS => kk xi_o rs r0 r1 rc rt tp kd qa sn sf sg mi st rp tm cr cw ik ln lg ce H locs ⟨h1, h2⟩ hS hR1)
set_option maxHeartbeats 4000000 in
theorem lz_19 (C : LC p l s m meth c b L xs D k A) (hl : LL ls b (xa 0) (ma 0) i) (hi : i + 5 ≤ L) (hP : PD D A ((LA k xa sa ra ma xi rs r0 r1 rc rt tp mi st rp tm cr cw ik ln lg ce) ++ (LT k sa kd qa sn sf sg)) H) (hS : va_S A s.heap H locs) (hR : Rel xi rs r0 r1 rt tp kd sn sf sg mi st tm ik ln lg ce) (hc : cells ≤ 1000) (hs : slots ≤ 100000)
    (kk : ∀ (xi : Nat → Int32) (rs : RS) (r0 : RS) (r1 : RS) (rc : RS) (rt : RS) (tp : Nat → Int32) (kd : Nat → Nat) (qa : Nat → Nat) (sn : Nat → Nat) (sf : Nat → Nat → Int32) (sg : Nat → Nat → Int64) (mi : Nat → Int32) (st : Nat → Int32) (rp : Nat → Int32) (tm : Nat → Int32) (cr : Nat → Int32) (cw : Nat → Int32) (ik : Nat → Int32) (ln : Nat → Int32) (lg : Nat → Int32) (ce : Nat → Int64) (H1 : Heap) (locs1 : List Loc), PD D A ((LA k xa sa ra ma xi rs r0 r1 rc rt tp mi st rp tm cr cw ik ln lg ce) ++ (LT k sa kd qa sn sf sg)) H1 → va_S A s.heap H1 locs1 → Rel xi rs r0 r1 rt tp kd sn sf sg mi st tm ik ln lg ce → W p l e room_1 s m #[Value.ref b] below meth c H1 locs1 (cells + 9) (slots + 300) Q (F0 m 1614 ls [])) : W p l e room_1 s m #[Value.ref b] below meth c H locs cells slots Q (F0 m 755 ls []) := by
  obtain ⟨r, xi_o, eX, eM, hR1⟩ := op_19 hR (xs (i + 1)) (xs (i + 2))
  exact lo_19 C hl hi hP.1 hP.2 hS hc hs eX eM (fun H locs h1 h2 hS => kk xi_o rs r0 r1 rc rt tp kd qa sn sf sg mi st rp tm cr cw ik ln lg ce H locs ⟨h1, h2⟩ hS hR1)
set_option maxHeartbeats 4000000 in
theorem lz_20 (C : LC p l s m meth c b L xs D k A) (hl : LL ls b (xa 0) (ma 0) i) (hi : i + 5 ≤ L) (hP : PD D A ((LA k xa sa ra ma xi rs r0 r1 rc rt tp mi st rp tm cr cw ik ln lg ce) ++ (LT k sa kd qa sn sf sg)) H) (hS : va_S A s.heap H locs) (hR : Rel xi rs r0 r1 rt tp kd sn sf sg mi st tm ik ln lg ce) (hc : cells ≤ 1000) (hs : slots ≤ 100000)
    (kk : ∀ (xi : Nat → Int32) (rs : RS) (r0 : RS) (r1 : RS) (rc : RS) (rt : RS) (tp : Nat → Int32) (kd : Nat → Nat) (qa : Nat → Nat) (sn : Nat → Nat) (sf : Nat → Nat → Int32) (sg : Nat → Nat → Int64) (mi : Nat → Int32) (st : Nat → Int32) (rp : Nat → Int32) (tm : Nat → Int32) (cr : Nat → Int32) (cw : Nat → Int32) (ik : Nat → Int32) (ln : Nat → Int32) (lg : Nat → Int32) (ce : Nat → Int64) (H1 : Heap) (locs1 : List Loc), PD D A ((LA k xa sa ra ma xi rs r0 r1 rc rt tp mi st rp tm cr cw ik ln lg ce) ++ (LT k sa kd qa sn sf sg)) H1 → va_S A s.heap H1 locs1 → Rel xi rs r0 r1 rt tp kd sn sf sg mi st tm ik ln lg ce → W p l e room_1 s m #[Value.ref b] below meth c H1 locs1 (cells + 9) (slots + 300) Q (F0 m 1614 ls [])) : W p l e room_1 s m #[Value.ref b] below meth c H locs cells slots Q (F0 m 788 ls []) := by
  obtain ⟨r, eX, eM, hR1⟩ := op_20 hR (xs (i + 1)) (xs (i + 2))
  exact lo_20 C hl hi hP.1 hP.2 hS hc hs eX eM (fun H locs h1 h2 hS => kk xi rs r0 r1 rc rt tp kd qa sn sf sg mi st rp tm cr cw ik ln lg ce H locs ⟨h1, h2⟩ hS hR1)
set_option maxHeartbeats 4000000 in
theorem lz_21 (C : LC p l s m meth c b L xs D k A) (hl : LL ls b (xa 0) (ma 0) i) (hi : i + 5 ≤ L) (hP : PD D A ((LA k xa sa ra ma xi rs r0 r1 rc rt tp mi st rp tm cr cw ik ln lg ce) ++ (LT k sa kd qa sn sf sg)) H) (hS : va_S A s.heap H locs) (hR : Rel xi rs r0 r1 rt tp kd sn sf sg mi st tm ik ln lg ce) (hc : cells ≤ 1000) (hs : slots ≤ 100000)
    (kk : ∀ (xi : Nat → Int32) (rs : RS) (r0 : RS) (r1 : RS) (rc : RS) (rt : RS) (tp : Nat → Int32) (kd : Nat → Nat) (qa : Nat → Nat) (sn : Nat → Nat) (sf : Nat → Nat → Int32) (sg : Nat → Nat → Int64) (mi : Nat → Int32) (st : Nat → Int32) (rp : Nat → Int32) (tm : Nat → Int32) (cr : Nat → Int32) (cw : Nat → Int32) (ik : Nat → Int32) (ln : Nat → Int32) (lg : Nat → Int32) (ce : Nat → Int64) (H1 : Heap) (locs1 : List Loc), PD D A ((LA k xa sa ra ma xi rs r0 r1 rc rt tp mi st rp tm cr cw ik ln lg ce) ++ (LT k sa kd qa sn sf sg)) H1 → va_S A s.heap H1 locs1 → Rel xi rs r0 r1 rt tp kd sn sf sg mi st tm ik ln lg ce → W p l e room_1 s m #[Value.ref b] below meth c H1 locs1 (cells + 9) (slots + 300) Q (F0 m 1614 ls [])) : W p l e room_1 s m #[Value.ref b] below meth c H locs cells slots Q (F0 m 821 ls []) := by
  obtain ⟨r, eX, eM, hR1⟩ := op_21 hR (xs (i + 1)) (xs (i + 2))
  exact lo_21 C hl hi hP.1 hP.2 hS hc hs eX eM (fun H locs h1 h2 hS => kk xi rs r0 r1 rc rt tp kd qa sn sf sg mi st rp tm cr cw ik ln lg ce H locs ⟨h1, h2⟩ hS hR1)
set_option maxHeartbeats 4000000 in
theorem lz_22 (C : LC p l s m meth c b L xs D k A) (hl : LL ls b (xa 0) (ma 0) i) (hi : i + 5 ≤ L) (hP : PD D A ((LA k xa sa ra ma xi rs r0 r1 rc rt tp mi st rp tm cr cw ik ln lg ce) ++ (LT k sa kd qa sn sf sg)) H) (hS : va_S A s.heap H locs) (hR : Rel xi rs r0 r1 rt tp kd sn sf sg mi st tm ik ln lg ce) (hc : cells ≤ 1000) (hs : slots ≤ 100000)
    (kk : ∀ (xi : Nat → Int32) (rs : RS) (r0 : RS) (r1 : RS) (rc : RS) (rt : RS) (tp : Nat → Int32) (kd : Nat → Nat) (qa : Nat → Nat) (sn : Nat → Nat) (sf : Nat → Nat → Int32) (sg : Nat → Nat → Int64) (mi : Nat → Int32) (st : Nat → Int32) (rp : Nat → Int32) (tm : Nat → Int32) (cr : Nat → Int32) (cw : Nat → Int32) (ik : Nat → Int32) (ln : Nat → Int32) (lg : Nat → Int32) (ce : Nat → Int64) (H1 : Heap) (locs1 : List Loc), PD D A ((LA k xa sa ra ma xi rs r0 r1 rc rt tp mi st rp tm cr cw ik ln lg ce) ++ (LT k sa kd qa sn sf sg)) H1 → va_S A s.heap H1 locs1 → Rel xi rs r0 r1 rt tp kd sn sf sg mi st tm ik ln lg ce → W p l e room_1 s m #[Value.ref b] below meth c H1 locs1 (cells + 9) (slots + 300) Q (F0 m 1614 ls [])) : W p l e room_1 s m #[Value.ref b] below meth c H locs cells slots Q (F0 m 854 ls []) := by
  obtain ⟨r, xi_o, eX, eM, hR1⟩ := op_22 hR (xs (i + 1))
  exact lo_22 C hl hi hP.1 hP.2 hS hc hs eX eM (fun H locs h1 h2 hS => kk xi_o rs r0 r1 rc rt tp kd qa sn sf sg mi st rp tm cr cw ik ln lg ce H locs ⟨h1, h2⟩ hS hR1)
set_option maxHeartbeats 4000000 in
theorem lz_23 (C : LC p l s m meth c b L xs D k A) (hl : LL ls b (xa 0) (ma 0) i) (hi : i + 5 ≤ L) (hP : PD D A ((LA k xa sa ra ma xi rs r0 r1 rc rt tp mi st rp tm cr cw ik ln lg ce) ++ (LT k sa kd qa sn sf sg)) H) (hS : va_S A s.heap H locs) (hR : Rel xi rs r0 r1 rt tp kd sn sf sg mi st tm ik ln lg ce) (hc : cells ≤ 1000) (hs : slots ≤ 100000)
    (kk : ∀ (xi : Nat → Int32) (rs : RS) (r0 : RS) (r1 : RS) (rc : RS) (rt : RS) (tp : Nat → Int32) (kd : Nat → Nat) (qa : Nat → Nat) (sn : Nat → Nat) (sf : Nat → Nat → Int32) (sg : Nat → Nat → Int64) (mi : Nat → Int32) (st : Nat → Int32) (rp : Nat → Int32) (tm : Nat → Int32) (cr : Nat → Int32) (cw : Nat → Int32) (ik : Nat → Int32) (ln : Nat → Int32) (lg : Nat → Int32) (ce : Nat → Int64) (H1 : Heap) (locs1 : List Loc), PD D A ((LA k xa sa ra ma xi rs r0 r1 rc rt tp mi st rp tm cr cw ik ln lg ce) ++ (LT k sa kd qa sn sf sg)) H1 → va_S A s.heap H1 locs1 → Rel xi rs r0 r1 rt tp kd sn sf sg mi st tm ik ln lg ce → W p l e room_1 s m #[Value.ref b] below meth c H1 locs1 (cells + 9) (slots + 300) Q (F0 m 1614 ls [])) : W p l e room_1 s m #[Value.ref b] below meth c H locs cells slots Q (F0 m 877 ls []) := by
  obtain ⟨r, eX, eM, hR1⟩ := op_23 hR (xs (i + 1)) (xs (i + 2))
  exact lo_23 C hl hi hP.1 hP.2 hS hc hs eX eM (fun H locs h1 h2 hS => kk xi rs r0 r1 rc rt tp kd qa sn sf sg mi st rp tm cr cw ik ln lg ce H locs ⟨h1, h2⟩ hS hR1)
set_option maxHeartbeats 4000000 in
theorem lz_24 (C : LC p l s m meth c b L xs D k A) (hl : LL ls b (xa 0) (ma 0) i) (hi : i + 5 ≤ L) (hP : PD D A ((LA k xa sa ra ma xi rs r0 r1 rc rt tp mi st rp tm cr cw ik ln lg ce) ++ (LT k sa kd qa sn sf sg)) H) (hS : va_S A s.heap H locs) (hR : Rel xi rs r0 r1 rt tp kd sn sf sg mi st tm ik ln lg ce) (hc : cells ≤ 1000) (hs : slots ≤ 100000)
    (kk : ∀ (xi : Nat → Int32) (rs : RS) (r0 : RS) (r1 : RS) (rc : RS) (rt : RS) (tp : Nat → Int32) (kd : Nat → Nat) (qa : Nat → Nat) (sn : Nat → Nat) (sf : Nat → Nat → Int32) (sg : Nat → Nat → Int64) (mi : Nat → Int32) (st : Nat → Int32) (rp : Nat → Int32) (tm : Nat → Int32) (cr : Nat → Int32) (cw : Nat → Int32) (ik : Nat → Int32) (ln : Nat → Int32) (lg : Nat → Int32) (ce : Nat → Int64) (H1 : Heap) (locs1 : List Loc), PD D A ((LA k xa sa ra ma xi rs r0 r1 rc rt tp mi st rp tm cr cw ik ln lg ce) ++ (LT k sa kd qa sn sf sg)) H1 → va_S A s.heap H1 locs1 → Rel xi rs r0 r1 rt tp kd sn sf sg mi st tm ik ln lg ce → W p l e room_1 s m #[Value.ref b] below meth c H1 locs1 (cells + 9) (slots + 300) Q (F0 m 1614 ls [])) : W p l e room_1 s m #[Value.ref b] below meth c H locs cells slots Q (F0 m 910 ls []) := by
  obtain ⟨r, eX, eM, hR1⟩ := op_24 hR (xs (i + 1))
  exact lo_24 C hl hi hP.1 hP.2 hS hc hs eX eM (fun H locs h1 h2 hS => kk xi rs r0 r1 rc rt tp kd qa sn sf sg mi st rp tm cr cw ik ln lg ce H locs ⟨h1, h2⟩ hS hR1)
set_option maxHeartbeats 4000000 in
theorem lz_25 (C : LC p l s m meth c b L xs D k A) (hl : LL ls b (xa 0) (ma 0) i) (hi : i + 5 ≤ L) (hP : PD D A ((LA k xa sa ra ma xi rs r0 r1 rc rt tp mi st rp tm cr cw ik ln lg ce) ++ (LT k sa kd qa sn sf sg)) H) (hS : va_S A s.heap H locs) (hR : Rel xi rs r0 r1 rt tp kd sn sf sg mi st tm ik ln lg ce) (hc : cells ≤ 1000) (hs : slots ≤ 100000)
    (kk : ∀ (xi : Nat → Int32) (rs : RS) (r0 : RS) (r1 : RS) (rc : RS) (rt : RS) (tp : Nat → Int32) (kd : Nat → Nat) (qa : Nat → Nat) (sn : Nat → Nat) (sf : Nat → Nat → Int32) (sg : Nat → Nat → Int64) (mi : Nat → Int32) (st : Nat → Int32) (rp : Nat → Int32) (tm : Nat → Int32) (cr : Nat → Int32) (cw : Nat → Int32) (ik : Nat → Int32) (ln : Nat → Int32) (lg : Nat → Int32) (ce : Nat → Int64) (H1 : Heap) (locs1 : List Loc), PD D A ((LA k xa sa ra ma xi rs r0 r1 rc rt tp mi st rp tm cr cw ik ln lg ce) ++ (LT k sa kd qa sn sf sg)) H1 → va_S A s.heap H1 locs1 → Rel xi rs r0 r1 rt tp kd sn sf sg mi st tm ik ln lg ce → W p l e room_1 s m #[Value.ref b] below meth c H1 locs1 (cells + 9) (slots + 300) Q (F0 m 1614 ls [])) : W p l e room_1 s m #[Value.ref b] below meth c H locs cells slots Q (F0 m 933 ls []) := by
  obtain ⟨r, rs_o, st_o, eX, eM, hR1⟩ := op_25 hR (xs (i + 1)) (xs (i + 2))
  exact lo_25 C hl hi hP.1 hP.2 hS hc hs eX eM (fun H locs h1 h2 hS => kk xi rs_o r0 r1 rc rt tp kd qa sn sf sg mi st_o rp tm cr cw ik ln lg ce H locs ⟨h1, h2⟩ hS hR1)
set_option maxHeartbeats 4000000 in
theorem lz_26 (C : LC p l s m meth c b L xs D k A) (hl : LL ls b (xa 0) (ma 0) i) (hi : i + 5 ≤ L) (hP : PD D A ((LA k xa sa ra ma xi rs r0 r1 rc rt tp mi st rp tm cr cw ik ln lg ce) ++ (LT k sa kd qa sn sf sg)) H) (hS : va_S A s.heap H locs) (hR : Rel xi rs r0 r1 rt tp kd sn sf sg mi st tm ik ln lg ce) (hc : cells ≤ 1000) (hs : slots ≤ 100000)
    (kk : ∀ (xi : Nat → Int32) (rs : RS) (r0 : RS) (r1 : RS) (rc : RS) (rt : RS) (tp : Nat → Int32) (kd : Nat → Nat) (qa : Nat → Nat) (sn : Nat → Nat) (sf : Nat → Nat → Int32) (sg : Nat → Nat → Int64) (mi : Nat → Int32) (st : Nat → Int32) (rp : Nat → Int32) (tm : Nat → Int32) (cr : Nat → Int32) (cw : Nat → Int32) (ik : Nat → Int32) (ln : Nat → Int32) (lg : Nat → Int32) (ce : Nat → Int64) (H1 : Heap) (locs1 : List Loc), PD D A ((LA k xa sa ra ma xi rs r0 r1 rc rt tp mi st rp tm cr cw ik ln lg ce) ++ (LT k sa kd qa sn sf sg)) H1 → va_S A s.heap H1 locs1 → Rel xi rs r0 r1 rt tp kd sn sf sg mi st tm ik ln lg ce → W p l e room_1 s m #[Value.ref b] below meth c H1 locs1 (cells + 9) (slots + 300) Q (F0 m 1614 ls [])) : W p l e room_1 s m #[Value.ref b] below meth c H locs cells slots Q (F0 m 966 ls []) := by
  obtain ⟨r, eX, eM, hR1⟩ := op_26 hR (xs (i + 1)) (xs (i + 2))
  exact lo_26 C hl hi hP.1 hP.2 hS hc hs eX eM (fun H locs h1 h2 hS => kk xi rs r0 r1 rc rt tp kd qa sn sf sg mi st rp tm cr cw ik ln lg ce H locs ⟨h1, h2⟩ hS hR1)
set_option maxHeartbeats 4000000 in
theorem lz_27 (C : LC p l s m meth c b L xs D k A) (hl : LL ls b (xa 0) (ma 0) i) (hi : i + 5 ≤ L) (hP : PD D A ((LA k xa sa ra ma xi rs r0 r1 rc rt tp mi st rp tm cr cw ik ln lg ce) ++ (LT k sa kd qa sn sf sg)) H) (hS : va_S A s.heap H locs) (hR : Rel xi rs r0 r1 rt tp kd sn sf sg mi st tm ik ln lg ce) (hc : cells ≤ 1000) (hs : slots ≤ 100000)
    (kk : ∀ (xi : Nat → Int32) (rs : RS) (r0 : RS) (r1 : RS) (rc : RS) (rt : RS) (tp : Nat → Int32) (kd : Nat → Nat) (qa : Nat → Nat) (sn : Nat → Nat) (sf : Nat → Nat → Int32) (sg : Nat → Nat → Int64) (mi : Nat → Int32) (st : Nat → Int32) (rp : Nat → Int32) (tm : Nat → Int32) (cr : Nat → Int32) (cw : Nat → Int32) (ik : Nat → Int32) (ln : Nat → Int32) (lg : Nat → Int32) (ce : Nat → Int64) (H1 : Heap) (locs1 : List Loc), PD D A ((LA k xa sa ra ma xi rs r0 r1 rc rt tp mi st rp tm cr cw ik ln lg ce) ++ (LT k sa kd qa sn sf sg)) H1 → va_S A s.heap H1 locs1 → Rel xi rs r0 r1 rt tp kd sn sf sg mi st tm ik ln lg ce → W p l e room_1 s m #[Value.ref b] below meth c H1 locs1 (cells + 9) (slots + 300) Q (F0 m 1614 ls [])) : W p l e room_1 s m #[Value.ref b] below meth c H locs cells slots Q (F0 m 999 ls []) := by
  obtain ⟨r, eX, eM, hR1⟩ := op_27 hR (xs (i + 1))
  exact lo_27 C hl hi hP.1 hP.2 hS hc hs eX eM (fun H locs h1 h2 hS => kk xi rs r0 r1 rc rt tp kd qa sn sf sg mi st rp tm cr cw ik ln lg ce H locs ⟨h1, h2⟩ hS hR1)
set_option maxHeartbeats 4000000 in
theorem lz_28 (C : LC p l s m meth c b L xs D k A) (hl : LL ls b (xa 0) (ma 0) i) (hi : i + 5 ≤ L) (hP : PD D A ((LA k xa sa ra ma xi rs r0 r1 rc rt tp mi st rp tm cr cw ik ln lg ce) ++ (LT k sa kd qa sn sf sg)) H) (hS : va_S A s.heap H locs) (hR : Rel xi rs r0 r1 rt tp kd sn sf sg mi st tm ik ln lg ce) (hc : cells ≤ 1000) (hs : slots ≤ 100000)
    (kk : ∀ (xi : Nat → Int32) (rs : RS) (r0 : RS) (r1 : RS) (rc : RS) (rt : RS) (tp : Nat → Int32) (kd : Nat → Nat) (qa : Nat → Nat) (sn : Nat → Nat) (sf : Nat → Nat → Int32) (sg : Nat → Nat → Int64) (mi : Nat → Int32) (st : Nat → Int32) (rp : Nat → Int32) (tm : Nat → Int32) (cr : Nat → Int32) (cw : Nat → Int32) (ik : Nat → Int32) (ln : Nat → Int32) (lg : Nat → Int32) (ce : Nat → Int64) (H1 : Heap) (locs1 : List Loc), PD D A ((LA k xa sa ra ma xi rs r0 r1 rc rt tp mi st rp tm cr cw ik ln lg ce) ++ (LT k sa kd qa sn sf sg)) H1 → va_S A s.heap H1 locs1 → Rel xi rs r0 r1 rt tp kd sn sf sg mi st tm ik ln lg ce → W p l e room_1 s m #[Value.ref b] below meth c H1 locs1 (cells + 9) (slots + 300) Q (F0 m 1614 ls [])) : W p l e room_1 s m #[Value.ref b] below meth c H locs cells slots Q (F0 m 1022 ls []) := by
  obtain ⟨r, rs_o, st_o, eX, eM, hR1⟩ := op_28 hR (xs (i + 1))
  exact lo_28 C hl hi hP.1 hP.2 hS hc hs eX eM (fun H locs h1 h2 hS => kk xi rs_o r0 r1 rc rt tp kd qa sn sf sg mi st_o rp tm cr cw ik ln lg ce H locs ⟨h1, h2⟩ hS hR1)
set_option maxHeartbeats 4000000 in
theorem lz_29 (C : LC p l s m meth c b L xs D k A) (hl : LL ls b (xa 0) (ma 0) i) (hi : i + 5 ≤ L) (hP : PD D A ((LA k xa sa ra ma xi rs r0 r1 rc rt tp mi st rp tm cr cw ik ln lg ce) ++ (LT k sa kd qa sn sf sg)) H) (hS : va_S A s.heap H locs) (hR : Rel xi rs r0 r1 rt tp kd sn sf sg mi st tm ik ln lg ce) (hc : cells ≤ 1000) (hs : slots ≤ 100000)
    (kk : ∀ (xi : Nat → Int32) (rs : RS) (r0 : RS) (r1 : RS) (rc : RS) (rt : RS) (tp : Nat → Int32) (kd : Nat → Nat) (qa : Nat → Nat) (sn : Nat → Nat) (sf : Nat → Nat → Int32) (sg : Nat → Nat → Int64) (mi : Nat → Int32) (st : Nat → Int32) (rp : Nat → Int32) (tm : Nat → Int32) (cr : Nat → Int32) (cw : Nat → Int32) (ik : Nat → Int32) (ln : Nat → Int32) (lg : Nat → Int32) (ce : Nat → Int64) (H1 : Heap) (locs1 : List Loc), PD D A ((LA k xa sa ra ma xi rs r0 r1 rc rt tp mi st rp tm cr cw ik ln lg ce) ++ (LT k sa kd qa sn sf sg)) H1 → va_S A s.heap H1 locs1 → Rel xi rs r0 r1 rt tp kd sn sf sg mi st tm ik ln lg ce → W p l e room_1 s m #[Value.ref b] below meth c H1 locs1 (cells + 9) (slots + 300) Q (F0 m 1614 ls [])) : W p l e room_1 s m #[Value.ref b] below meth c H locs cells slots Q (F0 m 1045 ls []) := by
  obtain ⟨r, rs_o, st_o, eX, eM, hR1⟩ := op_29 hR (xs (i + 1)) (xs (i + 2)) (xs (i + 3))
  exact lo_29 C hl hi hP.1 hP.2 hS hc hs eX eM (fun H locs h1 h2 hS => kk xi rs_o r0 r1 rc rt tp kd qa sn sf sg mi st_o rp tm cr cw ik ln lg ce H locs ⟨h1, h2⟩ hS hR1)
set_option maxHeartbeats 4000000 in
theorem lz_30 (C : LC p l s m meth c b L xs D k A) (hl : LL ls b (xa 0) (ma 0) i) (hi : i + 5 ≤ L) (hP : PD D A ((LA k xa sa ra ma xi rs r0 r1 rc rt tp mi st rp tm cr cw ik ln lg ce) ++ (LT k sa kd qa sn sf sg)) H) (hS : va_S A s.heap H locs) (hR : Rel xi rs r0 r1 rt tp kd sn sf sg mi st tm ik ln lg ce) (hc : cells ≤ 1000) (hs : slots ≤ 100000)
    (kk : ∀ (xi : Nat → Int32) (rs : RS) (r0 : RS) (r1 : RS) (rc : RS) (rt : RS) (tp : Nat → Int32) (kd : Nat → Nat) (qa : Nat → Nat) (sn : Nat → Nat) (sf : Nat → Nat → Int32) (sg : Nat → Nat → Int64) (mi : Nat → Int32) (st : Nat → Int32) (rp : Nat → Int32) (tm : Nat → Int32) (cr : Nat → Int32) (cw : Nat → Int32) (ik : Nat → Int32) (ln : Nat → Int32) (lg : Nat → Int32) (ce : Nat → Int64) (H1 : Heap) (locs1 : List Loc), PD D A ((LA k xa sa ra ma xi rs r0 r1 rc rt tp mi st rp tm cr cw ik ln lg ce) ++ (LT k sa kd qa sn sf sg)) H1 → va_S A s.heap H1 locs1 → Rel xi rs r0 r1 rt tp kd sn sf sg mi st tm ik ln lg ce → W p l e room_1 s m #[Value.ref b] below meth c H1 locs1 (cells + 9) (slots + 300) Q (F0 m 1614 ls [])) : W p l e room_1 s m #[Value.ref b] below meth c H locs cells slots Q (F0 m 1088 ls []) := by
  obtain ⟨r, rs_o, st_o, eX, eM, hR1⟩ := op_30 hR (xs (i + 1))
  exact lo_30 C hl hi hP.1 hP.2 hS hc hs eX eM (fun H locs h1 h2 hS => kk xi rs_o r0 r1 rc rt tp kd qa sn sf sg mi st_o rp tm cr cw ik ln lg ce H locs ⟨h1, h2⟩ hS hR1)
set_option maxHeartbeats 4000000 in
theorem lz_31 (C : LC p l s m meth c b L xs D k A) (hl : LL ls b (xa 0) (ma 0) i) (hi : i + 5 ≤ L) (hP : PD D A ((LA k xa sa ra ma xi rs r0 r1 rc rt tp mi st rp tm cr cw ik ln lg ce) ++ (LT k sa kd qa sn sf sg)) H) (hS : va_S A s.heap H locs) (hR : Rel xi rs r0 r1 rt tp kd sn sf sg mi st tm ik ln lg ce) (hc : cells ≤ 1000) (hs : slots ≤ 100000)
    (kk : ∀ (xi : Nat → Int32) (rs : RS) (r0 : RS) (r1 : RS) (rc : RS) (rt : RS) (tp : Nat → Int32) (kd : Nat → Nat) (qa : Nat → Nat) (sn : Nat → Nat) (sf : Nat → Nat → Int32) (sg : Nat → Nat → Int64) (mi : Nat → Int32) (st : Nat → Int32) (rp : Nat → Int32) (tm : Nat → Int32) (cr : Nat → Int32) (cw : Nat → Int32) (ik : Nat → Int32) (ln : Nat → Int32) (lg : Nat → Int32) (ce : Nat → Int64) (H1 : Heap) (locs1 : List Loc), PD D A ((LA k xa sa ra ma xi rs r0 r1 rc rt tp mi st rp tm cr cw ik ln lg ce) ++ (LT k sa kd qa sn sf sg)) H1 → va_S A s.heap H1 locs1 → Rel xi rs r0 r1 rt tp kd sn sf sg mi st tm ik ln lg ce → W p l e room_1 s m #[Value.ref b] below meth c H1 locs1 (cells + 9) (slots + 300) Q (F0 m 1614 ls [])) : W p l e room_1 s m #[Value.ref b] below meth c H locs cells slots Q (F0 m 1111 ls []) := by
  obtain ⟨r, rs_o, st_o, eX, eM, hR1⟩ := op_31 hR (xs (i + 1))
  exact lo_31 C hl hi hP.1 hP.2 hS hc hs eX eM (fun H locs h1 h2 hS => kk xi rs_o r0 r1 rc rt tp kd qa sn sf sg mi st_o rp tm cr cw ik ln lg ce H locs ⟨h1, h2⟩ hS hR1)
set_option maxHeartbeats 4000000 in
theorem lz_32 (C : LC p l s m meth c b L xs D k A) (hl : LL ls b (xa 0) (ma 0) i) (hi : i + 5 ≤ L) (hP : PD D A ((LA k xa sa ra ma xi rs r0 r1 rc rt tp mi st rp tm cr cw ik ln lg ce) ++ (LT k sa kd qa sn sf sg)) H) (hS : va_S A s.heap H locs) (hR : Rel xi rs r0 r1 rt tp kd sn sf sg mi st tm ik ln lg ce) (hc : cells ≤ 1000) (hs : slots ≤ 100000)
    (kk : ∀ (xi : Nat → Int32) (rs : RS) (r0 : RS) (r1 : RS) (rc : RS) (rt : RS) (tp : Nat → Int32) (kd : Nat → Nat) (qa : Nat → Nat) (sn : Nat → Nat) (sf : Nat → Nat → Int32) (sg : Nat → Nat → Int64) (mi : Nat → Int32) (st : Nat → Int32) (rp : Nat → Int32) (tm : Nat → Int32) (cr : Nat → Int32) (cw : Nat → Int32) (ik : Nat → Int32) (ln : Nat → Int32) (lg : Nat → Int32) (ce : Nat → Int64) (H1 : Heap) (locs1 : List Loc), PD D A ((LA k xa sa ra ma xi rs r0 r1 rc rt tp mi st rp tm cr cw ik ln lg ce) ++ (LT k sa kd qa sn sf sg)) H1 → va_S A s.heap H1 locs1 → Rel xi rs r0 r1 rt tp kd sn sf sg mi st tm ik ln lg ce → W p l e room_1 s m #[Value.ref b] below meth c H1 locs1 (cells + 9) (slots + 300) Q (F0 m 1614 ls [])) : W p l e room_1 s m #[Value.ref b] below meth c H locs cells slots Q (F0 m 1134 ls []) := by
  obtain ⟨r, rs_o, st_o, eX, eM, hR1⟩ := op_32 hR (xs (i + 1)) (xs (i + 2)) (xs (i + 3)) (xs (i + 4))
  exact lo_32 C hl hi hP.1 hP.2 hS hc hs eX eM (fun H locs h1 h2 hS => kk xi rs_o r0 r1 rc rt tp kd qa sn sf sg mi st_o rp tm cr cw ik ln lg ce H locs ⟨h1, h2⟩ hS hR1)
set_option maxHeartbeats 4000000 in
theorem lz_33 (C : LC p l s m meth c b L xs D k A) (hl : LL ls b (xa 0) (ma 0) i) (hi : i + 5 ≤ L) (hP : PD D A ((LA k xa sa ra ma xi rs r0 r1 rc rt tp mi st rp tm cr cw ik ln lg ce) ++ (LT k sa kd qa sn sf sg)) H) (hS : va_S A s.heap H locs) (hR : Rel xi rs r0 r1 rt tp kd sn sf sg mi st tm ik ln lg ce) (hc : cells ≤ 1000) (hs : slots ≤ 100000)
    (kk : ∀ (xi : Nat → Int32) (rs : RS) (r0 : RS) (r1 : RS) (rc : RS) (rt : RS) (tp : Nat → Int32) (kd : Nat → Nat) (qa : Nat → Nat) (sn : Nat → Nat) (sf : Nat → Nat → Int32) (sg : Nat → Nat → Int64) (mi : Nat → Int32) (st : Nat → Int32) (rp : Nat → Int32) (tm : Nat → Int32) (cr : Nat → Int32) (cw : Nat → Int32) (ik : Nat → Int32) (ln : Nat → Int32) (lg : Nat → Int32) (ce : Nat → Int64) (H1 : Heap) (locs1 : List Loc), PD D A ((LA k xa sa ra ma xi rs r0 r1 rc rt tp mi st rp tm cr cw ik ln lg ce) ++ (LT k sa kd qa sn sf sg)) H1 → va_S A s.heap H1 locs1 → Rel xi rs r0 r1 rt tp kd sn sf sg mi st tm ik ln lg ce → W p l e room_1 s m #[Value.ref b] below meth c H1 locs1 (cells + 9) (slots + 300) Q (F0 m 1614 ls [])) : W p l e room_1 s m #[Value.ref b] below meth c H locs cells slots Q (F0 m 1187 ls []) := by
  obtain ⟨r, rs_o, st_o, eX, eM, hR1⟩ := op_33 hR (xs (i + 1))
  exact lo_33 C hl hi hP.1 hP.2 hS hc hs eX eM (fun H locs h1 h2 hS => kk xi rs_o r0 r1 rc rt tp kd qa sn sf sg mi st_o rp tm cr cw ik ln lg ce H locs ⟨h1, h2⟩ hS hR1)
set_option maxHeartbeats 4000000 in
theorem lz_34 (C : LC p l s m meth c b L xs D k A) (hl : LL ls b (xa 0) (ma 0) i) (hi : i + 5 ≤ L) (hP : PD D A ((LA k xa sa ra ma xi rs r0 r1 rc rt tp mi st rp tm cr cw ik ln lg ce) ++ (LT k sa kd qa sn sf sg)) H) (hS : va_S A s.heap H locs) (hR : Rel xi rs r0 r1 rt tp kd sn sf sg mi st tm ik ln lg ce) (hc : cells ≤ 1000) (hs : slots ≤ 100000)
    (kk : ∀ (xi : Nat → Int32) (rs : RS) (r0 : RS) (r1 : RS) (rc : RS) (rt : RS) (tp : Nat → Int32) (kd : Nat → Nat) (qa : Nat → Nat) (sn : Nat → Nat) (sf : Nat → Nat → Int32) (sg : Nat → Nat → Int64) (mi : Nat → Int32) (st : Nat → Int32) (rp : Nat → Int32) (tm : Nat → Int32) (cr : Nat → Int32) (cw : Nat → Int32) (ik : Nat → Int32) (ln : Nat → Int32) (lg : Nat → Int32) (ce : Nat → Int64) (H1 : Heap) (locs1 : List Loc), PD D A ((LA k xa sa ra ma xi rs r0 r1 rc rt tp mi st rp tm cr cw ik ln lg ce) ++ (LT k sa kd qa sn sf sg)) H1 → va_S A s.heap H1 locs1 → Rel xi rs r0 r1 rt tp kd sn sf sg mi st tm ik ln lg ce → W p l e room_1 s m #[Value.ref b] below meth c H1 locs1 (cells + 9) (slots + 300) Q (F0 m 1614 ls [])) : W p l e room_1 s m #[Value.ref b] below meth c H locs cells slots Q (F0 m 1210 ls []) := by
  obtain ⟨r, rs_o, rc_o, st_o, cr_o, cw_o, eX, eM, hR1⟩ := op_34 (rc := rc) (cr := cr) (cw := cw) hR (xs (i + 1)) (xs (i + 2)) (xs (i + 3))
  exact lo_34 C hl hi hP.1 hP.2 hS hc hs eX eM (fun H locs h1 h2 hS => kk xi rs_o r0 r1 rc_o rt tp kd qa sn sf sg mi st_o rp tm cr_o cw_o ik ln lg ce H locs ⟨h1, h2⟩ hS hR1)
set_option maxHeartbeats 4000000 in
theorem lz_35 (C : LC p l s m meth c b L xs D k A) (hl : LL ls b (xa 0) (ma 0) i) (hi : i + 5 ≤ L) (hP : PD D A ((LA k xa sa ra ma xi rs r0 r1 rc rt tp mi st rp tm cr cw ik ln lg ce) ++ (LT k sa kd qa sn sf sg)) H) (hS : va_S A s.heap H locs) (hR : Rel xi rs r0 r1 rt tp kd sn sf sg mi st tm ik ln lg ce) (hc : cells ≤ 1000) (hs : slots ≤ 100000)
    (kk : ∀ (xi : Nat → Int32) (rs : RS) (r0 : RS) (r1 : RS) (rc : RS) (rt : RS) (tp : Nat → Int32) (kd : Nat → Nat) (qa : Nat → Nat) (sn : Nat → Nat) (sf : Nat → Nat → Int32) (sg : Nat → Nat → Int64) (mi : Nat → Int32) (st : Nat → Int32) (rp : Nat → Int32) (tm : Nat → Int32) (cr : Nat → Int32) (cw : Nat → Int32) (ik : Nat → Int32) (ln : Nat → Int32) (lg : Nat → Int32) (ce : Nat → Int64) (H1 : Heap) (locs1 : List Loc), PD D A ((LA k xa sa ra ma xi rs r0 r1 rc rt tp mi st rp tm cr cw ik ln lg ce) ++ (LT k sa kd qa sn sf sg)) H1 → va_S A s.heap H1 locs1 → Rel xi rs r0 r1 rt tp kd sn sf sg mi st tm ik ln lg ce → W p l e room_1 s m #[Value.ref b] below meth c H1 locs1 (cells + 9) (slots + 300) Q (F0 m 1614 ls [])) : W p l e room_1 s m #[Value.ref b] below meth c H locs cells slots Q (F0 m 1253 ls []) := by
  obtain ⟨r, rs_o, st_o, eX, eM, hR1⟩ := op_35 hR (xs (i + 1)) (xs (i + 2))
  exact lo_35 C hl hi hP.1 hP.2 hS hc hs eX eM (fun H locs h1 h2 hS => kk xi rs_o r0 r1 rc rt tp kd qa sn sf sg mi st_o rp tm cr cw ik ln lg ce H locs ⟨h1, h2⟩ hS hR1)
set_option maxHeartbeats 4000000 in
theorem lz_36 (C : LC p l s m meth c b L xs D k A) (hl : LL ls b (xa 0) (ma 0) i) (hi : i + 5 ≤ L) (hP : PD D A ((LA k xa sa ra ma xi rs r0 r1 rc rt tp mi st rp tm cr cw ik ln lg ce) ++ (LT k sa kd qa sn sf sg)) H) (hS : va_S A s.heap H locs) (hR : Rel xi rs r0 r1 rt tp kd sn sf sg mi st tm ik ln lg ce) (hc : cells ≤ 1000) (hs : slots ≤ 100000)
    (kk : ∀ (xi : Nat → Int32) (rs : RS) (r0 : RS) (r1 : RS) (rc : RS) (rt : RS) (tp : Nat → Int32) (kd : Nat → Nat) (qa : Nat → Nat) (sn : Nat → Nat) (sf : Nat → Nat → Int32) (sg : Nat → Nat → Int64) (mi : Nat → Int32) (st : Nat → Int32) (rp : Nat → Int32) (tm : Nat → Int32) (cr : Nat → Int32) (cw : Nat → Int32) (ik : Nat → Int32) (ln : Nat → Int32) (lg : Nat → Int32) (ce : Nat → Int64) (H1 : Heap) (locs1 : List Loc), PD D A ((LA k xa sa ra ma xi rs r0 r1 rc rt tp mi st rp tm cr cw ik ln lg ce) ++ (LT k sa kd qa sn sf sg)) H1 → va_S A s.heap H1 locs1 → Rel xi rs r0 r1 rt tp kd sn sf sg mi st tm ik ln lg ce → W p l e room_1 s m #[Value.ref b] below meth c H1 locs1 (cells + 9) (slots + 300) Q (F0 m 1614 ls [])) : W p l e room_1 s m #[Value.ref b] below meth c H locs cells slots Q (F0 m 1286 ls []) := by
  obtain ⟨r, xi_o, r0_o, r1_o, st_o, ik_o, eX, eM, hR1⟩ := op_36 hR (xs (i + 1))
  exact lo_36 C hl hi hP.1 hP.2 hS hc hs eX eM (fun H locs h1 h2 hS => kk xi_o rs r0_o r1_o rc rt tp kd qa sn sf sg mi st_o rp tm cr cw ik_o ln lg ce H locs ⟨h1, h2⟩ hS hR1)
set_option maxHeartbeats 4000000 in
theorem lz_37 (C : LC p l s m meth c b L xs D k A) (hl : LL ls b (xa 0) (ma 0) i) (hi : i + 5 ≤ L) (hP : PD D A ((LA k xa sa ra ma xi rs r0 r1 rc rt tp mi st rp tm cr cw ik ln lg ce) ++ (LT k sa kd qa sn sf sg)) H) (hS : va_S A s.heap H locs) (hR : Rel xi rs r0 r1 rt tp kd sn sf sg mi st tm ik ln lg ce) (hc : cells ≤ 1000) (hs : slots ≤ 100000)
    (kk : ∀ (xi : Nat → Int32) (rs : RS) (r0 : RS) (r1 : RS) (rc : RS) (rt : RS) (tp : Nat → Int32) (kd : Nat → Nat) (qa : Nat → Nat) (sn : Nat → Nat) (sf : Nat → Nat → Int32) (sg : Nat → Nat → Int64) (mi : Nat → Int32) (st : Nat → Int32) (rp : Nat → Int32) (tm : Nat → Int32) (cr : Nat → Int32) (cw : Nat → Int32) (ik : Nat → Int32) (ln : Nat → Int32) (lg : Nat → Int32) (ce : Nat → Int64) (H1 : Heap) (locs1 : List Loc), PD D A ((LA k xa sa ra ma xi rs r0 r1 rc rt tp mi st rp tm cr cw ik ln lg ce) ++ (LT k sa kd qa sn sf sg)) H1 → va_S A s.heap H1 locs1 → Rel xi rs r0 r1 rt tp kd sn sf sg mi st tm ik ln lg ce → W p l e room_1 s m #[Value.ref b] below meth c H1 locs1 (cells + 9) (slots + 300) Q (F0 m 1614 ls [])) : W p l e room_1 s m #[Value.ref b] below meth c H locs cells slots Q (F0 m 1309 ls []) := by
  obtain ⟨r, rs_o, st_o, eX, eM, hR1⟩ := op_37 hR (xs (i + 1))
  exact lo_37 C hl hi hP.1 hP.2 hS hc hs eX eM (fun H locs h1 h2 hS => kk xi rs_o r0 r1 rc rt tp kd qa sn sf sg mi st_o rp tm cr cw ik ln lg ce H locs ⟨h1, h2⟩ hS hR1)
set_option maxHeartbeats 4000000 in
theorem lz_38 (C : LC p l s m meth c b L xs D k A) (hl : LL ls b (xa 0) (ma 0) i) (hi : i + 5 ≤ L) (hP : PD D A ((LA k xa sa ra ma xi rs r0 r1 rc rt tp mi st rp tm cr cw ik ln lg ce) ++ (LT k sa kd qa sn sf sg)) H) (hS : va_S A s.heap H locs) (hR : Rel xi rs r0 r1 rt tp kd sn sf sg mi st tm ik ln lg ce) (hc : cells ≤ 1000) (hs : slots ≤ 100000)
    (kk : ∀ (xi : Nat → Int32) (rs : RS) (r0 : RS) (r1 : RS) (rc : RS) (rt : RS) (tp : Nat → Int32) (kd : Nat → Nat) (qa : Nat → Nat) (sn : Nat → Nat) (sf : Nat → Nat → Int32) (sg : Nat → Nat → Int64) (mi : Nat → Int32) (st : Nat → Int32) (rp : Nat → Int32) (tm : Nat → Int32) (cr : Nat → Int32) (cw : Nat → Int32) (ik : Nat → Int32) (ln : Nat → Int32) (lg : Nat → Int32) (ce : Nat → Int64) (H1 : Heap) (locs1 : List Loc), PD D A ((LA k xa sa ra ma xi rs r0 r1 rc rt tp mi st rp tm cr cw ik ln lg ce) ++ (LT k sa kd qa sn sf sg)) H1 → va_S A s.heap H1 locs1 → Rel xi rs r0 r1 rt tp kd sn sf sg mi st tm ik ln lg ce → W p l e room_1 s m #[Value.ref b] below meth c H1 locs1 (cells + 9) (slots + 300) Q (F0 m 1614 ls [])) : W p l e room_1 s m #[Value.ref b] below meth c H locs cells slots Q (F0 m 1332 ls []) := by
  rcases op_38 hR (xs (i + 1)) (xs (i + 2)) (xs (i + 3)) with ⟨r, ln_o, lg_o, ce_o, eX, eM, hR1⟩ | ⟨j, hj, ha1, hk⟩
  · exact lo_38x C hl hi hP.1 hP.2 hS hc hs eX eM (fun H locs h1 h2 hS => kk xi rs r0 r1 rc rt tp kd qa sn sf sg mi st rp tm cr cw ik ln_o lg_o ce_o H locs ⟨h1, h2⟩ hS hR1)
  · rcases hk with hk | hk | hk
    · obtain ⟨h2a, his, hk⟩ := hk
      have hp := PD.toV hP hj
      rcases hk with ⟨hneg, hle, ln_o, lg_o, ce_o, eM, hR1⟩ | ⟨n, hn, h3, ln_o, lg_o, ce_o, eM, hR1⟩
      · exact lo_38neg0 C hl hi hj ha1 h2a his hneg hle hp.1 hp.2 hS hc hs eM (fun H locs h1 h2 hS => kk xi rs r0 r1 rc rt tp kd qa sn sf sg mi st rp tm cr cw ik ln_o lg_o ce_o H locs (PD.ofV ⟨h1, h2⟩ hj) hS hR1)
      · exact lo_38new0 C hl hi hj ha1 h2a his hn h3 hp.1 hp.2 hS hc hs eM (fun u H locs h1 h2 hS => kk xi rs r0 r1 rc rt tp (updF kd j 1) (updF qa j u) (updF sn j n) (updF sf j (fun _ => 0)) (updF sg j (fun _ => 0)) mi st rp tm cr cw ik ln_o lg_o ce_o H locs (PD.ofU (e := (u, .inl (k 3, n, .inl (fun _ => 0)))) (kd' := (updF kd j 1)) (qa' := (updF qa j u)) (sn' := (updF sn j n)) (sf' := (updF sf j (fun _ => 0))) (sg' := (updF sg j (fun _ => 0))) (PD.dropV (show PD D A _ _ from ⟨h1, h2⟩)) hj updF_same (by rw [updF_same]; decide) (by rw [sE_1 updF_same, updF_same, updF_same, updF_same]) (fun i9 h9 => ⟨updF_other h9, updF_other h9, updF_other h9, updF_other h9, updF_other h9⟩)) hS hR1)
    · obtain ⟨h2a, his, hk⟩ := hk
      have hp := PD.toV hP hj
      rcases hk with ⟨hneg, hle, ln_o, lg_o, ce_o, eM, hR1⟩ | ⟨n, hn, h3, ln_o, lg_o, ce_o, eM, hR1⟩
      · exact lo_38neg1 C hl hi hj ha1 h2a his hneg hle hp.1 hp.2 hS hc hs eM (fun H locs h1 h2 hS => kk xi rs r0 r1 rc rt tp kd qa sn sf sg mi st rp tm cr cw ik ln_o lg_o ce_o H locs (PD.ofV ⟨h1, h2⟩ hj) hS hR1)
      · exact lo_38new1 C hl hi hj ha1 h2a his hn h3 hp.1 hp.2 hS hc hs eM (fun u H locs h1 h2 hS => kk xi rs r0 r1 rc rt tp (updF kd j 2) (updF qa j u) (updF sn j n) (updF sf j (fun _ => 0)) (updF sg j (fun _ => 0)) mi st rp tm cr cw ik ln_o lg_o ce_o H locs (PD.ofU (e := (u, .inl (k 1, n, .inl (fun _ => 0)))) (kd' := (updF kd j 2)) (qa' := (updF qa j u)) (sn' := (updF sn j n)) (sf' := (updF sf j (fun _ => 0))) (sg' := (updF sg j (fun _ => 0))) (PD.dropV (show PD D A _ _ from ⟨h1, h2⟩)) hj updF_same (by rw [updF_same]; decide) (by rw [sE_2 updF_same, updF_same, updF_same, updF_same]) (fun i9 h9 => ⟨updF_other h9, updF_other h9, updF_other h9, updF_other h9, updF_other h9⟩)) hS hR1)
    · obtain ⟨h2a, his, hk⟩ := hk
      have hp := PD.toV hP hj
      rcases hk with ⟨hneg, hle, ln_o, lg_o, ce_o, eM, hR1⟩ | ⟨n, hn, h3, ln_o, lg_o, ce_o, eM, hR1⟩
      · exact lo_38neg2 C hl hi hj ha1 h2a his hneg hle hp.1 hp.2 hS hc hs eM (fun H locs h1 h2 hS => kk xi rs r0 r1 rc rt tp kd qa sn sf sg mi st rp tm cr cw ik ln_o lg_o ce_o H locs (PD.ofV ⟨h1, h2⟩ hj) hS hR1)
      · exact lo_38new2 C hl hi hj ha1 h2a his hn h3 hp.1 hp.2 hS hc hs eM (fun u H locs h1 h2 hS => kk xi rs r0 r1 rc rt tp (updF kd j 3) (updF qa j u) (updF sn j n) (updF sf j (fun _ => 0)) (updF sg j (fun _ => 0)) mi st rp tm cr cw ik ln_o lg_o ce_o H locs (PD.ofU (e := (u, .inl (k 0, n, .inr (.inl (fun _ => 0))))) (kd' := (updF kd j 3)) (qa' := (updF qa j u)) (sn' := (updF sn j n)) (sf' := (updF sf j (fun _ => 0))) (sg' := (updF sg j (fun _ => 0))) (PD.dropV (show PD D A _ _ from ⟨h1, h2⟩)) hj updF_same (by rw [updF_same]; decide) (by rw [sE_3 updF_same, updF_same, updF_same, updF_same]) (fun i9 h9 => ⟨updF_other h9, updF_other h9, updF_other h9, updF_other h9, updF_other h9⟩)) hS hR1)
set_option maxHeartbeats 4000000 in
theorem lz_39 (C : LC p l s m meth c b L xs D k A) (hl : LL ls b (xa 0) (ma 0) i) (hi : i + 5 ≤ L) (hP : PD D A ((LA k xa sa ra ma xi rs r0 r1 rc rt tp mi st rp tm cr cw ik ln lg ce) ++ (LT k sa kd qa sn sf sg)) H) (hS : va_S A s.heap H locs) (hR : Rel xi rs r0 r1 rt tp kd sn sf sg mi st tm ik ln lg ce) (hc : cells ≤ 1000) (hs : slots ≤ 100000)
    (kk : ∀ (xi : Nat → Int32) (rs : RS) (r0 : RS) (r1 : RS) (rc : RS) (rt : RS) (tp : Nat → Int32) (kd : Nat → Nat) (qa : Nat → Nat) (sn : Nat → Nat) (sf : Nat → Nat → Int32) (sg : Nat → Nat → Int64) (mi : Nat → Int32) (st : Nat → Int32) (rp : Nat → Int32) (tm : Nat → Int32) (cr : Nat → Int32) (cw : Nat → Int32) (ik : Nat → Int32) (ln : Nat → Int32) (lg : Nat → Int32) (ce : Nat → Int64) (H1 : Heap) (locs1 : List Loc), PD D A ((LA k xa sa ra ma xi rs r0 r1 rc rt tp mi st rp tm cr cw ik ln lg ce) ++ (LT k sa kd qa sn sf sg)) H1 → va_S A s.heap H1 locs1 → Rel xi rs r0 r1 rt tp kd sn sf sg mi st tm ik ln lg ce → W p l e room_1 s m #[Value.ref b] below meth c H1 locs1 (cells + 9) (slots + 300) Q (F0 m 1614 ls [])) : W p l e room_1 s m #[Value.ref b] below meth c H locs cells slots Q (F0 m 1375 ls []) := by
  rcases op_39 hR (xs (i + 1)) (xs (i + 2)) (((xs (i + 3)).toInt64 <<< ((32 : Int32).toInt64 &&& 63)) ||| ((xs (i + 4)).toInt64 &&& (4294967295 : Int64))) with ⟨r, ce_o, eX, eM, hR1⟩ | ⟨j, hj, ha1, hk⟩
  · exact lo_39x C hl hi hP.1 hP.2 hS hc hs eX eM (fun H locs h1 h2 hS => kk xi rs r0 r1 rc rt tp kd qa sn sf sg mi st rp tm cr cw ik ln lg ce_o H locs ⟨h1, h2⟩ hS hR1)
  · have hk := hk
    rcases hk with hk | hk | hk | hk
    · obtain ⟨hkd, r, ce_o, eX, eM, hR1⟩ := hk
      have hp := PD.to0 hP hj hkd
      exact lo_39s0 C hl hi hj ha1 hp.1 hp.2 hS hc hs eX eM (fun H locs h1 h2 hS => kk xi rs r0 r1 rc rt tp kd qa sn sf sg mi st rp tm cr cw ik ln lg ce_o H locs (PD.of0 (show PD D A _ _ from ⟨h1, h2⟩) hj hkd) hS hR1)
    · obtain ⟨hkd, r, sf_o, ce_o, eX, eM, hR1⟩ := hk
      have hne : kd j ≠ 0 := by omega
      have hsn := lw_sn hR hj
      have hp := PD.toE hP hj hne (sE_1 hkd)
      exact lo_39s1 C hl hi hj ha1 hsn hp.1 hp.2 hS hc hs eX eM (fun H locs h1 h2 hS => kk xi rs r0 r1 rc rt tp kd qa sn (updF sf j sf_o) sg mi st rp tm cr cw ik ln lg ce_o H locs (PD.ofU (e := (qa j, .inl (k 3, sn j, .inl sf_o))) (sf' := (updF sf j sf_o)) (sg' := sg) ⟨h1, h2⟩ hj rfl hne (by rw [sE_1 hkd, updF_same]) (fun i9 h9 => ⟨rfl, rfl, rfl, updF_other h9, rfl⟩)) hS hR1)
    · obtain ⟨hkd, r, sf_o, ce_o, eX, eM, hR1⟩ := hk
      have hne : kd j ≠ 0 := by omega
      have hsn := lw_sn hR hj
      have hp := PD.toE hP hj hne (sE_2 hkd)
      exact lo_39s2 C hl hi hj ha1 hsn hp.1 hp.2 hS hc hs eX eM (fun H locs h1 h2 hS => kk xi rs r0 r1 rc rt tp kd qa sn (updF sf j sf_o) sg mi st rp tm cr cw ik ln lg ce_o H locs (PD.ofU (e := (qa j, .inl (k 1, sn j, .inl sf_o))) (sf' := (updF sf j sf_o)) (sg' := sg) ⟨h1, h2⟩ hj rfl hne (by rw [sE_2 hkd, updF_same]) (fun i9 h9 => ⟨rfl, rfl, rfl, updF_other h9, rfl⟩)) hS hR1)
    · obtain ⟨hkd, r, sg_o, ce_o, eX, eM, hR1⟩ := hk
      have hne : kd j ≠ 0 := by omega
      have hsn := lw_sn hR hj
      have hp := PD.toE hP hj hne (sE_3 hkd)
      exact lo_39s3 C hl hi hj ha1 hsn hp.1 hp.2 hS hc hs eX eM (fun H locs h1 h2 hS => kk xi rs r0 r1 rc rt tp kd qa sn sf (updF sg j sg_o) mi st rp tm cr cw ik ln lg ce_o H locs (PD.ofU (e := (qa j, .inl (k 0, sn j, .inr (.inl sg_o)))) (sf' := sf) (sg' := (updF sg j sg_o)) ⟨h1, h2⟩ hj rfl hne (by rw [sE_3 hkd, updF_same]) (fun i9 h9 => ⟨rfl, rfl, rfl, rfl, updF_other h9⟩)) hS hR1)
set_option maxHeartbeats 4000000 in
theorem lz_40 (C : LC p l s m meth c b L xs D k A) (hl : LL ls b (xa 0) (ma 0) i) (hi : i + 5 ≤ L) (hP : PD D A ((LA k xa sa ra ma xi rs r0 r1 rc rt tp mi st rp tm cr cw ik ln lg ce) ++ (LT k sa kd qa sn sf sg)) H) (hS : va_S A s.heap H locs) (hR : Rel xi rs r0 r1 rt tp kd sn sf sg mi st tm ik ln lg ce) (hc : cells ≤ 1000) (hs : slots ≤ 100000)
    (kk : ∀ (xi : Nat → Int32) (rs : RS) (r0 : RS) (r1 : RS) (rc : RS) (rt : RS) (tp : Nat → Int32) (kd : Nat → Nat) (qa : Nat → Nat) (sn : Nat → Nat) (sf : Nat → Nat → Int32) (sg : Nat → Nat → Int64) (mi : Nat → Int32) (st : Nat → Int32) (rp : Nat → Int32) (tm : Nat → Int32) (cr : Nat → Int32) (cw : Nat → Int32) (ik : Nat → Int32) (ln : Nat → Int32) (lg : Nat → Int32) (ce : Nat → Int64) (H1 : Heap) (locs1 : List Loc), PD D A ((LA k xa sa ra ma xi rs r0 r1 rc rt tp mi st rp tm cr cw ik ln lg ce) ++ (LT k sa kd qa sn sf sg)) H1 → va_S A s.heap H1 locs1 → Rel xi rs r0 r1 rt tp kd sn sf sg mi st tm ik ln lg ce → W p l e room_1 s m #[Value.ref b] below meth c H1 locs1 (cells + 9) (slots + 300) Q (F0 m 1614 ls [])) : W p l e room_1 s m #[Value.ref b] below meth c H locs cells slots Q (F0 m 1448 ls []) := by
  rcases op_40 hR (xs (i + 1)) (xs (i + 2)) with ⟨r, eX, eM, hR1⟩ | ⟨j, hj, ha1, hk⟩
  · exact lo_40x C hl hi hP.1 hP.2 hS hc hs eX eM (fun H locs h1 h2 hS => kk xi rs r0 r1 rc rt tp kd qa sn sf sg mi st rp tm cr cw ik ln lg ce H locs ⟨h1, h2⟩ hS hR1)
  · have hk := hk
    rcases hk with hk | hk | hk | hk
    · obtain ⟨hkd, r, eX, eM, hR1⟩ := hk
      have hp := PD.to0 hP hj hkd
      exact lo_40s0 C hl hi hj ha1 hp.1 hp.2 hS hc hs eX eM (fun H locs h1 h2 hS => kk xi rs r0 r1 rc rt tp kd qa sn sf sg mi st rp tm cr cw ik ln lg ce H locs (PD.of0 (show PD D A _ _ from ⟨h1, h2⟩) hj hkd) hS hR1)
    · obtain ⟨hkd, r, eX, eM, hR1⟩ := hk
      have hne : kd j ≠ 0 := by omega
      have hsn := lw_sn hR hj
      have hp := PD.toE hP hj hne (sE_1 hkd)
      exact lo_40s1 C hl hi hj ha1 hsn hp.1 hp.2 hS hc hs eX eM (fun H locs h1 h2 hS => kk xi rs r0 r1 rc rt tp kd qa sn sf sg mi st rp tm cr cw ik ln lg ce H locs (PD.ofE (show PD D A _ _ from ⟨h1, h2⟩) hj hne (sE_1 hkd)) hS hR1)
    · obtain ⟨hkd, r, eX, eM, hR1⟩ := hk
      have hne : kd j ≠ 0 := by omega
      have hsn := lw_sn hR hj
      have hp := PD.toE hP hj hne (sE_2 hkd)
      exact lo_40s2 C hl hi hj ha1 hsn hp.1 hp.2 hS hc hs eX eM (fun H locs h1 h2 hS => kk xi rs r0 r1 rc rt tp kd qa sn sf sg mi st rp tm cr cw ik ln lg ce H locs (PD.ofE (show PD D A _ _ from ⟨h1, h2⟩) hj hne (sE_2 hkd)) hS hR1)
    · obtain ⟨hkd, r, eX, eM, hR1⟩ := hk
      have hne : kd j ≠ 0 := by omega
      have hsn := lw_sn hR hj
      have hp := PD.toE hP hj hne (sE_3 hkd)
      exact lo_40s3 C hl hi hj ha1 hsn hp.1 hp.2 hS hc hs eX eM (fun H locs h1 h2 hS => kk xi rs r0 r1 rc rt tp kd qa sn sf sg mi st rp tm cr cw ik ln lg ce H locs (PD.ofE (show PD D A _ _ from ⟨h1, h2⟩) hj hne (sE_3 hkd)) hS hR1)
set_option maxHeartbeats 4000000 in
theorem lz_41 (C : LC p l s m meth c b L xs D k A) (hl : LL ls b (xa 0) (ma 0) i) (hi : i + 5 ≤ L) (hP : PD D A ((LA k xa sa ra ma xi rs r0 r1 rc rt tp mi st rp tm cr cw ik ln lg ce) ++ (LT k sa kd qa sn sf sg)) H) (hS : va_S A s.heap H locs) (hR : Rel xi rs r0 r1 rt tp kd sn sf sg mi st tm ik ln lg ce) (hc : cells ≤ 1000) (hs : slots ≤ 100000)
    (kk : ∀ (xi : Nat → Int32) (rs : RS) (r0 : RS) (r1 : RS) (rc : RS) (rt : RS) (tp : Nat → Int32) (kd : Nat → Nat) (qa : Nat → Nat) (sn : Nat → Nat) (sf : Nat → Nat → Int32) (sg : Nat → Nat → Int64) (mi : Nat → Int32) (st : Nat → Int32) (rp : Nat → Int32) (tm : Nat → Int32) (cr : Nat → Int32) (cw : Nat → Int32) (ik : Nat → Int32) (ln : Nat → Int32) (lg : Nat → Int32) (ce : Nat → Int64) (H1 : Heap) (locs1 : List Loc), PD D A ((LA k xa sa ra ma xi rs r0 r1 rc rt tp mi st rp tm cr cw ik ln lg ce) ++ (LT k sa kd qa sn sf sg)) H1 → va_S A s.heap H1 locs1 → Rel xi rs r0 r1 rt tp kd sn sf sg mi st tm ik ln lg ce → W p l e room_1 s m #[Value.ref b] below meth c H1 locs1 (cells + 9) (slots + 300) Q (F0 m 1614 ls [])) : W p l e room_1 s m #[Value.ref b] below meth c H locs cells slots Q (F0 m 1482 ls []) := by
  rcases op_41 (rp := rp) hR (xs (i + 1)) (xs (i + 2)) (xs (i + 3)) (xs (i + 4)) with ⟨r, st_o, rp_o, eX, eM, hR1⟩ | ⟨j, hj, ha1, hk⟩
  · exact lo_41x C hl hi hP.1 hP.2 hS hc hs eX eM (fun H locs h1 h2 hS => kk xi rs r0 r1 rc rt tp kd qa sn sf sg mi st_o rp_o tm cr cw ik ln lg ce H locs ⟨h1, h2⟩ hS hR1)
  · have hk := hk
    rcases hk with hk | hk | hk | hk
    · obtain ⟨hkd, r, rs_o, rt_o, st_o, rp_o, eX, eM, hR1⟩ := hk
      have hp := PD.to0 hP hj hkd
      exact lo_41s0 C hl hi hj ha1 hp.1 hp.2 hS hc hs eX eM (fun H locs h1 h2 hS => kk xi rs_o r0 r1 rc rt_o tp kd qa sn sf sg mi st_o rp_o tm cr cw ik ln lg ce H locs (PD.of0 (show PD D A _ _ from ⟨h1, h2⟩) hj hkd) hS hR1)
    · obtain ⟨hkd, r, rs_o, rt_o, st_o, rp_o, eX, eM, hR1⟩ := hk
      have hne : kd j ≠ 0 := by omega
      have hsn := lw_sn hR hj
      have hp := PD.toE hP hj hne (sE_1 hkd)
      exact lo_41s1 C hl hi hj ha1 hsn hp.1 hp.2 hS hc hs eX eM (fun H locs h1 h2 hS => kk xi rs_o r0 r1 rc rt_o tp kd qa sn sf sg mi st_o rp_o tm cr cw ik ln lg ce H locs (PD.ofE (show PD D A _ _ from ⟨h1, h2⟩) hj hne (sE_1 hkd)) hS hR1)
    · obtain ⟨hkd, r, rs_o, rt_o, st_o, rp_o, eX, eM, hR1⟩ := hk
      have hne : kd j ≠ 0 := by omega
      have hsn := lw_sn hR hj
      have hp := PD.toE hP hj hne (sE_2 hkd)
      exact lo_41s2 C hl hi hj ha1 hsn hp.1 hp.2 hS hc hs eX eM (fun H locs h1 h2 hS => kk xi rs_o r0 r1 rc rt_o tp kd qa sn sf sg mi st_o rp_o tm cr cw ik ln lg ce H locs (PD.ofE (show PD D A _ _ from ⟨h1, h2⟩) hj hne (sE_2 hkd)) hS hR1)
    · obtain ⟨hkd, r, rs_o, rt_o, st_o, rp_o, eX, eM, hR1⟩ := hk
      have hne : kd j ≠ 0 := by omega
      have hsn := lw_sn hR hj
      have hp := PD.toE hP hj hne (sE_3 hkd)
      exact lo_41s3 C hl hi hj ha1 hsn hp.1 hp.2 hS hc hs eX eM (fun H locs h1 h2 hS => kk xi rs_o r0 r1 rc rt_o tp kd qa sn sf sg mi st_o rp_o tm cr cw ik ln lg ce H locs (PD.ofE (show PD D A _ _ from ⟨h1, h2⟩) hj hne (sE_3 hkd)) hS hR1)
set_option maxHeartbeats 4000000 in
theorem lz_42 (C : LC p l s m meth c b L xs D k A) (hl : LL ls b (xa 0) (ma 0) i) (hi : i + 5 ≤ L) (hP : PD D A ((LA k xa sa ra ma xi rs r0 r1 rc rt tp mi st rp tm cr cw ik ln lg ce) ++ (LT k sa kd qa sn sf sg)) H) (hS : va_S A s.heap H locs) (hR : Rel xi rs r0 r1 rt tp kd sn sf sg mi st tm ik ln lg ce) (hc : cells ≤ 1000) (hs : slots ≤ 100000)
    (kk : ∀ (xi : Nat → Int32) (rs : RS) (r0 : RS) (r1 : RS) (rc : RS) (rt : RS) (tp : Nat → Int32) (kd : Nat → Nat) (qa : Nat → Nat) (sn : Nat → Nat) (sf : Nat → Nat → Int32) (sg : Nat → Nat → Int64) (mi : Nat → Int32) (st : Nat → Int32) (rp : Nat → Int32) (tm : Nat → Int32) (cr : Nat → Int32) (cw : Nat → Int32) (ik : Nat → Int32) (ln : Nat → Int32) (lg : Nat → Int32) (ce : Nat → Int64) (H1 : Heap) (locs1 : List Loc), PD D A ((LA k xa sa ra ma xi rs r0 r1 rc rt tp mi st rp tm cr cw ik ln lg ce) ++ (LT k sa kd qa sn sf sg)) H1 → va_S A s.heap H1 locs1 → Rel xi rs r0 r1 rt tp kd sn sf sg mi st tm ik ln lg ce → W p l e room_1 s m #[Value.ref b] below meth c H1 locs1 (cells + 9) (slots + 300) Q (F0 m 1614 ls [])) : W p l e room_1 s m #[Value.ref b] below meth c H locs cells slots Q (F0 m 1535 ls []) := by
  rcases op_42 hR (xs (i + 1)) (xs (i + 2)) (xs (i + 3)) with ⟨r, mi_o, ce_o, eX, eM, hR1⟩ | ⟨j, hj, ha1, hk⟩
  · exact lo_42x C hl hi hP.1 hP.2 hS hc hs eX eM (fun H locs h1 h2 hS => kk xi rs r0 r1 rc rt tp kd qa sn sf sg mi_o st rp tm cr cw ik ln lg ce_o H locs ⟨h1, h2⟩ hS hR1)
  · have hk := hk
    rcases hk with hk | hk | hk | hk
    · obtain ⟨hkd, r, xi_o, mi_o, ce_o, eX, eM, hR1⟩ := hk
      have hp := PD.to0 hP hj hkd
      exact lo_42s0 C hl hi hj ha1 hp.1 hp.2 hS hc hs eX eM (fun H locs h1 h2 hS => kk xi_o rs r0 r1 rc rt tp kd qa sn sf sg mi_o st rp tm cr cw ik ln lg ce_o H locs (PD.of0 (show PD D A _ _ from ⟨h1, h2⟩) hj hkd) hS hR1)
    · obtain ⟨hkd, r, xi_o, sf_o, mi_o, ce_o, eX, eM, hR1⟩ := hk
      have hne : kd j ≠ 0 := by omega
      have hsn := lw_sn hR hj
      have hp := PD.toE hP hj hne (sE_1 hkd)
      exact lo_42s1 C hl hi hj ha1 hsn hp.1 hp.2 hS hc hs eX eM (fun H locs h1 h2 hS => kk xi_o rs r0 r1 rc rt tp kd qa sn (updF sf j sf_o) sg mi_o st rp tm cr cw ik ln lg ce_o H locs (PD.ofU (e := (qa j, .inl (k 3, sn j, .inl sf_o))) (sf' := (updF sf j sf_o)) (sg' := sg) ⟨h1, h2⟩ hj rfl hne (by rw [sE_1 hkd, updF_same]) (fun i9 h9 => ⟨rfl, rfl, rfl, updF_other h9, rfl⟩)) hS hR1)
    · obtain ⟨hkd, r, xi_o, sf_o, mi_o, ce_o, eX, eM, hR1⟩ := hk
      have hne : kd j ≠ 0 := by omega
      have hsn := lw_sn hR hj
      have hp := PD.toE hP hj hne (sE_2 hkd)
      exact lo_42s2 C hl hi hj ha1 hsn hp.1 hp.2 hS hc hs eX eM (fun H locs h1 h2 hS => kk xi_o rs r0 r1 rc rt tp kd qa sn (updF sf j sf_o) sg mi_o st rp tm cr cw ik ln lg ce_o H locs (PD.ofU (e := (qa j, .inl (k 1, sn j, .inl sf_o))) (sf' := (updF sf j sf_o)) (sg' := sg) ⟨h1, h2⟩ hj rfl hne (by rw [sE_2 hkd, updF_same]) (fun i9 h9 => ⟨rfl, rfl, rfl, updF_other h9, rfl⟩)) hS hR1)
    · obtain ⟨hkd, r, xi_o, sg_o, mi_o, ce_o, eX, eM, hR1⟩ := hk
      have hne : kd j ≠ 0 := by omega
      have hsn := lw_sn hR hj
      have hp := PD.toE hP hj hne (sE_3 hkd)
      exact lo_42s3 C hl hi hj ha1 hsn hp.1 hp.2 hS hc hs eX eM (fun H locs h1 h2 hS => kk xi_o rs r0 r1 rc rt tp kd qa sn sf (updF sg j sg_o) mi_o st rp tm cr cw ik ln lg ce_o H locs (PD.ofU (e := (qa j, .inl (k 0, sn j, .inr (.inl sg_o)))) (sf' := sf) (sg' := (updF sg j sg_o)) ⟨h1, h2⟩ hj rfl hne (by rw [sE_3 hkd, updF_same]) (fun i9 h9 => ⟨rfl, rfl, rfl, rfl, updF_other h9⟩)) hS hR1)
set_option maxHeartbeats 4000000 in
theorem lz_43 (C : LC p l s m meth c b L xs D k A) (hl : LL ls b (xa 0) (ma 0) i) (hi : i + 5 ≤ L) (hP : PD D A ((LA k xa sa ra ma xi rs r0 r1 rc rt tp mi st rp tm cr cw ik ln lg ce) ++ (LT k sa kd qa sn sf sg)) H) (hS : va_S A s.heap H locs) (hR : Rel xi rs r0 r1 rt tp kd sn sf sg mi st tm ik ln lg ce) (hc : cells ≤ 1000) (hs : slots ≤ 100000)
    (kk : ∀ (xi : Nat → Int32) (rs : RS) (r0 : RS) (r1 : RS) (rc : RS) (rt : RS) (tp : Nat → Int32) (kd : Nat → Nat) (qa : Nat → Nat) (sn : Nat → Nat) (sf : Nat → Nat → Int32) (sg : Nat → Nat → Int64) (mi : Nat → Int32) (st : Nat → Int32) (rp : Nat → Int32) (tm : Nat → Int32) (cr : Nat → Int32) (cw : Nat → Int32) (ik : Nat → Int32) (ln : Nat → Int32) (lg : Nat → Int32) (ce : Nat → Int64) (H1 : Heap) (locs1 : List Loc), PD D A ((LA k xa sa ra ma xi rs r0 r1 rc rt tp mi st rp tm cr cw ik ln lg ce) ++ (LT k sa kd qa sn sf sg)) H1 → va_S A s.heap H1 locs1 → Rel xi rs r0 r1 rt tp kd sn sf sg mi st tm ik ln lg ce → W p l e room_1 s m #[Value.ref b] below meth c H1 locs1 (cells + 9) (slots + 300) Q (F0 m 1614 ls [])) : W p l e room_1 s m #[Value.ref b] below meth c H locs cells slots Q (F0 m 1578 ls []) := by
  obtain ⟨r, eX, eM, hR1⟩ := op_43 hR 
  exact lo_43 C hl hi hP.1 hP.2 hS hc hs eX eM (fun H locs h1 h2 hS => kk xi rs r0 r1 rc rt tp kd qa sn sf sg mi st rp tm cr cw ik ln lg ce H locs ⟨h1, h2⟩ hS hR1)
set_option maxHeartbeats 4000000 in
theorem lz_44 (C : LC p l s m meth c b L xs D k A) (hl : LL ls b (xa 0) (ma 0) i) (hi : i + 5 ≤ L) (hP : PD D A ((LA k xa sa ra ma xi rs r0 r1 rc rt tp mi st rp tm cr cw ik ln lg ce) ++ (LT k sa kd qa sn sf sg)) H) (hS : va_S A s.heap H locs) (hR : Rel xi rs r0 r1 rt tp kd sn sf sg mi st tm ik ln lg ce) (hc : cells ≤ 1000) (hs : slots ≤ 100000)
    (kk : ∀ (xi : Nat → Int32) (rs : RS) (r0 : RS) (r1 : RS) (rc : RS) (rt : RS) (tp : Nat → Int32) (kd : Nat → Nat) (qa : Nat → Nat) (sn : Nat → Nat) (sf : Nat → Nat → Int32) (sg : Nat → Nat → Int64) (mi : Nat → Int32) (st : Nat → Int32) (rp : Nat → Int32) (tm : Nat → Int32) (cr : Nat → Int32) (cw : Nat → Int32) (ik : Nat → Int32) (ln : Nat → Int32) (lg : Nat → Int32) (ce : Nat → Int64) (H1 : Heap) (locs1 : List Loc), PD D A ((LA k xa sa ra ma xi rs r0 r1 rc rt tp mi st rp tm cr cw ik ln lg ce) ++ (LT k sa kd qa sn sf sg)) H1 → va_S A s.heap H1 locs1 → Rel xi rs r0 r1 rt tp kd sn sf sg mi st tm ik ln lg ce → W p l e room_1 s m #[Value.ref b] below meth c H1 locs1 (cells + 9) (slots + 300) Q (F0 m 1614 ls [])) : W p l e room_1 s m #[Value.ref b] below meth c H locs cells slots Q (F0 m 1591 ls []) := by
  obtain ⟨j, hj0, hk⟩ := op_44 hR (xs (i + 1))
  have hj : j < 4 := by omega
  subst hj0
  rcases hk with hk | hk | hk | hk
  · obtain ⟨hkd, r, eX, eM, hR1⟩ := hk
    have hp := PD.to0 hP hj hkd
    exact lo_44s0 C hl hi hp.1 hp.2 hS hc hs eX eM (fun H locs h1 h2 hS => kk xi rs r0 r1 rc rt tp kd qa sn sf sg mi st rp tm cr cw ik ln lg ce H locs (PD.of0 (show PD D A _ _ from ⟨h1, h2⟩) hj hkd) hS hR1)
  · obtain ⟨hkd, r, eX, eM, hR1⟩ := hk
    have hne : kd 0 ≠ 0 := by omega
    have hsn := lw_sn hR hj
    have hp := PD.toE hP hj hne (sE_1 hkd)
    exact lo_44s1 C hl hi hsn hp.1 hp.2 hS hc hs eX eM (fun H locs h1 h2 hS => kk xi rs r0 r1 rc rt tp kd qa sn sf sg mi st rp tm cr cw ik ln lg ce H locs (PD.ofE (show PD D A _ _ from ⟨h1, h2⟩) hj hne (sE_1 hkd)) hS hR1)
  · obtain ⟨hkd, r, eX, eM, hR1⟩ := hk
    have hne : kd 0 ≠ 0 := by omega
    have hsn := lw_sn hR hj
    have hp := PD.toE hP hj hne (sE_2 hkd)
    exact lo_44s2 C hl hi hsn hp.1 hp.2 hS hc hs eX eM (fun H locs h1 h2 hS => kk xi rs r0 r1 rc rt tp kd qa sn sf sg mi st rp tm cr cw ik ln lg ce H locs (PD.ofE (show PD D A _ _ from ⟨h1, h2⟩) hj hne (sE_2 hkd)) hS hR1)
  · obtain ⟨hkd, r, eX, eM, hR1⟩ := hk
    have hne : kd 0 ≠ 0 := by omega
    have hsn := lw_sn hR hj
    have hp := PD.toE hP hj hne (sE_3 hkd)
    exact lo_44s3 C hl hi hsn hp.1 hp.2 hS hc hs eX eM (fun H locs h1 h2 hS => kk xi rs r0 r1 rc rt tp kd qa sn sf sg mi st rp tm cr cw ik ln lg ce H locs (PD.ofE (show PD D A _ _ from ⟨h1, h2⟩) hj hne (sE_3 hkd)) hS hR1)
set_option maxHeartbeats 4000000 in
theorem lw_step (C : LC p l s m meth c b L xs D k A) (hl : LL ls b (xa 0) (ma 0) i) (hi : i + 5 ≤ L) (hP : PD D A ((LA k xa sa ra ma xi rs r0 r1 rc rt tp mi st rp tm cr cw ik ln lg ce) ++ (LT k sa kd qa sn sf sg)) H) (hS : va_S A s.heap H locs) (hR : Rel xi rs r0 r1 rt tp kd sn sf sg mi st tm ik ln lg ce) (hc : cells ≤ 1000) (hs : slots ≤ 100000)
    (kk : ∀ (xi : Nat → Int32) (rs : RS) (r0 : RS) (r1 : RS) (rc : RS) (rt : RS) (tp : Nat → Int32) (kd : Nat → Nat) (qa : Nat → Nat) (sn : Nat → Nat) (sf : Nat → Nat → Int32) (sg : Nat → Nat → Int64) (mi : Nat → Int32) (st : Nat → Int32) (rp : Nat → Int32) (tm : Nat → Int32) (cr : Nat → Int32) (cw : Nat → Int32) (ik : Nat → Int32) (ln : Nat → Int32) (lg : Nat → Int32) (ce : Nat → Int64) (H1 : Heap) (locs1 : List Loc), PD D A ((LA k xa sa ra ma xi rs r0 r1 rc rt tp mi st rp tm cr cw ik ln lg ce) ++ (LT k sa kd qa sn sf sg)) H1 → va_S A s.heap H1 locs1 → Rel xi rs r0 r1 rt tp kd sn sf sg mi st tm ik ln lg ce → W p l e room_1 s m #[Value.ref b] below meth c H1 locs1 (cells + 9) (slots + 300) Q (F0 m 1614 ls [])) : W p l e room_1 s m #[Value.ref b] below meth c H locs cells slots Q (F0 m 26 ls []) := by
  have C0 := C
  obtain ⟨hx, hb, hml, hown, hts, hK, hZ, hA, hX, hbl, hbA, hst, hL, hr, hlk⟩ := C0
  refine lv_aload_n hx hb dL_law_26 rfl (lv_at hl 0 rfl) ?_
  refine lv_iload_n hx hb dL_law_27 rfl (lv_at hl 3 rfl) ?_
  refine va_sld hx hb hX hbl hbA hS (i := nI i) (nI_in (by omega) (by omega)) dL_law_28 ?_
  rw [nI_clamp (by omega)]
  refine lv_bipush (v := 63) hx hb dL_law_29 (by decide) ?_
  refine lv_iand hx hb dL_law_31 ?_
  generalize xs i &&& 63 = v
  by_cases c0 : v = 0
  · refine lv_tableIn (off := 196) (tgt := 228) hx hb dL_law_32 (by rw [c0]; decide) (by rw [c0]; decide) (by rw [c0]; rfl) (by decide) ?_
    exact lz_0 C hl hi hP hS hR hc hs kk
  by_cases c1 : v = 1
  · refine lv_tableIn (off := 219) (tgt := 251) hx hb dL_law_32 (by rw [c1]; decide) (by rw [c1]; decide) (by rw [c1]; rfl) (by decide) ?_
    exact lz_1 C hl hi hP hS hR hc hs kk
  by_cases c2 : v = 2
  · refine lv_tableIn (off := 242) (tgt := 274) hx hb dL_law_32 (by rw [c2]; decide) (by rw [c2]; decide) (by rw [c2]; rfl) (by decide) ?_
    exact lz_2 C hl hi hP hS hR hc hs kk
  by_cases c3 : v = 3
  · refine lv_tableIn (off := 255) (tgt := 287) hx hb dL_law_32 (by rw [c3]; decide) (by rw [c3]; decide) (by rw [c3]; rfl) (by decide) ?_
    exact lz_3 C hl hi hP hS hR hc hs kk
  by_cases c4 : v = 4
  · refine lv_tableIn (off := 268) (tgt := 300) hx hb dL_law_32 (by rw [c4]; decide) (by rw [c4]; decide) (by rw [c4]; rfl) (by decide) ?_
    exact lz_4 C hl hi hP hS hR hc hs kk
  by_cases c5 : v = 5
  · refine lv_tableIn (off := 291) (tgt := 323) hx hb dL_law_32 (by rw [c5]; decide) (by rw [c5]; decide) (by rw [c5]; rfl) (by decide) ?_
    exact lz_5 C hl hi hP hS hR hc hs kk
  by_cases c6 : v = 6
  · refine lv_tableIn (off := 314) (tgt := 346) hx hb dL_law_32 (by rw [c6]; decide) (by rw [c6]; decide) (by rw [c6]; rfl) (by decide) ?_
    exact lz_6 C hl hi hP hS hR hc hs kk
  by_cases c7 : v = 7
  · refine lv_tableIn (off := 337) (tgt := 369) hx hb dL_law_32 (by rw [c7]; decide) (by rw [c7]; decide) (by rw [c7]; rfl) (by decide) ?_
    exact lz_7 C hl hi hP hS hR hc hs kk
  by_cases c8 : v = 8
  · refine lv_tableIn (off := 370) (tgt := 402) hx hb dL_law_32 (by rw [c8]; decide) (by rw [c8]; decide) (by rw [c8]; rfl) (by decide) ?_
    exact lz_8 C hl hi hP hS hR hc hs kk
  by_cases c9 : v = 9
  · refine lv_tableIn (off := 403) (tgt := 435) hx hb dL_law_32 (by rw [c9]; decide) (by rw [c9]; decide) (by rw [c9]; rfl) (by decide) ?_
    exact lz_9 C hl hi hP hS hR hc hs kk
  by_cases c10 : v = 10
  · refine lv_tableIn (off := 436) (tgt := 468) hx hb dL_law_32 (by rw [c10]; decide) (by rw [c10]; decide) (by rw [c10]; rfl) (by decide) ?_
    exact lz_10 C hl hi hP hS hR hc hs kk
  by_cases c11 : v = 11
  · refine lv_tableIn (off := 469) (tgt := 501) hx hb dL_law_32 (by rw [c11]; decide) (by rw [c11]; decide) (by rw [c11]; rfl) (by decide) ?_
    exact lz_11 C hl hi hP hS hR hc hs kk
  by_cases c12 : v = 12
  · refine lv_tableIn (off := 492) (tgt := 524) hx hb dL_law_32 (by rw [c12]; decide) (by rw [c12]; decide) (by rw [c12]; rfl) (by decide) ?_
    exact lz_12 C hl hi hP hS hR hc hs kk
  by_cases c13 : v = 13
  · refine lv_tableIn (off := 535) (tgt := 567) hx hb dL_law_32 (by rw [c13]; decide) (by rw [c13]; decide) (by rw [c13]; rfl) (by decide) ?_
    exact lz_13 C hl hi hP hS hR hc hs kk
  by_cases c14 : v = 14
  · refine lv_tableIn (off := 568) (tgt := 600) hx hb dL_law_32 (by rw [c14]; decide) (by rw [c14]; decide) (by rw [c14]; rfl) (by decide) ?_
    exact lz_14 C hl hi hP hS hR hc hs kk
  by_cases c15 : v = 15
  · refine lv_tableIn (off := 601) (tgt := 633) hx hb dL_law_32 (by rw [c15]; decide) (by rw [c15]; decide) (by rw [c15]; rfl) (by decide) ?_
    exact lz_15 C hl hi hP hS hR hc hs kk
  by_cases c16 : v = 16
  · refine lv_tableIn (off := 634) (tgt := 666) hx hb dL_law_32 (by rw [c16]; decide) (by rw [c16]; decide) (by rw [c16]; rfl) (by decide) ?_
    exact lz_16 C hl hi hP hS hR hc hs kk
  by_cases c17 : v = 17
  · refine lv_tableIn (off := 657) (tgt := 689) hx hb dL_law_32 (by rw [c17]; decide) (by rw [c17]; decide) (by rw [c17]; rfl) (by decide) ?_
    exact lz_17 C hl hi hP hS hR hc hs kk
  by_cases c18 : v = 18
  · refine lv_tableIn (off := 690) (tgt := 722) hx hb dL_law_32 (by rw [c18]; decide) (by rw [c18]; decide) (by rw [c18]; rfl) (by decide) ?_
    exact lz_18 C hl hi hP hS hR hc hs kk
  by_cases c19 : v = 19
  · refine lv_tableIn (off := 723) (tgt := 755) hx hb dL_law_32 (by rw [c19]; decide) (by rw [c19]; decide) (by rw [c19]; rfl) (by decide) ?_
    exact lz_19 C hl hi hP hS hR hc hs kk
  by_cases c20 : v = 20
  · refine lv_tableIn (off := 756) (tgt := 788) hx hb dL_law_32 (by rw [c20]; decide) (by rw [c20]; decide) (by rw [c20]; rfl) (by decide) ?_
    exact lz_20 C hl hi hP hS hR hc hs kk
  by_cases c21 : v = 21
  · refine lv_tableIn (off := 789) (tgt := 821) hx hb dL_law_32 (by rw [c21]; decide) (by rw [c21]; decide) (by rw [c21]; rfl) (by decide) ?_
    exact lz_21 C hl hi hP hS hR hc hs kk
  by_cases c22 : v = 22
  · refine lv_tableIn (off := 822) (tgt := 854) hx hb dL_law_32 (by rw [c22]; decide) (by rw [c22]; decide) (by rw [c22]; rfl) (by decide) ?_
    exact lz_22 C hl hi hP hS hR hc hs kk
  by_cases c23 : v = 23
  · refine lv_tableIn (off := 845) (tgt := 877) hx hb dL_law_32 (by rw [c23]; decide) (by rw [c23]; decide) (by rw [c23]; rfl) (by decide) ?_
    exact lz_23 C hl hi hP hS hR hc hs kk
  by_cases c24 : v = 24
  · refine lv_tableIn (off := 878) (tgt := 910) hx hb dL_law_32 (by rw [c24]; decide) (by rw [c24]; decide) (by rw [c24]; rfl) (by decide) ?_
    exact lz_24 C hl hi hP hS hR hc hs kk
  by_cases c25 : v = 25
  · refine lv_tableIn (off := 901) (tgt := 933) hx hb dL_law_32 (by rw [c25]; decide) (by rw [c25]; decide) (by rw [c25]; rfl) (by decide) ?_
    exact lz_25 C hl hi hP hS hR hc hs kk
  by_cases c26 : v = 26
  · refine lv_tableIn (off := 934) (tgt := 966) hx hb dL_law_32 (by rw [c26]; decide) (by rw [c26]; decide) (by rw [c26]; rfl) (by decide) ?_
    exact lz_26 C hl hi hP hS hR hc hs kk
  by_cases c27 : v = 27
  · refine lv_tableIn (off := 967) (tgt := 999) hx hb dL_law_32 (by rw [c27]; decide) (by rw [c27]; decide) (by rw [c27]; rfl) (by decide) ?_
    exact lz_27 C hl hi hP hS hR hc hs kk
  by_cases c28 : v = 28
  · refine lv_tableIn (off := 990) (tgt := 1022) hx hb dL_law_32 (by rw [c28]; decide) (by rw [c28]; decide) (by rw [c28]; rfl) (by decide) ?_
    exact lz_28 C hl hi hP hS hR hc hs kk
  by_cases c29 : v = 29
  · refine lv_tableIn (off := 1013) (tgt := 1045) hx hb dL_law_32 (by rw [c29]; decide) (by rw [c29]; decide) (by rw [c29]; rfl) (by decide) ?_
    exact lz_29 C hl hi hP hS hR hc hs kk
  by_cases c30 : v = 30
  · refine lv_tableIn (off := 1056) (tgt := 1088) hx hb dL_law_32 (by rw [c30]; decide) (by rw [c30]; decide) (by rw [c30]; rfl) (by decide) ?_
    exact lz_30 C hl hi hP hS hR hc hs kk
  by_cases c31 : v = 31
  · refine lv_tableIn (off := 1079) (tgt := 1111) hx hb dL_law_32 (by rw [c31]; decide) (by rw [c31]; decide) (by rw [c31]; rfl) (by decide) ?_
    exact lz_31 C hl hi hP hS hR hc hs kk
  by_cases c32 : v = 32
  · refine lv_tableIn (off := 1102) (tgt := 1134) hx hb dL_law_32 (by rw [c32]; decide) (by rw [c32]; decide) (by rw [c32]; rfl) (by decide) ?_
    exact lz_32 C hl hi hP hS hR hc hs kk
  by_cases c33 : v = 33
  · refine lv_tableIn (off := 1155) (tgt := 1187) hx hb dL_law_32 (by rw [c33]; decide) (by rw [c33]; decide) (by rw [c33]; rfl) (by decide) ?_
    exact lz_33 C hl hi hP hS hR hc hs kk
  by_cases c34 : v = 34
  · refine lv_tableIn (off := 1178) (tgt := 1210) hx hb dL_law_32 (by rw [c34]; decide) (by rw [c34]; decide) (by rw [c34]; rfl) (by decide) ?_
    exact lz_34 C hl hi hP hS hR hc hs kk
  by_cases c35 : v = 35
  · refine lv_tableIn (off := 1221) (tgt := 1253) hx hb dL_law_32 (by rw [c35]; decide) (by rw [c35]; decide) (by rw [c35]; rfl) (by decide) ?_
    exact lz_35 C hl hi hP hS hR hc hs kk
  by_cases c36 : v = 36
  · refine lv_tableIn (off := 1254) (tgt := 1286) hx hb dL_law_32 (by rw [c36]; decide) (by rw [c36]; decide) (by rw [c36]; rfl) (by decide) ?_
    exact lz_36 C hl hi hP hS hR hc hs kk
  by_cases c37 : v = 37
  · refine lv_tableIn (off := 1277) (tgt := 1309) hx hb dL_law_32 (by rw [c37]; decide) (by rw [c37]; decide) (by rw [c37]; rfl) (by decide) ?_
    exact lz_37 C hl hi hP hS hR hc hs kk
  by_cases c38 : v = 38
  · refine lv_tableIn (off := 1300) (tgt := 1332) hx hb dL_law_32 (by rw [c38]; decide) (by rw [c38]; decide) (by rw [c38]; rfl) (by decide) ?_
    exact lz_38 C hl hi hP hS hR hc hs kk
  by_cases c39 : v = 39
  · refine lv_tableIn (off := 1343) (tgt := 1375) hx hb dL_law_32 (by rw [c39]; decide) (by rw [c39]; decide) (by rw [c39]; rfl) (by decide) ?_
    exact lz_39 C hl hi hP hS hR hc hs kk
  by_cases c40 : v = 40
  · refine lv_tableIn (off := 1416) (tgt := 1448) hx hb dL_law_32 (by rw [c40]; decide) (by rw [c40]; decide) (by rw [c40]; rfl) (by decide) ?_
    exact lz_40 C hl hi hP hS hR hc hs kk
  by_cases c41 : v = 41
  · refine lv_tableIn (off := 1450) (tgt := 1482) hx hb dL_law_32 (by rw [c41]; decide) (by rw [c41]; decide) (by rw [c41]; rfl) (by decide) ?_
    exact lz_41 C hl hi hP hS hR hc hs kk
  by_cases c42 : v = 42
  · refine lv_tableIn (off := 1503) (tgt := 1535) hx hb dL_law_32 (by rw [c42]; decide) (by rw [c42]; decide) (by rw [c42]; rfl) (by decide) ?_
    exact lz_42 C hl hi hP hS hR hc hs kk
  by_cases c43 : v = 43
  · refine lv_tableIn (off := 1546) (tgt := 1578) hx hb dL_law_32 (by rw [c43]; decide) (by rw [c43]; decide) (by rw [c43]; rfl) (by decide) ?_
    exact lz_43 C hl hi hP hS hR hc hs kk
  by_cases c44 : v = 44
  · refine lv_tableIn (off := 1559) (tgt := 1591) hx hb dL_law_32 (by rw [c44]; decide) (by rw [c44]; decide) (by rw [c44]; rfl) (by decide) ?_
    exact lz_44 C hl hi hP hS hR hc hs kk
  refine lv_tableOut (tgt := 1614) hx hb dL_law_32 (tb_out 45 (fun j hj => match j, hj with
    | 0, _ => c0
    | 1, _ => c1
    | 2, _ => c2
    | 3, _ => c3
    | 4, _ => c4
    | 5, _ => c5
    | 6, _ => c6
    | 7, _ => c7
    | 8, _ => c8
    | 9, _ => c9
    | 10, _ => c10
    | 11, _ => c11
    | 12, _ => c12
    | 13, _ => c13
    | 14, _ => c14
    | 15, _ => c15
    | 16, _ => c16
    | 17, _ => c17
    | 18, _ => c18
    | 19, _ => c19
    | 20, _ => c20
    | 21, _ => c21
    | 22, _ => c22
    | 23, _ => c23
    | 24, _ => c24
    | 25, _ => c25
    | 26, _ => c26
    | 27, _ => c27
    | 28, _ => c28
    | 29, _ => c29
    | 30, _ => c30
    | 31, _ => c31
    | 32, _ => c32
    | 33, _ => c33
    | 34, _ => c34
    | 35, _ => c35
    | 36, _ => c36
    | 37, _ => c37
    | 38, _ => c38
    | 39, _ => c39
    | 40, _ => c40
    | 41, _ => c41
    | 42, _ => c42
    | 43, _ => c43
    | 44, _ => c44
    | j + 45, hj => absurd hj (by omega))) (by decide) ?_
  exact W.widen (k := cells + 9) (n := slots + 300) (by omega) (by omega) (kk xi rs r0 r1 rc rt tp kd qa sn sf sg mi st rp tm cr cw ik ln lg ce H locs hP hS hR)
theorem lw_gt {L i : Nat} (hL : L ≤ 120) (hi : i ≤ L) : (nI L - 5 < nI i) ↔ L < i + 5 := by
  have h1 : (nI L - 5).toInt = (L : Int) - 5 := by
    rw [show (5 : Int32) = nI 5 from rfl, Int32.toInt_sub, nI_toInt (by omega), nI_toInt (by omega)]
    rw [Int.bmod_def]
    split <;> omega
  rw [Int32.lt_iff_toInt_lt, h1, nI_toInt (by omega)]
  omega
set_option maxHeartbeats 4000000 in
theorem lw_loop (C : LC p l s m meth c b L xs D k A) (hAA : ∀ q, A q → s.heap.size ≤ q) : ∀ (d t : Nat) (xi : Nat → Int32) (rs : RS) (r0 : RS) (r1 : RS) (rc : RS) (rt : RS) (tp : Nat → Int32) (kd : Nat → Nat) (qa : Nat → Nat) (sn : Nat → Nat) (sf : Nat → Nat → Int32) (sg : Nat → Nat → Int64) (mi : Nat → Int32) (st : Nat → Int32) (rp : Nat → Int32) (tm : Nat → Int32) (cr : Nat → Int32) (cw : Nat → Int32) (ik : Nat → Int32) (ln : Nat → Int32) (lg : Nat → Int32) (ce : Nat → Int64) (H : Heap) (locs : List Loc) (ls : Array Slot), L - 5 * t ≤ d → 5 * t ≤ L → LL ls b (xa 0) (ma 0) (5 * t) → PD D A ((LA k xa sa ra ma xi rs r0 r1 rc rt tp mi st rp tm cr cw ik ln lg ce) ++ (LT k sa kd qa sn sf sg)) H → va_S A s.heap H locs → Rel xi rs r0 r1 rt tp kd sn sf sg mi st tm ik ln lg ce → W p l e room_1 s m #[Value.ref b] below meth c H locs (100 + 9 * t) (3000 + 300 * t) (lw_Z below #[Value.ref b] s) (F0 m 18 ls []) := by
  have C0 := C
  obtain ⟨hx, hb, hml, hown, hts, hK, hZ, hA, hX, hbl, hbA, hst, hL, hr, hlk⟩ := C0
  intro d
  induction d with
  | zero =>
    intro t xi rs r0 r1 rc rt tp kd qa sn sf sg mi st rp tm cr cw ik ln lg ce H locs ls hd ht hl hP hS hR
    refine lv_iload_n hx hb dL_law_18 rfl (lv_at hl 3 rfl) ?_
    refine lv_aload_n hx hb dL_law_19 rfl (lv_at hl 0 rfl) ?_
    refine va_slen hx hb hX hbl hbA hS dL_law_20 ?_
    refine lv_iconst (v := 5) hx hb dL_law_21 (by decide) ?_
    refine lv_isub hx hb dL_law_22 ?_
    refine lv_icmp_gt (tgt := 1620) hx hb dL_law_23 (by decide) (fun _ => ?_) (fun c9 => absurd ((lw_gt hL ht).mpr (by omega)) c9)
    refine lv_iconst (v := 1) hx hb dL_law_1620 (by decide) ?_
    refine va_forget (fun q hq => hAA _ (hS.2.2 q hq)) ?_
    refine W.widen (k := 1200144) (n := 5500378) (by omega) (by omega) ?_
    exact lw_ret hx hb hr hlk dL_law_1621
  | succ d ih =>
    intro t xi rs r0 r1 rc rt tp kd qa sn sf sg mi st rp tm cr cw ik ln lg ce H locs ls hd ht hl hP hS hR
    refine lv_iload_n hx hb dL_law_18 rfl (lv_at hl 3 rfl) ?_
    refine lv_aload_n hx hb dL_law_19 rfl (lv_at hl 0 rfl) ?_
    refine va_slen hx hb hX hbl hbA hS dL_law_20 ?_
    refine lv_iconst (v := 5) hx hb dL_law_21 (by decide) ?_
    refine lv_isub hx hb dL_law_22 ?_
    refine lv_icmp_gt (tgt := 1620) hx hb dL_law_23 (by decide) (fun _ => ?_) (fun c9 => ?_)
    · refine lv_iconst (v := 1) hx hb dL_law_1620 (by decide) ?_
      refine va_forget (fun q hq => hAA _ (hS.2.2 q hq)) ?_
      refine W.widen (k := 1200144) (n := 5500378) (by omega) (by omega) ?_
      exact lw_ret hx hb hr hlk dL_law_1621
    · have h5 : 5 * t + 5 ≤ L := by
        rcases Nat.lt_or_ge L (5 * t + 5) with h | h
        · exact absurd ((lw_gt hL ht).mpr h) c9
        · exact h
      refine lw_step C hl h5 hP hS hR (by omega) (by omega) (fun xi rs r0 r1 rc rt tp kd qa sn sf sg mi st rp tm cr cw ik ln lg ce H locs hP hS hR => ?_)
      refine lv_iinc (v := nI (5 * (t + 1))) (lv' := [(3, .int (nI (5 * (t + 1)))), (0, .ref b), (1, .ref (xa 0)), (2, .ref (ma 0))]) hx hb dL_law_1614 hl (k := 3) rfl (by rw [show Int32.ofInt 5 = nI 5 from rfl, nI_add]; rfl) (by decide) rfl (fun ls hl => ?_)
      refine lv_goto (tgt := 18) hx hb dL_law_1617 (by decide) ?_
      exact ih (t + 1) xi rs r0 r1 rc rt tp kd qa sn sf sg mi st rp tm cr cw ik ln lg ce H locs ls (by omega) (by omega) (lv_sub hl [1, 2, 3, 0] rfl) hP hS hR
end LO
