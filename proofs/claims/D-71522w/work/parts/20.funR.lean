/-! functions of Row, by program -/
set_option maxRecDepth 100000
def fJ3_bitCount (p1 : Int64) : Option (Int32) :=
  (some ((p1 - ((((p1).toUInt64 >>> (((1 : Int32)).toInt64.toUInt64 &&& Int64.toUInt64 63)).toInt64) &&& (6148914691236517205 : Int64))) : Int64)).bind fun y1 =>
    (some (((y1 &&& (3689348814741910323 : Int64)) + ((((y1).toUInt64 >>> (((2 : Int32)).toInt64.toUInt64 &&& Int64.toUInt64 63)).toInt64) &&& (3689348814741910323 : Int64))) : Int64)).bind fun y2 =>
    (some (((y2 + (((y2).toUInt64 >>> (((4 : Int32)).toInt64.toUInt64 &&& Int64.toUInt64 63)).toInt64)) &&& (1085102592571150095 : Int64)) : Int64)).bind fun y3 =>
    (some ((y3 + (((y3).toUInt64 >>> (((8 : Int32)).toInt64.toUInt64 &&& Int64.toUInt64 63)).toInt64)) : Int64)).bind fun y4 =>
    (some ((y4 + (((y4).toUInt64 >>> (((16 : Int32)).toInt64.toUInt64 &&& Int64.toUInt64 63)).toInt64)) : Int64)).bind fun y5 =>
    (some ((y5 + (((y5).toUInt64 >>> (((32 : Int32)).toInt64.toUInt64 &&& Int64.toUInt64 63)).toInt64)) : Int64)).bind fun y6 =>
    some (((y6).toInt32) &&& (127 : Int32))

def fJ13_bitCount (p1 : Int32) : Option (Int32) :=
  (some ((p1 - ((((p1).toUInt32 >>> (((1 : Int32)).toUInt32 &&& Int32.toUInt32 31)).toInt32) &&& (1431655765 : Int32))) : Int32)).bind fun y1 =>
    (some (((y1 &&& (858993459 : Int32)) + ((((y1).toUInt32 >>> (((2 : Int32)).toUInt32 &&& Int32.toUInt32 31)).toInt32) &&& (858993459 : Int32))) : Int32)).bind fun y2 =>
    (some (((y2 + (((y2).toUInt32 >>> (((4 : Int32)).toUInt32 &&& Int32.toUInt32 31)).toInt32)) &&& (252645135 : Int32)) : Int32)).bind fun y3 =>
    (some ((y3 + (((y3).toUInt32 >>> (((8 : Int32)).toUInt32 &&& Int32.toUInt32 31)).toInt32)) : Int32)).bind fun y4 =>
    (some ((y4 + (((y4).toUInt32 >>> (((16 : Int32)).toUInt32 &&& Int32.toUInt32 31)).toInt32)) : Int32)).bind fun y5 =>
    some (y5 &&& (63 : Int32))

def fX1_isOpen (rs : RS) (p1 : Int32) : Option (Int32) :=
  (rdL 2 (rW rs) (p1 / (64 : Int32))).bind fun v1 =>
    if (lg_cmp ((((v1).toUInt64 >>> (((p1 - p1 / (64 : Int32) * (64 : Int32))).toInt64.toUInt64 &&& Int64.toUInt64 63)).toInt64) &&& (1 : Int64)) (1 : Int64)) = 0 then
    some (1 : Int32)
  else
    some (0 : Int32)

def fX1_step (rs : RS) (p1 : Int32) : Option (Int32) :=
  (fX1_isOpen rs p1).bind fun v1 =>
    if v1 = 0 then
    some (-1 : Int32)
  else
    some (1 : Int32)

def fX1_comesTo (rs : RS) (p1 : Int32) (p2 : Int32) (p3 : Int32) : Option (Int32) :=
  (rdI 16 (rL rs) p1).bind fun v1 =>
    if p3 < (p2 + v1) then
    some (0 : Int32)
  else
    (rdI 16 (rH rs) p1).bind fun v3 =>
      if (p2 + v3) < p3 then
      some (0 : Int32)
    else
      some (1 : Int32)

def fX1_opens_B45 (rs : RS) (p1 : Int32) (k4 : Int32 → Int32 → Option (Int32)) (x2_45 : Int32) (x3_45 : Int32) (s0_45 : Int64) : Option (Int32) :=
    (rdL 2 (rW rs) x3_45).bind fun v4 =>
            (fJ3_bitCount (v4 &&& s0_45)).bind fun v5 =>
            (some ((x2_45 + v5) : Int32)).bind fun y7 =>
            k4 y7 (x3_45 + 1)
def fX1_opens_L4 (rs : RS) (p1 : Int32) : Nat → Int32 → Int32 → Option (Int32)
  | 0, _, _ => none
  | nn + 1, x2_4, x3_4 =>
    if (2 : Int32) ≤ x3_4 then
        some x2_4
      else
        (some ((max32 (0 : Int32) (min32 (64 : Int32) (p1 - ((64 : Int32) * x3_4)))) : Int32)).bind fun y2 =>
          if y2 = (64 : Int32) then
          fX1_opens_B45 rs p1 (fX1_opens_L4 rs p1 nn) x2_4 x3_4 (-1 : Int64)
        else
          fX1_opens_B45 rs p1 (fX1_opens_L4 rs p1 nn) x2_4 x3_4 ((((1 : Int64) <<< ((y2).toInt64 &&& 63))) - (1 : Int64))
def fX1_opens (rs : RS) (p1 : Int32) : Option (Int32) :=
  fX1_opens_L4 rs p1 FU (0 : Int32) (0 : Int32)

def fX1_excess (rs : RS) (p1 : Int32) : Option (Int32) :=
  (fX1_opens rs p1).bind fun v1 =>
    some (((2 : Int32) * v1) - p1)

def fX1_becomes_B48 (p1 : Int32) (p2 : Int32) (rs_48 : RS) (s0_48 : Int64) (s1_48 : Int32) : Option (RS) :=
    (wrL 2 (rW rs_48) s1_48 s0_48).bind fun u3 =>
      some (rsW rs_48 u3)
def fX1_becomes (rs : RS) (p1 : Int32) (p2 : Int32) : Option (RS) :=
  (some ((((1 : Int64) <<< (((p1 - p1 / (64 : Int32) * (64 : Int32))).toInt64 &&& 63))) : Int64)).bind fun y1 =>
    if p2 = 0 then
    (rdL 2 (rW rs) (p1 / (64 : Int32))).bind fun v4 =>
      fX1_becomes_B48 p1 p2 rs (v4 &&& (y1 ^^^ (-1 : Int64))) (p1 / (64 : Int32))
  else
    (rdL 2 (rW rs) (p1 / (64 : Int32))).bind fun v5 =>
      fX1_becomes_B48 p1 p2 rs (v5 ||| y1) (p1 / (64 : Int32))

def fX1_summarise_L17 (p1 : Int32) : Nat → RS → Int32 → Int32 → Int32 → Int32 → Option (RS)
  | 0, _, _, _, _, _ => none
  | nn + 1, rs_17, x2_17, x3_17, x4_17, x5_17 =>
    if (min32 (rP rs_17) ((16 : Int32) * (p1 + (1 : Int32)))) ≤ x5_17 then
        (wrI 16 (rG rs_17) ((8 : Int32) + p1) (vp_nar .short ((x2_17).toInt16.toInt32))).bind fun u3 =>
          (wrI 16 (rL (rsG rs_17 u3)) ((8 : Int32) + p1) (vp_nar .short ((x3_17).toInt16.toInt32))).bind fun u4 =>
          (wrI 16 (rH (rsL (rsG rs_17 u3) u4)) ((8 : Int32) + p1) (vp_nar .short ((x4_17).toInt16.toInt32))).bind fun u5 =>
          some (rsH (rsL (rsG rs_17 u3) u4) u5)
      else
        (fX1_step rs_17 x5_17).bind fun v6 =>
          (some ((x2_17 + v6) : Int32)).bind fun y8 =>
          (some ((min32 x3_17 y8) : Int32)).bind fun y9 =>
          (some ((max32 x4_17 y8) : Int32)).bind fun y10 =>
          (fX1_summarise_L17 p1 nn) rs_17 y8 y9 y10 (x5_17 + 1)
def fX1_summarise (rs : RS) (p1 : Int32) : Option (RS) :=
  (some (((16 : Int32) * p1) : Int32)).bind fun y1 =>
    fX1_summarise_L17 p1 FU rs (0 : Int32) (1000 : Int32) (-1000 : Int32) y1

def fX1_summariseAll_L22 : Nat → RS → Int32 → Option (RS)
  | 0, _, _ => none
  | nn + 1, rs_22, x1_22 =>
    if x1_22 ≤ 0 then
              some rs_22
            else
              (rdI 16 (rG rs_22) ((2 : Int32) * x1_22)).bind fun v3 =>
                (rdI 16 (rG rs_22) (((2 : Int32) * x1_22) + (1 : Int32))).bind fun v4 =>
                (wrI 16 (rG rs_22) x1_22 (vp_nar .short (((v3 + v4)).toInt16.toInt32))).bind fun u5 =>
                (rdI 16 (rL (rsG rs_22 u5)) ((2 : Int32) * x1_22)).bind fun v6 =>
                (rdI 16 (rG (rsG rs_22 u5)) ((2 : Int32) * x1_22)).bind fun v7 =>
                (rdI 16 (rL (rsG rs_22 u5)) (((2 : Int32) * x1_22) + (1 : Int32))).bind fun v8 =>
                (wrI 16 (rL (rsG rs_22 u5)) x1_22 (vp_nar .short (((min32 v6 (v7 + v8))).toInt16.toInt32))).bind fun u9 =>
                (rdI 16 (rH (rsL (rsG rs_22 u5) u9)) ((2 : Int32) * x1_22)).bind fun v10 =>
                (rdI 16 (rG (rsL (rsG rs_22 u5) u9)) ((2 : Int32) * x1_22)).bind fun v11 =>
                (rdI 16 (rH (rsL (rsG rs_22 u5) u9)) (((2 : Int32) * x1_22) + (1 : Int32))).bind fun v12 =>
                (wrI 16 (rH (rsL (rsG rs_22 u5) u9)) x1_22 (vp_nar .short (((max32 v10 (v11 + v12))).toInt16.toInt32))).bind fun u13 =>
                (fX1_summariseAll_L22 nn) (rsH (rsL (rsG rs_22 u5) u9) u13) (x1_22 + (-1))
def fX1_summariseAll_L2 : Nat → RS → Int32 → Option (RS)
  | 0, _, _ => none
  | nn + 1, rs_2, x1_2 =>
    if (8 : Int32) ≤ x1_2 then
        fX1_summariseAll_L22 FU rs_2 (7 : Int32)
      else
        (fX1_summarise rs_2 x1_2).bind fun g14 =>
          (fX1_summariseAll_L2 nn) g14 (x1_2 + 1)
def fX1_summariseAll (rs : RS) : Option (RS) :=
  fX1_summariseAll_L2 FU rs (0 : Int32)

def fX1_as (rs : RS) (rt : RS) : Option (RS) :=
  (cpL 2 2 (rW rt) (rW rs) (0 : Int32) (0 : Int32) (2 : Int32)).bind fun u1 =>
    (cpI 64 64 (rT rt) (rT (rsP (rsW rs u1) (rP rt))) (0 : Int32) (0 : Int32) (64 : Int32)).bind fun u2 =>
    (cpS 16 16 (rG rt) (rG (rsT (rsP (rsW rs u1) (rP rt)) u2)) (0 : Int32) (0 : Int32) (16 : Int32)).bind fun u3 =>
    (cpS 16 16 (rL rt) (rL (rsG (rsT (rsP (rsW rs u1) (rP rt)) u2) u3)) (0 : Int32) (0 : Int32) (16 : Int32)).bind fun u4 =>
    (cpS 16 16 (rH rt) (rH (rsL (rsG (rsT (rsP (rsW rs u1) (rP rt)) u2) u3) u4)) (0 : Int32) (0 : Int32) (16 : Int32)).bind fun u5 =>
    some (rsH (rsL (rsG (rsT (rsP (rsW rs u1) (rP rt)) u2) u3) u4) u5)

def fJ7_fill_L6 (p2 : Int64) : Nat → (Nat → Int64) → Int32 → Int32 → Option ((Nat → Int64))
  | 0, _, _, _ => none
  | nn + 1, al_6, x3_6, x4_6 =>
    if x4_6 ≤ x3_6 then
        some al_6
      else
        (wrL 2 al_6 x3_6 p2).bind fun u2 =>
          (fJ7_fill_L6 p2 nn) u2 (x3_6 + 1) x4_6
def fJ7_fill (al : Nat → Int64) (p2 : Int64) : Option ((Nat → Int64)) :=
  fJ7_fill_L6 p2 FU al (0 : Int32) (2 : Int32)

def fJ7_fill_2_L5 (p2 : Int32) : Nat → (Nat → Int32) → Int32 → Int32 → Option ((Nat → Int32))
  | 0, _, _, _ => none
  | nn + 1, ai_5, x2_5, x3_5 =>
    if x3_5 ≤ x2_5 then
        some ai_5
      else
        (wrI 64 ai_5 x2_5 p2).bind fun u2 =>
          (fJ7_fill_2_L5 p2 nn) u2 (x2_5 + 1) x3_5
def fJ7_fill_2 (ai : Nat → Int32) (p2 : Int32) : Option ((Nat → Int32)) :=
  fJ7_fill_2_L5 p2 FU ai (0 : Int32) (64 : Int32)
