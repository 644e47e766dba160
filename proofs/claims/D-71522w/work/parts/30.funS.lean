/-! functions of the sheets, by program -/
set_option maxRecDepth 100000
def fX0_bitsOf (p1 : Int32) : Option (Int32) :=
  if p1 = 0 then
    some (8 : Int32)
  else
    if p1 = (1 : Int32) then
      some (32 : Int32)
    else
      some (64 : Int32)

def fX0_isTree_B31 (rt : RS) (k6 : Int32 → Int32 → Int32 → Option (Int32)) (x1_31 : Int32) (x3_31 : Int32) (s0_31 : Int32) (s1_31 : Int32) : Option (Int32) :=
    (some ((s1_31 &&& s0_31) : Int32)).bind fun y5 =>
            (fX1_step rt x3_31).bind fun v6 =>
            (some ((x1_31 + v6) : Int32)).bind fun y8 =>
            k6 y8 y5 (x3_31 + 1)
def fX0_isTree_B26 (rt : RS) (k6 : Int32 → Int32 → Int32 → Option (Int32)) (x1_26 : Int32) (x3_26 : Int32) (s0_26 : Int32) : Option (Int32) :=
    fX0_isTree_B31 rt k6 x1_26 x3_26 (1 : Int32) s0_26
def fX0_isTree_L6 (rt : RS) : Nat → Int32 → Int32 → Int32 → Option (Int32)
  | 0, _, _, _ => none
  | nn + 1, x1_6, x2_6, x3_6 =>
    if (rP rt) ≤ x3_6 then
        if x2_6 = 0 then
          some (0 : Int32)
        else
          if x1_6 = 0 then
            some (1 : Int32)
          else
            some (0 : Int32)
      else
        if x3_6 = 0 then
          fX0_isTree_B26 rt (fX0_isTree_L6 rt nn) x1_6 x3_6 x2_6
        else
          if x1_6 ≤ 0 then
            fX0_isTree_B31 rt (fX0_isTree_L6 rt nn) x1_6 x3_6 (0 : Int32) x2_6
          else
            fX0_isTree_B26 rt (fX0_isTree_L6 rt nn) x1_6 x3_6 x2_6
def fX0_isTree (rt : RS) : Option (Int32) :=
  fX0_isTree_L6 rt FU (0 : Int32) (1 : Int32) (0 : Int32)

def fX0_isBit_s0x_B60 (j : Nat) (p2 : Int32) (p3 : Int32) (s0_60 : Int64) : Option (Nat) :=
    (fX0_bitsOf p2).bind fun v6 =>
      if v6 = 0 then none else
      if (lg_cmp (((s0_60 >>> (((p3 - p3 / v6 * v6)).toInt64 &&& 63))) &&& (1 : Int64)) (1 : Int64)) = 0 then
      none
    else
      none
def fX0_isBit_s0x (j : Nat) (p2 : Int32) (p3 : Int32) : Option (Nat) :=
  (fX0_bitsOf p2).bind fun v1 =>
    if v1 = 0 then none else
    (some ((p3 / v1) : Int32)).bind fun y4 =>
    if p2 = 0 then
    some 1
  else
    if p2 = (1 : Int32) then
      some 1
    else
      some 1

def fX0_bitBecomes_s0x_B98 (j : Nat) (p2 : Int32) (p3 : Int32) (p4 : Int32) (s0_98 : Int64) (s1_98 : Int32) : Option (Nat) :=
    none
def fX0_bitBecomes_s0x_B60 (j : Nat) (p2 : Int32) (p3 : Int32) (p4 : Int32) (x6_60 : Int32) (s0_60 : Int64) : Option (Nat) :=
    (fX0_bitsOf p2).bind fun v6 =>
      if v6 = 0 then none else
      (some ((((1 : Int64) <<< (((p3 - p3 / v6 * v6)).toInt64 &&& 63))) : Int64)).bind fun y9 =>
      if p4 = 0 then
      fX0_bitBecomes_s0x_B98 j p2 p3 p4 (s0_60 &&& (y9 ^^^ (-1 : Int64))) x6_60
    else
      fX0_bitBecomes_s0x_B98 j p2 p3 p4 (s0_60 ||| y9) x6_60
def fX0_bitBecomes_s0x (j : Nat) (p2 : Int32) (p3 : Int32) (p4 : Int32) : Option (Nat) :=
  (fX0_bitsOf p2).bind fun v1 =>
    if v1 = 0 then none else
    (some ((p3 / v1) : Int32)).bind fun y4 =>
    if p2 = 0 then
    some 1
  else
    if p2 = (1 : Int32) then
      some 1
    else
      some 1

def fX0_lay_s0 (j : Nat) (p2 : Int32) (p3 : Int64) : Option (Int32) :=
  (fX0_in (((nI j)).toInt64) (0 : Int64) (3 : Int64)).bind fun v1 =>
    if v1 = 0 then
    some (-1 : Int32)
  else
    some (-11 : Int32)

def fX0_look_s0 (j : Nat) (p2 : Int32) : Option (Int64) :=
  (fX0_in (((nI j)).toInt64) (0 : Int64) (3 : Int64)).bind fun v1 =>
    if v1 = 0 then
    some (0 : Int64)
  else
    some (0 : Int64)

def fX0_stow_s0_L20 (j : Nat) (rs : RS) (p2 : Int32) (p3 : Int32) : Nat → (Nat → Int32) → Int32 → Int32 → Option (Int32 × (Nat → Int32))
  | 0, _, _, _ => none
  | nn + 1, xi_20, x4_20, x5_20 =>
    if (rP rs) ≤ x5_20 then
            some (x5_20, (upd xi_20 8 x4_20))
          else
            (fX1_isOpen rs x5_20).bind fun v6 =>
              if fX0_bitBecomes_s0x j p2 (p3 + x5_20) v6 = some 1 then
              some (x5_20, (upd xi_20 8 (1 : Int32)))
            else
            none
def fX0_stow_s0 (j : Nat) (xi : Nat → Int32) (rs : RS) (p2 : Int32) (p3 : Int32) : Option (Int32 × (Nat → Int32)) :=
  (fX0_isSheet (nI j) p2).bind fun v1 =>
    if v1 = 0 then
    some ((-1 : Int32), xi)
  else
    if 0 ≤ p3 then
      fX0_stow_s0_L20 j rs p2 p3 FU xi (0 : Int32) (0 : Int32)
    else
      some ((-1 : Int32), xi)

def fX0_read_s0_L50 (j : Nat) (p2 : Int32) (p3 : Int32) (p4 : Int32) : Nat → RS → RS → Int32 → Option (Int32 × RS × RS)
  | 0, _, _, _ => none
  | nn + 1, rs_50, rt_50, x5_50 =>
    if p4 ≤ x5_50 then
              (fX0_isTree rt_50).bind fun v11 =>
                if v11 = 0 then
                some ((-2 : Int32), rs_50, rt_50)
              else
                (fX1_summariseAll rt_50).bind fun g14 =>
                  (fX1_as rs_50 g14).bind fun g16 =>
                  (fX0_nodes g16).bind fun v18 =>
                  some (v18, g16, g14)
            else
              if fX0_isBit_s0x j p2 (p3 + x5_50) = some 1 then
                some ((-11 : Int32), rs_50, rt_50)
              else
              none
def fX0_read_s0 (j : Nat) (rs : RS) (rt : RS) (p2 : Int32) (p3 : Int32) (p4 : Int32) : Option (Int32 × RS × RS) :=
  (fX0_isSheet (nI j) p2).bind fun v1 =>
    if v1 = 0 then
    some ((-1 : Int32), rs, rt)
  else
    (fX0_in ((p4).toInt64) (0 : Int64) (128 : Int64)).bind fun v4 =>
      if v4 = 0 then
      some ((-1 : Int32), rs, rt)
    else
      if 0 ≤ p3 then
        (fJ7_fill (rW rt) (0 : Int64)).bind fun g8 =>
          fX0_read_s0_L50 j p2 p3 p4 FU rs (rsP (rsW rt g8) p4) (0 : Int32)
      else
        some ((-1 : Int32), rs, rt)

def fX0_count_s0_L78 (xi : Nat → Int32) (rs : RS) (p1 : Int32) : Nat → Int32 → Int32 → Int32 → Int32 → Option (Int32)
  | 0, _, _, _, _ => none
  | nn + 1, x3_78, x4_78, x6_78, x7_78 =>
    if x6_78 ≤ x7_78 then
          if p1 = 0 then
            (fJ13_bitCount (xi 0)).bind fun v3 =>
              some v3
          else
          if p1 = 1 then
            some (xi 6)
          else
          if p1 = 2 then
            some x3_78
          else
          if p1 = 3 then
            some x4_78
          else
          some (-1 : Int32)
        else
          (rdL 2 (rW rs) x7_78).bind fun v8 =>
            (fJ3_bitCount (v8 &&& (-6148914691236517206 : Int64))).bind fun v9 =>
            (some ((x4_78 + v9) : Int32)).bind fun y11 =>
            (fX0_count_s0_L78 xi rs p1 nn) x3_78 y11 x6_78 (x7_78 + 1)
def fX0_count_s0_B57 (xi : Nat → Int32) (rs : RS) (p1 : Int32) (s0_57 : Int32) : Option (Int32) :=
    fX0_count_s0_L78 xi rs p1 FU s0_57 (0 : Int32) (2 : Int32) (0 : Int32)
def fX0_count_s0 (xi : Nat → Int32) (rs : RS) (p1 : Int32) : Option (Int32) :=
  fX0_count_s0_B57 xi rs p1 (-4 : Int32)

def fX0_lay_s1n (j : Nat) (sn : Nat) (sf : Nat → Int32) (p2 : Int32) (p3 : Int64) : Option (Int32 × (Nat → Int32)) :=
  (fX0_in (((nI j)).toInt64) (0 : Int64) (3 : Int64)).bind fun v1 =>
    if v1 = 0 then
    some ((-1 : Int32), sf)
  else
    (wrI sn sf p2 (vp_nar .byte ((((p3).toInt32)).toInt8.toInt32))).bind fun u4 =>
      some ((1 : Int32), u4)

def fX0_isBit_s1_B60 (j : Nat) (sn : Nat) (sf : Nat → Int32) (p2 : Int32) (p3 : Int32) (s0_60 : Int64) : Option (Int32) :=
    (fX0_bitsOf p2).bind fun v6 =>
      if v6 = 0 then none else
      if (lg_cmp (((s0_60 >>> (((p3 - p3 / v6 * v6)).toInt64 &&& 63))) &&& (1 : Int64)) (1 : Int64)) = 0 then
      some (1 : Int32)
    else
      some (0 : Int32)
def fX0_isBit_s1 (j : Nat) (sn : Nat) (sf : Nat → Int32) (p2 : Int32) (p3 : Int32) : Option (Int32) :=
  (fX0_bitsOf p2).bind fun v1 =>
    if v1 = 0 then none else
    (some ((p3 / v1) : Int32)).bind fun y4 =>
    if p2 = 0 then
    (rdI sn sf y4).bind fun v11 =>
      fX0_isBit_s1_B60 j sn sf p2 p3 ((v11).toInt64)
  else
    if p2 = (1 : Int32) then
      none
    else
      none

def fX0_isBit_s1x_B60 (j : Nat) (sn : Nat) (sf : Nat → Int32) (p2 : Int32) (p3 : Int32) (s0_60 : Int64) : Option (Nat) :=
    (fX0_bitsOf p2).bind fun v6 =>
      if v6 = 0 then none else
      if (lg_cmp (((s0_60 >>> (((p3 - p3 / v6 * v6)).toInt64 &&& 63))) &&& (1 : Int64)) (1 : Int64)) = 0 then
      none
    else
      none
def fX0_isBit_s1x (j : Nat) (sn : Nat) (sf : Nat → Int32) (p2 : Int32) (p3 : Int32) : Option (Nat) :=
  (fX0_bitsOf p2).bind fun v1 =>
    if v1 = 0 then none else
    (some ((p3 / v1) : Int32)).bind fun y4 =>
    if p2 = 0 then
    if y4 < 0 ∨ sn ≤ (y4).toNatClampNeg then
      some 2
    else
    (rdI sn sf y4).bind fun v12 =>
      fX0_isBit_s1x_B60 j sn sf p2 p3 ((v12).toInt64)
  else
    if p2 = (1 : Int32) then
      some 3
    else
      some 3

def fX0_bitBecomes_s1_B98 (j : Nat) (sn : Nat) (p2 : Int32) (p3 : Int32) (p4 : Int32) (sf_98 : Nat → Int32) (s0_98 : Int64) (s1_98 : Int32) : Option ((Nat → Int32)) :=
    (fX0_lay_s1n j sn sf_98 s1_98 s0_98).bind fun (v11, g12) =>
        some g12
def fX0_bitBecomes_s1_B60 (j : Nat) (sn : Nat) (p2 : Int32) (p3 : Int32) (p4 : Int32) (sf_60 : Nat → Int32) (x6_60 : Int32) (s0_60 : Int64) : Option ((Nat → Int32)) :=
    (fX0_bitsOf p2).bind fun v6 =>
      if v6 = 0 then none else
      (some ((((1 : Int64) <<< (((p3 - p3 / v6 * v6)).toInt64 &&& 63))) : Int64)).bind fun y9 =>
      if p4 = 0 then
      fX0_bitBecomes_s1_B98 j sn p2 p3 p4 sf_60 (s0_60 &&& (y9 ^^^ (-1 : Int64))) x6_60
    else
      fX0_bitBecomes_s1_B98 j sn p2 p3 p4 sf_60 (s0_60 ||| y9) x6_60
def fX0_bitBecomes_s1 (j : Nat) (sn : Nat) (sf : Nat → Int32) (p2 : Int32) (p3 : Int32) (p4 : Int32) : Option ((Nat → Int32)) :=
  (fX0_bitsOf p2).bind fun v1 =>
    if v1 = 0 then none else
    (some ((p3 / v1) : Int32)).bind fun y4 =>
    if p2 = 0 then
    (rdI sn sf y4).bind fun v15 =>
      fX0_bitBecomes_s1_B60 j sn p2 p3 p4 sf y4 ((v15).toInt64)
  else
    if p2 = (1 : Int32) then
      none
    else
      none

def fX0_bitBecomes_s1x_B98 (j : Nat) (sn : Nat) (p2 : Int32) (p3 : Int32) (p4 : Int32) (sf_98 : Nat → Int32) (s0_98 : Int64) (s1_98 : Int32) : Option (Nat) :=
    (fX0_lay_s1n j sn sf_98 s1_98 s0_98).bind fun (v11, g12) =>
        none
def fX0_bitBecomes_s1x_B60 (j : Nat) (sn : Nat) (p2 : Int32) (p3 : Int32) (p4 : Int32) (sf_60 : Nat → Int32) (x6_60 : Int32) (s0_60 : Int64) : Option (Nat) :=
    (fX0_bitsOf p2).bind fun v6 =>
      if v6 = 0 then none else
      (some ((((1 : Int64) <<< (((p3 - p3 / v6 * v6)).toInt64 &&& 63))) : Int64)).bind fun y9 =>
      if p4 = 0 then
      fX0_bitBecomes_s1x_B98 j sn p2 p3 p4 sf_60 (s0_60 &&& (y9 ^^^ (-1 : Int64))) x6_60
    else
      fX0_bitBecomes_s1x_B98 j sn p2 p3 p4 sf_60 (s0_60 ||| y9) x6_60
def fX0_bitBecomes_s1x (j : Nat) (sn : Nat) (sf : Nat → Int32) (p2 : Int32) (p3 : Int32) (p4 : Int32) : Option (Nat) :=
  (fX0_bitsOf p2).bind fun v1 =>
    if v1 = 0 then none else
    (some ((p3 / v1) : Int32)).bind fun y4 =>
    if p2 = 0 then
    if y4 < 0 ∨ sn ≤ (y4).toNatClampNeg then
      some 2
    else
    (rdI sn sf y4).bind fun v16 =>
      fX0_bitBecomes_s1x_B60 j sn p2 p3 p4 sf y4 ((v16).toInt64)
  else
    if p2 = (1 : Int32) then
      some 3
    else
      some 3

def fX0_lay_s1 (j : Nat) (sn : Nat) (sf : Nat → Int32) (p2 : Int32) (p3 : Int64) : Option (Int32 × (Nat → Int32)) :=
  (fX0_in (((nI j)).toInt64) (0 : Int64) (3 : Int64)).bind fun v1 =>
    if v1 = 0 then
    some ((-1 : Int32), sf)
  else
    if p2 < 0 ∨ sn ≤ (p2).toNatClampNeg then
      some ((-12 : Int32), sf)
    else
    (wrI sn sf p2 (vp_nar .byte ((((p3).toInt32)).toInt8.toInt32))).bind fun u5 =>
      some ((1 : Int32), u5)

def fX0_look_s1 (j : Nat) (sn : Nat) (sf : Nat → Int32) (p2 : Int32) : Option (Int64) :=
  (fX0_in (((nI j)).toInt64) (0 : Int64) (3 : Int64)).bind fun v1 =>
    if v1 = 0 then
    some (0 : Int64)
  else
    if p2 < 0 ∨ sn ≤ (p2).toNatClampNeg then
      some (0 : Int64)
    else
    (rdI sn sf p2).bind fun v5 =>
      some ((v5).toInt64)

def fX0_stow_s1_L20 (j : Nat) (sn : Nat) (rs : RS) (p2 : Int32) (p3 : Int32) : Nat → (Nat → Int32) → (Nat → Int32) → Int32 → Int32 → Option (Int32 × (Nat → Int32) × (Nat → Int32))
  | 0, _, _, _, _ => none
  | nn + 1, xi_20, sf_20, x4_20, x5_20 =>
    if (rP rs) ≤ x5_20 then
            some (x5_20, (upd xi_20 8 x4_20), sf_20)
          else
            (fX1_isOpen rs x5_20).bind fun v6 =>
              if fX0_bitBecomes_s1x j sn sf_20 p2 (p3 + x5_20) v6 = some 3 then
              some (x5_20, (upd xi_20 8 (3 : Int32)), sf_20)
            else
            if fX0_bitBecomes_s1x j sn sf_20 p2 (p3 + x5_20) v6 = some 2 then
              some (x5_20, (upd xi_20 8 (2 : Int32)), sf_20)
            else
            (fX0_bitBecomes_s1 j sn sf_20 p2 (p3 + x5_20) v6).bind fun g10 =>
              (fX0_stow_s1_L20 j sn rs p2 p3 nn) xi_20 g10 x4_20 (x5_20 + 1)
def fX0_stow_s1 (j : Nat) (sn : Nat) (xi : Nat → Int32) (rs : RS) (sf : Nat → Int32) (p2 : Int32) (p3 : Int32) : Option (Int32 × (Nat → Int32) × (Nat → Int32)) :=
  (fX0_isSheet (nI j) p2).bind fun v1 =>
    if v1 = 0 then
    some ((-1 : Int32), xi, sf)
  else
    if 0 ≤ p3 then
      fX0_stow_s1_L20 j sn rs p2 p3 FU xi sf (0 : Int32) (0 : Int32)
    else
      some ((-1 : Int32), xi, sf)

def fX0_read_s1_L50 (j : Nat) (sn : Nat) (sf : Nat → Int32) (p2 : Int32) (p3 : Int32) (p4 : Int32) : Nat → RS → RS → Int32 → Option (Int32 × RS × RS)
  | 0, _, _, _ => none
  | nn + 1, rs_50, rt_50, x5_50 =>
    if p4 ≤ x5_50 then
              (fX0_isTree rt_50).bind fun v11 =>
                if v11 = 0 then
                some ((-2 : Int32), rs_50, rt_50)
              else
                (fX1_summariseAll rt_50).bind fun g14 =>
                  (fX1_as rs_50 g14).bind fun g16 =>
                  (fX0_nodes g16).bind fun v18 =>
                  some (v18, g16, g14)
            else
              if fX0_isBit_s1x j sn sf p2 (p3 + x5_50) = some 3 then
                some ((-13 : Int32), rs_50, rt_50)
              else
              if fX0_isBit_s1x j sn sf p2 (p3 + x5_50) = some 2 then
                some ((-12 : Int32), rs_50, rt_50)
              else
              (fX0_isBit_s1 j sn sf p2 (p3 + x5_50)).bind fun v22 =>
                (fX1_becomes rt_50 x5_50 v22).bind fun g24 =>
                (fX0_read_s1_L50 j sn sf p2 p3 p4 nn) rs_50 g24 (x5_50 + 1)
def fX0_read_s1 (j : Nat) (sn : Nat) (rs : RS) (rt : RS) (sf : Nat → Int32) (p2 : Int32) (p3 : Int32) (p4 : Int32) : Option (Int32 × RS × RS) :=
  (fX0_isSheet (nI j) p2).bind fun v1 =>
    if v1 = 0 then
    some ((-1 : Int32), rs, rt)
  else
    (fX0_in ((p4).toInt64) (0 : Int64) (128 : Int64)).bind fun v4 =>
      if v4 = 0 then
      some ((-1 : Int32), rs, rt)
    else
      if 0 ≤ p3 then
        (fJ7_fill (rW rt) (0 : Int64)).bind fun g8 =>
          fX0_read_s1_L50 j sn sf p2 p3 p4 FU rs (rsP (rsW rt g8) p4) (0 : Int32)
      else
        some ((-1 : Int32), rs, rt)

def fX0_count_s1_L78 (sn : Nat) (xi : Nat → Int32) (rs : RS) (p1 : Int32) : Nat → Int32 → Int32 → Int32 → Int32 → Option (Int32)
  | 0, _, _, _, _ => none
  | nn + 1, x3_78, x4_78, x6_78, x7_78 =>
    if x6_78 ≤ x7_78 then
          if p1 = 0 then
            (fJ13_bitCount (xi 0)).bind fun v3 =>
              some v3
          else
          if p1 = 1 then
            some (xi 6)
          else
          if p1 = 2 then
            some x3_78
          else
          if p1 = 3 then
            some x4_78
          else
          some (-1 : Int32)
        else
          (rdL 2 (rW rs) x7_78).bind fun v8 =>
            (fJ3_bitCount (v8 &&& (-6148914691236517206 : Int64))).bind fun v9 =>
            (some ((x4_78 + v9) : Int32)).bind fun y11 =>
            (fX0_count_s1_L78 sn xi rs p1 nn) x3_78 y11 x6_78 (x7_78 + 1)
def fX0_count_s1_B57 (sn : Nat) (xi : Nat → Int32) (rs : RS) (p1 : Int32) (s0_57 : Int32) : Option (Int32) :=
    fX0_count_s1_L78 sn xi rs p1 FU s0_57 (0 : Int32) (2 : Int32) (0 : Int32)
def fX0_count_s1 (sn : Nat) (xi : Nat → Int32) (rs : RS) (p1 : Int32) : Option (Int32) :=
  fX0_count_s1_B57 sn xi rs p1 (Int32.ofNat sn)

def fX0_lay_s2n (j : Nat) (sn : Nat) (sf : Nat → Int32) (p2 : Int32) (p3 : Int64) : Option (Int32 × (Nat → Int32)) :=
  (fX0_in (((nI j)).toInt64) (0 : Int64) (3 : Int64)).bind fun v1 =>
    if v1 = 0 then
    some ((-1 : Int32), sf)
  else
    (wrI sn sf p2 ((p3).toInt32)).bind fun u4 =>
      some ((1 : Int32), u4)

def fX0_isBit_s2_B60 (j : Nat) (sn : Nat) (sf : Nat → Int32) (p2 : Int32) (p3 : Int32) (s0_60 : Int64) : Option (Int32) :=
    (fX0_bitsOf p2).bind fun v6 =>
      if v6 = 0 then none else
      if (lg_cmp (((s0_60 >>> (((p3 - p3 / v6 * v6)).toInt64 &&& 63))) &&& (1 : Int64)) (1 : Int64)) = 0 then
      some (1 : Int32)
    else
      some (0 : Int32)
def fX0_isBit_s2 (j : Nat) (sn : Nat) (sf : Nat → Int32) (p2 : Int32) (p3 : Int32) : Option (Int32) :=
  (fX0_bitsOf p2).bind fun v1 =>
    if v1 = 0 then none else
    (some ((p3 / v1) : Int32)).bind fun y4 =>
    if p2 = 0 then
    none
  else
    if p2 = (1 : Int32) then
      (rdI sn sf y4).bind fun v11 =>
        fX0_isBit_s2_B60 j sn sf p2 p3 ((v11).toInt64)
    else
      none

def fX0_isBit_s2x_B60 (j : Nat) (sn : Nat) (sf : Nat → Int32) (p2 : Int32) (p3 : Int32) (s0_60 : Int64) : Option (Nat) :=
    (fX0_bitsOf p2).bind fun v6 =>
      if v6 = 0 then none else
      if (lg_cmp (((s0_60 >>> (((p3 - p3 / v6 * v6)).toInt64 &&& 63))) &&& (1 : Int64)) (1 : Int64)) = 0 then
      none
    else
      none
def fX0_isBit_s2x (j : Nat) (sn : Nat) (sf : Nat → Int32) (p2 : Int32) (p3 : Int32) : Option (Nat) :=
  (fX0_bitsOf p2).bind fun v1 =>
    if v1 = 0 then none else
    (some ((p3 / v1) : Int32)).bind fun y4 =>
    if p2 = 0 then
    some 3
  else
    if p2 = (1 : Int32) then
      if y4 < 0 ∨ sn ≤ (y4).toNatClampNeg then
        some 2
      else
      (rdI sn sf y4).bind fun v12 =>
        fX0_isBit_s2x_B60 j sn sf p2 p3 ((v12).toInt64)
    else
      some 3

def fX0_bitBecomes_s2_B98 (j : Nat) (sn : Nat) (p2 : Int32) (p3 : Int32) (p4 : Int32) (sf_98 : Nat → Int32) (s0_98 : Int64) (s1_98 : Int32) : Option ((Nat → Int32)) :=
    (fX0_lay_s2n j sn sf_98 s1_98 s0_98).bind fun (v11, g12) =>
        some g12
def fX0_bitBecomes_s2_B60 (j : Nat) (sn : Nat) (p2 : Int32) (p3 : Int32) (p4 : Int32) (sf_60 : Nat → Int32) (x6_60 : Int32) (s0_60 : Int64) : Option ((Nat → Int32)) :=
    (fX0_bitsOf p2).bind fun v6 =>
      if v6 = 0 then none else
      (some ((((1 : Int64) <<< (((p3 - p3 / v6 * v6)).toInt64 &&& 63))) : Int64)).bind fun y9 =>
      if p4 = 0 then
      fX0_bitBecomes_s2_B98 j sn p2 p3 p4 sf_60 (s0_60 &&& (y9 ^^^ (-1 : Int64))) x6_60
    else
      fX0_bitBecomes_s2_B98 j sn p2 p3 p4 sf_60 (s0_60 ||| y9) x6_60
def fX0_bitBecomes_s2 (j : Nat) (sn : Nat) (sf : Nat → Int32) (p2 : Int32) (p3 : Int32) (p4 : Int32) : Option ((Nat → Int32)) :=
  (fX0_bitsOf p2).bind fun v1 =>
    if v1 = 0 then none else
    (some ((p3 / v1) : Int32)).bind fun y4 =>
    if p2 = 0 then
    none
  else
    if p2 = (1 : Int32) then
      (rdI sn sf y4).bind fun v15 =>
        fX0_bitBecomes_s2_B60 j sn p2 p3 p4 sf y4 ((v15).toInt64)
    else
      none

def fX0_bitBecomes_s2x_B98 (j : Nat) (sn : Nat) (p2 : Int32) (p3 : Int32) (p4 : Int32) (sf_98 : Nat → Int32) (s0_98 : Int64) (s1_98 : Int32) : Option (Nat) :=
    (fX0_lay_s2n j sn sf_98 s1_98 s0_98).bind fun (v11, g12) =>
        none
def fX0_bitBecomes_s2x_B60 (j : Nat) (sn : Nat) (p2 : Int32) (p3 : Int32) (p4 : Int32) (sf_60 : Nat → Int32) (x6_60 : Int32) (s0_60 : Int64) : Option (Nat) :=
    (fX0_bitsOf p2).bind fun v6 =>
      if v6 = 0 then none else
      (some ((((1 : Int64) <<< (((p3 - p3 / v6 * v6)).toInt64 &&& 63))) : Int64)).bind fun y9 =>
      if p4 = 0 then
      fX0_bitBecomes_s2x_B98 j sn p2 p3 p4 sf_60 (s0_60 &&& (y9 ^^^ (-1 : Int64))) x6_60
    else
      fX0_bitBecomes_s2x_B98 j sn p2 p3 p4 sf_60 (s0_60 ||| y9) x6_60
def fX0_bitBecomes_s2x (j : Nat) (sn : Nat) (sf : Nat → Int32) (p2 : Int32) (p3 : Int32) (p4 : Int32) : Option (Nat) :=
  (fX0_bitsOf p2).bind fun v1 =>
    if v1 = 0 then none else
    (some ((p3 / v1) : Int32)).bind fun y4 =>
    if p2 = 0 then
    some 3
  else
    if p2 = (1 : Int32) then
      if y4 < 0 ∨ sn ≤ (y4).toNatClampNeg then
        some 2
      else
      (rdI sn sf y4).bind fun v16 =>
        fX0_bitBecomes_s2x_B60 j sn p2 p3 p4 sf y4 ((v16).toInt64)
    else
      some 3

def fX0_lay_s2 (j : Nat) (sn : Nat) (sf : Nat → Int32) (p2 : Int32) (p3 : Int64) : Option (Int32 × (Nat → Int32)) :=
  (fX0_in (((nI j)).toInt64) (0 : Int64) (3 : Int64)).bind fun v1 =>
    if v1 = 0 then
    some ((-1 : Int32), sf)
  else
    if p2 < 0 ∨ sn ≤ (p2).toNatClampNeg then
      some ((-12 : Int32), sf)
    else
    (wrI sn sf p2 ((p3).toInt32)).bind fun u5 =>
      some ((1 : Int32), u5)

def fX0_look_s2 (j : Nat) (sn : Nat) (sf : Nat → Int32) (p2 : Int32) : Option (Int64) :=
  (fX0_in (((nI j)).toInt64) (0 : Int64) (3 : Int64)).bind fun v1 =>
    if v1 = 0 then
    some (0 : Int64)
  else
    if p2 < 0 ∨ sn ≤ (p2).toNatClampNeg then
      some (0 : Int64)
    else
    (rdI sn sf p2).bind fun v5 =>
      some ((v5).toInt64)

def fX0_stow_s2_L20 (j : Nat) (sn : Nat) (rs : RS) (p2 : Int32) (p3 : Int32) : Nat → (Nat → Int32) → (Nat → Int32) → Int32 → Int32 → Option (Int32 × (Nat → Int32) × (Nat → Int32))
  | 0, _, _, _, _ => none
  | nn + 1, xi_20, sf_20, x4_20, x5_20 =>
    if (rP rs) ≤ x5_20 then
            some (x5_20, (upd xi_20 8 x4_20), sf_20)
          else
            (fX1_isOpen rs x5_20).bind fun v6 =>
              if fX0_bitBecomes_s2x j sn sf_20 p2 (p3 + x5_20) v6 = some 3 then
              some (x5_20, (upd xi_20 8 (3 : Int32)), sf_20)
            else
            if fX0_bitBecomes_s2x j sn sf_20 p2 (p3 + x5_20) v6 = some 2 then
              some (x5_20, (upd xi_20 8 (2 : Int32)), sf_20)
            else
            (fX0_bitBecomes_s2 j sn sf_20 p2 (p3 + x5_20) v6).bind fun g10 =>
              (fX0_stow_s2_L20 j sn rs p2 p3 nn) xi_20 g10 x4_20 (x5_20 + 1)
def fX0_stow_s2 (j : Nat) (sn : Nat) (xi : Nat → Int32) (rs : RS) (sf : Nat → Int32) (p2 : Int32) (p3 : Int32) : Option (Int32 × (Nat → Int32) × (Nat → Int32)) :=
  (fX0_isSheet (nI j) p2).bind fun v1 =>
    if v1 = 0 then
    some ((-1 : Int32), xi, sf)
  else
    if 0 ≤ p3 then
      fX0_stow_s2_L20 j sn rs p2 p3 FU xi sf (0 : Int32) (0 : Int32)
    else
      some ((-1 : Int32), xi, sf)

def fX0_read_s2_L50 (j : Nat) (sn : Nat) (sf : Nat → Int32) (p2 : Int32) (p3 : Int32) (p4 : Int32) : Nat → RS → RS → Int32 → Option (Int32 × RS × RS)
  | 0, _, _, _ => none
  | nn + 1, rs_50, rt_50, x5_50 =>
    if p4 ≤ x5_50 then
              (fX0_isTree rt_50).bind fun v11 =>
                if v11 = 0 then
                some ((-2 : Int32), rs_50, rt_50)
              else
                (fX1_summariseAll rt_50).bind fun g14 =>
                  (fX1_as rs_50 g14).bind fun g16 =>
                  (fX0_nodes g16).bind fun v18 =>
                  some (v18, g16, g14)
            else
              if fX0_isBit_s2x j sn sf p2 (p3 + x5_50) = some 3 then
                some ((-13 : Int32), rs_50, rt_50)
              else
              if fX0_isBit_s2x j sn sf p2 (p3 + x5_50) = some 2 then
                some ((-12 : Int32), rs_50, rt_50)
              else
              (fX0_isBit_s2 j sn sf p2 (p3 + x5_50)).bind fun v22 =>
                (fX1_becomes rt_50 x5_50 v22).bind fun g24 =>
                (fX0_read_s2_L50 j sn sf p2 p3 p4 nn) rs_50 g24 (x5_50 + 1)
def fX0_read_s2 (j : Nat) (sn : Nat) (rs : RS) (rt : RS) (sf : Nat → Int32) (p2 : Int32) (p3 : Int32) (p4 : Int32) : Option (Int32 × RS × RS) :=
  (fX0_isSheet (nI j) p2).bind fun v1 =>
    if v1 = 0 then
    some ((-1 : Int32), rs, rt)
  else
    (fX0_in ((p4).toInt64) (0 : Int64) (128 : Int64)).bind fun v4 =>
      if v4 = 0 then
      some ((-1 : Int32), rs, rt)
    else
      if 0 ≤ p3 then
        (fJ7_fill (rW rt) (0 : Int64)).bind fun g8 =>
          fX0_read_s2_L50 j sn sf p2 p3 p4 FU rs (rsP (rsW rt g8) p4) (0 : Int32)
      else
        some ((-1 : Int32), rs, rt)

def fX0_count_s2_L78 (sn : Nat) (xi : Nat → Int32) (rs : RS) (p1 : Int32) : Nat → Int32 → Int32 → Int32 → Int32 → Option (Int32)
  | 0, _, _, _, _ => none
  | nn + 1, x3_78, x4_78, x6_78, x7_78 =>
    if x6_78 ≤ x7_78 then
          if p1 = 0 then
            (fJ13_bitCount (xi 0)).bind fun v3 =>
              some v3
          else
          if p1 = 1 then
            some (xi 6)
          else
          if p1 = 2 then
            some x3_78
          else
          if p1 = 3 then
            some x4_78
          else
          some (-1 : Int32)
        else
          (rdL 2 (rW rs) x7_78).bind fun v8 =>
            (fJ3_bitCount (v8 &&& (-6148914691236517206 : Int64))).bind fun v9 =>
            (some ((x4_78 + v9) : Int32)).bind fun y11 =>
            (fX0_count_s2_L78 sn xi rs p1 nn) x3_78 y11 x6_78 (x7_78 + 1)
def fX0_count_s2_B57 (sn : Nat) (xi : Nat → Int32) (rs : RS) (p1 : Int32) (s0_57 : Int32) : Option (Int32) :=
    fX0_count_s2_L78 sn xi rs p1 FU s0_57 (0 : Int32) (2 : Int32) (0 : Int32)
def fX0_count_s2 (sn : Nat) (xi : Nat → Int32) (rs : RS) (p1 : Int32) : Option (Int32) :=
  fX0_count_s2_B57 sn xi rs p1 (Int32.ofNat sn)

def fX0_lay_s3n (j : Nat) (sn : Nat) (sg : Nat → Int64) (p2 : Int32) (p3 : Int64) : Option (Int32 × (Nat → Int64)) :=
  (fX0_in (((nI j)).toInt64) (0 : Int64) (3 : Int64)).bind fun v1 =>
    if v1 = 0 then
    some ((-1 : Int32), sg)
  else
    (wrL sn sg p2 p3).bind fun u4 =>
      some ((1 : Int32), u4)

def fX0_isBit_s3_B60 (j : Nat) (sn : Nat) (sg : Nat → Int64) (p2 : Int32) (p3 : Int32) (s0_60 : Int64) : Option (Int32) :=
    (fX0_bitsOf p2).bind fun v6 =>
      if v6 = 0 then none else
      if (lg_cmp (((s0_60 >>> (((p3 - p3 / v6 * v6)).toInt64 &&& 63))) &&& (1 : Int64)) (1 : Int64)) = 0 then
      some (1 : Int32)
    else
      some (0 : Int32)
def fX0_isBit_s3 (j : Nat) (sn : Nat) (sg : Nat → Int64) (p2 : Int32) (p3 : Int32) : Option (Int32) :=
  (fX0_bitsOf p2).bind fun v1 =>
    if v1 = 0 then none else
    (some ((p3 / v1) : Int32)).bind fun y4 =>
    if p2 = 0 then
    none
  else
    if p2 = (1 : Int32) then
      none
    else
      (rdL sn sg y4).bind fun v11 =>
        fX0_isBit_s3_B60 j sn sg p2 p3 v11

def fX0_isBit_s3x_B60 (j : Nat) (sn : Nat) (sg : Nat → Int64) (p2 : Int32) (p3 : Int32) (s0_60 : Int64) : Option (Nat) :=
    (fX0_bitsOf p2).bind fun v6 =>
      if v6 = 0 then none else
      if (lg_cmp (((s0_60 >>> (((p3 - p3 / v6 * v6)).toInt64 &&& 63))) &&& (1 : Int64)) (1 : Int64)) = 0 then
      none
    else
      none
def fX0_isBit_s3x (j : Nat) (sn : Nat) (sg : Nat → Int64) (p2 : Int32) (p3 : Int32) : Option (Nat) :=
  (fX0_bitsOf p2).bind fun v1 =>
    if v1 = 0 then none else
    (some ((p3 / v1) : Int32)).bind fun y4 =>
    if p2 = 0 then
    some 3
  else
    if p2 = (1 : Int32) then
      some 3
    else
      if y4 < 0 ∨ sn ≤ (y4).toNatClampNeg then
        some 2
      else
      (rdL sn sg y4).bind fun v12 =>
        fX0_isBit_s3x_B60 j sn sg p2 p3 v12

def fX0_bitBecomes_s3_B98 (j : Nat) (sn : Nat) (p2 : Int32) (p3 : Int32) (p4 : Int32) (sg_98 : Nat → Int64) (s0_98 : Int64) (s1_98 : Int32) : Option ((Nat → Int64)) :=
    (fX0_lay_s3n j sn sg_98 s1_98 s0_98).bind fun (v11, g12) =>
        some g12
def fX0_bitBecomes_s3_B60 (j : Nat) (sn : Nat) (p2 : Int32) (p3 : Int32) (p4 : Int32) (sg_60 : Nat → Int64) (x6_60 : Int32) (s0_60 : Int64) : Option ((Nat → Int64)) :=
    (fX0_bitsOf p2).bind fun v6 =>
      if v6 = 0 then none else
      (some ((((1 : Int64) <<< (((p3 - p3 / v6 * v6)).toInt64 &&& 63))) : Int64)).bind fun y9 =>
      if p4 = 0 then
      fX0_bitBecomes_s3_B98 j sn p2 p3 p4 sg_60 (s0_60 &&& (y9 ^^^ (-1 : Int64))) x6_60
    else
      fX0_bitBecomes_s3_B98 j sn p2 p3 p4 sg_60 (s0_60 ||| y9) x6_60
def fX0_bitBecomes_s3 (j : Nat) (sn : Nat) (sg : Nat → Int64) (p2 : Int32) (p3 : Int32) (p4 : Int32) : Option ((Nat → Int64)) :=
  (fX0_bitsOf p2).bind fun v1 =>
    if v1 = 0 then none else
    (some ((p3 / v1) : Int32)).bind fun y4 =>
    if p2 = 0 then
    none
  else
    if p2 = (1 : Int32) then
      none
    else
      (rdL sn sg y4).bind fun v15 =>
        fX0_bitBecomes_s3_B60 j sn p2 p3 p4 sg y4 v15

def fX0_bitBecomes_s3x_B98 (j : Nat) (sn : Nat) (p2 : Int32) (p3 : Int32) (p4 : Int32) (sg_98 : Nat → Int64) (s0_98 : Int64) (s1_98 : Int32) : Option (Nat) :=
    (fX0_lay_s3n j sn sg_98 s1_98 s0_98).bind fun (v11, g12) =>
        none
def fX0_bitBecomes_s3x_B60 (j : Nat) (sn : Nat) (p2 : Int32) (p3 : Int32) (p4 : Int32) (sg_60 : Nat → Int64) (x6_60 : Int32) (s0_60 : Int64) : Option (Nat) :=
    (fX0_bitsOf p2).bind fun v6 =>
      if v6 = 0 then none else
      (some ((((1 : Int64) <<< (((p3 - p3 / v6 * v6)).toInt64 &&& 63))) : Int64)).bind fun y9 =>
      if p4 = 0 then
      fX0_bitBecomes_s3x_B98 j sn p2 p3 p4 sg_60 (s0_60 &&& (y9 ^^^ (-1 : Int64))) x6_60
    else
      fX0_bitBecomes_s3x_B98 j sn p2 p3 p4 sg_60 (s0_60 ||| y9) x6_60
def fX0_bitBecomes_s3x (j : Nat) (sn : Nat) (sg : Nat → Int64) (p2 : Int32) (p3 : Int32) (p4 : Int32) : Option (Nat) :=
  (fX0_bitsOf p2).bind fun v1 =>
    if v1 = 0 then none else
    (some ((p3 / v1) : Int32)).bind fun y4 =>
    if p2 = 0 then
    some 3
  else
    if p2 = (1 : Int32) then
      some 3
    else
      if y4 < 0 ∨ sn ≤ (y4).toNatClampNeg then
        some 2
      else
      (rdL sn sg y4).bind fun v16 =>
        fX0_bitBecomes_s3x_B60 j sn p2 p3 p4 sg y4 v16

def fX0_lay_s3 (j : Nat) (sn : Nat) (sg : Nat → Int64) (p2 : Int32) (p3 : Int64) : Option (Int32 × (Nat → Int64)) :=
  (fX0_in (((nI j)).toInt64) (0 : Int64) (3 : Int64)).bind fun v1 =>
    if v1 = 0 then
    some ((-1 : Int32), sg)
  else
    if p2 < 0 ∨ sn ≤ (p2).toNatClampNeg then
      some ((-12 : Int32), sg)
    else
    (wrL sn sg p2 p3).bind fun u5 =>
      some ((1 : Int32), u5)

def fX0_look_s3 (j : Nat) (sn : Nat) (sg : Nat → Int64) (p2 : Int32) : Option (Int64) :=
  (fX0_in (((nI j)).toInt64) (0 : Int64) (3 : Int64)).bind fun v1 =>
    if v1 = 0 then
    some (0 : Int64)
  else
    if p2 < 0 ∨ sn ≤ (p2).toNatClampNeg then
      some (0 : Int64)
    else
    (rdL sn sg p2).bind fun v5 =>
      some v5

def fX0_stow_s3_L20 (j : Nat) (sn : Nat) (rs : RS) (p2 : Int32) (p3 : Int32) : Nat → (Nat → Int32) → (Nat → Int64) → Int32 → Int32 → Option (Int32 × (Nat → Int32) × (Nat → Int64))
  | 0, _, _, _, _ => none
  | nn + 1, xi_20, sg_20, x4_20, x5_20 =>
    if (rP rs) ≤ x5_20 then
            some (x5_20, (upd xi_20 8 x4_20), sg_20)
          else
            (fX1_isOpen rs x5_20).bind fun v6 =>
              if fX0_bitBecomes_s3x j sn sg_20 p2 (p3 + x5_20) v6 = some 3 then
              some (x5_20, (upd xi_20 8 (3 : Int32)), sg_20)
            else
            if fX0_bitBecomes_s3x j sn sg_20 p2 (p3 + x5_20) v6 = some 2 then
              some (x5_20, (upd xi_20 8 (2 : Int32)), sg_20)
            else
            (fX0_bitBecomes_s3 j sn sg_20 p2 (p3 + x5_20) v6).bind fun g10 =>
              (fX0_stow_s3_L20 j sn rs p2 p3 nn) xi_20 g10 x4_20 (x5_20 + 1)
def fX0_stow_s3 (j : Nat) (sn : Nat) (xi : Nat → Int32) (rs : RS) (sg : Nat → Int64) (p2 : Int32) (p3 : Int32) : Option (Int32 × (Nat → Int32) × (Nat → Int64)) :=
  (fX0_isSheet (nI j) p2).bind fun v1 =>
    if v1 = 0 then
    some ((-1 : Int32), xi, sg)
  else
    if 0 ≤ p3 then
      fX0_stow_s3_L20 j sn rs p2 p3 FU xi sg (0 : Int32) (0 : Int32)
    else
      some ((-1 : Int32), xi, sg)

def fX0_read_s3_L50 (j : Nat) (sn : Nat) (sg : Nat → Int64) (p2 : Int32) (p3 : Int32) (p4 : Int32) : Nat → RS → RS → Int32 → Option (Int32 × RS × RS)
  | 0, _, _, _ => none
  | nn + 1, rs_50, rt_50, x5_50 =>
    if p4 ≤ x5_50 then
              (fX0_isTree rt_50).bind fun v11 =>
                if v11 = 0 then
                some ((-2 : Int32), rs_50, rt_50)
              else
                (fX1_summariseAll rt_50).bind fun g14 =>
                  (fX1_as rs_50 g14).bind fun g16 =>
                  (fX0_nodes g16).bind fun v18 =>
                  some (v18, g16, g14)
            else
              if fX0_isBit_s3x j sn sg p2 (p3 + x5_50) = some 3 then
                some ((-13 : Int32), rs_50, rt_50)
              else
              if fX0_isBit_s3x j sn sg p2 (p3 + x5_50) = some 2 then
                some ((-12 : Int32), rs_50, rt_50)
              else
              (fX0_isBit_s3 j sn sg p2 (p3 + x5_50)).bind fun v22 =>
                (fX1_becomes rt_50 x5_50 v22).bind fun g24 =>
                (fX0_read_s3_L50 j sn sg p2 p3 p4 nn) rs_50 g24 (x5_50 + 1)
def fX0_read_s3 (j : Nat) (sn : Nat) (rs : RS) (rt : RS) (sg : Nat → Int64) (p2 : Int32) (p3 : Int32) (p4 : Int32) : Option (Int32 × RS × RS) :=
  (fX0_isSheet (nI j) p2).bind fun v1 =>
    if v1 = 0 then
    some ((-1 : Int32), rs, rt)
  else
    (fX0_in ((p4).toInt64) (0 : Int64) (128 : Int64)).bind fun v4 =>
      if v4 = 0 then
      some ((-1 : Int32), rs, rt)
    else
      if 0 ≤ p3 then
        (fJ7_fill (rW rt) (0 : Int64)).bind fun g8 =>
          fX0_read_s3_L50 j sn sg p2 p3 p4 FU rs (rsP (rsW rt g8) p4) (0 : Int32)
      else
        some ((-1 : Int32), rs, rt)

def fX0_count_s3_L78 (sn : Nat) (xi : Nat → Int32) (rs : RS) (p1 : Int32) : Nat → Int32 → Int32 → Int32 → Int32 → Option (Int32)
  | 0, _, _, _, _ => none
  | nn + 1, x3_78, x4_78, x6_78, x7_78 =>
    if x6_78 ≤ x7_78 then
          if p1 = 0 then
            (fJ13_bitCount (xi 0)).bind fun v3 =>
              some v3
          else
          if p1 = 1 then
            some (xi 6)
          else
          if p1 = 2 then
            some x3_78
          else
          if p1 = 3 then
            some x4_78
          else
          some (-1 : Int32)
        else
          (rdL 2 (rW rs) x7_78).bind fun v8 =>
            (fJ3_bitCount (v8 &&& (-6148914691236517206 : Int64))).bind fun v9 =>
            (some ((x4_78 + v9) : Int32)).bind fun y11 =>
            (fX0_count_s3_L78 sn xi rs p1 nn) x3_78 y11 x6_78 (x7_78 + 1)
def fX0_count_s3_B57 (sn : Nat) (xi : Nat → Int32) (rs : RS) (p1 : Int32) (s0_57 : Int32) : Option (Int32) :=
    fX0_count_s3_L78 sn xi rs p1 FU s0_57 (0 : Int32) (2 : Int32) (0 : Int32)
def fX0_count_s3 (sn : Nat) (xi : Nat → Int32) (rs : RS) (p1 : Int32) : Option (Int32) :=
  fX0_count_s3_B57 sn xi rs p1 (Int32.ofNat sn)

def fX0_sumBelow_L4 (rs : RS) (p1 : Int32) : Nat → Int32 → Int32 → Option (Int32)
  | 0, _, _ => none
  | nn + 1, x2_4, x3_4 =>
    (fX0_sizeOf rs p1).bind fun v1 =>
        if (p1 + v1) ≤ x3_4 then
        some x2_4
      else
        (rdI 64 (rT rs) x3_4).bind fun v4 =>
          (fJ0_addExact x2_4 v4).bind fun v5 =>
          (fX0_sumBelow_L4 rs p1 nn) v5 (x3_4 + 1)
def fX0_sumBelow (rs : RS) (p1 : Int32) : Option (Int32) :=
  fX0_sumBelow_L4 rs p1 FU (0 : Int32) p1

def fX0_sumBelow_x_L4 (rs : RS) (p1 : Int32) : Nat → Int32 → Int32 → Option (Nat)
  | 0, _, _ => none
  | nn + 1, x2_4, x3_4 =>
    (fX0_sizeOf rs p1).bind fun v1 =>
        if (p1 + v1) ≤ x3_4 then
        none
      else
        (rdI 64 (rT rs) x3_4).bind fun v4 =>
          if ovf x2_4 v4 then
          some 4
        else
        (fJ0_addExact x2_4 v4).bind fun v6 =>
          (fX0_sumBelow_x_L4 rs p1 nn) v6 (x3_4 + 1)
def fX0_sumBelow_x (rs : RS) (p1 : Int32) : Option (Nat) :=
  fX0_sumBelow_x_L4 rs p1 FU (0 : Int32) p1

def fX0_sumAbove_L4 (rs : RS) (p1 : Int32) : Nat → Int32 → Int32 → Option (Int32)
  | 0, _, _ => none
  | nn + 1, x2_4, x3_4 =>
    if x3_4 = (-4 : Int32) then
        some x2_4
      else
        (rdI 64 (rT rs) x3_4).bind fun v2 =>
          (fJ0_addExact x2_4 v2).bind fun v3 =>
          (fX0_parentOf rs x3_4).bind fun v5 =>
          (fX0_sumAbove_L4 rs p1 nn) v3 v5
def fX0_sumAbove (rs : RS) (p1 : Int32) : Option (Int32) :=
  fX0_sumAbove_L4 rs p1 FU (0 : Int32) p1

def fX0_sumAbove_x_L4 (rs : RS) (p1 : Int32) : Nat → Int32 → Int32 → Option (Nat)
  | 0, _, _ => none
  | nn + 1, x2_4, x3_4 =>
    if x3_4 = (-4 : Int32) then
        none
      else
        (rdI 64 (rT rs) x3_4).bind fun v2 =>
          if ovf x2_4 v2 then
          some 4
        else
        (fJ0_addExact x2_4 v2).bind fun v4 =>
          (fX0_parentOf rs x3_4).bind fun v6 =>
          (fX0_sumAbove_x_L4 rs p1 nn) v4 v6
def fX0_sumAbove_x (rs : RS) (p1 : Int32) : Option (Nat) :=
  fX0_sumAbove_x_L4 rs p1 FU (0 : Int32) p1

def fX0_sum (rs : RS) (p1 : Int32) (p2 : Int32) : Option (Int32) :=
  (fX0_isNode rs p1).bind fun v1 =>
    if v1 = 0 then
    some (-1 : Int32)
  else
    (fX0_in ((p2).toInt64) (0 : Int64) (1 : Int64)).bind fun v4 =>
      if v4 = 0 then
      some (-1 : Int32)
    else
      if p2 = 0 then
        if fX0_sumBelow_x rs p1 = some 4 then
          some (-5 : Int32)
        else
        (fX0_sumBelow rs p1).bind fun v12 =>
          some v12
      else
        if fX0_sumAbove_x rs p1 = some 4 then
          some (-5 : Int32)
        else
        (fX0_sumAbove rs p1).bind fun v9 =>
          some v9

def fX0_lay_sx (p1 : Int32) (p2 : Int32) (p3 : Int64) : Option (Int32) :=
  (fX0_in ((p1).toInt64) (0 : Int64) (3 : Int64)).bind fun v1 =>
    if v1 = 0 then
    some (-1 : Int32)
  else
    none

def fX0_look_sx (p1 : Int32) (p2 : Int32) : Option (Int64) :=
  (fX0_in ((p1).toInt64) (0 : Int64) (3 : Int64)).bind fun v1 =>
    if v1 = 0 then
    some (0 : Int64)
  else
    none

def fX0_sheet_sx (p1 : Int32) (p2 : Int32) (p3 : Int32) : Option (Int32) :=
  (fX0_isSheet p1 p2).bind fun v1 =>
    if v1 = 0 then
    some (-1 : Int32)
  else
    if p3 ≤ (40 : Int32) then
      none
    else
      some (-1 : Int32)

def fX0_stow_sx_L20 (p1 : Int32) (p2 : Int32) (p3 : Int32) : Nat → Int32 → Int32 → Option (Int32)
  | 0, _, _ => none
  | nn + 1, x4_20, x5_20 =>
    none
def fX0_stow_sx (p1 : Int32) (p2 : Int32) (p3 : Int32) : Option (Int32) :=
  (fX0_isSheet p1 p2).bind fun v1 =>
    if v1 = 0 then
    some (-1 : Int32)
  else
    if 0 ≤ p3 then
      fX0_stow_sx_L20 p1 p2 p3 FU (0 : Int32) (0 : Int32)
    else
      some (-1 : Int32)

def fX0_read_sx (p1 : Int32) (p2 : Int32) (p3 : Int32) (p4 : Int32) : Option (Int32) :=
  (fX0_isSheet p1 p2).bind fun v1 =>
    if v1 = 0 then
    some (-1 : Int32)
  else
    (fX0_in ((p4).toInt64) (0 : Int64) (128 : Int64)).bind fun v4 =>
      if v4 = 0 then
      some (-1 : Int32)
    else
      if 0 ≤ p3 then
        none
      else
        some (-1 : Int32)
