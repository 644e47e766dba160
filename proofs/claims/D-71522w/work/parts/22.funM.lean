/-! functions of the model, by program -/
set_option maxRecDepth 100000
def fX3_in (p1 : Int64) (p2 : Int64) (p3 : Int64) : Option (Int32) :=
  if (lg_cmp p1 p2) < 0 then
    some (0 : Int32)
  else
    if 0 < (lg_cmp p1 p3) then
      some (0 : Int32)
    else
      some (1 : Int32)

def fX3_feed (mi : Nat → Int32) (tp : Nat → Int32) (p1 : Int32) : Option (Int32 × (Nat → Int32) × (Nat → Int32)) :=
  (fX3_in ((p1).toInt64) (0 : Int64) (127 : Int64)).bind fun v1 =>
    if v1 = 0 then
    some ((-1 : Int32), mi, tp)
  else
    if (mi 0) = (160 : Int32) then
      some ((-3 : Int32), mi, tp)
    else
      (wrI 160 tp (mi 0) p1).bind fun u5 =>
        some (((upd mi 0 ((mi 0) + (1 : Int32))) 0), (upd mi 0 ((mi 0) + (1 : Int32))), u5)

def fX3_end (mi : Nat → Int32) (p1 : Int32) : Option (Int32 × (Nat → Int32)) :=
  (fX3_in ((p1).toInt64) (0 : Int64) (((mi 0)).toInt64)).bind fun v1 =>
    if v1 = 0 then
    some ((-1 : Int32), mi)
  else
    (some ((mi 0) : Int32)).bind fun y4 =>
      some (y4, (upd mi 0 p1))

def fX3_byteAt (mi : Nat → Int32) (tp : Nat → Int32) (p1 : Int32) : Option (Int32) :=
  if (mi 0) ≤ p1 then
    some (-4 : Int32)
  else
    (rdI 160 tp p1).bind fun v2 =>
      some v2

def fX3_fails (mi : Nat → Int32) (p1 : Int32) : Option ((Nat → Int32)) :=
  if (mi 2) = 0 then
    some (upd (upd mi 2 p1) 3 ((upd mi 2 p1) 5))
  else
    some mi

def fX3_readsOn_B199 (tp : Nat → Int32) (mi_199 : Nat → Int32) (x1_199 : Int32) (s0_199 : Int32) : Option ((Nat → Int32)) :=
    if x1_199 = (40 : Int32) then
                  some (upd (upd mi_199 6 s0_199) 4 (((upd mi_199 6 s0_199) 4) + (1 : Int32)))
                else
                  if x1_199 = (41 : Int32) then
                    some (upd (upd mi_199 6 s0_199) 4 (((upd mi_199 6 s0_199) 4) + (1 : Int32)))
                  else
                    (fX3_fails (upd (upd mi_199 6 s0_199) 4 (((upd mi_199 6 s0_199) 4) + (1 : Int32))) (1 : Int32)).bind fun g14 =>
                      some g14
def fX3_readsOn_B145 (tp : Nat → Int32) (k84 : (Nat → Int32) → Option ((Nat → Int32))) (mi_145 : Nat → Int32) (s0_145 : Int32) : Option ((Nat → Int32)) :=
    k84 (upd (upd mi_145 7 s0_145) 4 (((upd mi_145 7 s0_145) 4) + (1 : Int32)))
def fX3_readsOn_L84 (tp : Nat → Int32) : Nat → (Nat → Int32) → Option ((Nat → Int32))
  | 0, _ => none
  | nn + 1, mi_84 =>
    (fX3_byteAt mi_84 tp (mi_84 4)).bind fun v16 =>
                    (fX3_in ((v16).toInt64) (48 : Int64) (57 : Int64)).bind fun v18 =>
                    if v18 = 0 then
                    if (((upd mi_84 6 (1 : Int32)) 4) - ((upd mi_84 6 (1 : Int32)) 5)) ≤ (4 : Int32) then
                      some (upd mi_84 6 (1 : Int32))
                    else
                      (fX3_fails (upd mi_84 6 (1 : Int32)) (1 : Int32)).bind fun g22 =>
                        some g22
                  else
                    if (4 : Int32) ≤ ((mi_84 4) - (mi_84 5)) then
                      fX3_readsOn_B145 tp (fX3_readsOn_L84 tp nn) mi_84 (mi_84 7)
                    else
                      (fX3_byteAt mi_84 tp (mi_84 4)).bind fun v25 =>
                        fX3_readsOn_B145 tp (fX3_readsOn_L84 tp nn) mi_84 ((((10 : Int32) * (mi_84 7)) + v25) - (48 : Int32))
def fX3_readsOn_L8 (tp : Nat → Int32) : Nat → (Nat → Int32) → Option ((Nat → Int32))
  | 0, _ => none
  | nn + 1, mi_8 =>
    (fX3_byteAt mi_8 tp (mi_8 4)).bind fun v2 =>
          if v2 = (32 : Int32) then
          (fX3_readsOn_L8 tp nn) (upd mi_8 4 ((mi_8 4) + (1 : Int32)))
        else
          (fX3_byteAt (upd mi_8 5 (mi_8 4)) tp ((upd mi_8 5 (mi_8 4)) 4)).bind fun v5 =>
            if v5 = (-4 : Int32) then
            some (upd (upd (upd mi_8 5 (mi_8 4)) 7 (0 : Int32)) 6 (0 : Int32))
          else
            (fX3_in ((v5).toInt64) (48 : Int64) (57 : Int64)).bind fun v8 =>
              if v8 = 0 then
              if v5 = (40 : Int32) then
                fX3_readsOn_B199 tp (upd (upd mi_8 5 (mi_8 4)) 7 (0 : Int32)) v5 (2 : Int32)
              else
                fX3_readsOn_B199 tp (upd (upd mi_8 5 (mi_8 4)) 7 (0 : Int32)) v5 (3 : Int32)
            else
              fX3_readsOn_L84 tp FU (upd (upd mi_8 5 (mi_8 4)) 7 (0 : Int32))
def fX3_readsOn (mi : Nat → Int32) (tp : Nat → Int32) : Option ((Nat → Int32)) :=
  if (mi 2) ≤ 0 then
    fX3_readsOn_L8 tp FU mi
  else
    some mi

def fX3_takes_B48 (tp : Nat → Int32) (p1 : Int32) (p2 : Int32) (mi_48 : Nat → Int32) (rp_48 : Nat → Int32) : Option (Int32 × (Nat → Int32) × (Nat → Int32)) :=
    (fX3_fails mi_48 (2 : Int32)).bind fun g3 =>
        some (p1, g3, rp_48)
def fX3_takes_B144 (tp : Nat → Int32) (p1 : Int32) (p2 : Int32) (mi_144 : Nat → Int32) (rp_144 : Nat → Int32) : Option (Int32 × (Nat → Int32) × (Nat → Int32)) :=
    (rdI 193 rp_144 (192 : Int32)).bind fun v14 =>
              (wrI 193 rp_144 (192 : Int32) (v14 + (1 : Int32))).bind fun u15 =>
              some ((p1 + (1 : Int32)), mi_144, u15)
def fX3_takes_B55 (tp : Nat → Int32) (p1 : Int32) (p2 : Int32) (mi_55 : Nat → Int32) (rp_55 : Nat → Int32) : Option (Int32 × (Nat → Int32) × (Nat → Int32)) :=
    (rdI 193 rp_55 (192 : Int32)).bind fun v6 =>
          if v6 = (64 : Int32) then
          (fX3_fails mi_55 (5 : Int32)).bind fun g21 =>
            some (p1, g21, rp_55)
        else
          (wrI 193 rp_55 p2 (1 : Int32)).bind fun u8 =>
            (rdI 193 u8 (192 : Int32)).bind fun v9 =>
            (wrI 193 u8 ((128 : Int32) + v9) (0 : Int32)).bind fun u10 =>
            (fX3_readsOn mi_55 tp).bind fun g11 =>
            if (g11 2) = 0 then
            if (g11 6) = (1 : Int32) then
              (rdI 193 u10 (192 : Int32)).bind fun v17 =>
                (wrI 193 u10 ((128 : Int32) + v17) (g11 7)).bind fun u18 =>
                (fX3_readsOn g11 tp).bind fun g19 =>
                fX3_takes_B144 tp p1 p2 g19 u18
            else
              fX3_takes_B144 tp p1 p2 g11 u10
          else
            fX3_takes_B144 tp p1 p2 g11 u10
def fX3_takes_B17 (tp : Nat → Int32) (p1 : Int32) (p2 : Int32) (mi_17 : Nat → Int32) (rp_17 : Nat → Int32) : Option (Int32 × (Nat → Int32) × (Nat → Int32)) :=
    (wrI 193 rp_17 p2 (0 : Int32)).bind fun u25 =>
        (fX3_readsOn mi_17 tp).bind fun g26 =>
        some ((p1 - (1 : Int32)), g26, u25)
def fX3_takes (mi : Nat → Int32) (rp : Nat → Int32) (tp : Nat → Int32) (p1 : Int32) (p2 : Int32) : Option (Int32 × (Nat → Int32) × (Nat → Int32)) :=
  if (mi 6) = (3 : Int32) then
    if p1 = 0 then
      (fX3_fails mi (2 : Int32)).bind fun g28 =>
        fX3_takes_B17 tp p1 p2 g28 rp
    else
      fX3_takes_B17 tp p1 p2 mi rp
  else
    if (mi 6) = (2 : Int32) then
      if p1 = 0 then
        if p2 ≤ 0 then
          fX3_takes_B55 tp p1 p2 mi rp
        else
          fX3_takes_B48 tp p1 p2 mi rp
      else
        fX3_takes_B55 tp p1 p2 mi rp
    else
      fX3_takes_B48 tp p1 p2 mi rp

def fX3_text_L88 (tp : Nat → Int32) : Nat → (Nat → Int32) → (Nat → Int32) → (Nat → Int32) → (Nat → Int32) → Int32 → Option (Int32 × (Nat → Int32) × (Nat → Int32) × (Nat → Int32) × (Nat → Int32))
  | 0, _, _, _, _, _ => none
  | nn + 1, mi_88, st_88, rp_88, ik_88, x3_88 =>
    if (193 : Int32) ≤ x3_88 then
                (wrI 2 ik_88 (0 : Int32) (vp_nar .boolean (0 : Int32))).bind fun u7 =>
                  (wrI 2 u7 (1 : Int32) (vp_nar .boolean (0 : Int32))).bind fun u8 =>
                  (rdI 579 st_88 (192 : Int32)).bind fun v9 =>
                  some (v9, mi_88, st_88, rp_88, u8)
              else
                (rdI 193 rp_88 x3_88).bind fun v10 =>
                  (wrI 579 st_88 x3_88 v10).bind fun u11 =>
                  (fX3_text_L88 tp nn) mi_88 u11 rp_88 ik_88 (x3_88 + 1)
def fX3_text_B58 (tp : Nat → Int32) (mi_58 : Nat → Int32) (st_58 : Nat → Int32) (rp_58 : Nat → Int32) (ik_58 : Nat → Int32) : Option (Int32 × (Nat → Int32) × (Nat → Int32) × (Nat → Int32) × (Nat → Int32)) :=
    if ((upd (upd mi_58 0 (0 : Int32)) 1 ((upd mi_58 0 (0 : Int32)) 2)) 2) ≤ 0 then
          fX3_text_L88 tp FU (upd (upd mi_58 0 (0 : Int32)) 1 ((upd mi_58 0 (0 : Int32)) 2)) st_58 rp_58 ik_58 (0 : Int32)
        else
          some (((-10 : Int32) - ((upd (upd mi_58 0 (0 : Int32)) 1 ((upd mi_58 0 (0 : Int32)) 2)) 3)), (upd (upd mi_58 0 (0 : Int32)) 1 ((upd mi_58 0 (0 : Int32)) 2)), st_58, rp_58, ik_58)
def fX3_text_B45 (tp : Nat → Int32) (k27 : (Nat → Int32) → (Nat → Int32) → (Nat → Int32) → (Nat → Int32) → Int32 → Int32 → Option (Int32 × (Nat → Int32) × (Nat → Int32) × (Nat → Int32) × (Nat → Int32))) (mi_45 : Nat → Int32) (st_45 : Nat → Int32) (rp_45 : Nat → Int32) (ik_45 : Nat → Int32) (x1_45 : Int32) (x2_45 : Int32) : Option (Int32 × (Nat → Int32) × (Nat → Int32) × (Nat → Int32) × (Nat → Int32)) :=
    (fX3_takes mi_45 rp_45 tp x1_45 x2_45).bind fun (v13, g14, g15) =>
            k27 g14 st_45 g15 ik_45 v13 (x2_45 + 1)
def fX3_text_L27 (tp : Nat → Int32) : Nat → (Nat → Int32) → (Nat → Int32) → (Nat → Int32) → (Nat → Int32) → Int32 → Int32 → Option (Int32 × (Nat → Int32) × (Nat → Int32) × (Nat → Int32) × (Nat → Int32))
  | 0, _, _, _, _, _, _ => none
  | nn + 1, mi_27, st_27, rp_27, ik_27, x1_27, x2_27 =>
    if (mi_27 2) = 0 then
        if (mi_27 6) = 0 then
          if x1_27 ≤ 0 then
            fX3_text_B58 tp mi_27 st_27 rp_27 ik_27
          else
            fX3_text_B45 tp (fX3_text_L27 tp nn) mi_27 st_27 rp_27 ik_27 x1_27 x2_27
        else
          fX3_text_B45 tp (fX3_text_L27 tp nn) mi_27 st_27 rp_27 ik_27 x1_27 x2_27
      else
        fX3_text_B58 tp mi_27 st_27 rp_27 ik_27
def fX3_text (mi : Nat → Int32) (st : Nat → Int32) (rp : Nat → Int32) (tp : Nat → Int32) (ik : Nat → Int32) : Option (Int32 × (Nat → Int32) × (Nat → Int32) × (Nat → Int32) × (Nat → Int32)) :=
  (wrI 193 rp (192 : Int32) (0 : Int32)).bind fun u1 =>
    (fX3_readsOn (upd (upd mi 2 (0 : Int32)) 4 (0 : Int32)) tp).bind fun g2 =>
    fX3_text_L27 tp FU g2 st u1 ik (0 : Int32) (0 : Int32)

def fX3_fault (mi : Nat → Int32) : Option (Int32) :=
  some (mi 1)

def fX3_many (st : Nat → Int32) : Option (Int32) :=
  (rdI 579 st (192 : Int32)).bind fun v1 =>
    some v1

def fX3_places (st : Nat → Int32) : Option (Int32) :=
  (rdI 579 st (192 : Int32)).bind fun v1 =>
    some ((2 : Int32) * v1)

def fX3_isNode (st : Nat → Int32) (p1 : Int32) : Option (Int32) :=
  (fX3_many st).bind fun v1 =>
    (fX3_in ((p1).toInt64) (0 : Int64) (((v1 - (1 : Int32))).toInt64)).bind fun v3 =>
    some v3

def fX3_isMark (st : Nat → Int32) (p1 : Int32) : Option (Int32) :=
  (fX3_places st).bind fun v1 =>
    (fX3_in ((p1).toInt64) (0 : Int64) ((v1).toInt64)).bind fun v3 =>
    some v3

def fX3_excessAt_B25 (st : Nat → Int32) (p1 : Int32) (k4 : Int32 → Int32 → Option (Int32)) (x3_25 : Int32) (s0_25 : Int32) (s1_25 : Int32) : Option (Int32) :=
    (some ((s1_25 + s0_25) : Int32)).bind fun y4 =>
            k4 y4 (x3_25 + 1)
def fX3_excessAt_L4 (st : Nat → Int32) (p1 : Int32) : Nat → Int32 → Int32 → Option (Int32)
  | 0, _, _ => none
  | nn + 1, x2_4, x3_4 =>
    if p1 ≤ x3_4 then
        some x2_4
      else
        (rdI 579 st x3_4).bind fun v2 =>
          if v2 = (1 : Int32) then
          fX3_excessAt_B25 st p1 (fX3_excessAt_L4 st p1 nn) x3_4 (1 : Int32) x2_4
        else
          fX3_excessAt_B25 st p1 (fX3_excessAt_L4 st p1 nn) x3_4 (-1 : Int32) x2_4
def fX3_excessAt (st : Nat → Int32) (p1 : Int32) : Option (Int32) :=
  fX3_excessAt_L4 st p1 FU (0 : Int32) (0 : Int32)

def fX3_opensAt (st : Nat → Int32) (p1 : Int32) : Option (Int32) :=
  (fX3_excessAt st p1).bind fun v1 =>
    some ((p1 + v1) / (2 : Int32))

def fX3_openOf_L11 (st : Nat → Int32) (p1 : Int32) (k4 : Int32 → Int32 → Option (Int32)) : Nat → Int32 → Int32 → Option (Int32)
  | 0, _, _ => none
  | nn + 1, x2_11, x3_11 =>
    (rdI 579 st x2_11).bind fun v2 =>
              if v2 = 0 then
              (fX3_openOf_L11 st p1 k4 nn) (x2_11 + 1) x3_11
            else
              k4 x2_11 (x3_11 + (-1))
def fX3_openOf_L4 (st : Nat → Int32) (p1 : Int32) : Nat → Int32 → Int32 → Option (Int32)
  | 0, _, _ => none
  | nn + 1, x2_4, x3_4 =>
    if x3_4 < 0 then
        some x2_4
      else
        fX3_openOf_L11 st p1 (fX3_openOf_L4 st p1 nn) FU (x2_4 + 1) x3_4
def fX3_openOf (st : Nat → Int32) (p1 : Int32) : Option (Int32) :=
  fX3_openOf_L4 st p1 FU (-1 : Int32) p1

def fX3_shutOf_B27 (st : Nat → Int32) (p1 : Int32) (k4 : Int32 → Int32 → Option (Int32)) (x3_27 : Int32) (s0_27 : Int32) (s1_27 : Int32) : Option (Int32) :=
    (some ((s1_27 + s0_27) : Int32)).bind fun y4 =>
            k4 y4 x3_27
def fX3_shutOf_L4 (st : Nat → Int32) (p1 : Int32) : Nat → Int32 → Int32 → Option (Int32)
  | 0, _, _ => none
  | nn + 1, x2_4, x3_4 =>
    if x2_4 ≤ 0 then
        some x3_4
      else
        (rdI 579 st (x3_4 + 1)).bind fun v2 =>
          if v2 = (1 : Int32) then
          fX3_shutOf_B27 st p1 (fX3_shutOf_L4 st p1 nn) (x3_4 + 1) (1 : Int32) x2_4
        else
          fX3_shutOf_B27 st p1 (fX3_shutOf_L4 st p1 nn) (x3_4 + 1) (-1 : Int32) x2_4
def fX3_shutOf (st : Nat → Int32) (p1 : Int32) : Option (Int32) :=
  fX3_shutOf_L4 st p1 FU (1 : Int32) p1

def fX3_depthOf (st : Nat → Int32) (p1 : Int32) : Option (Int32) :=
  (fX3_openOf st p1).bind fun v1 =>
    (fX3_excessAt st v1).bind fun v3 =>
    some v3

def fX3_isPair (st : Nat → Int32) (p1 : Int32) : Option (Int32) :=
  (fX3_places st).bind fun v1 =>
    if v1 ≤ (p1 + (1 : Int32)) then
    some (0 : Int32)
  else
    (rdI 579 st p1).bind fun v4 =>
      if v4 = (1 : Int32) then
      (rdI 579 st (p1 + (1 : Int32))).bind fun v6 =>
        if v6 = 0 then
        some (1 : Int32)
      else
        some (0 : Int32)
    else
      some (0 : Int32)

def fX3_isSort (st : Nat → Int32) (p1 : Int32) (p2 : Int32) : Option (Int32) :=
  if p2 = (2 : Int32) then
    (fX3_isPair st p1).bind fun v4 =>
      some v4
  else
    (rdI 579 st p1).bind fun v2 =>
      if v2 = ((1 : Int32) - p2) then
      some (1 : Int32)
    else
      some (0 : Int32)

def fX3_size_B57 (st : Nat → Int32) (p1 : Int32) (k7 : Int32 → Int32 → Int32 → Option (Int32)) (x2_57 : Int32) (x4_57 : Int32) (s0_57 : Int32) : Option (Int32) :=
    k7 x2_57 s0_57 (x4_57 + 1)
def fX3_size_B31 (st : Nat → Int32) (p1 : Int32) (k7 : Int32 → Int32 → Int32 → Option (Int32)) (x3_31 : Int32) (x4_31 : Int32) (s0_31 : Int32) (s1_31 : Int32) : Option (Int32) :=
    (some ((s1_31 + s0_31) : Int32)).bind fun y21 =>
            (fX3_excessAt st (x4_31 + (1 : Int32))).bind fun v22 =>
            if v22 ≤ x3_31 then
            fX3_size_B57 st p1 k7 y21 x4_31 x3_31
          else
            (fX3_excessAt st (x4_31 + (1 : Int32))).bind fun v25 =>
              fX3_size_B57 st p1 k7 y21 x4_31 v25
def fX3_size_L7 (st : Nat → Int32) (p1 : Int32) : Nat → Int32 → Int32 → Int32 → Option (Int32)
  | 0, _, _, _ => none
  | nn + 1, x2_7, x3_7, x4_7 =>
    (fX3_places st).bind fun v1 =>
        if v1 ≤ x4_7 then
        if p1 = 0 then
          (fX3_many st).bind fun v5 =>
            some v5
        else
        if p1 = 1 then
          some x2_7
        else
        if p1 = 2 then
          (fX3_many st).bind fun v9 =>
            if v9 = 0 then
            some (-4 : Int32)
          else
            some (x3_7 - (1 : Int32))
        else
        if p1 = 3 then
          (fX3_places st).bind fun v13 =>
            some v13
        else
        if p1 = 4 then
          (fX3_places st).bind fun v16 =>
            some (((v16 + (16 : Int32)) - (1 : Int32)) / (16 : Int32))
        else
        some (-1 : Int32)
      else
        (fX3_isPair st x4_7).bind fun v18 =>
          if v18 = 0 then
          fX3_size_B31 st p1 (fX3_size_L7 st p1 nn) x3_7 x4_7 (0 : Int32) x2_7
        else
          fX3_size_B31 st p1 (fX3_size_L7 st p1 nn) x3_7 x4_7 (1 : Int32) x2_7
def fX3_size (st : Nat → Int32) (p1 : Int32) : Option (Int32) :=
  fX3_size_L7 st p1 FU (0 : Int32) (0 : Int32) (0 : Int32)

def fX3_bit (st : Nat → Int32) (p1 : Int32) : Option (Int32) :=
  (fX3_places st).bind fun v1 =>
    (fX3_in ((p1).toInt64) (0 : Int64) (((v1 - (1 : Int32))).toInt64)).bind fun v3 =>
    if v3 = 0 then
    some (-1 : Int32)
  else
    (rdI 579 st p1).bind fun v6 =>
      some v6

def fX3_excess (st : Nat → Int32) (p1 : Int32) : Option (Int32) :=
  (fX3_isMark st p1).bind fun v1 =>
    if v1 = 0 then
    some (-1 : Int32)
  else
    (fX3_excessAt st p1).bind fun v4 =>
      some v4

def fX3_rank_B62 (st : Nat → Int32) (p1 : Int32) (p2 : Int32) (k27 : Int32 → Int32 → Option (Int32)) (x4_62 : Int32) (s0_62 : Int32) (s1_62 : Int32) : Option (Int32) :=
    (some ((s1_62 + s0_62) : Int32)).bind fun y11 =>
                k27 y11 (x4_62 + 1)
def fX3_rank_B61 (st : Nat → Int32) (p1 : Int32) (p2 : Int32) (k27 : Int32 → Int32 → Option (Int32)) (x4_61 : Int32) (s0_61 : Int32) : Option (Int32) :=
    fX3_rank_B62 st p1 p2 k27 x4_61 (0 : Int32) s0_61
def fX3_rank_B57 (st : Nat → Int32) (p1 : Int32) (p2 : Int32) (k27 : Int32 → Int32 → Option (Int32)) (x4_57 : Int32) (s0_57 : Int32) : Option (Int32) :=
    fX3_rank_B62 st p1 p2 k27 x4_57 (1 : Int32) s0_57
def fX3_rank_L27 (st : Nat → Int32) (p1 : Int32) (p2 : Int32) : Nat → Int32 → Int32 → Option (Int32)
  | 0, _, _ => none
  | nn + 1, x3_27, x4_27 =>
    if p1 ≤ x4_27 then
            some x3_27
          else
            (fX3_isSort st x4_27 p2).bind fun v8 =>
              if v8 = 0 then
              fX3_rank_B61 st p1 p2 (fX3_rank_L27 st p1 p2 nn) x4_27 x3_27
            else
              if p2 < (2 : Int32) then
                fX3_rank_B57 st p1 p2 (fX3_rank_L27 st p1 p2 nn) x4_27 x3_27
              else
                if p1 ≤ (x4_27 + (1 : Int32)) then
                  fX3_rank_B61 st p1 p2 (fX3_rank_L27 st p1 p2 nn) x4_27 x3_27
                else
                  fX3_rank_B57 st p1 p2 (fX3_rank_L27 st p1 p2 nn) x4_27 x3_27
def fX3_rank (st : Nat → Int32) (p1 : Int32) (p2 : Int32) : Option (Int32) :=
  (fX3_isMark st p1).bind fun v1 =>
    if v1 = 0 then
    some (-1 : Int32)
  else
    (fX3_in ((p2).toInt64) (0 : Int64) (2 : Int64)).bind fun v4 =>
      if v4 = 0 then
      some (-1 : Int32)
    else
      fX3_rank_L27 st p1 p2 FU (0 : Int32) (0 : Int32)

def fX3_select_B52 (st : Nat → Int32) (p1 : Int32) (p2 : Int32) (k23 : Int32 → Int32 → Option (Int32)) (x3_52 : Int32) (x4_52 : Int32) : Option (Int32) :=
    k23 x3_52 (x4_52 + 1)
def fX3_select_L23 (st : Nat → Int32) (p1 : Int32) (p2 : Int32) : Nat → Int32 → Int32 → Option (Int32)
  | 0, _, _ => none
  | nn + 1, x3_23, x4_23 =>
    (fX3_places st).bind fun v5 =>
            if v5 ≤ x4_23 then
            some (-4 : Int32)
          else
            (fX3_isSort st x4_23 p2).bind fun v8 =>
              if v8 = 0 then
              fX3_select_B52 st p1 p2 (fX3_select_L23 st p1 p2 nn) x3_23 x4_23
            else
              if x3_23 = 0 then
                some x4_23
              else
                fX3_select_B52 st p1 p2 (fX3_select_L23 st p1 p2 nn) (x3_23 + (-1)) x4_23
def fX3_select (st : Nat → Int32) (p1 : Int32) (p2 : Int32) : Option (Int32) :=
  if p1 < 0 then
    some (-1 : Int32)
  else
    (fX3_in ((p2).toInt64) (0 : Int64) (2 : Int64)).bind fun v2 =>
      if v2 = 0 then
      some (-1 : Int32)
    else
      fX3_select_L23 st p1 p2 FU p1 (0 : Int32)

def fX3_forward_L14 (st : Nat → Int32) (p1 : Int32) (p2 : Int32) : Nat → Int32 → Option (Int32)
  | 0, _ => none
  | nn + 1, x3_14 =>
    (fX3_places st).bind fun v5 =>
          if v5 < x3_14 then
          some (-4 : Int32)
        else
          (fX3_excessAt st x3_14).bind fun v8 =>
            if v8 = p2 then
            some x3_14
          else
            (fX3_forward_L14 st p1 p2 nn) (x3_14 + 1)
def fX3_forward (st : Nat → Int32) (p1 : Int32) (p2 : Int32) : Option (Int32) :=
  (fX3_isMark st p1).bind fun v1 =>
    if v1 = 0 then
    some (-1 : Int32)
  else
    (some ((p1 + (1 : Int32)) : Int32)).bind fun y4 =>
      fX3_forward_L14 st p1 p2 FU y4

def fX3_backward_L14 (st : Nat → Int32) (p1 : Int32) (p2 : Int32) : Nat → Int32 → Option (Int32)
  | 0, _ => none
  | nn + 1, x3_14 =>
    if x3_14 < 0 then
          some (-4 : Int32)
        else
          (fX3_excessAt st x3_14).bind fun v6 =>
            if v6 = p2 then
            some x3_14
          else
            (fX3_backward_L14 st p1 p2 nn) (x3_14 + (-1))
def fX3_backward (st : Nat → Int32) (p1 : Int32) (p2 : Int32) : Option (Int32) :=
  (fX3_isMark st p1).bind fun v1 =>
    if v1 = 0 then
    some (-1 : Int32)
  else
    (some ((p1 - (1 : Int32)) : Int32)).bind fun y4 =>
      fX3_backward_L14 st p1 p2 FU y4

def fX3_match_B61 (st : Nat → Int32) (p1 : Int32) (k38 : Int32 → Int32 → Option (Int32)) (x2_61 : Int32) (s0_61 : Int32) (s1_61 : Int32) : Option (Int32) :=
    (some ((s1_61 + s0_61) : Int32)).bind fun y11 =>
                k38 x2_61 y11
def fX3_match_L38 (st : Nat → Int32) (p1 : Int32) : Nat → Int32 → Int32 → Option (Int32)
  | 0, _, _ => none
  | nn + 1, x2_38, x3_38 =>
    if x3_38 ≤ 0 then
            some x2_38
          else
            (rdI 579 st (x2_38 + (-1))).bind fun v9 =>
              if v9 = (1 : Int32) then
              fX3_match_B61 st p1 (fX3_match_L38 st p1 nn) (x2_38 + (-1)) (-1 : Int32) x3_38
            else
              fX3_match_B61 st p1 (fX3_match_L38 st p1 nn) (x2_38 + (-1)) (1 : Int32) x3_38
def fX3_match (st : Nat → Int32) (p1 : Int32) : Option (Int32) :=
  (fX3_places st).bind fun v1 =>
    (fX3_in ((p1).toInt64) (0 : Int64) (((v1 - (1 : Int32))).toInt64)).bind fun v3 =>
    if v3 = 0 then
    some (-1 : Int32)
  else
    (rdI 579 st p1).bind fun v6 =>
      if v6 = (1 : Int32) then
      (fX3_shutOf st p1).bind fun v12 =>
        some v12
    else
      fX3_match_L38 st p1 FU p1 (1 : Int32)

def fX3_least_B144 (st : Nat → Int32) (p1 : Int32) (p2 : Int32) (p3 : Int32) (k55 : Int32 → Int32 → Int32 → Int32 → Int32 → Option (Int32)) (x4_144 : Int32) (x6_144 : Int32) (x7_144 : Int32) (x8_144 : Int32) (s0_144 : Int32) : Option (Int32) :=
    k55 x4_144 s0_144 x6_144 x7_144 (x8_144 + 1)
def fX3_least_B128 (st : Nat → Int32) (p1 : Int32) (p2 : Int32) (p3 : Int32) (k55 : Int32 → Int32 → Int32 → Int32 → Int32 → Option (Int32)) (x5_128 : Int32) (x6_128 : Int32) (x7_128 : Int32) (x8_128 : Int32) (x9_128 : Int32) (s0_128 : Int32) : Option (Int32) :=
    if x9_128 ≤ x5_128 then
                        fX3_least_B144 st p1 p2 p3 k55 s0_128 x6_128 x7_128 x8_128 x5_128
                      else
                        fX3_least_B144 st p1 p2 p3 k55 s0_128 x6_128 x7_128 x8_128 x9_128
def fX3_least_B112 (st : Nat → Int32) (p1 : Int32) (p2 : Int32) (p3 : Int32) (k55 : Int32 → Int32 → Int32 → Int32 → Int32 → Option (Int32)) (x4_112 : Int32) (x5_112 : Int32) (x7_112 : Int32) (x8_112 : Int32) (x9_112 : Int32) (s0_112 : Int32) : Option (Int32) :=
    if x4_112 ≤ x9_112 then
                      fX3_least_B128 st p1 p2 p3 k55 x5_112 s0_112 x7_112 x8_112 x9_112 x4_112
                    else
                      fX3_least_B128 st p1 p2 p3 k55 x5_112 s0_112 x7_112 x8_112 x9_112 x9_112
def fX3_least_B96 (st : Nat → Int32) (p1 : Int32) (p2 : Int32) (p3 : Int32) (k55 : Int32 → Int32 → Int32 → Int32 → Int32 → Option (Int32)) (x4_96 : Int32) (x5_96 : Int32) (x6_96 : Int32) (x8_96 : Int32) (x9_96 : Int32) (s0_96 : Int32) : Option (Int32) :=
    if x4_96 ≤ x9_96 then
                    fX3_least_B112 st p1 p2 p3 k55 x4_96 x5_96 s0_96 x8_96 x9_96 x6_96
                  else
                    fX3_least_B112 st p1 p2 p3 k55 x4_96 x5_96 s0_96 x8_96 x9_96 x8_96
def fX3_least_L55 (st : Nat → Int32) (p1 : Int32) (p2 : Int32) (p3 : Int32) : Nat → Int32 → Int32 → Int32 → Int32 → Int32 → Option (Int32)
  | 0, _, _, _, _, _ => none
  | nn + 1, x4_55, x5_55, x6_55, x7_55, x8_55 =>
    if p2 < x8_55 then
                if p3 = 0 then
                  some x4_55
                else
                  if p3 = (1 : Int32) then
                    some x6_55
                  else
                    if p3 = (2 : Int32) then
                      some x7_55
                    else
                      some x5_55
              else
                (fX3_excessAt st x8_55).bind fun v17 =>
                  if x4_55 ≤ v17 then
                  if v17 = x4_55 then
                    fX3_least_B96 st p1 p2 p3 (fX3_least_L55 st p1 p2 p3 nn) x4_55 x5_55 x6_55 x8_55 v17 (x7_55 + (1 : Int32))
                  else
                    fX3_least_B96 st p1 p2 p3 (fX3_least_L55 st p1 p2 p3 nn) x4_55 x5_55 x6_55 x8_55 v17 x7_55
                else
                  fX3_least_B96 st p1 p2 p3 (fX3_least_L55 st p1 p2 p3 nn) x4_55 x5_55 x6_55 x8_55 v17 (1 : Int32)
def fX3_least (st : Nat → Int32) (p1 : Int32) (p2 : Int32) (p3 : Int32) : Option (Int32) :=
  (fX3_isMark st p1).bind fun v1 =>
    if v1 = 0 then
    some (-1 : Int32)
  else
    (fX3_isMark st p2).bind fun v4 =>
      if v4 = 0 then
      some (-1 : Int32)
    else
      if p2 < p1 then
        some (-1 : Int32)
      else
        (fX3_in ((p3).toInt64) (0 : Int64) (3 : Int64)).bind fun v8 =>
          if v8 = 0 then
          some (-1 : Int32)
        else
          (fX3_excessAt st p1).bind fun v11 =>
            fX3_least_L55 st p1 p2 p3 FU v11 v11 p1 (0 : Int32) p1

def fX3_block_B132 (st : Nat → Int32) (p1 : Int32) (p2 : Int32) (x4_132 : Int32) (x5_132 : Int32) (x6_132 : Int32) : Option (Int32) :=
    if p2 = 0 then
                some ((100 : Int32) + x4_132)
              else
                if p2 = (1 : Int32) then
                  some ((100 : Int32) + x5_132)
                else
                  some ((100 : Int32) + x6_132)
def fX3_block_B124 (st : Nat → Int32) (p1 : Int32) (p2 : Int32) (k61 : Int32 → Int32 → Int32 → Int32 → Int32 → Option (Int32)) (x3_124 : Int32) (x4_124 : Int32) (x5_124 : Int32) (x7_124 : Int32) (s0_124 : Int32) : Option (Int32) :=
    k61 x3_124 x4_124 x5_124 s0_124 (x7_124 + 1)
def fX3_block_B108 (st : Nat → Int32) (p1 : Int32) (p2 : Int32) (k61 : Int32 → Int32 → Int32 → Int32 → Int32 → Option (Int32)) (x3_108 : Int32) (x4_108 : Int32) (x6_108 : Int32) (x7_108 : Int32) (s0_108 : Int32) : Option (Int32) :=
    if x4_108 ≤ x6_108 then
                    fX3_block_B124 st p1 p2 k61 x3_108 x4_108 s0_108 x7_108 x6_108
                  else
                    fX3_block_B124 st p1 p2 k61 x3_108 x4_108 s0_108 x7_108 x4_108
def fX3_block_L61 (st : Nat → Int32) (p1 : Int32) (p2 : Int32) : Nat → Int32 → Int32 → Int32 → Int32 → Int32 → Option (Int32)
  | 0, _, _, _, _, _ => none
  | nn + 1, x3_61, x4_61, x5_61, x6_61, x7_61 =>
    if (((16 : Int32) * p1) + (16 : Int32)) ≤ x7_61 then
              fX3_block_B132 st p1 p2 x4_61 x5_61 x6_61
            else
              (fX3_places st).bind fun v14 =>
                if v14 ≤ x7_61 then
                fX3_block_B132 st p1 p2 x4_61 x5_61 x6_61
              else
                (fX3_excessAt st (x7_61 + (1 : Int32))).bind fun v17 =>
                  (some ((v17 - x3_61) : Int32)).bind fun y19 =>
                  if x5_61 ≤ y19 then
                  fX3_block_B108 st p1 p2 (fX3_block_L61 st p1 p2 nn) x3_61 y19 x6_61 x7_61 x5_61
                else
                  fX3_block_B108 st p1 p2 (fX3_block_L61 st p1 p2 nn) x3_61 y19 x6_61 x7_61 y19
def fX3_block (st : Nat → Int32) (p1 : Int32) (p2 : Int32) : Option (Int32) :=
  if p1 < 0 then
    some (-1 : Int32)
  else
    (fX3_places st).bind fun v2 =>
      if 0 ≤ (lg_cmp ((16 : Int64) * ((p1).toInt64)) ((v2).toInt64)) then
      some (-1 : Int32)
    else
      (fX3_in ((p2).toInt64) (0 : Int64) (2 : Int64)).bind fun v5 =>
        if v5 = 0 then
        some (-1 : Int32)
      else
        (fX3_excessAt st ((16 : Int32) * p1)).bind fun v8 =>
          (some (((16 : Int32) * p1) : Int32)).bind fun y10 =>
          fX3_block_L61 st p1 p2 FU v8 (0 : Int32) (1000 : Int32) (-1000 : Int32) y10

def fX3_sizeOf (st : Nat → Int32) (p1 : Int32) : Option (Int32) :=
  (fX3_openOf st p1).bind fun v1 =>
    (fX3_shutOf st v1).bind fun v3 =>
    some (((v3 - v1) + (1 : Int32)) / (2 : Int32))

def fX3_upFrom_B65 (st : Nat → Int32) (p1 : Int32) (p2 : Int32) (k5 : Int32 → Int32 → Option (Int32)) (x4_65 : Int32) (s0_65 : Int32) : Option (Int32) :=
    k5 s0_65 (x4_65 + 1)
def fX3_upFrom_B53 (st : Nat → Int32) (p1 : Int32) (p2 : Int32) (k5 : Int32 → Int32 → Option (Int32)) (x4_53 : Int32) (x6_53 : Int32) : Option (Int32) :=
    if 0 ≤ x6_53 then
                  fX3_upFrom_B65 st p1 p2 k5 x4_53 x6_53
                else
                  fX3_upFrom_B65 st p1 p2 k5 x4_53 (-4 : Int32)
def fX3_upFrom_L29 (st : Nat → Int32) (p1 : Int32) (p2 : Int32) (k5 : Int32 → Int32 → Option (Int32)) : Nat → Int32 → Int32 → Int32 → Option (Int32)
  | 0, _, _, _ => none
  | nn + 1, x4_29, x5_29, x6_29 =>
    if x6_29 < 0 then
                fX3_upFrom_B53 st p1 p2 k5 x4_29 x6_29
              else
                (fX3_depthOf st x6_29).bind fun v8 =>
                  if v8 = (x5_29 - (1 : Int32)) then
                  fX3_upFrom_B53 st p1 p2 k5 x4_29 x6_29
                else
                  (fX3_upFrom_L29 st p1 p2 k5 nn) x4_29 x5_29 (x6_29 + (-1))
def fX3_upFrom_L5 (st : Nat → Int32) (p1 : Int32) (p2 : Int32) : Nat → Int32 → Int32 → Option (Int32)
  | 0, _, _ => none
  | nn + 1, x3_5, x4_5 =>
    if p2 ≤ x4_5 then
        some x3_5
      else
        if x3_5 = (-4 : Int32) then
          some x3_5
        else
          (fX3_depthOf st x3_5).bind fun v3 =>
            (some ((x3_5 - (1 : Int32)) : Int32)).bind fun y5 =>
            fX3_upFrom_L29 st p1 p2 (fX3_upFrom_L5 st p1 p2 nn) FU x4_5 v3 y5
def fX3_upFrom (st : Nat → Int32) (p1 : Int32) (p2 : Int32) : Option (Int32) :=
  fX3_upFrom_L5 st p1 p2 FU p1 (0 : Int32)

def fX3_childrenOf_B38 (st : Nat → Int32) (p1 : Int32) (k6 : Int32 → Int32 → Option (Int32)) (x3_38 : Int32) (s0_38 : Int32) (s1_38 : Int32) : Option (Int32) :=
    (some ((s1_38 + s0_38) : Int32)).bind fun y10 =>
            k6 y10 (x3_38 + 1)
def fX3_childrenOf_L6 (st : Nat → Int32) (p1 : Int32) : Nat → Int32 → Int32 → Option (Int32)
  | 0, _, _ => none
  | nn + 1, x2_6, x3_6 =>
    (fX3_sizeOf st p1).bind fun v2 =>
        if (p1 + v2) ≤ x3_6 then
        some x2_6
      else
        (fX3_depthOf st x3_6).bind fun v5 =>
          (fX3_depthOf st p1).bind fun v7 =>
          if v5 = (v7 + (1 : Int32)) then
          fX3_childrenOf_B38 st p1 (fX3_childrenOf_L6 st p1 nn) x3_6 (1 : Int32) x2_6
        else
          fX3_childrenOf_B38 st p1 (fX3_childrenOf_L6 st p1 nn) x3_6 (0 : Int32) x2_6
def fX3_childrenOf (st : Nat → Int32) (p1 : Int32) : Option (Int32) :=
  (some ((p1 + (1 : Int32)) : Int32)).bind fun y1 =>
    fX3_childrenOf_L6 st p1 FU (0 : Int32) y1

def fX3_childOf_B45 (st : Nat → Int32) (p1 : Int32) (p2 : Int32) (k7 : Int32 → Int32 → Option (Int32)) (x3_45 : Int32) (x4_45 : Int32) : Option (Int32) :=
    k7 x3_45 (x4_45 + 1)
def fX3_childOf_L7 (st : Nat → Int32) (p1 : Int32) (p2 : Int32) : Nat → Int32 → Int32 → Option (Int32)
  | 0, _, _ => none
  | nn + 1, x3_7, x4_7 =>
    (fX3_sizeOf st p1).bind fun v2 =>
        if (p1 + v2) ≤ x4_7 then
        some (-4 : Int32)
      else
        (fX3_depthOf st x4_7).bind fun v5 =>
          (fX3_depthOf st p1).bind fun v7 =>
          if v5 = (v7 + (1 : Int32)) then
          if x3_7 = 0 then
            some x4_7
          else
            fX3_childOf_B45 st p1 p2 (fX3_childOf_L7 st p1 p2 nn) (x3_7 + (-1)) x4_7
        else
          fX3_childOf_B45 st p1 p2 (fX3_childOf_L7 st p1 p2 nn) x3_7 x4_7
def fX3_childOf (st : Nat → Int32) (p1 : Int32) (p2 : Int32) : Option (Int32) :=
  (some ((p1 + (1 : Int32)) : Int32)).bind fun y1 =>
    fX3_childOf_L7 st p1 p2 FU p2 y1

def fX3_whichOf_B50 (st : Nat → Int32) (p1 : Int32) (k21 : Int32 → Int32 → Int32 → Int32 → Option (Int32)) (x2_50 : Int32) (x3_50 : Int32) (x5_50 : Int32) (s0_50 : Int32) (s1_50 : Int32) : Option (Int32) :=
    (some ((s1_50 + s0_50) : Int32)).bind fun y11 =>
              k21 x2_50 x3_50 y11 (x5_50 + 1)
def fX3_whichOf_L21 (st : Nat → Int32) (p1 : Int32) : Nat → Int32 → Int32 → Int32 → Int32 → Option (Int32)
  | 0, _, _, _, _ => none
  | nn + 1, x2_21, x3_21, x4_21, x5_21 =>
    if x2_21 = (-4 : Int32) then
        some x4_21
      else
        if p1 ≤ x5_21 then
          some x4_21
        else
          (fX3_depthOf st x5_21).bind fun v8 =>
            if v8 = x3_21 then
            fX3_whichOf_B50 st p1 (fX3_whichOf_L21 st p1 nn) x2_21 x3_21 x5_21 (1 : Int32) x4_21
          else
            fX3_whichOf_B50 st p1 (fX3_whichOf_L21 st p1 nn) x2_21 x3_21 x5_21 (0 : Int32) x4_21
def fX3_whichOf (st : Nat → Int32) (p1 : Int32) : Option (Int32) :=
  (fX3_upFrom st p1 (1 : Int32)).bind fun v1 =>
    (fX3_depthOf st p1).bind fun v3 =>
    (some ((v1 + (1 : Int32)) : Int32)).bind fun y5 =>
    fX3_whichOf_L21 st p1 FU v1 v3 (0 : Int32) y5

def fX3_nextOf (st : Nat → Int32) (p1 : Int32) (p2 : Int32) : Option (Int32) :=
  (fX3_upFrom st p1 (1 : Int32)).bind fun v1 =>
    (fX3_whichOf st p1).bind fun v3 =>
    (some ((v3 + p2) : Int32)).bind fun y5 =>
    if v1 = (-4 : Int32) then
    some (-4 : Int32)
  else
    if 0 ≤ y5 then
      (fX3_childOf st v1 y5).bind fun v8 =>
        some v8
    else
      some (-4 : Int32)

def fX3_leavesOf_B30 (st : Nat → Int32) (p1 : Int32) (k4 : Int32 → Int32 → Option (Int32)) (x3_30 : Int32) (s0_30 : Int32) (s1_30 : Int32) : Option (Int32) :=
    (some ((s1_30 + s0_30) : Int32)).bind fun y7 =>
            k4 y7 (x3_30 + 1)
def fX3_leavesOf_L4 (st : Nat → Int32) (p1 : Int32) : Nat → Int32 → Int32 → Option (Int32)
  | 0, _, _ => none
  | nn + 1, x2_4, x3_4 =>
    (fX3_sizeOf st p1).bind fun v1 =>
        if (p1 + v1) ≤ x3_4 then
        some x2_4
      else
        (fX3_sizeOf st x3_4).bind fun v4 =>
          if v4 = (1 : Int32) then
          fX3_leavesOf_B30 st p1 (fX3_leavesOf_L4 st p1 nn) x3_4 (1 : Int32) x2_4
        else
          fX3_leavesOf_B30 st p1 (fX3_leavesOf_L4 st p1 nn) x3_4 (0 : Int32) x2_4
def fX3_leavesOf (st : Nat → Int32) (p1 : Int32) : Option (Int32) :=
  fX3_leavesOf_L4 st p1 FU (0 : Int32) p1

def fX3_deepestOf_B33 (st : Nat → Int32) (p1 : Int32) (k4 : Int32 → Int32 → Option (Int32)) (x3_33 : Int32) (s0_33 : Int32) : Option (Int32) :=
    k4 s0_33 (x3_33 + 1)
def fX3_deepestOf_L4 (st : Nat → Int32) (p1 : Int32) : Nat → Int32 → Int32 → Option (Int32)
  | 0, _, _ => none
  | nn + 1, x2_4, x3_4 =>
    (fX3_sizeOf st p1).bind fun v1 =>
        if (p1 + v1) ≤ x3_4 then
        some x2_4
      else
        (fX3_depthOf st x3_4).bind fun v4 =>
          (fX3_depthOf st x2_4).bind fun v6 =>
          if v4 ≤ v6 then
          fX3_deepestOf_B33 st p1 (fX3_deepestOf_L4 st p1 nn) x3_4 x2_4
        else
          fX3_deepestOf_B33 st p1 (fX3_deepestOf_L4 st p1 nn) x3_4 x3_4
def fX3_deepestOf (st : Nat → Int32) (p1 : Int32) : Option (Int32) :=
  fX3_deepestOf_L4 st p1 FU p1 p1

def fX3_fromBelow (st : Nat → Int32) (p1 : Int32) : Option (Int32) :=
  (fX3_openOf st p1).bind fun v1 =>
    (fX3_shutOf st v1).bind fun v3 =>
    (fX3_opensAt st v3).bind fun v5 =>
    some (v3 - v5)

def fX3_placeAsked (st : Nat → Int32) (p1 : Int32) (p2 : Int32) : Option (Int32) :=
  (fX3_openOf st p1).bind fun v1 =>
    if p2 = 0 then
    some v1
  else
    if p2 = (1 : Int32) then
      (fX3_shutOf st v1).bind fun v7 =>
        some v7
    else
      (fX3_excessAt st v1).bind fun v5 =>
        some v5

def fX3_node_B80 (st : Nat → Int32) (p1 : Int32) (p2 : Int32) : Option (Int32) :=
    (fX3_placeAsked st p1 p2).bind fun v4 =>
        some v4
def fX3_node (st : Nat → Int32) (p1 : Int32) (p2 : Int32) : Option (Int32) :=
  (fX3_isNode st p1).bind fun v1 =>
    if v1 = 0 then
    some (-1 : Int32)
  else
    if p2 = 0 then
      fX3_node_B80 st p1 p2
    else
    if p2 = 1 then
      fX3_node_B80 st p1 p2
    else
    if p2 = 2 then
      fX3_node_B80 st p1 p2
    else
    if p2 = 3 then
      (fX3_upFrom st p1 (1 : Int32)).bind fun v10 =>
        some v10
    else
    if p2 = 4 then
      (fX3_childOf st p1 (0 : Int32)).bind fun v13 =>
        some v13
    else
    if p2 = 5 then
      (fX3_childrenOf st p1).bind fun v16 =>
        if v16 = 0 then
        some (-4 : Int32)
      else
        (fX3_childrenOf st p1).bind fun v19 =>
          (fX3_childOf st p1 (v19 - (1 : Int32))).bind fun v21 =>
          some v21
    else
    if p2 = 6 then
      (fX3_nextOf st p1 (1 : Int32)).bind fun v24 =>
        some v24
    else
    if p2 = 7 then
      (fX3_nextOf st p1 (-1 : Int32)).bind fun v27 =>
        some v27
    else
    if p2 = 8 then
      (fX3_childrenOf st p1).bind fun v30 =>
        some v30
    else
    if p2 = 9 then
      (fX3_sizeOf st p1).bind fun v33 =>
        some v33
    else
    if p2 = 10 then
      (fX3_leavesOf st p1).bind fun v36 =>
        some v36
    else
    if p2 = 11 then
      (fX3_deepestOf st p1).bind fun v39 =>
        (fX3_depthOf st v39).bind fun v41 =>
        (fX3_depthOf st p1).bind fun v43 =>
        some (v41 - v43)
    else
    if p2 = 12 then
      (fX3_fromBelow st p1).bind fun v46 =>
        some v46
    else
    if p2 = 13 then
      (fX3_whichOf st p1).bind fun v49 =>
        some v49
    else
    some (-1 : Int32)

def fX3_child (st : Nat → Int32) (p1 : Int32) (p2 : Int32) : Option (Int32) :=
  (fX3_isNode st p1).bind fun v1 =>
    if v1 = 0 then
    some (-1 : Int32)
  else
    if 0 ≤ p2 then
      (fX3_childOf st p1 p2).bind fun v5 =>
        some v5
    else
      some (-1 : Int32)

def fX3_below_L2 (st : Nat → Int32) (p1 : Int32) : Nat → Int32 → Option (Int32)
  | 0, _ => none
  | nn + 1, x2_2 =>
    (fX3_many st).bind fun v1 =>
        if v1 ≤ x2_2 then
        some (-1 : Int32)
      else
        (fX3_isNode st p1).bind fun v4 =>
          if v4 = 0 then
          some (-1 : Int32)
        else
          (fX3_fromBelow st x2_2).bind fun v7 =>
            if v7 = p1 then
            some x2_2
          else
            (fX3_below_L2 st p1 nn) (x2_2 + 1)
def fX3_below (st : Nat → Int32) (p1 : Int32) : Option (Int32) :=
  fX3_below_L2 st p1 FU (0 : Int32)

def fX3_up (st : Nat → Int32) (p1 : Int32) (p2 : Int32) : Option (Int32) :=
  (fX3_isNode st p1).bind fun v1 =>
    if v1 = 0 then
    some (-1 : Int32)
  else
    if 0 ≤ p2 then
      (fX3_upFrom st p1 p2).bind fun v5 =>
        some v5
    else
      some (-1 : Int32)

def fX3_isAbove (st : Nat → Int32) (p1 : Int32) (p2 : Int32) : Option (Int32) :=
  if p2 < p1 then
    some (0 : Int32)
  else
    (fX3_sizeOf st p1).bind fun v2 =>
      if (p1 + v2) ≤ p2 then
      some (0 : Int32)
    else
      some (1 : Int32)

def fX3_meetOf_L2 (st : Nat → Int32) (p1 : Int32) (p2 : Int32) : Nat → Int32 → Option (Int32)
  | 0, _ => none
  | nn + 1, x3_2 =>
    (fX3_isAbove st x3_2 p2).bind fun v1 =>
        if v1 = 0 then
        (fX3_upFrom st x3_2 (1 : Int32)).bind fun v4 =>
          (fX3_meetOf_L2 st p1 p2 nn) v4
      else
        some x3_2
def fX3_meetOf (st : Nat → Int32) (p1 : Int32) (p2 : Int32) : Option (Int32) :=
  fX3_meetOf_L2 st p1 p2 FU p1

def fX3_meet (st : Nat → Int32) (p1 : Int32) (p2 : Int32) : Option (Int32) :=
  (fX3_isNode st p1).bind fun v1 =>
    if v1 = 0 then
    some (-1 : Int32)
  else
    (fX3_isNode st p2).bind fun v4 =>
      if v4 = 0 then
      some (-1 : Int32)
    else
      (fX3_meetOf st p1 p2).bind fun v7 =>
        some v7

def fX3_way (st : Nat → Int32) (p1 : Int32) (p2 : Int32) : Option (Int32) :=
  (fX3_isNode st p1).bind fun v1 =>
    if v1 = 0 then
    some (-1 : Int32)
  else
    (fX3_isNode st p2).bind fun v4 =>
      if v4 = 0 then
      some (-1 : Int32)
    else
      (fX3_depthOf st p1).bind fun v7 =>
        (fX3_depthOf st p2).bind fun v9 =>
        (fX3_meetOf st p1 p2).bind fun v11 =>
        (fX3_depthOf st v11).bind fun v13 =>
        some ((v7 + v9) - ((2 : Int32) * v13))

def fX3_level_B70 (st : Nat → Int32) (p1 : Int32) (p2 : Int32) (k31 : Int32 → Int32 → Int32 → Int32 → Option (Int32)) (x3_70 : Int32) (x4_70 : Int32) (x5_70 : Int32) (x6_70 : Int32) : Option (Int32) :=
    k31 x3_70 x4_70 x5_70 (x6_70 + 1)
def fX3_level_B62 (st : Nat → Int32) (p1 : Int32) (p2 : Int32) (k31 : Int32 → Int32 → Int32 → Int32 → Option (Int32)) (x5_62 : Int32) (x6_62 : Int32) (s0_62 : Int32) : Option (Int32) :=
    fX3_level_B70 st p1 p2 k31 s0_62 x6_62 (x5_62 + 1) x6_62
def fX3_level_L31 (st : Nat → Int32) (p1 : Int32) (p2 : Int32) : Nat → Int32 → Int32 → Int32 → Int32 → Option (Int32)
  | 0, _, _, _, _ => none
  | nn + 1, x3_31, x4_31, x5_31, x6_31 =>
    (fX3_many st).bind fun v5 =>
            if v5 ≤ x6_31 then
            if p2 = 0 then
              some x3_31
            else
              if p2 = (1 : Int32) then
                some x4_31
              else
                some x5_31
          else
            (fX3_depthOf st x6_31).bind fun v10 =>
              if v10 = p1 then
              if x3_31 = (-4 : Int32) then
                fX3_level_B62 st p1 p2 (fX3_level_L31 st p1 p2 nn) x5_31 x6_31 x6_31
              else
                fX3_level_B62 st p1 p2 (fX3_level_L31 st p1 p2 nn) x5_31 x6_31 x3_31
            else
              fX3_level_B70 st p1 p2 (fX3_level_L31 st p1 p2 nn) x3_31 x4_31 x5_31 x6_31
def fX3_level (st : Nat → Int32) (p1 : Int32) (p2 : Int32) : Option (Int32) :=
  if p1 < 0 then
    some (-1 : Int32)
  else
    (fX3_in ((p2).toInt64) (0 : Int64) (2 : Int64)).bind fun v2 =>
      if v2 = 0 then
      some (-1 : Int32)
    else
      fX3_level_L31 st p1 p2 FU (-4 : Int32) (-4 : Int32) (0 : Int32) (0 : Int32)

def fX3_beside_B67 (st : Nat → Int32) (p1 : Int32) (p2 : Int32) (x4_67 : Int32) : Option (Int32) :=
    (fX3_isNode st x4_67).bind fun v12 =>
                if v12 = 0 then
                some (-4 : Int32)
              else
                some x4_67
def fX3_beside_L35 (st : Nat → Int32) (p1 : Int32) (p2 : Int32) : Nat → Int32 → Int32 → Option (Int32)
  | 0, _, _ => none
  | nn + 1, x3_35, x4_35 =>
    (fX3_isNode st x4_35).bind fun v9 =>
              if v9 = 0 then
              fX3_beside_B67 st p1 p2 x4_35
            else
              (fX3_depthOf st x4_35).bind fun v15 =>
                (fX3_depthOf st p1).bind fun v17 =>
                if v15 = v17 then
                fX3_beside_B67 st p1 p2 x4_35
              else
                (some ((x4_35 + x3_35) : Int32)).bind fun y20 =>
                  (fX3_beside_L35 st p1 p2 nn) x3_35 y20
def fX3_beside_B29 (st : Nat → Int32) (p1 : Int32) (p2 : Int32) (s0_29 : Int32) : Option (Int32) :=
    (some ((p1 + s0_29) : Int32)).bind fun y8 =>
          fX3_beside_L35 st p1 p2 FU s0_29 y8
def fX3_beside (st : Nat → Int32) (p1 : Int32) (p2 : Int32) : Option (Int32) :=
  (fX3_isNode st p1).bind fun v1 =>
    if v1 = 0 then
    some (-1 : Int32)
  else
    (fX3_in ((p2).toInt64) (0 : Int64) (1 : Int64)).bind fun v4 =>
      if v4 = 0 then
      some (-1 : Int32)
    else
      if p2 = 0 then
        fX3_beside_B29 st p1 p2 (1 : Int32)
      else
        fX3_beside_B29 st p1 p2 (-1 : Int32)

def fX3_deepest (st : Nat → Int32) (p1 : Int32) : Option (Int32) :=
  (fX3_isNode st p1).bind fun v1 =>
    if v1 = 0 then
    some (-1 : Int32)
  else
    (fX3_deepestOf st p1).bind fun v4 =>
      some v4

def fX3_alike_B105 (st : Nat → Int32) (p1 : Int32) (p2 : Int32) (x3_105 : Int32) : Option (Int32) :=
    if x3_105 = 0 then
                some (0 : Int32)
              else
                some (1 : Int32)
def fX3_alike_B98 (st : Nat → Int32) (p1 : Int32) (p2 : Int32) (k54 : Int32 → Int32 → Int32 → Int32 → Option (Int32)) (x4_98 : Int32) (x5_98 : Int32) (x6_98 : Int32) (s0_98 : Int32) : Option (Int32) :=
    k54 s0_98 x4_98 x5_98 (x6_98 + 1)
def fX3_alike_L54 (st : Nat → Int32) (p1 : Int32) (p2 : Int32) : Nat → Int32 → Int32 → Int32 → Int32 → Option (Int32)
  | 0, _, _, _, _ => none
  | nn + 1, x3_54, x4_54, x5_54, x6_54 =>
    if x3_54 = 0 then
              fX3_alike_B105 st p1 p2 x3_54
            else
              (fX3_sizeOf st p1).bind fun v18 =>
                if ((2 : Int32) * v18) ≤ x6_54 then
                fX3_alike_B105 st p1 p2 x3_54
              else
                (rdI 579 st (x4_54 + x6_54)).bind fun v21 =>
                  (rdI 579 st (x5_54 + x6_54)).bind fun v22 =>
                  if v21 = v22 then
                  fX3_alike_B98 st p1 p2 (fX3_alike_L54 st p1 p2 nn) x4_54 x5_54 x6_54 (1 : Int32)
                else
                  fX3_alike_B98 st p1 p2 (fX3_alike_L54 st p1 p2 nn) x4_54 x5_54 x6_54 (0 : Int32)
def fX3_alike_B36 (st : Nat → Int32) (p1 : Int32) (p2 : Int32) (s0_36 : Int32) : Option (Int32) :=
    (fX3_openOf st p1).bind fun v12 =>
          (fX3_openOf st p2).bind fun v14 =>
          fX3_alike_L54 st p1 p2 FU s0_36 v12 v14 (0 : Int32)
def fX3_alike (st : Nat → Int32) (p1 : Int32) (p2 : Int32) : Option (Int32) :=
  (fX3_isNode st p1).bind fun v1 =>
    if v1 = 0 then
    some (-1 : Int32)
  else
    (fX3_isNode st p2).bind fun v4 =>
      if v4 = 0 then
      some (-1 : Int32)
    else
      (fX3_sizeOf st p1).bind fun v7 =>
        (fX3_sizeOf st p2).bind fun v9 =>
        if v7 = v9 then
        fX3_alike_B36 st p1 p2 (1 : Int32)
      else
        fX3_alike_B36 st p1 p2 (0 : Int32)

def fX3_weight (st : Nat → Int32) (p1 : Int32) : Option (Int32) :=
  (fX3_isNode st p1).bind fun v1 =>
    if v1 = 0 then
    some (-1 : Int32)
  else
    (rdI 579 st ((128 : Int32) + p1)).bind fun v4 =>
      some v4

def fX3_set (st : Nat → Int32) (p1 : Int32) (p2 : Int32) : Option (Int32 × (Nat → Int32)) :=
  (fX3_isNode st p1).bind fun v1 =>
    if v1 = 0 then
    some ((-1 : Int32), st)
  else
    if 0 ≤ p2 then
      (rdI 579 st ((128 : Int32) + p1)).bind fun v5 =>
        (wrI 579 st ((128 : Int32) + p1) p2).bind fun u6 =>
        some (v5, u6)
    else
      some ((-1 : Int32), st)

def fX3_sum_B79 (st : Nat → Int32) (p1 : Int32) (p2 : Int32) (k25 : Int64 → Int32 → Option (Int32)) (x5_79 : Int32) (s0_79 : Int64) (s1_79 : Int64) : Option (Int32) :=
    (some ((s1_79 + s0_79) : Int64)).bind fun y13 =>
                  k25 y13 (x5_79 + 1)
def fX3_sum_B55 (st : Nat → Int32) (p1 : Int32) (p2 : Int32) (k25 : Int64 → Int32 → Option (Int32)) (x3_55 : Int64) (x5_55 : Int32) (s0_55 : Int32) : Option (Int32) :=
    if s0_55 = 0 then
                fX3_sum_B79 st p1 p2 k25 x5_55 (0 : Int64) x3_55
              else
                (rdI 579 st ((128 : Int32) + x5_55)).bind fun v14 =>
                  fX3_sum_B79 st p1 p2 k25 x5_55 ((v14).toInt64) x3_55
def fX3_sum_L25 (st : Nat → Int32) (p1 : Int32) (p2 : Int32) : Nat → Int64 → Int32 → Option (Int32)
  | 0, _, _ => none
  | nn + 1, x3_25, x5_25 =>
    (fX3_many st).bind fun v7 =>
            if v7 ≤ x5_25 then
            if (lg_cmp x3_25 (2147483647 : Int64)) ≤ 0 then
              some ((x3_25).toInt32)
            else
              some (-5 : Int32)
          else
            if p2 = 0 then
              (fX3_isAbove st p1 x5_25).bind fun v17 =>
                fX3_sum_B55 st p1 p2 (fX3_sum_L25 st p1 p2 nn) x3_25 x5_25 v17
            else
              (fX3_isAbove st x5_25 p1).bind fun v15 =>
                fX3_sum_B55 st p1 p2 (fX3_sum_L25 st p1 p2 nn) x3_25 x5_25 v15
def fX3_sum (st : Nat → Int32) (p1 : Int32) (p2 : Int32) : Option (Int32) :=
  (fX3_isNode st p1).bind fun v1 =>
    if v1 = 0 then
    some (-1 : Int32)
  else
    (fX3_in ((p2).toInt64) (0 : Int64) (1 : Int64)).bind fun v4 =>
      if v4 = 0 then
      some (-1 : Int32)
    else
      fX3_sum_L25 st p1 p2 FU (0 : Int64) (0 : Int32)

def fX3_heaviest_B53 (st : Nat → Int32) (p1 : Int32) (k14 : Int32 → Int32 → Option (Int32)) (x3_53 : Int32) (s0_53 : Int32) : Option (Int32) :=
    k14 s0_53 (x3_53 + 1)
def fX3_heaviest_L14 (st : Nat → Int32) (p1 : Int32) : Nat → Int32 → Int32 → Option (Int32)
  | 0, _, _ => none
  | nn + 1, x2_14, x3_14 =>
    (fX3_sizeOf st p1).bind fun v4 =>
          if (p1 + v4) ≤ x3_14 then
          some x2_14
        else
          (rdI 579 st ((128 : Int32) + x3_14)).bind fun v7 =>
            (rdI 579 st ((128 : Int32) + x2_14)).bind fun v8 =>
            if v7 ≤ v8 then
            fX3_heaviest_B53 st p1 (fX3_heaviest_L14 st p1 nn) x3_14 x2_14
          else
            fX3_heaviest_B53 st p1 (fX3_heaviest_L14 st p1 nn) x3_14 x3_14
def fX3_heaviest (st : Nat → Int32) (p1 : Int32) : Option (Int32) :=
  (fX3_isNode st p1).bind fun v1 =>
    if v1 = 0 then
    some (-1 : Int32)
  else
    fX3_heaviest_L14 st p1 FU p1 p1

def fX3_opensPlace_L3 (p1 : Int32) (p2 : Int32) : Nat → (Nat → Int32) → Int32 → Option ((Nat → Int32))
  | 0, _, _ => none
  | nn + 1, st_3, x3_3 =>
    if x3_3 ≤ p1 then
        (wrI 579 st_3 p1 p2).bind fun u2 =>
          some u2
      else
        (rdI 579 st_3 (x3_3 - (1 : Int32))).bind fun v3 =>
          (wrI 579 st_3 x3_3 v3).bind fun u4 =>
          (fX3_opensPlace_L3 p1 p2 nn) u4 (x3_3 + (-1))
def fX3_opensPlace (st : Nat → Int32) (p1 : Int32) (p2 : Int32) : Option ((Nat → Int32)) :=
  fX3_opensPlace_L3 p1 p2 FU st (127 : Int32)

def fX3_shutsPlace_L2 (p1 : Int32) : Nat → (Nat → Int32) → Int32 → Option ((Nat → Int32))
  | 0, _, _ => none
  | nn + 1, st_2, x2_2 =>
    if (128 : Int32) ≤ (x2_2 + (1 : Int32)) then
        some st_2
      else
        (rdI 579 st_2 (x2_2 + (1 : Int32))).bind fun v2 =>
          (wrI 579 st_2 x2_2 v2).bind fun u3 =>
          (fX3_shutsPlace_L2 p1 nn) u3 (x2_2 + 1)
def fX3_shutsPlace (st : Nat → Int32) (p1 : Int32) : Option ((Nat → Int32)) :=
  fX3_shutsPlace_L2 p1 FU st p1

def fX3_comesIn_L23 (p1 : Int32) (p2 : Int32) (p3 : Int32) : Nat → (Nat → Int32) → Int32 → Int32 → Option ((Nat → Int32))
  | 0, _, _, _ => none
  | nn + 1, st_23, x4_23, x5_23 =>
    if x5_23 ≤ x4_23 then
        (wrI 579 st_23 ((128 : Int32) + x4_23) p3).bind fun u8 =>
          (rdI 579 u8 (192 : Int32)).bind fun v9 =>
          (wrI 579 u8 (192 : Int32) (v9 + (1 : Int32))).bind fun u10 =>
          some u10
      else
        (rdI 579 st_23 (((128 : Int32) + x5_23) - (1 : Int32))).bind fun v11 =>
          (wrI 579 st_23 ((128 : Int32) + x5_23) v11).bind fun u12 =>
          (fX3_comesIn_L23 p1 p2 p3 nn) u12 x4_23 (x5_23 + (-1))
def fX3_comesIn (st : Nat → Int32) (p1 : Int32) (p2 : Int32) (p3 : Int32) : Option ((Nat → Int32)) :=
  (fX3_opensAt st p1).bind fun v1 =>
    (fX3_opensPlace st p2 (0 : Int32)).bind fun g3 =>
    (fX3_opensPlace g3 p1 (1 : Int32)).bind fun g5 =>
    fX3_comesIn_L23 p1 p2 p3 FU g5 v1 (63 : Int32)

def fX3_goesOut_L22 (p1 : Int32) : Nat → (Nat → Int32) → Int32 → Option ((Nat → Int32))
  | 0, _, _ => none
  | nn + 1, st_22, x3_22 =>
    if (64 : Int32) ≤ (x3_22 + (1 : Int32)) then
        (rdI 579 st_22 (192 : Int32)).bind fun v10 =>
          (wrI 579 st_22 (192 : Int32) (v10 - (1 : Int32))).bind fun u11 =>
          some u11
      else
        (rdI 579 st_22 (((128 : Int32) + x3_22) + (1 : Int32))).bind fun v12 =>
          (wrI 579 st_22 ((128 : Int32) + x3_22) v12).bind fun u13 =>
          (fX3_goesOut_L22 p1 nn) u13 (x3_22 + 1)
def fX3_goesOut (st : Nat → Int32) (p1 : Int32) : Option ((Nat → Int32)) :=
  (fX3_openOf st p1).bind fun v1 =>
    (fX3_shutOf st v1).bind fun v3 =>
    (fX3_shutsPlace st v3).bind fun g5 =>
    (fX3_shutsPlace g5 v1).bind fun g7 =>
    fX3_goesOut_L22 p1 FU g7 p1

def fX3_edgeOf (st : Nat → Int32) (p1 : Int32) (p2 : Int32) : Option (Int32) :=
  (fX3_childOf st p1 p2).bind fun v1 =>
    if v1 = (-4 : Int32) then
    (fX3_openOf st p1).bind fun v6 =>
      (fX3_shutOf st v6).bind fun v8 =>
      some v8
  else
    (fX3_openOf st v1).bind fun v4 =>
      some v4

def fX3_plant (st : Nat → Int32) (p1 : Int32) : Option (Int32 × (Nat → Int32)) :=
  if 0 ≤ p1 then
    (fX3_many st).bind fun v2 =>
      if v2 ≤ 0 then
      (wrI 579 st (0 : Int32) (1 : Int32)).bind fun u5 =>
        (wrI 579 u5 (1 : Int32) (0 : Int32)).bind fun u6 =>
        (wrI 579 u6 (128 : Int32) p1).bind fun u7 =>
        (wrI 579 u7 (192 : Int32) (1 : Int32)).bind fun u8 =>
        some ((0 : Int32), u8)
    else
      some ((-2 : Int32), st)
  else
    some ((-1 : Int32), st)

def fX3_leafs (st : Nat → Int32) (p1 : Int32) (p2 : Int32) (p3 : Int32) : Option (Int32 × (Nat → Int32)) :=
  (fX3_edgeOf st p1 p2).bind fun v1 =>
    (fX3_comesIn st v1 v1 p3).bind fun g3 =>
    (fX3_opensAt g3 v1).bind fun v5 =>
    some (v5, g3)

def fX3_leaf (st : Nat → Int32) (p1 : Int32) (p2 : Int32) (p3 : Int32) : Option (Int32 × (Nat → Int32)) :=
  (fX3_isNode st p1).bind fun v1 =>
    if v1 = 0 then
    some ((-1 : Int32), st)
  else
    (fX3_childrenOf st p1).bind fun v4 =>
      (fX3_in ((p2).toInt64) (0 : Int64) ((v4).toInt64)).bind fun v6 =>
      if v6 = 0 then
      some ((-1 : Int32), st)
    else
      if 0 ≤ p3 then
        (fX3_many st).bind fun v10 =>
          if v10 = (64 : Int32) then
          some ((-3 : Int32), st)
        else
          (fX3_leafs st p1 p2 p3).bind fun (v13, g14) =>
            some (v13, g14)
      else
        some ((-1 : Int32), st)

def fX3_prune (st : Nat → Int32) (p1 : Int32) : Option (Int32 × (Nat → Int32)) :=
  (fX3_isNode st p1).bind fun v1 =>
    if v1 = 0 then
    some ((-1 : Int32), st)
  else
    (fX3_sizeOf st p1).bind fun v4 =>
      if v4 ≤ (1 : Int32) then
      (fX3_goesOut st p1).bind fun g7 =>
        (fX3_many g7).bind fun v9 =>
        some (v9, g7)
    else
      some ((-2 : Int32), st)

def fX3_fell_L20 (p1 : Int32) : Nat → (Nat → Int32) → Int32 → Int32 → Option (Int32 × (Nat → Int32))
  | 0, _, _, _ => none
  | nn + 1, st_20, x2_20, x3_20 =>
    if x3_20 < 0 then
          some (x2_20, st_20)
        else
          (fX3_goesOut st_20 (p1 + x3_20)).bind fun g8 =>
            (fX3_fell_L20 p1 nn) g8 x2_20 (x3_20 + (-1))
def fX3_fell (st : Nat → Int32) (p1 : Int32) : Option (Int32 × (Nat → Int32)) :=
  (fX3_isNode st p1).bind fun v1 =>
    if v1 = 0 then
    some ((-1 : Int32), st)
  else
    (fX3_sizeOf st p1).bind fun v4 =>
      (some ((v4 - (1 : Int32)) : Int32)).bind fun y6 =>
      fX3_fell_L20 p1 FU st v4 y6

def fX3_wrap (st : Nat → Int32) (p1 : Int32) (p2 : Int32) (p3 : Int32) (p4 : Int32) : Option (Int32 × (Nat → Int32)) :=
  (fX3_isNode st p1).bind fun v1 =>
    if v1 = 0 then
    some ((-1 : Int32), st)
  else
    if p2 < 0 then
      some ((-1 : Int32), st)
    else
      if p3 < 0 then
        some ((-1 : Int32), st)
      else
        (fX3_childrenOf st p1).bind fun v6 =>
          if 0 < (lg_cmp (((p2).toInt64) + ((p3).toInt64)) ((v6).toInt64)) then
          some ((-1 : Int32), st)
        else
          if 0 ≤ p4 then
            (fX3_many st).bind fun v10 =>
              if v10 = (64 : Int32) then
              some ((-3 : Int32), st)
            else
              (fX3_edgeOf st p1 p2).bind fun v13 =>
                (fX3_edgeOf st p1 (p2 + p3)).bind fun v15 =>
                (fX3_comesIn st v13 v15 p4).bind fun g17 =>
                (fX3_opensAt g17 v13).bind fun v19 =>
                some (v19, g17)
          else
            some ((-1 : Int32), st)

def fX3_melt_B26 (p1 : Int32) (st_26 : Nat → Int32) : Option (Int32 × (Nat → Int32)) :=
    (fX3_goesOut st_26 p1).bind fun g5 =>
        (fX3_many g5).bind fun v7 =>
        some (v7, g5)
def fX3_melt (st : Nat → Int32) (p1 : Int32) : Option (Int32 × (Nat → Int32)) :=
  (fX3_isNode st p1).bind fun v1 =>
    if v1 = 0 then
    some ((-1 : Int32), st)
  else
    if p1 = 0 then
      (fX3_childrenOf st (0 : Int32)).bind fun v9 =>
        if v9 = (1 : Int32) then
        fX3_melt_B26 p1 st
      else
        some ((-2 : Int32), st)
    else
      fX3_melt_B26 p1 st

def fX3_graft_L291 (p1 : Int32) (p2 : Int32) (p3 : Int32) : Nat → (Nat → Int32) → (Nat → Int32) → (Nat → Int32) → Int32 → Int32 → Int32 → Option (Int32 × (Nat → Int32) × (Nat → Int32) × (Nat → Int32))
  | 0, _, _, _, _, _, _ => none
  | nn + 1, st_291, cr_291, cw_291, x4_291, x8_291, x9_291 =>
    if x4_291 ≤ x9_291 then
                                                    (rdI 579 st_291 (192 : Int32)).bind fun v36 =>
                                                      (wrI 579 st_291 (192 : Int32) (v36 + x4_291)).bind fun u37 =>
                                                      some (x8_291, u37, cr_291, cw_291)
                                                  else
                                                    (rdI 64 cw_291 x9_291).bind fun v38 =>
                                                      (wrI 579 st_291 (((128 : Int32) + x8_291) + x9_291) v38).bind fun u39 =>
                                                      (fX3_graft_L291 p1 p2 p3 nn) u39 cr_291 cw_291 x4_291 x8_291 (x9_291 + 1)
def fX3_graft_L247 (p1 : Int32) (p2 : Int32) (p3 : Int32) : Nat → (Nat → Int32) → (Nat → Int32) → (Nat → Int32) → Int32 → Int32 → Int32 → Option (Int32 × (Nat → Int32) × (Nat → Int32) × (Nat → Int32))
  | 0, _, _, _, _, _, _ => none
  | nn + 1, st_247, cr_247, cw_247, x4_247, x8_247, x9_247 =>
    if x9_247 < (x8_247 + x4_247) then
                                              fX3_graft_L291 p1 p2 p3 FU st_247 cr_247 cw_247 x4_247 x8_247 (0 : Int32)
                                            else
                                              (rdI 579 st_247 (((128 : Int32) + x9_247) - x4_247)).bind fun v40 =>
                                                (wrI 579 st_247 ((128 : Int32) + x9_247) v40).bind fun u41 =>
                                                (fX3_graft_L247 p1 p2 p3 nn) u41 cr_247 cw_247 x4_247 x8_247 (x9_247 + (-1))
def fX3_graft_L212 (p1 : Int32) (p2 : Int32) (p3 : Int32) : Nat → (Nat → Int32) → (Nat → Int32) → (Nat → Int32) → Int32 → Int32 → Int32 → Int32 → Option (Int32 × (Nat → Int32) × (Nat → Int32) × (Nat → Int32))
  | 0, _, _, _, _, _, _, _ => none
  | nn + 1, st_212, cr_212, cw_212, x4_212, x7_212, x8_212, x9_212 =>
    if ((2 : Int32) * x4_212) ≤ x9_212 then
                                        fX3_graft_L247 p1 p2 p3 FU st_212 cr_212 cw_212 x4_212 x8_212 (63 : Int32)
                                      else
                                        (rdI 128 cr_212 x9_212).bind fun v42 =>
                                          (fX3_opensPlace st_212 (x7_212 + x9_212) v42).bind fun g43 =>
                                          (fX3_graft_L212 p1 p2 p3 nn) g43 cr_212 cw_212 x4_212 x7_212 x8_212 (x9_212 + 1)
def fX3_graft_B195 (p1 : Int32) (p2 : Int32) (p3 : Int32) (st_195 : Nat → Int32) (cr_195 : Nat → Int32) (cw_195 : Nat → Int32) (x4_195 : Int32) (s0_195 : Int32) : Option (Int32 × (Nat → Int32) × (Nat → Int32) × (Nat → Int32)) :=
    (fX3_edgeOf st_195 s0_195 p3).bind fun v29 =>
                                    (fX3_opensAt st_195 v29).bind fun v31 =>
                                    fX3_graft_L212 p1 p2 p3 FU st_195 cr_195 cw_195 x4_195 v29 v31 (0 : Int32)
def fX3_graft_L162 (p1 : Int32) (p2 : Int32) (p3 : Int32) : Nat → (Nat → Int32) → (Nat → Int32) → (Nat → Int32) → Int32 → Int32 → Option (Int32 × (Nat → Int32) × (Nat → Int32) × (Nat → Int32))
  | 0, _, _, _, _, _ => none
  | nn + 1, st_162, cr_162, cw_162, x4_162, x7_162 =>
    if x7_162 < 0 then
                                if p2 ≤ p1 then
                                  fX3_graft_B195 p1 p2 p3 st_162 cr_162 cw_162 x4_162 p2
                                else
                                  fX3_graft_B195 p1 p2 p3 st_162 cr_162 cw_162 x4_162 (p2 - x4_162)
                              else
                                (fX3_goesOut st_162 (p1 + x7_162)).bind fun g45 =>
                                  (fX3_graft_L162 p1 p2 p3 nn) g45 cr_162 cw_162 x4_162 (x7_162 + (-1))
def fX3_graft_L123 (p1 : Int32) (p2 : Int32) (p3 : Int32) : Nat → (Nat → Int32) → (Nat → Int32) → (Nat → Int32) → Int32 → Int32 → Option (Int32 × (Nat → Int32) × (Nat → Int32) × (Nat → Int32))
  | 0, _, _, _, _, _ => none
  | nn + 1, st_123, cr_123, cw_123, x4_123, x7_123 =>
    if x4_123 ≤ x7_123 then
                          (some ((x4_123 - (1 : Int32)) : Int32)).bind fun y26 =>
                            fX3_graft_L162 p1 p2 p3 FU st_123 cr_123 cw_123 x4_123 y26
                        else
                          (rdI 579 st_123 (((128 : Int32) + p1) + x7_123)).bind fun v47 =>
                            (wrI 64 cw_123 x7_123 v47).bind fun u48 =>
                            (fX3_graft_L123 p1 p2 p3 nn) st_123 cr_123 u48 x4_123 (x7_123 + 1)
def fX3_graft_L88 (p1 : Int32) (p2 : Int32) (p3 : Int32) : Nat → (Nat → Int32) → (Nat → Int32) → (Nat → Int32) → Int32 → Int32 → Int32 → Option (Int32 × (Nat → Int32) × (Nat → Int32) × (Nat → Int32))
  | 0, _, _, _, _, _, _ => none
  | nn + 1, st_88, cr_88, cw_88, x4_88, x6_88, x7_88 =>
    if ((2 : Int32) * x4_88) ≤ x7_88 then
                    fX3_graft_L123 p1 p2 p3 FU st_88 cr_88 cw_88 x4_88 (0 : Int32)
                  else
                    (rdI 579 st_88 (x6_88 + x7_88)).bind fun v49 =>
                      (wrI 128 cr_88 x7_88 v49).bind fun u50 =>
                      (fX3_graft_L88 p1 p2 p3 nn) st_88 u50 cw_88 x4_88 x6_88 (x7_88 + 1)
def fX3_graft_B61 (p1 : Int32) (p2 : Int32) (p3 : Int32) (st_61 : Nat → Int32) (cr_61 : Nat → Int32) (cw_61 : Nat → Int32) (x4_61 : Int32) (s0_61 : Int32) (s1_61 : Int32) : Option (Int32 × (Nat → Int32) × (Nat → Int32) × (Nat → Int32)) :=
    (some ((s1_61 - s0_61) : Int32)).bind fun y18 =>
              (fX3_in ((p3).toInt64) (0 : Int64) ((y18).toInt64)).bind fun v19 =>
              if v19 = 0 then
              some ((-1 : Int32), st_61, cr_61, cw_61)
            else
              (fX3_openOf st_61 p1).bind fun v22 =>
                fX3_graft_L88 p1 p2 p3 FU st_61 cr_61 cw_61 x4_61 v22 (0 : Int32)
def fX3_graft (st : Nat → Int32) (cr : Nat → Int32) (cw : Nat → Int32) (p1 : Int32) (p2 : Int32) (p3 : Int32) : Option (Int32 × (Nat → Int32) × (Nat → Int32) × (Nat → Int32)) :=
  (fX3_isNode st p1).bind fun v1 =>
    if v1 = 0 then
    some ((-1 : Int32), st, cr, cw)
  else
    (fX3_isNode st p2).bind fun v4 =>
      if v4 = 0 then
      some ((-1 : Int32), st, cr, cw)
    else
      if p1 = 0 then
        some ((-2 : Int32), st, cr, cw)
      else
        (fX3_isAbove st p1 p2).bind fun v8 =>
          if v8 = 0 then
          (fX3_sizeOf st p1).bind fun v11 =>
            (fX3_childrenOf st p2).bind fun v13 =>
            (fX3_upFrom st p1 (1 : Int32)).bind fun v15 =>
            if v15 = p2 then
            fX3_graft_B61 p1 p2 p3 st cr cw v11 (1 : Int32) v13
          else
            fX3_graft_B61 p1 p2 p3 st cr cw v11 (0 : Int32) v13
        else
          some ((-2 : Int32), st, cr, cw)

def fX3_grow_L34 (p1 : Int32) (p2 : Int32) : Nat → (Nat → Int32) → Int32 → Int32 → Option (Int32 × (Nat → Int32))
  | 0, _, _, _ => none
  | nn + 1, st_34, x3_34, x4_34 =>
    if p2 ≤ x4_34 then
          (fX3_size st_34 (2 : Int32)).bind fun v9 =>
            some (v9, st_34)
        else
          (some (((x3_34 * (1103515245 : Int32)) + (12345 : Int32)) : Int32)).bind fun y11 =>
            (fX3_many st_34).bind fun v12 =>
            if v12 = 0 then none else
            (some ((((y11 >>> ((16 : Int32) &&& 31)) &&& (32767 : Int32)) - ((y11 >>> ((16 : Int32) &&& 31)) &&& (32767 : Int32)) / v12 * v12) : Int32)).bind fun y15 =>
            (fX3_childrenOf st_34 y15).bind fun v16 =>
            (fX3_leafs st_34 y15 v16 (0 : Int32)).bind fun (v18, g19) =>
            (fX3_grow_L34 p1 p2 nn) g19 y11 (x4_34 + 1)
def fX3_grow (st : Nat → Int32) (p1 : Int32) (p2 : Int32) : Option (Int32 × (Nat → Int32)) :=
  (fX3_in ((p2).toInt64) (1 : Int64) (64 : Int64)).bind fun v1 =>
    if v1 = 0 then
    some ((-1 : Int32), st)
  else
    (wrI 579 st (192 : Int32) (0 : Int32)).bind fun u4 =>
      (fX3_plant u4 (0 : Int32)).bind fun (v5, g6) =>
      fX3_grow_L34 p1 p2 FU g6 p1 (1 : Int32)

def fX3_keep_L29 (p1 : Int32) : Nat → (Nat → Int32) → (Nat → Int32) → Int32 → Int32 → Option (Int32 × (Nat → Int32) × (Nat → Int32))
  | 0, _, _, _, _ => none
  | nn + 1, st_29, ik_29, x2_29, x3_29 =>
    if (193 : Int32) ≤ x3_29 then
            (wrI 2 ik_29 p1 (vp_nar .boolean (1 : Int32))).bind fun u7 =>
              some (x2_29, st_29, u7)
          else
            (rdI 579 st_29 x3_29).bind fun v8 =>
              (wrI 579 st_29 ((((193 : Int32) * p1) + (193 : Int32)) + x3_29) v8).bind fun u9 =>
              (fX3_keep_L29 p1 nn) u9 ik_29 x2_29 (x3_29 + 1)
def fX3_keep_B26 (p1 : Int32) (st_26 : Nat → Int32) (ik_26 : Nat → Int32) (s0_26 : Int32) : Option (Int32 × (Nat → Int32) × (Nat → Int32)) :=
    fX3_keep_L29 p1 FU st_26 ik_26 s0_26 (0 : Int32)
def fX3_keep (st : Nat → Int32) (ik : Nat → Int32) (p1 : Int32) : Option (Int32 × (Nat → Int32) × (Nat → Int32)) :=
  (fX3_in ((p1).toInt64) (0 : Int64) (1 : Int64)).bind fun v1 =>
    if v1 = 0 then
    some ((-1 : Int32), st, ik)
  else
    (rdI 2 ik p1).bind fun v4 =>
      if v4 = 0 then
      fX3_keep_B26 p1 st ik (0 : Int32)
    else
      fX3_keep_B26 p1 st ik (1 : Int32)

def fX3_back_L26 (ik : Nat → Int32) (p1 : Int32) : Nat → (Nat → Int32) → Int32 → Option (Int32 × (Nat → Int32))
  | 0, _, _ => none
  | nn + 1, st_26, x2_26 =>
    if (193 : Int32) ≤ x2_26 then
            (fX3_many st_26).bind fun v7 =>
              some (v7, st_26)
          else
            (rdI 579 st_26 ((((193 : Int32) * p1) + (193 : Int32)) + x2_26)).bind fun v9 =>
              (wrI 579 st_26 x2_26 v9).bind fun u10 =>
              (fX3_back_L26 ik p1 nn) u10 (x2_26 + 1)
def fX3_back (st : Nat → Int32) (ik : Nat → Int32) (p1 : Int32) : Option (Int32 × (Nat → Int32)) :=
  (fX3_in ((p1).toInt64) (0 : Int64) (1 : Int64)).bind fun v1 =>
    if v1 = 0 then
    some ((-1 : Int32), st)
  else
    (rdI 2 ik p1).bind fun v4 =>
      if v4 = 0 then
      some ((-2 : Int32), st)
    else
      fX3_back_L26 ik p1 FU st (0 : Int32)

def fX3_sheet_L56 (p1 : Int32) (p2 : Int32) (p3 : Int32) : Nat → (Nat → Int32) → (Nat → Int32) → (Nat → Int64) → Int32 → Option (Int32 × (Nat → Int32) × (Nat → Int32) × (Nat → Int64))
  | 0, _, _, _, _ => none
  | nn + 1, ln_56, lg_56, ce_56, x4_56 =>
    if (40 : Int32) ≤ x4_56 then
                some ((1 : Int32), ln_56, lg_56, ce_56)
              else
                (wrL 160 ce_56 (((40 : Int32) * p1) + x4_56) (0 : Int64)).bind fun u12 =>
                  (fX3_sheet_L56 p1 p2 p3 nn) ln_56 lg_56 u12 (x4_56 + 1)
def fX3_sheet (ln : Nat → Int32) (lg : Nat → Int32) (ce : Nat → Int64) (p1 : Int32) (p2 : Int32) (p3 : Int32) : Option (Int32 × (Nat → Int32) × (Nat → Int32) × (Nat → Int64)) :=
  (fX3_in ((p1).toInt64) (0 : Int64) (3 : Int64)).bind fun v1 =>
    if v1 = 0 then
    some ((-1 : Int32), ln, lg, ce)
  else
    (fX3_in ((p2).toInt64) (0 : Int64) (2 : Int64)).bind fun v4 =>
      if v4 = 0 then
      some ((-1 : Int32), ln, lg, ce)
    else
      if p3 ≤ (40 : Int32) then
        if 0 ≤ p3 then
          (wrI 4 ln p1 p2).bind fun u9 =>
            (wrI 4 lg p1 p3).bind fun u10 =>
            fX3_sheet_L56 p1 p2 p3 FU u9 u10 ce (0 : Int32)
        else
          some ((-14 : Int32), ln, lg, ce)
      else
        some ((-1 : Int32), ln, lg, ce)

def fX3_narrowed (p1 : Int32) (p2 : Int64) : Option (Int64) :=
  if p1 = 0 then
    some ((((p2 <<< (((56 : Int32)).toInt64 &&& 63))) >>> (((56 : Int32)).toInt64 &&& 63)))
  else
    if p1 = (1 : Int32) then
      some ((((p2 <<< (((32 : Int32)).toInt64 &&& 63))) >>> (((32 : Int32)).toInt64 &&& 63)))
    else
      some p2

def fX3_lay (ln : Nat → Int32) (lg : Nat → Int32) (ce : Nat → Int64) (p1 : Int32) (p2 : Int32) (p3 : Int64) : Option (Int32 × (Nat → Int64)) :=
  (fX3_in ((p1).toInt64) (0 : Int64) (3 : Int64)).bind fun v1 =>
    if v1 = 0 then
    some ((-1 : Int32), ce)
  else
    (rdI 4 ln p1).bind fun v4 =>
      if v4 = (-4 : Int32) then
      some ((-11 : Int32), ce)
    else
      (rdI 4 lg p1).bind fun v6 =>
        (fX3_in ((p2).toInt64) (0 : Int64) (((v6 - (1 : Int32))).toInt64)).bind fun v7 =>
        if v7 = 0 then
        some ((-12 : Int32), ce)
      else
        (rdI 4 ln p1).bind fun v10 =>
          (fX3_narrowed v10 p3).bind fun v11 =>
          (wrL 160 ce (((40 : Int32) * p1) + p2) v11).bind fun u13 =>
          some ((1 : Int32), u13)

def fX3_look (ln : Nat → Int32) (lg : Nat → Int32) (ce : Nat → Int64) (p1 : Int32) (p2 : Int32) : Option (Int64) :=
  (fX3_in ((p1).toInt64) (0 : Int64) (3 : Int64)).bind fun v1 =>
    if v1 = 0 then
    some (0 : Int64)
  else
    (rdI 4 ln p1).bind fun v4 =>
      if v4 = (-4 : Int32) then
      some (0 : Int64)
    else
      (rdI 4 lg p1).bind fun v6 =>
        (fX3_in ((p2).toInt64) (0 : Int64) (((v6 - (1 : Int32))).toInt64)).bind fun v7 =>
        if v7 = 0 then
        some (0 : Int64)
      else
        (rdL 160 ce (((40 : Int32) * p1) + p2)).bind fun v10 =>
          some v10

def fX3_wide (p1 : Int32) : Option (Int32) :=
  if p1 = 0 then
    some (8 : Int32)
  else
    if p1 = (1 : Int32) then
      some (32 : Int32)
    else
      some (64 : Int32)

def fX3_foundAt (ln : Nat → Int32) (lg : Nat → Int32) (p1 : Int32) (p2 : Int32) (p3 : Int64) : Option (Int32) :=
  (rdI 4 ln p1).bind fun v1 =>
    if v1 = (-4 : Int32) then
    some (1 : Int32)
  else
    (rdI 4 ln p1).bind fun v3 =>
      if v3 = p2 then
      (fX3_wide p2).bind fun v5 =>
        if ((v5).toInt64) = 0 then none else
        (rdI 4 lg p1).bind fun v8 =>
        if (lg_cmp (p3 / ((v5).toInt64)) ((v8).toInt64)) < 0 then
        some (0 : Int32)
      else
        some (2 : Int32)
    else
      some (3 : Int32)

def fX3_isRow_B67 (rp : Nat → Int32) (p1 : Int32) (k17 : Int32 → Int32 → Int32 → Option (Int32)) (x2_67 : Int32) (x4_67 : Int32) (s0_67 : Int32) : Option (Int32) :=
    k17 x2_67 s0_67 (x4_67 + 1)
def fX3_isRow_B66 (rp : Nat → Int32) (p1 : Int32) (k17 : Int32 → Int32 → Int32 → Option (Int32)) (x2_66 : Int32) (x4_66 : Int32) : Option (Int32) :=
    fX3_isRow_B67 rp p1 k17 x2_66 x4_66 (0 : Int32)
def fX3_isRow_B62 (rp : Nat → Int32) (p1 : Int32) (k17 : Int32 → Int32 → Int32 → Option (Int32)) (x2_62 : Int32) (x4_62 : Int32) : Option (Int32) :=
    fX3_isRow_B67 rp p1 k17 x2_62 x4_62 (1 : Int32)
def fX3_isRow_B40 (rp : Nat → Int32) (p1 : Int32) (k17 : Int32 → Int32 → Int32 → Option (Int32)) (x3_40 : Int32) (x4_40 : Int32) (s0_40 : Int32) (s1_40 : Int32) : Option (Int32) :=
    (some ((s1_40 + s0_40) : Int32)).bind fun y7 =>
              if x3_40 = 0 then
              fX3_isRow_B66 rp p1 k17 y7 x4_40
            else
              if 0 < y7 then
                fX3_isRow_B62 rp p1 k17 y7 x4_40
              else
                if y7 = 0 then
                  if x4_40 = (p1 - (1 : Int32)) then
                    fX3_isRow_B62 rp p1 k17 y7 x4_40
                  else
                    fX3_isRow_B66 rp p1 k17 y7 x4_40
                else
                  fX3_isRow_B66 rp p1 k17 y7 x4_40
def fX3_isRow_L17 (rp : Nat → Int32) (p1 : Int32) : Nat → Int32 → Int32 → Int32 → Option (Int32)
  | 0, _, _, _ => none
  | nn + 1, x2_17, x3_17, x4_17 =>
    if p1 ≤ x4_17 then
          if x3_17 = 0 then
            some (0 : Int32)
          else
            if x2_17 = 0 then
              some (1 : Int32)
            else
              some (0 : Int32)
        else
          (rdI 193 rp x4_17).bind fun v5 =>
            if v5 = (1 : Int32) then
            fX3_isRow_B40 rp p1 (fX3_isRow_L17 rp p1 nn) x3_17 x4_17 (1 : Int32) x2_17
          else
            fX3_isRow_B40 rp p1 (fX3_isRow_L17 rp p1 nn) x3_17 x4_17 (-1 : Int32) x2_17
def fX3_isRow_B13 (rp : Nat → Int32) (p1 : Int32) (x2_13 : Int32) (s0_13 : Int32) : Option (Int32) :=
    fX3_isRow_L17 rp p1 FU x2_13 s0_13 (0 : Int32)
def fX3_isRow (rp : Nat → Int32) (p1 : Int32) : Option (Int32) :=
  if (p1 - p1 / (2 : Int32) * (2 : Int32)) = 0 then
    fX3_isRow_B13 rp p1 (0 : Int32) (1 : Int32)
  else
    fX3_isRow_B13 rp p1 (0 : Int32) (0 : Int32)

def fX3_read_L172 (ln : Nat → Int32) (lg : Nat → Int32) (ce : Nat → Int64) (p1 : Int32) (p2 : Int32) (p3 : Int32) (p4 : Int32) : Nat → (Nat → Int32) → (Nat → Int32) → Int32 → Option (Int32 × (Nat → Int32) × (Nat → Int32))
  | 0, _, _, _ => none
  | nn + 1, st_172, rp_172, x5_172 =>
    if (64 : Int32) ≤ x5_172 then
                              (wrI 579 st_172 (192 : Int32) (p4 / (2 : Int32))).bind fun u17 =>
                                (fX3_many u17).bind fun v18 =>
                                some (v18, u17, rp_172)
                            else
                              (wrI 579 st_172 ((128 : Int32) + x5_172) (0 : Int32)).bind fun u20 =>
                                (fX3_read_L172 ln lg ce p1 p2 p3 p4 nn) u20 rp_172 (x5_172 + 1)
def fX3_read_L142 (ln : Nat → Int32) (lg : Nat → Int32) (ce : Nat → Int64) (p1 : Int32) (p2 : Int32) (p3 : Int32) (p4 : Int32) : Nat → (Nat → Int32) → (Nat → Int32) → Int32 → Option (Int32 × (Nat → Int32) × (Nat → Int32))
  | 0, _, _, _ => none
  | nn + 1, st_142, rp_142, x5_142 =>
    if p4 ≤ x5_142 then
                        fX3_read_L172 ln lg ce p1 p2 p3 p4 FU st_142 rp_142 (0 : Int32)
                      else
                        (rdI 193 rp_142 x5_142).bind fun v21 =>
                          (wrI 579 st_142 x5_142 v21).bind fun u22 =>
                          (fX3_read_L142 ln lg ce p1 p2 p3 p4 nn) u22 rp_142 (x5_142 + 1)
def fX3_read_L46 (ln : Nat → Int32) (lg : Nat → Int32) (ce : Nat → Int64) (p1 : Int32) (p2 : Int32) (p3 : Int32) (p4 : Int32) : Nat → (Nat → Int32) → (Nat → Int32) → Int32 → Option (Int32 × (Nat → Int32) × (Nat → Int32))
  | 0, _, _, _ => none
  | nn + 1, st_46, rp_46, x5_46 =>
    if p4 ≤ x5_46 then
                (fX3_isRow rp_46 p4).bind fun v12 =>
                  if v12 = 0 then
                  some ((-2 : Int32), st_46, rp_46)
                else
                  fX3_read_L142 ln lg ce p1 p2 p3 p4 FU st_46 rp_46 (0 : Int32)
              else
                (some ((((p3).toInt64) + ((x5_46).toInt64)) : Int64)).bind fun y23 =>
                  (fX3_foundAt ln lg p1 p2 y23).bind fun v24 =>
                  if v24 ≤ 0 then
                  (fX3_wide p2).bind fun v27 =>
                    if ((v27).toInt64) = 0 then none else
                    (rdL 160 ce (((40 : Int32) * p1) + (((y23 / ((v27).toInt64))).toInt32))).bind fun v30 =>
                    (fX3_wide p2).bind fun v31 =>
                    if ((v31).toInt64) = 0 then none else
                    (wrI 193 rp_46 x5_46 (((((v30 >>> (((((y23 - y23 / ((v31).toInt64) * ((v31).toInt64))).toInt32)).toInt64 &&& 63))) &&& (1 : Int64))).toInt32)).bind fun u34 =>
                    (fX3_read_L46 ln lg ce p1 p2 p3 p4 nn) st_46 u34 (x5_46 + 1)
                else
                  some (((-10 : Int32) - v24), st_46, rp_46)
def fX3_read (st : Nat → Int32) (rp : Nat → Int32) (ln : Nat → Int32) (lg : Nat → Int32) (ce : Nat → Int64) (p1 : Int32) (p2 : Int32) (p3 : Int32) (p4 : Int32) : Option (Int32 × (Nat → Int32) × (Nat → Int32)) :=
  (fX3_in ((p1).toInt64) (0 : Int64) (3 : Int64)).bind fun v1 =>
    if v1 = 0 then
    some ((-1 : Int32), st, rp)
  else
    (fX3_in ((p2).toInt64) (0 : Int64) (2 : Int64)).bind fun v4 =>
      if v4 = 0 then
      some ((-1 : Int32), st, rp)
    else
      if p3 < 0 then
        some ((-1 : Int32), st, rp)
      else
        (fX3_in ((p4).toInt64) (0 : Int64) (128 : Int64)).bind fun v8 =>
          if v8 = 0 then
          some ((-1 : Int32), st, rp)
        else
          fX3_read_L46 ln lg ce p1 p2 p3 p4 FU st rp (0 : Int32)

def fX3_stow_B162 (st : Nat → Int32) (ln : Nat → Int32) (lg : Nat → Int32) (p1 : Int32) (p2 : Int32) (p3 : Int32) (k38 : (Nat → Int32) → (Nat → Int64) → Int32 → Option (Int32 × (Nat → Int32) × (Nat → Int64))) (mi_162 : Nat → Int32) (ce_162 : Nat → Int64) (x4_162 : Int32) : Option (Int32 × (Nat → Int32) × (Nat → Int64)) :=
    k38 mi_162 ce_162 x4_162
def fX3_stow_B155 (st : Nat → Int32) (ln : Nat → Int32) (lg : Nat → Int32) (p1 : Int32) (p2 : Int32) (p3 : Int32) (k38 : (Nat → Int32) → (Nat → Int64) → Int32 → Option (Int32 × (Nat → Int32) × (Nat → Int64))) (mi_155 : Nat → Int32) (ce_155 : Nat → Int64) (x4_155 : Int32) (s0_155 : Int64) (s1_155 : Int32) (s2_155 : Int32) : Option (Int32 × (Nat → Int32) × (Nat → Int64)) :=
    (fX3_narrowed s1_155 s0_155).bind fun v26 =>
                      (wrL 160 ce_155 s2_155 v26).bind fun u28 =>
                      fX3_stow_B162 st ln lg p1 p2 p3 k38 mi_155 u28 (x4_155 + 1)
def fX3_stow_L38 (st : Nat → Int32) (ln : Nat → Int32) (lg : Nat → Int32) (p1 : Int32) (p2 : Int32) (p3 : Int32) : Nat → (Nat → Int32) → (Nat → Int64) → Int32 → Option (Int32 × (Nat → Int32) × (Nat → Int64))
  | 0, _, _, _ => none
  | nn + 1, mi_38, ce_38, x4_38 =>
    if (mi_38 8) = 0 then
              (fX3_places st).bind fun v9 =>
                if v9 ≤ x4_38 then
                some (x4_38, mi_38, ce_38)
              else
                (some ((((p3).toInt64) + ((x4_38).toInt64)) : Int64)).bind fun y12 =>
                  (fX3_foundAt ln lg p1 p2 y12).bind fun v13 =>
                  if ((upd mi_38 8 v13) 8) = 0 then
                  (fX3_wide p2).bind fun v16 =>
                    if ((v16).toInt64) = 0 then none else
                    (some ((((40 : Int32) * p1) + (((y12 / ((v16).toInt64))).toInt32)) : Int32)).bind fun y19 =>
                    (fX3_wide p2).bind fun v20 =>
                    if ((v20).toInt64) = 0 then none else
                    (some ((((1 : Int64) <<< (((((y12 - y12 / ((v20).toInt64) * ((v20).toInt64))).toInt32)).toInt64 &&& 63))) : Int64)).bind fun y23 =>
                    (rdI 579 st x4_38).bind fun v24 =>
                    if v24 = (1 : Int32) then
                    (rdL 160 ce_38 y19).bind fun v30 =>
                      fX3_stow_B155 st ln lg p1 p2 p3 (fX3_stow_L38 st ln lg p1 p2 p3 nn) (upd mi_38 8 v13) ce_38 x4_38 (v30 ||| y23) p2 y19
                  else
                    (rdL 160 ce_38 y19).bind fun v29 =>
                      fX3_stow_B155 st ln lg p1 p2 p3 (fX3_stow_L38 st ln lg p1 p2 p3 nn) (upd mi_38 8 v13) ce_38 x4_38 (v29 &&& (y23 ^^^ (-1 : Int64))) p2 y19
                else
                  fX3_stow_B162 st ln lg p1 p2 p3 (fX3_stow_L38 st ln lg p1 p2 p3 nn) (upd mi_38 8 v13) ce_38 x4_38
            else
              some (x4_38, mi_38, ce_38)
def fX3_stow (mi : Nat → Int32) (st : Nat → Int32) (ln : Nat → Int32) (lg : Nat → Int32) (ce : Nat → Int64) (p1 : Int32) (p2 : Int32) (p3 : Int32) : Option (Int32 × (Nat → Int32) × (Nat → Int64)) :=
  (fX3_in ((p1).toInt64) (0 : Int64) (3 : Int64)).bind fun v1 =>
    if v1 = 0 then
    some ((-1 : Int32), mi, ce)
  else
    (fX3_in ((p2).toInt64) (0 : Int64) (2 : Int64)).bind fun v4 =>
      if v4 = 0 then
      some ((-1 : Int32), mi, ce)
    else
      if 0 ≤ p3 then
        fX3_stow_L38 st ln lg p1 p2 p3 FU (upd mi 8 (0 : Int32)) ce (0 : Int32)
      else
        some ((-1 : Int32), mi, ce)

def fX3_torn (mi : Nat → Int32) : Option (Int32) :=
  some (mi 8)

def fX3_count_B74 (mi : Nat → Int32) (st : Nat → Int32) (ik : Nat → Int32) (ln : Nat → Int32) (lg : Nat → Int32) (p1 : Int32) (s0_74 : Int32) : Option (Int32) :=
    (rdI 2 ik (1 : Int32)).bind fun v7 =>
              if v7 = 0 then
              some (s0_74 + (0 : Int32))
            else
              some (s0_74 + (1 : Int32))
def fX3_count_L4 (mi : Nat → Int32) (st : Nat → Int32) (ik : Nat → Int32) (ln : Nat → Int32) (lg : Nat → Int32) (p1 : Int32) : Nat → Int32 → Int32 → Option (Int32)
  | 0, _, _ => none
  | nn + 1, x2_4, x3_4 =>
    (fX3_places st).bind fun v1 =>
        if v1 ≤ x3_4 then
        if p1 = 0 then
          (rdI 2 ik (0 : Int32)).bind fun v5 =>
            if v5 = 0 then
            fX3_count_B74 mi st ik ln lg p1 (0 : Int32)
          else
            fX3_count_B74 mi st ik ln lg p1 (1 : Int32)
        else
        if p1 = 1 then
          some (mi 0)
        else
        if p1 = 2 then
          (rdI 4 ln (0 : Int32)).bind fun v11 =>
            if v11 = (-4 : Int32) then
            some (-4 : Int32)
          else
            (rdI 4 lg (0 : Int32)).bind fun v13 =>
              some v13
        else
        if p1 = 3 then
          some x2_4
        else
        some (-1 : Int32)
      else
        (rdI 579 st x3_4).bind fun v15 =>
          (some ((x2_4 + v15) : Int32)).bind fun y16 =>
          (fX3_count_L4 mi st ik ln lg p1 nn) y16 (x3_4 + 2)
def fX3_count (mi : Nat → Int32) (st : Nat → Int32) (ik : Nat → Int32) (ln : Nat → Int32) (lg : Nat → Int32) (p1 : Int32) : Option (Int32) :=
  fX3_count_L4 mi st ik ln lg p1 FU (0 : Int32) (1 : Int32)
