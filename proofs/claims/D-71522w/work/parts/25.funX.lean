/-! functions of the tree, by program -/
set_option maxRecDepth 100000
def fX0_in (p1 : Int64) (p2 : Int64) (p3 : Int64) : Option (Int32) :=
  if (lg_cmp p1 p2) < 0 then
    some (0 : Int32)
  else
    if 0 < (lg_cmp p1 p3) then
      some (0 : Int32)
    else
      some (1 : Int32)

def fX0_nodes (rs : RS) : Option (Int32) :=
  some ((rP rs) / (2 : Int32))

def fX0_onInBlock_L27 (rs : RS) (p1 : Int32) (p2 : Int32) (p3 : Int32) : Nat → Int32 → Int32 → Int32 → Option (Int32)
  | 0, _, _, _ => none
  | nn + 1, x4_27, x5_27, x6_27 =>
    if x6_27 ≤ x4_27 then
        some (-4 : Int32)
      else
        (fX1_step rs x4_27).bind fun v3 =>
          (some ((x5_27 + v3) : Int32)).bind fun y5 =>
          if y5 = p3 then
          some (x4_27 + 1)
        else
          (fX0_onInBlock_L27 rs p1 p2 p3 nn) (x4_27 + 1) y5 x6_27
def fX0_onInBlock (rs : RS) (p1 : Int32) (p2 : Int32) (p3 : Int32) : Option (Int32) :=
  (some ((min32 (rP rs) (((p1 / (16 : Int32)) + (1 : Int32)) * (16 : Int32))) : Int32)).bind fun y1 =>
    fX0_onInBlock_L27 rs p1 p2 p3 FU p1 p2 y1

def fX0_searchOn_B134 (rs : RS) (p1 : Int32) (p2 : Int32) (k78 : Int32 → Int32 → Option (Int32)) (x5_134 : Int32) (x6_134 : Int32) : Option (Int32) :=
    (some ((x6_134 / (2 : Int32)) : Int32)).bind fun y13 =>
                k78 x5_134 y13
def fX0_searchOn_L143 (rs : RS) (p1 : Int32) (p2 : Int32) : Nat → Int32 → Int32 → Option (Int32)
  | 0, _, _ => none
  | nn + 1, x5_143, x6_143 =>
    if (8 : Int32) ≤ x6_143 then
                      (fX0_onInBlock rs ((16 : Int32) * (x6_143 - (8 : Int32))) x5_143 p2).bind fun v20 =>
                        some v20
                    else
                      (some ((x6_143 * (2 : Int32)) : Int32)).bind fun y22 =>
                        (fX1_comesTo rs y22 x5_143 p2).bind fun v23 =>
                        if v23 = 0 then
                        (rdI 16 (rG rs) y22).bind fun v26 =>
                          (some ((x5_143 + v26) : Int32)).bind fun y27 =>
                          (fX0_searchOn_L143 rs p1 p2 nn) y27 (y22 + 1)
                      else
                        (fX0_searchOn_L143 rs p1 p2 nn) x5_143 y22
def fX0_searchOn_L78 (rs : RS) (p1 : Int32) (p2 : Int32) : Nat → Int32 → Int32 → Option (Int32)
  | 0, _, _ => none
  | nn + 1, x5_78, x6_78 =>
    if x6_78 = (1 : Int32) then
            some (-4 : Int32)
          else
            if (x6_78 - x6_78 / (2 : Int32) * (2 : Int32)) = 0 then
              (fX1_comesTo rs (x6_78 + (1 : Int32)) x5_78 p2).bind fun v14 =>
                if v14 = 0 then
                (rdI 16 (rG rs) (x6_78 + (1 : Int32))).bind fun v17 =>
                  (some ((x5_78 + v17) : Int32)).bind fun y18 =>
                  fX0_searchOn_B134 rs p1 p2 (fX0_searchOn_L78 rs p1 p2 nn) y18 x6_78
              else
                fX0_searchOn_L143 rs p1 p2 FU x5_78 (x6_78 + 1)
            else
              fX0_searchOn_B134 rs p1 p2 (fX0_searchOn_L78 rs p1 p2 nn) x5_78 x6_78
def fX0_searchOn (rs : RS) (p1 : Int32) (p2 : Int32) : Option (Int32) :=
  if p1 < (rP rs) then
    (fX1_excess rs p1).bind fun v2 =>
      (fX0_onInBlock rs p1 v2 p2).bind fun v4 =>
      if v4 = (-4 : Int32) then
      (some ((min32 (rP rs) (((p1 / (16 : Int32)) + (1 : Int32)) * (16 : Int32))) : Int32)).bind fun y7 =>
        (fX1_excess rs y7).bind fun v8 =>
        (some (((8 : Int32) + (p1 / (16 : Int32))) : Int32)).bind fun y10 =>
        fX0_searchOn_L78 rs p1 p2 FU v8 y10
    else
      some v4
  else
    some (-4 : Int32)

def fX0_backInBlock_L6 (rs : RS) (p1 : Int32) (p2 : Int32) (p3 : Int32) (p4 : Int32) : Nat → Int32 → Int32 → Option (Int32)
  | 0, _, _ => none
  | nn + 1, x5_6, x6_6 =>
    if x5_6 ≤ p4 then
        some (-4 : Int32)
      else
        (fX1_step rs (x5_6 + (-1))).bind fun v2 =>
          (some ((x6_6 - v2) : Int32)).bind fun y4 =>
          if y4 = p3 then
          if p4 < (x5_6 + (-1)) then
            some (x5_6 + (-1))
          else
            if (x5_6 + (-1)) = 0 then
              some (x5_6 + (-1))
            else
              (fX0_backInBlock_L6 rs p1 p2 p3 p4 nn) (x5_6 + (-1)) y4
        else
          (fX0_backInBlock_L6 rs p1 p2 p3 p4 nn) (x5_6 + (-1)) y4
def fX0_backInBlock (rs : RS) (p1 : Int32) (p2 : Int32) (p3 : Int32) (p4 : Int32) : Option (Int32) :=
  fX0_backInBlock_L6 rs p1 p2 p3 p4 FU p1 p2

def fX0_searchBack_B145 (rs : RS) (p1 : Int32) (p2 : Int32) (k67 : Int32 → Int32 → Option (Int32)) (x5_145 : Int32) (x6_145 : Int32) : Option (Int32) :=
    (some ((x6_145 / (2 : Int32)) : Int32)).bind fun y14 =>
                  k67 x5_145 y14
def fX0_searchBack_L154 (rs : RS) (p1 : Int32) (p2 : Int32) : Nat → Int32 → Int32 → Option (Int32)
  | 0, _, _ => none
  | nn + 1, x5_154, x6_154 =>
    if (8 : Int32) ≤ x6_154 then
                        (some (((16 : Int32) * ((x6_154 - (8 : Int32)) + (1 : Int32))) : Int32)).bind fun y22 =>
                          if x5_154 = p2 then
                          some y22
                        else
                          (fX0_backInBlock rs y22 x5_154 p2 (y22 - (16 : Int32))).bind fun v24 =>
                            some v24
                      else
                        (some ((((2 : Int32) * x6_154) + (1 : Int32)) : Int32)).bind fun y26 =>
                          (rdI 16 (rG rs) y26).bind fun v27 =>
                          (fX1_comesTo rs y26 (x5_154 - v27) p2).bind fun v28 =>
                          if v28 = 0 then
                          (rdI 16 (rG rs) y26).bind fun v31 =>
                            (some ((x5_154 - v31) : Int32)).bind fun y32 =>
                            (fX0_searchBack_L154 rs p1 p2 nn) y32 (y26 + (-1))
                        else
                          (fX0_searchBack_L154 rs p1 p2 nn) x5_154 y26
def fX0_searchBack_L67 (rs : RS) (p1 : Int32) (p2 : Int32) : Nat → Int32 → Int32 → Option (Int32)
  | 0, _, _ => none
  | nn + 1, x5_67, x6_67 =>
    if x6_67 = (1 : Int32) then
              if p2 = 0 then
                some (0 : Int32)
              else
                some (-4 : Int32)
            else
              if (x6_67 - x6_67 / (2 : Int32) * (2 : Int32)) = (1 : Int32) then
                (rdI 16 (rG rs) (x6_67 - (1 : Int32))).bind fun v15 =>
                  (fX1_comesTo rs (x6_67 - (1 : Int32)) (x5_67 - v15) p2).bind fun v16 =>
                  if v16 = 0 then
                  (rdI 16 (rG rs) (x6_67 - (1 : Int32))).bind fun v19 =>
                    (some ((x5_67 - v19) : Int32)).bind fun y20 =>
                    fX0_searchBack_B145 rs p1 p2 (fX0_searchBack_L67 rs p1 p2 nn) y20 x6_67
                else
                  fX0_searchBack_L154 rs p1 p2 FU x5_67 (x6_67 + (-1))
              else
                fX0_searchBack_B145 rs p1 p2 (fX0_searchBack_L67 rs p1 p2 nn) x5_67 x6_67
def fX0_searchBack (rs : RS) (p1 : Int32) (p2 : Int32) : Option (Int32) :=
  if p1 = 0 then
    some (-4 : Int32)
  else
    (some (((p1 - (1 : Int32)) / (16 : Int32)) : Int32)).bind fun y2 =>
      (fX1_excess rs p1).bind fun v3 =>
      (fX0_backInBlock rs p1 v3 p2 ((16 : Int32) * y2)).bind fun v5 =>
      if v5 = (-4 : Int32) then
      if y2 = 0 then
        some v5
      else
        (fX1_excess rs ((16 : Int32) * y2)).bind fun v9 =>
          (some (((8 : Int32) + y2) : Int32)).bind fun y11 =>
          fX0_searchBack_L67 rs p1 p2 FU v9 y11
    else
      some v5

def fX0_partner (rs : RS) (p1 : Int32) : Option (Int32) :=
  (fX1_isOpen rs p1).bind fun v1 =>
    if v1 = 0 then
    (fX1_excess rs (p1 + (1 : Int32))).bind fun v4 =>
      (fX0_searchBack rs (p1 + (1 : Int32)) v4).bind fun v6 =>
      some v6
  else
    (fX1_excess rs p1).bind fun v8 =>
      (fX0_searchOn rs p1 v8).bind fun v10 =>
      some (v10 - (1 : Int32))

def fX0_selected_B94 (rs : RS) (p1 : Int32) (p2 : Int32) (k5 : Int32 → Int32 → Option (Int32)) (x3_94 : Int32) (x4_94 : Int32) : Option (Int32) :=
    k5 x3_94 (x4_94 + 1)
def fX0_selected_B77 (rs : RS) (p1 : Int32) (p2 : Int32) (k5 : Int32 → Int32 → Option (Int32)) (x3_77 : Int32) (x4_77 : Int32) (s0_77 : Int32) : Option (Int32) :=
    if s0_77 = 0 then
            fX0_selected_B94 rs p1 p2 k5 x3_77 x4_77
          else
            if x3_77 = 0 then
              some x4_77
            else
              fX0_selected_B94 rs p1 p2 k5 (x3_77 + (-1)) x4_77
def fX0_selected_B76 (rs : RS) (p1 : Int32) (p2 : Int32) (k5 : Int32 → Int32 → Option (Int32)) (x3_76 : Int32) (x4_76 : Int32) : Option (Int32) :=
    fX0_selected_B77 rs p1 p2 k5 x3_76 x4_76 (0 : Int32)
def fX0_selected_B72 (rs : RS) (p1 : Int32) (p2 : Int32) (k5 : Int32 → Int32 → Option (Int32)) (x3_72 : Int32) (x4_72 : Int32) : Option (Int32) :=
    fX0_selected_B77 rs p1 p2 k5 x3_72 x4_72 (1 : Int32)
def fX0_selected_L5 (rs : RS) (p1 : Int32) (p2 : Int32) : Nat → Int32 → Int32 → Option (Int32)
  | 0, _, _ => none
  | nn + 1, x3_5, x4_5 =>
    if (rP rs) ≤ x4_5 then
        some (-4 : Int32)
      else
        if p2 = (1 : Int32) then
          (fX1_isOpen rs x4_5).bind fun v12 =>
            if v12 = 0 then
            fX0_selected_B77 rs p1 p2 (fX0_selected_L5 rs p1 p2 nn) x3_5 x4_5 (1 : Int32)
          else
            fX0_selected_B77 rs p1 p2 (fX0_selected_L5 rs p1 p2 nn) x3_5 x4_5 (0 : Int32)
        else
          (fX1_isOpen rs x4_5).bind fun v5 =>
            if v5 = 0 then
            fX0_selected_B76 rs p1 p2 (fX0_selected_L5 rs p1 p2 nn) x3_5 x4_5
          else
            if p2 = 0 then
              fX0_selected_B72 rs p1 p2 (fX0_selected_L5 rs p1 p2 nn) x3_5 x4_5
            else
              (fX1_isOpen rs (x4_5 + (1 : Int32))).bind fun v9 =>
                if v9 = 0 then
                fX0_selected_B72 rs p1 p2 (fX0_selected_L5 rs p1 p2 nn) x3_5 x4_5
              else
                fX0_selected_B76 rs p1 p2 (fX0_selected_L5 rs p1 p2 nn) x3_5 x4_5
def fX0_selected (rs : RS) (p1 : Int32) (p2 : Int32) : Option (Int32) :=
  fX0_selected_L5 rs p1 p2 FU p1 (0 : Int32)

def fX0_ranked_B76 (rs : RS) (p1 : Int32) (p2 : Int32) (k36 : Int32 → Int32 → Option (Int32)) (x4_76 : Int32) (s0_76 : Int32) (s1_76 : Int32) : Option (Int32) :=
    (some ((s1_76 + s0_76) : Int32)).bind fun y6 =>
              k36 y6 (x4_76 + 1)
def fX0_ranked_B75 (rs : RS) (p1 : Int32) (p2 : Int32) (k36 : Int32 → Int32 → Option (Int32)) (x4_75 : Int32) (s0_75 : Int32) : Option (Int32) :=
    fX0_ranked_B76 rs p1 p2 k36 x4_75 (0 : Int32) s0_75
def fX0_ranked_L36 (rs : RS) (p1 : Int32) (p2 : Int32) : Nat → Int32 → Int32 → Option (Int32)
  | 0, _, _ => none
  | nn + 1, x3_36, x4_36 =>
    if p1 ≤ (x4_36 + (1 : Int32)) then
          some x3_36
        else
          (fX1_isOpen rs x4_36).bind fun v3 =>
            if v3 = 0 then
            fX0_ranked_B75 rs p1 p2 (fX0_ranked_L36 rs p1 p2 nn) x4_36 x3_36
          else
            (fX1_isOpen rs (x4_36 + (1 : Int32))).bind fun v7 =>
              if v7 = 0 then
              fX0_ranked_B76 rs p1 p2 (fX0_ranked_L36 rs p1 p2 nn) x4_36 (1 : Int32) x3_36
            else
              fX0_ranked_B75 rs p1 p2 (fX0_ranked_L36 rs p1 p2 nn) x4_36 x3_36
def fX0_ranked (rs : RS) (p1 : Int32) (p2 : Int32) : Option (Int32) :=
  if (2 : Int32) ≤ p2 then
    fX0_ranked_L36 rs p1 p2 FU (0 : Int32) (0 : Int32)
  else
    if p2 = 0 then
      (fX1_opens rs p1).bind fun v13 =>
        some v13
    else
      (fX1_opens rs p1).bind fun v11 =>
        some (p1 - v11)

def fX0_openOf (rs : RS) (p1 : Int32) : Option (Int32) :=
  (fX0_selected rs p1 (0 : Int32)).bind fun v1 =>
    some v1

def fX0_closeOf (rs : RS) (p1 : Int32) : Option (Int32) :=
  (fX0_openOf rs p1).bind fun v1 =>
    (fX0_partner rs v1).bind fun v3 =>
    some v3

def fX0_nodeAt (rs : RS) (p1 : Int32) : Option (Int32) :=
  (fX1_opens rs p1).bind fun v1 =>
    some v1

def fX0_depthOf (rs : RS) (p1 : Int32) : Option (Int32) :=
  (fX0_openOf rs p1).bind fun v1 =>
    (fX1_excess rs v1).bind fun v3 =>
    some v3

def fX0_findLeast_B123 (rs : RS) (p1 : Int32) (p2 : Int32) (k39 : (Nat → Int32) → Int32 → Int32 → Option ((Nat → Int32))) (xi_123 : Nat → Int32) (x3_123 : Int32) (x4_123 : Int32) (s0_123 : Int32) : Option ((Nat → Int32)) :=
    k39 (upd (upd xi_123 5 s0_123) 4 (max32 ((upd xi_123 5 s0_123) 4) x3_123)) x3_123 (x4_123 + 1)
def fX0_findLeast_B101 (rs : RS) (p1 : Int32) (p2 : Int32) (k39 : (Nat → Int32) → Int32 → Int32 → Option ((Nat → Int32))) (xi_101 : Nat → Int32) (x3_101 : Int32) (x4_101 : Int32) (s0_101 : Int32) (s1_101 : Int32) : Option ((Nat → Int32)) :=
    if x3_101 ≤ ((upd xi_101 3 (s1_101 + s0_101)) 4) then
              fX0_findLeast_B123 rs p1 p2 k39 (upd xi_101 3 (s1_101 + s0_101)) x3_101 x4_101 ((upd xi_101 3 (s1_101 + s0_101)) 5)
            else
              fX0_findLeast_B123 rs p1 p2 k39 (upd xi_101 3 (s1_101 + s0_101)) x3_101 x4_101 x4_101
def fX0_findLeast_B83 (rs : RS) (p1 : Int32) (p2 : Int32) (k39 : (Nat → Int32) → Int32 → Int32 → Option ((Nat → Int32))) (xi_83 : Nat → Int32) (x3_83 : Int32) (x4_83 : Int32) : Option ((Nat → Int32)) :=
    if x3_83 = (xi_83 1) then
            fX0_findLeast_B101 rs p1 p2 k39 xi_83 x3_83 x4_83 (1 : Int32) (xi_83 3)
          else
            fX0_findLeast_B101 rs p1 p2 k39 xi_83 x3_83 x4_83 (0 : Int32) (xi_83 3)
def fX0_findLeast_L39 (rs : RS) (p1 : Int32) (p2 : Int32) : Nat → (Nat → Int32) → Int32 → Int32 → Option ((Nat → Int32))
  | 0, _, _, _ => none
  | nn + 1, xi_39, x3_39, x4_39 =>
    if p2 < x4_39 then
        some xi_39
      else
        (fX1_step rs (x4_39 - (1 : Int32))).bind fun v5 =>
          (some ((x3_39 + v5) : Int32)).bind fun y7 =>
          if (xi_39 1) ≤ y7 then
          fX0_findLeast_B83 rs p1 p2 (fX0_findLeast_L39 rs p1 p2 nn) xi_39 y7 x4_39
        else
          fX0_findLeast_B83 rs p1 p2 (fX0_findLeast_L39 rs p1 p2 nn) (upd (upd (upd xi_39 1 y7) 2 x4_39) 3 (0 : Int32)) y7 x4_39
def fX0_findLeast (xi : Nat → Int32) (rs : RS) (p1 : Int32) (p2 : Int32) : Option ((Nat → Int32)) :=
  (fX1_excess rs p1).bind fun v1 =>
    (some ((p1 + (1 : Int32)) : Int32)).bind fun y3 =>
    fX0_findLeast_L39 rs p1 p2 FU (upd (upd (upd (upd (upd xi 1 v1) 2 p1) 3 (1 : Int32)) 4 v1) 5 p1) v1 y3

def fX0_fault (xi : Nat → Int32) : Option (Int32) :=
  some (xi 7)

def fX0_deepestOfAll (rs : RS) : Option (Int32) :=
  if (rP rs) = 0 then
    some (-4 : Int32)
  else
    (rdI 16 (rH rs) (1 : Int32)).bind fun v2 =>
      some (v2 - (1 : Int32))

def fX0_size (rs : RS) (p1 : Int32) : Option (Int32) :=
  if p1 = 0 then
    (fX0_nodes rs).bind fun v2 =>
      some v2
  else
  if p1 = 1 then
    (fX0_ranked rs (rP rs) (2 : Int32)).bind fun v5 =>
      some v5
  else
  if p1 = 2 then
    (fX0_deepestOfAll rs).bind fun v8 =>
      some v8
  else
  if p1 = 3 then
    some (rP rs)
  else
  if p1 = 4 then
    some ((((rP rs) + (16 : Int32)) - (1 : Int32)) / (16 : Int32))
  else
  some (-1 : Int32)

def fX0_isPlace (rs : RS) (p1 : Int32) : Option (Int32) :=
  (fX0_in ((p1).toInt64) (0 : Int64) ((((rP rs) - (1 : Int32))).toInt64)).bind fun v1 =>
    some v1

def fX0_isBetween (rs : RS) (p1 : Int32) : Option (Int32) :=
  (fX0_in ((p1).toInt64) (0 : Int64) (((rP rs)).toInt64)).bind fun v1 =>
    some v1

def fX0_bit (rs : RS) (p1 : Int32) : Option (Int32) :=
  (fX0_isPlace rs p1).bind fun v1 =>
    if v1 = 0 then
    some (-1 : Int32)
  else
    (fX1_isOpen rs p1).bind fun v4 =>
      if v4 = 0 then
      some (0 : Int32)
    else
      some (1 : Int32)

def fX0_excess (rs : RS) (p1 : Int32) : Option (Int32) :=
  (fX0_isBetween rs p1).bind fun v1 =>
    if v1 = 0 then
    some (-1 : Int32)
  else
    (fX1_excess rs p1).bind fun v4 =>
      some v4

def fX0_rank (rs : RS) (p1 : Int32) (p2 : Int32) : Option (Int32) :=
  (fX0_isBetween rs p1).bind fun v1 =>
    if v1 = 0 then
    some (-1 : Int32)
  else
    (fX0_in ((p2).toInt64) (0 : Int64) (2 : Int64)).bind fun v4 =>
      if v4 = 0 then
      some (-1 : Int32)
    else
      (fX0_ranked rs p1 p2).bind fun v7 =>
        some v7

def fX0_select (rs : RS) (p1 : Int32) (p2 : Int32) : Option (Int32) :=
  if p1 < 0 then
    some (-1 : Int32)
  else
    (fX0_in ((p2).toInt64) (0 : Int64) (2 : Int64)).bind fun v2 =>
      if v2 = 0 then
      some (-1 : Int32)
    else
      (fX0_selected rs p1 p2).bind fun v5 =>
        some v5

def fX0_forward (rs : RS) (p1 : Int32) (p2 : Int32) : Option (Int32) :=
  (fX0_isBetween rs p1).bind fun v1 =>
    if v1 = 0 then
    some (-1 : Int32)
  else
    (fX0_searchOn rs p1 p2).bind fun v4 =>
      some v4

def fX0_backward (rs : RS) (p1 : Int32) (p2 : Int32) : Option (Int32) :=
  (fX0_isBetween rs p1).bind fun v1 =>
    if v1 = 0 then
    some (-1 : Int32)
  else
    (fX0_searchBack rs p1 p2).bind fun v4 =>
      some v4

def fX0_match (rs : RS) (p1 : Int32) : Option (Int32) :=
  (fX0_isPlace rs p1).bind fun v1 =>
    if v1 = 0 then
    some (-1 : Int32)
  else
    (fX0_partner rs p1).bind fun v4 =>
      some v4

def fX0_least (xi : Nat → Int32) (rs : RS) (p1 : Int32) (p2 : Int32) (p3 : Int32) : Option (Int32 × (Nat → Int32)) :=
  (fX0_isBetween rs p1).bind fun v1 =>
    if v1 = 0 then
    some ((-1 : Int32), xi)
  else
    (fX0_isBetween rs p2).bind fun v4 =>
      if v4 = 0 then
      some ((-1 : Int32), xi)
    else
      if p2 < p1 then
        some ((-1 : Int32), xi)
      else
        (fX0_in ((p3).toInt64) (0 : Int64) (3 : Int64)).bind fun v8 =>
          if v8 = 0 then
          some ((-1 : Int32), xi)
        else
          (fX0_findLeast xi rs p1 p2).bind fun g11 =>
            if p3 = 0 then
            some ((g11 1), g11)
          else
            if p3 = (1 : Int32) then
              some ((g11 2), g11)
            else
              if p3 = (2 : Int32) then
                some ((g11 3), g11)
              else
                some ((g11 4), g11)

def fX0_block (rs : RS) (p1 : Int32) (p2 : Int32) : Option (Int32) :=
  (fX0_in ((p1).toInt64) (0 : Int64) (((((((rP rs) + (16 : Int32)) - (1 : Int32)) / (16 : Int32)) - (1 : Int32))).toInt64)).bind fun v1 =>
    if v1 = 0 then
    some (-1 : Int32)
  else
    (fX0_in ((p2).toInt64) (0 : Int64) (2 : Int64)).bind fun v4 =>
      if v4 = 0 then
      some (-1 : Int32)
    else
      (some (((8 : Int32) + p1) : Int32)).bind fun y7 =>
        if p2 = 0 then
        (rdI 16 (rG rs) y7).bind fun v12 =>
          some ((100 : Int32) + v12)
      else
        if p2 = (1 : Int32) then
          (rdI 16 (rL rs) y7).bind fun v11 =>
            some ((100 : Int32) + v11)
        else
          (rdI 16 (rH rs) y7).bind fun v10 =>
            some ((100 : Int32) + v10)

def fX0_isNode (rs : RS) (p1 : Int32) : Option (Int32) :=
  (fX0_nodes rs).bind fun v1 =>
    (fX0_in ((p1).toInt64) (0 : Int64) (((v1 - (1 : Int32))).toInt64)).bind fun v3 =>
    some v3

def fX0_parentOf (rs : RS) (p1 : Int32) : Option (Int32) :=
  (fX0_openOf rs p1).bind fun v1 =>
    (fX1_excess rs v1).bind fun v3 =>
    if v3 = 0 then
    some (-4 : Int32)
  else
    (fX0_searchBack rs v1 (v3 - (1 : Int32))).bind fun v6 =>
      (fX0_nodeAt rs v6).bind fun v8 =>
      some v8

def fX0_firstOf (rs : RS) (p1 : Int32) : Option (Int32) :=
  (fX0_openOf rs p1).bind fun v1 =>
    (fX1_isOpen rs (v1 + (1 : Int32))).bind fun v3 =>
    if v3 = 0 then
    some (-4 : Int32)
  else
    some (p1 + (1 : Int32))

def fX0_lastOf (rs : RS) (p1 : Int32) : Option (Int32) :=
  (fX0_closeOf rs p1).bind fun v1 =>
    (fX1_isOpen rs (v1 - (1 : Int32))).bind fun v3 =>
    if v3 = 0 then
    (fX0_partner rs (v1 - (1 : Int32))).bind fun v6 =>
      (fX0_nodeAt rs v6).bind fun v8 =>
      some v8
  else
    some (-4 : Int32)

def fX0_nextOf (rs : RS) (p1 : Int32) : Option (Int32) :=
  (fX0_closeOf rs p1).bind fun v1 =>
    if (rP rs) ≤ (v1 + (1 : Int32)) then
    some (-4 : Int32)
  else
    (fX1_isOpen rs (v1 + (1 : Int32))).bind fun v4 =>
      if v4 = 0 then
      some (-4 : Int32)
    else
      (fX0_nodeAt rs (v1 + (1 : Int32))).bind fun v7 =>
        some v7

def fX0_beforeOf (rs : RS) (p1 : Int32) : Option (Int32) :=
  (fX0_openOf rs p1).bind fun v1 =>
    if v1 = 0 then
    some (-4 : Int32)
  else
    (fX1_isOpen rs (v1 - (1 : Int32))).bind fun v4 =>
      if v4 = 0 then
      (fX0_partner rs (v1 - (1 : Int32))).bind fun v7 =>
        (fX0_nodeAt rs v7).bind fun v9 =>
        some v9
    else
      some (-4 : Int32)

def fX0_childOf_L9 (rs : RS) (p1 : Int32) (p2 : Int32) : Nat → Int32 → Int32 → Option (Int32)
  | 0, _, _ => none
  | nn + 1, x3_9, x4_9 =>
    if p2 ≤ x4_9 then
        some x3_9
      else
        if x3_9 = (-4 : Int32) then
          some x3_9
        else
          (fX0_nextOf rs x3_9).bind fun v5 =>
            (fX0_childOf_L9 rs p1 p2 nn) v5 (x4_9 + 1)
def fX0_childOf (rs : RS) (p1 : Int32) (p2 : Int32) : Option (Int32) :=
  (fX0_firstOf rs p1).bind fun v1 =>
    fX0_childOf_L9 rs p1 p2 FU v1 (0 : Int32)

def fX0_childrenOf_L8 (rs : RS) (p1 : Int32) : Nat → Int32 → Int32 → Option (Int32)
  | 0, _, _ => none
  | nn + 1, x2_8, x3_8 =>
    if x3_8 = (-4 : Int32) then
        some x2_8
      else
        (fX0_nextOf rs x3_8).bind fun v4 =>
          (fX0_childrenOf_L8 rs p1 nn) (x2_8 + 1) v4
def fX0_childrenOf (rs : RS) (p1 : Int32) : Option (Int32) :=
  (fX0_firstOf rs p1).bind fun v1 =>
    fX0_childrenOf_L8 rs p1 FU (0 : Int32) v1

def fX0_whichOf_L8 (rs : RS) (p1 : Int32) : Nat → Int32 → Int32 → Option (Int32)
  | 0, _, _ => none
  | nn + 1, x2_8, x3_8 =>
    if x3_8 = (-4 : Int32) then
        some x2_8
      else
        (fX0_beforeOf rs x3_8).bind fun v4 =>
          (fX0_whichOf_L8 rs p1 nn) (x2_8 + 1) v4
def fX0_whichOf (rs : RS) (p1 : Int32) : Option (Int32) :=
  (fX0_beforeOf rs p1).bind fun v1 =>
    fX0_whichOf_L8 rs p1 FU (0 : Int32) v1

def fX0_sizeOf (rs : RS) (p1 : Int32) : Option (Int32) :=
  (fX0_closeOf rs p1).bind fun v1 =>
    (fX0_openOf rs p1).bind fun v3 =>
    some (((v1 - v3) + (1 : Int32)) / (2 : Int32))

def fX0_leavesOf (rs : RS) (p1 : Int32) : Option (Int32) :=
  (fX0_closeOf rs p1).bind fun v1 =>
    (fX0_ranked rs (v1 + (1 : Int32)) (2 : Int32)).bind fun v3 =>
    (fX0_openOf rs p1).bind fun v5 =>
    (fX0_ranked rs v5 (2 : Int32)).bind fun v7 =>
    some (v3 - v7)

def fX0_deeperOf (xi : Nat → Int32) (rs : RS) (p1 : Int32) : Option (Int32 × (Nat → Int32)) :=
  (fX0_openOf rs p1).bind fun v1 =>
    (fX0_partner rs v1).bind fun v3 =>
    (fX0_findLeast xi rs (v1 + (1 : Int32)) v3).bind fun g5 =>
    (fX1_excess rs v1).bind fun v7 =>
    some ((((g5 4) - v7) - (1 : Int32)), g5)

def fX0_node (xi : Nat → Int32) (rs : RS) (p1 : Int32) (p2 : Int32) : Option (Int32 × (Nat → Int32)) :=
  (fX0_isNode rs p1).bind fun v1 =>
    if v1 = 0 then
    some ((-1 : Int32), xi)
  else
    if p2 = 0 then
      (fX0_openOf rs p1).bind fun v5 =>
        some (v5, xi)
    else
    if p2 = 1 then
      (fX0_closeOf rs p1).bind fun v8 =>
        some (v8, xi)
    else
    if p2 = 2 then
      (fX0_depthOf rs p1).bind fun v11 =>
        some (v11, xi)
    else
    if p2 = 3 then
      (fX0_parentOf rs p1).bind fun v14 =>
        some (v14, xi)
    else
    if p2 = 4 then
      (fX0_firstOf rs p1).bind fun v17 =>
        some (v17, xi)
    else
    if p2 = 5 then
      (fX0_lastOf rs p1).bind fun v20 =>
        some (v20, xi)
    else
    if p2 = 6 then
      (fX0_nextOf rs p1).bind fun v23 =>
        some (v23, xi)
    else
    if p2 = 7 then
      (fX0_beforeOf rs p1).bind fun v26 =>
        some (v26, xi)
    else
    if p2 = 8 then
      (fX0_childrenOf rs p1).bind fun v29 =>
        some (v29, xi)
    else
    if p2 = 9 then
      (fX0_sizeOf rs p1).bind fun v32 =>
        some (v32, xi)
    else
    if p2 = 10 then
      (fX0_leavesOf rs p1).bind fun v35 =>
        some (v35, xi)
    else
    if p2 = 11 then
      (fX0_deeperOf xi rs p1).bind fun (v38, g39) =>
        some (v38, g39)
    else
    if p2 = 12 then
      (fX0_closeOf rs p1).bind fun v42 =>
        (fX0_ranked rs v42 (1 : Int32)).bind fun v44 =>
        some (v44, xi)
    else
    if p2 = 13 then
      (fX0_whichOf rs p1).bind fun v47 =>
        some (v47, xi)
    else
    some ((-1 : Int32), xi)

def fX0_child (rs : RS) (p1 : Int32) (p2 : Int32) : Option (Int32) :=
  (fX0_isNode rs p1).bind fun v1 =>
    if v1 = 0 then
    some (-1 : Int32)
  else
    if p2 < 0 then
      some (-1 : Int32)
    else
      (fX0_childOf rs p1 p2).bind fun v5 =>
        some v5

def fX0_below (rs : RS) (p1 : Int32) : Option (Int32) :=
  (fX0_isNode rs p1).bind fun v1 =>
    if v1 = 0 then
    some (-1 : Int32)
  else
    (fX0_selected rs p1 (1 : Int32)).bind fun v4 =>
      (fX0_partner rs v4).bind fun v6 =>
      (fX0_nodeAt rs v6).bind fun v8 =>
      some v8

def fX0_up (rs : RS) (p1 : Int32) (p2 : Int32) : Option (Int32) :=
  (fX0_isNode rs p1).bind fun v1 =>
    if v1 = 0 then
    some (-1 : Int32)
  else
    if 0 ≤ p2 then
      (fX0_openOf rs p1).bind fun v5 =>
        (fX1_excess rs v5).bind fun v7 =>
        if p2 = 0 then
        some p1
      else
        if p2 ≤ v7 then
          (fX0_searchBack rs v5 (v7 - p2)).bind fun v11 =>
            (fX0_nodeAt rs v11).bind fun v13 =>
            some v13
        else
          some (-4 : Int32)
    else
      some (-1 : Int32)

def fX0_isAbove (rs : RS) (p1 : Int32) (p2 : Int32) : Option (Int32) :=
  (fX0_openOf rs p2).bind fun v1 =>
    (fX0_openOf rs p1).bind fun v3 =>
    if v1 < v3 then
    some (0 : Int32)
  else
    (fX0_closeOf rs p1).bind fun v6 =>
      if v6 < v1 then
      some (0 : Int32)
    else
      some (1 : Int32)

def fX0_metOf (xi : Nat → Int32) (rs : RS) (p1 : Int32) (p2 : Int32) : Option (Int32 × (Nat → Int32)) :=
  (some ((min32 p1 p2) : Int32)).bind fun y1 =>
    (some ((max32 p1 p2) : Int32)).bind fun y2 =>
    (fX0_isAbove rs y1 y2).bind fun v3 =>
    if v3 = 0 then
    (fX0_openOf rs y1).bind fun v6 =>
      (fX0_openOf rs y2).bind fun v8 =>
      (fX0_findLeast xi rs v6 v8).bind fun g10 =>
      (fX0_searchBack rs v6 ((g10 1) - (1 : Int32))).bind fun v12 =>
      (fX0_nodeAt rs v12).bind fun v14 =>
      some (v14, g10)
  else
    some (y1, xi)

def fX0_meet (xi : Nat → Int32) (rs : RS) (p1 : Int32) (p2 : Int32) : Option (Int32 × (Nat → Int32)) :=
  (fX0_isNode rs p1).bind fun v1 =>
    if v1 = 0 then
    some ((-1 : Int32), xi)
  else
    (fX0_isNode rs p2).bind fun v4 =>
      if v4 = 0 then
      some ((-1 : Int32), xi)
    else
      (fX0_metOf xi rs p1 p2).bind fun (v7, g8) =>
        some (v7, g8)

def fX0_way (xi : Nat → Int32) (rs : RS) (p1 : Int32) (p2 : Int32) : Option (Int32 × (Nat → Int32)) :=
  (fX0_isNode rs p1).bind fun v1 =>
    if v1 = 0 then
    some ((-1 : Int32), xi)
  else
    (fX0_isNode rs p2).bind fun v4 =>
      if v4 = 0 then
      some ((-1 : Int32), xi)
    else
      (fX0_depthOf rs p1).bind fun v7 =>
        (fX0_depthOf rs p2).bind fun v9 =>
        (fX0_metOf xi rs p1 p2).bind fun (v11, g12) =>
        (fX0_depthOf rs v11).bind fun v14 =>
        some (((v7 + v9) - ((2 : Int32) * v14)), g12)

def fX0_onOf (rs : RS) (p1 : Int32) : Option (Int32) :=
  (fX0_closeOf rs p1).bind fun v1 =>
    (fX1_excess rs (v1 + (1 : Int32))).bind fun v3 =>
    (fX0_searchOn rs (v1 + (1 : Int32)) (v3 + (1 : Int32))).bind fun v5 =>
    if v5 = (-4 : Int32) then
    some (-4 : Int32)
  else
    (fX0_nodeAt rs (v5 - (1 : Int32))).bind fun v8 =>
      some v8

def fX0_backOf (rs : RS) (p1 : Int32) : Option (Int32) :=
  (fX0_openOf rs p1).bind fun v1 =>
    (fX1_excess rs v1).bind fun v3 =>
    (fX0_searchBack rs v1 (v3 + (1 : Int32))).bind fun v5 =>
    if v5 = (-4 : Int32) then
    some (-4 : Int32)
  else
    (fX0_partner rs v5).bind fun v8 =>
      (fX0_nodeAt rs v8).bind fun v10 =>
      some v10

def fX0_firstDeep (rs : RS) (p1 : Int32) : Option (Int32) :=
  (fX0_searchOn rs (0 : Int32) (p1 + (1 : Int32))).bind fun v1 =>
    if v1 = (-4 : Int32) then
    some (-4 : Int32)
  else
    (fX0_nodeAt rs (v1 - (1 : Int32))).bind fun v4 =>
      some v4

def fX0_lastDeep (rs : RS) (p1 : Int32) : Option (Int32) :=
  (fX0_searchBack rs (rP rs) (p1 + (1 : Int32))).bind fun v1 =>
    if v1 = (-4 : Int32) then
    some (-4 : Int32)
  else
    (fX0_partner rs v1).bind fun v4 =>
      (fX0_nodeAt rs v4).bind fun v6 =>
      some v6

def fX0_level_L78 (rs : RS) (p1 : Int32) (p2 : Int32) : Nat → Int32 → Int32 → Option (Int32)
  | 0, _, _ => none
  | nn + 1, x3_78, x4_78 =>
    if x4_78 = (-4 : Int32) then
                  some x3_78
                else
                  (fX0_onOf rs x4_78).bind fun v11 =>
                    (fX0_level_L78 rs p1 p2 nn) (x3_78 + 1) v11
def fX0_level_B14 (rs : RS) (p1 : Int32) (p2 : Int32) : Option (Int32) :=
    (fX0_in ((p2).toInt64) (0 : Int64) (2 : Int64)).bind fun v3 =>
        if v3 = 0 then
        some (-1 : Int32)
      else
        if p1 < (64 : Int32) then
          if (2 : Int32) ≤ p2 then
            (fX0_firstDeep rs p1).bind fun v8 =>
              fX0_level_L78 rs p1 p2 FU (0 : Int32) v8
          else
            if p2 = 0 then
              (fX0_firstDeep rs p1).bind fun v16 =>
                some v16
            else
              (fX0_lastDeep rs p1).bind fun v14 =>
                some v14
        else
          if p2 = (2 : Int32) then
            some (0 : Int32)
          else
            some (-4 : Int32)
def fX0_level (rs : RS) (p1 : Int32) (p2 : Int32) : Option (Int32) :=
  if p1 < 0 then
    some (-1 : Int32)
  else
    if p1 ≤ (64 : Int32) then
      fX0_level_B14 rs p1 p2
    else
      if p2 < 0 then
        some (-1 : Int32)
      else
        fX0_level_B14 rs p1 p2

def fX0_beside (rs : RS) (p1 : Int32) (p2 : Int32) : Option (Int32) :=
  (fX0_isNode rs p1).bind fun v1 =>
    if v1 = 0 then
    some (-1 : Int32)
  else
    (fX0_in ((p2).toInt64) (0 : Int64) (1 : Int64)).bind fun v4 =>
      if v4 = 0 then
      some (-1 : Int32)
    else
      if p2 = 0 then
        (fX0_onOf rs p1).bind fun v10 =>
          some v10
      else
        (fX0_backOf rs p1).bind fun v8 =>
          some v8

def fX0_deepest (xi : Nat → Int32) (rs : RS) (p1 : Int32) : Option (Int32 × (Nat → Int32)) :=
  (fX0_isNode rs p1).bind fun v1 =>
    if v1 = 0 then
    some ((-1 : Int32), xi)
  else
    (fX0_openOf rs p1).bind fun v4 =>
      (fX0_partner rs v4).bind fun v6 =>
      (fX0_findLeast xi rs (v4 + (1 : Int32)) v6).bind fun g8 =>
      (fX0_nodeAt rs ((g8 5) - (1 : Int32))).bind fun v10 =>
      some (v10, g8)

def fX0_alike_B113 (rs : RS) (p1 : Int32) (p2 : Int32) (x6_113 : Int32) : Option (Int32) :=
    if x6_113 = 0 then
                some (0 : Int32)
              else
                some (1 : Int32)
def fX0_alike_B105 (rs : RS) (p1 : Int32) (p2 : Int32) (k62 : Int32 → Int32 → Int32 → Int32 → Int32 → Option (Int32)) (x3_105 : Int32) (x4_105 : Int32) (x5_105 : Int32) (x7_105 : Int32) (s0_105 : Int32) : Option (Int32) :=
    k62 x3_105 x4_105 x5_105 s0_105 (x7_105 + 1)
def fX0_alike_L62 (rs : RS) (p1 : Int32) (p2 : Int32) : Nat → Int32 → Int32 → Int32 → Int32 → Int32 → Option (Int32)
  | 0, _, _, _, _, _ => none
  | nn + 1, x3_62, x4_62, x5_62, x6_62, x7_62 =>
    if x6_62 = 0 then
              fX0_alike_B113 rs p1 p2 x6_62
            else
              if x5_62 ≤ x7_62 then
                fX0_alike_B113 rs p1 p2 x6_62
              else
                (fX1_isOpen rs (x3_62 + x7_62)).bind fun v20 =>
                  (fX1_isOpen rs (x4_62 + x7_62)).bind fun v22 =>
                  if v20 = v22 then
                  fX0_alike_B105 rs p1 p2 (fX0_alike_L62 rs p1 p2 nn) x3_62 x4_62 x5_62 x7_62 (1 : Int32)
                else
                  fX0_alike_B105 rs p1 p2 (fX0_alike_L62 rs p1 p2 nn) x3_62 x4_62 x5_62 x7_62 (0 : Int32)
def fX0_alike_B57 (rs : RS) (p1 : Int32) (p2 : Int32) (x3_57 : Int32) (x4_57 : Int32) (x5_57 : Int32) (s0_57 : Int32) : Option (Int32) :=
    fX0_alike_L62 rs p1 p2 FU x3_57 x4_57 x5_57 s0_57 (0 : Int32)
def fX0_alike (rs : RS) (p1 : Int32) (p2 : Int32) : Option (Int32) :=
  (fX0_isNode rs p1).bind fun v1 =>
    if v1 = 0 then
    some (-1 : Int32)
  else
    (fX0_isNode rs p2).bind fun v4 =>
      if v4 = 0 then
      some (-1 : Int32)
    else
      (fX0_openOf rs p1).bind fun v7 =>
        (fX0_openOf rs p2).bind fun v9 =>
        (fX0_sizeOf rs p1).bind fun v11 =>
        (some (((2 : Int32) * v11) : Int32)).bind fun y13 =>
        (fX0_sizeOf rs p2).bind fun v14 =>
        if y13 = ((2 : Int32) * v14) then
        fX0_alike_B57 rs p1 p2 v7 v9 y13 (1 : Int32)
      else
        fX0_alike_B57 rs p1 p2 v7 v9 y13 (0 : Int32)

def fX0_weight (rs : RS) (p1 : Int32) : Option (Int32) :=
  (fX0_isNode rs p1).bind fun v1 =>
    if v1 = 0 then
    some (-1 : Int32)
  else
    (rdI 64 (rT rs) p1).bind fun v4 =>
      some v4

def fX0_set (rs : RS) (p1 : Int32) (p2 : Int32) : Option (Int32 × RS) :=
  (fX0_isNode rs p1).bind fun v1 =>
    if v1 = 0 then
    some ((-1 : Int32), rs)
  else
    if 0 ≤ p2 then
      (rdI 64 (rT rs) p1).bind fun v5 =>
        (wrI 64 (rT rs) p1 p2).bind fun u6 =>
        some (v5, (rsT rs u6))
    else
      some ((-1 : Int32), rs)

def fX0_heaviest_B53 (rs : RS) (p1 : Int32) (k16 : Int32 → Int32 → Option (Int32)) (x3_53 : Int32) (s0_53 : Int32) : Option (Int32) :=
    k16 s0_53 (x3_53 + 1)
def fX0_heaviest_L16 (rs : RS) (p1 : Int32) : Nat → Int32 → Int32 → Option (Int32)
  | 0, _, _ => none
  | nn + 1, x2_16, x3_16 =>
    (fX0_sizeOf rs p1).bind fun v5 =>
          if (p1 + v5) ≤ x3_16 then
          some x2_16
        else
          (rdI 64 (rT rs) x3_16).bind fun v8 =>
            (rdI 64 (rT rs) x2_16).bind fun v9 =>
            if v8 ≤ v9 then
            fX0_heaviest_B53 rs p1 (fX0_heaviest_L16 rs p1 nn) x3_16 x2_16
          else
            fX0_heaviest_B53 rs p1 (fX0_heaviest_L16 rs p1 nn) x3_16 x3_16
def fX0_heaviest (rs : RS) (p1 : Int32) : Option (Int32) :=
  (fX0_isNode rs p1).bind fun v1 =>
    if v1 = 0 then
    some (-1 : Int32)
  else
    (some ((p1 + (1 : Int32)) : Int32)).bind fun y4 =>
      fX0_heaviest_L16 rs p1 FU p1 y4

def fX0_bitComes_L8 (p1 : Int32) (p2 : Int32) : Nat → RS → Int32 → Option (RS)
  | 0, _, _ => none
  | nn + 1, rs_8, x3_8 =>
    if x3_8 ≤ p1 then
        (fX1_becomes rs_8 p1 p2).bind fun g3 =>
          some (rsP g3 ((rP g3) + (1 : Int32)))
      else
        (fX1_isOpen rs_8 (x3_8 - (1 : Int32))).bind fun v5 =>
          (fX1_becomes rs_8 x3_8 v5).bind fun g7 =>
          (fX0_bitComes_L8 p1 p2 nn) g7 (x3_8 + (-1))
def fX0_bitComes (rs : RS) (p1 : Int32) (p2 : Int32) : Option (RS) :=
  (some ((rP rs) : Int32)).bind fun y1 =>
    fX0_bitComes_L8 p1 p2 FU rs y1

def fX0_bitGoes_L15 (p1 : Int32) : Nat → RS → Int32 → Option (RS)
  | 0, _, _ => none
  | nn + 1, rs_15, x2_15 =>
    if (rP rs_15) ≤ x2_15 then
        (fX1_becomes rs_15 (rP rs_15) (0 : Int32)).bind fun g2 =>
          some g2
      else
        (fX1_isOpen rs_15 (x2_15 + (1 : Int32))).bind fun v4 =>
          (fX1_becomes rs_15 x2_15 v4).bind fun g6 =>
          (fX0_bitGoes_L15 p1 nn) g6 (x2_15 + 1)
def fX0_bitGoes (rs : RS) (p1 : Int32) : Option (RS) :=
  fX0_bitGoes_L15 p1 FU (rsP rs ((rP rs) - (1 : Int32))) p1

def fX0_plant (rs : RS) (p1 : Int32) : Option (Int32 × RS) :=
  if 0 ≤ p1 then
    if (rP rs) ≤ 0 then
      (fX0_bitComes rs (0 : Int32) (1 : Int32)).bind fun g3 =>
        (fX0_bitComes g3 (1 : Int32) (0 : Int32)).bind fun g5 =>
        (wrI 64 (rT g5) (0 : Int32) p1).bind fun u7 =>
        (fX1_summariseAll (rsT g5 u7)).bind fun g8 =>
        some ((0 : Int32), g8)
    else
      some ((-2 : Int32), rs)
  else
    some ((-1 : Int32), rs)

def fX0_placeOfChild (rs : RS) (p1 : Int32) (p2 : Int32) : Option (Int32) :=
  (fX0_childOf rs p1 p2).bind fun v1 =>
    if v1 = (-4 : Int32) then
    (fX0_closeOf rs p1).bind fun v6 =>
      some v6
  else
    (fX0_openOf rs v1).bind fun v4 =>
      some v4

def fX0_weightComes (rs : RS) (p1 : Int32) (p2 : Int32) : Option (RS) :=
  (some (((63 : Int32) - p1) : Int32)).bind fun y1 =>
    (cpI 64 64 (rT rs) (rT rs) p1 (p1 + (1 : Int32)) y1).bind fun u2 =>
    (wrI 64 (rT (rsT rs u2)) p1 p2).bind fun u3 =>
    some (rsT (rsT rs u2) u3)

def fX0_weightsGo_L32 (p1 : Int32) (p2 : Int32) : Nat → RS → Int32 → Option (RS)
  | 0, _, _ => none
  | nn + 1, rs_32, x3_32 =>
    if (64 : Int32) ≤ x3_32 then
        some rs_32
      else
        (wrI 64 (rT rs_32) x3_32 (0 : Int32)).bind fun u4 =>
          (fX0_weightsGo_L32 p1 p2 nn) (rsT rs_32 u4) (x3_32 + 1)
def fX0_weightsGo (rs : RS) (p1 : Int32) (p2 : Int32) : Option (RS) :=
  (cpI 64 64 (rT rs) (rT rs) (p1 + p2) p1 (((64 : Int32) - p1) - p2)).bind fun u1 =>
    (some (((64 : Int32) - p2) : Int32)).bind fun y2 =>
    fX0_weightsGo_L32 p1 p2 FU (rsT rs u1) y2

def fX0_leafComes (rs : RS) (p1 : Int32) (p2 : Int32) (p3 : Int32) : Option (Int32 × RS) :=
  (fX0_placeOfChild rs p1 p2).bind fun v1 =>
    (fX0_nodeAt rs v1).bind fun v3 =>
    (fX0_bitComes rs v1 (1 : Int32)).bind fun g5 =>
    (fX0_bitComes g5 (v1 + (1 : Int32)) (0 : Int32)).bind fun g7 =>
    (fX0_weightComes g7 v3 p3).bind fun g9 =>
    (fX1_summariseAll g9).bind fun g11 =>
    some (v3, g11)

def fX0_leaf (rs : RS) (p1 : Int32) (p2 : Int32) (p3 : Int32) : Option (Int32 × RS) :=
  (fX0_isNode rs p1).bind fun v1 =>
    if v1 = 0 then
    some ((-1 : Int32), rs)
  else
    if p3 < 0 then
      some ((-1 : Int32), rs)
    else
      (fX0_childrenOf rs p1).bind fun v5 =>
        (fX0_in ((p2).toInt64) (0 : Int64) ((v5).toInt64)).bind fun v7 =>
        if v7 = 0 then
        some ((-1 : Int32), rs)
      else
        (fX0_nodes rs).bind fun v10 =>
          if v10 = (64 : Int32) then
          some ((-3 : Int32), rs)
        else
          (fX0_leafComes rs p1 p2 p3).bind fun (v13, g14) =>
            some (v13, g14)

def fX0_falls_L17 (p1 : Int32) : Nat → RS → Int32 → Int32 → Int32 → Option (RS)
  | 0, _, _, _, _ => none
  | nn + 1, rs_17, x2_17, x3_17, x4_17 =>
    if x3_17 ≤ x4_17 then
        (fX0_weightsGo rs_17 p1 (x3_17 / (2 : Int32))).bind fun g7 =>
          (fX1_summariseAll g7).bind fun g9 =>
          some g9
      else
        (fX0_bitGoes rs_17 x2_17).bind fun g11 =>
          (fX0_falls_L17 p1 nn) g11 x2_17 x3_17 (x4_17 + 1)
def fX0_falls (rs : RS) (p1 : Int32) : Option (RS) :=
  (fX0_openOf rs p1).bind fun v1 =>
    (fX0_sizeOf rs p1).bind fun v3 =>
    (some (((2 : Int32) * v3) : Int32)).bind fun y5 =>
    fX0_falls_L17 p1 FU rs v1 y5 (0 : Int32)

def fX0_prune (rs : RS) (p1 : Int32) : Option (Int32 × RS) :=
  (fX0_isNode rs p1).bind fun v1 =>
    if v1 = 0 then
    some ((-1 : Int32), rs)
  else
    (fX0_firstOf rs p1).bind fun v4 =>
      if v4 = (-4 : Int32) then
      (fX0_falls rs p1).bind fun g7 =>
        (fX0_nodes g7).bind fun v9 =>
        some (v9, g7)
    else
      some ((-2 : Int32), rs)

def fX0_fell (rs : RS) (p1 : Int32) : Option (Int32 × RS) :=
  (fX0_isNode rs p1).bind fun v1 =>
    if v1 = 0 then
    some ((-1 : Int32), rs)
  else
    (fX0_sizeOf rs p1).bind fun v4 =>
      (fX0_falls rs p1).bind fun g6 =>
      some (v4, g6)

def fX0_wrap (rs : RS) (p1 : Int32) (p2 : Int32) (p3 : Int32) (p4 : Int32) : Option (Int32 × RS) :=
  (fX0_isNode rs p1).bind fun v1 =>
    if v1 = 0 then
    some ((-1 : Int32), rs)
  else
    if p4 < 0 then
      some ((-1 : Int32), rs)
    else
      if p3 < 0 then
        some ((-1 : Int32), rs)
      else
        (fX0_childrenOf rs p1).bind fun v6 =>
          (fX0_in ((p2).toInt64) (0 : Int64) ((v6).toInt64)).bind fun v8 =>
          if v8 = 0 then
          some ((-1 : Int32), rs)
        else
          (fX0_childrenOf rs p1).bind fun v11 =>
            if p3 ≤ (v11 - p2) then
            (fX0_nodes rs).bind fun v14 =>
              if v14 = (64 : Int32) then
              some ((-3 : Int32), rs)
            else
              (fX0_placeOfChild rs p1 p2).bind fun v17 =>
                (fX0_placeOfChild rs p1 (p2 + p3)).bind fun v19 =>
                (fX0_nodeAt rs v17).bind fun v21 =>
                (fX0_bitComes rs v19 (0 : Int32)).bind fun g23 =>
                (fX0_bitComes g23 v17 (1 : Int32)).bind fun g25 =>
                (fX0_weightComes g25 v21 p4).bind fun g27 =>
                (fX1_summariseAll g27).bind fun g29 =>
                some (v21, g29)
          else
            some ((-1 : Int32), rs)

def fX0_melt_B26 (p1 : Int32) (rs_26 : RS) : Option (Int32 × RS) :=
    (fX0_openOf rs_26 p1).bind fun v5 =>
        (fX0_partner rs_26 v5).bind fun v7 =>
        (fX0_bitGoes rs_26 v7).bind fun g9 =>
        (fX0_bitGoes g9 v5).bind fun g11 =>
        (fX0_weightsGo g11 p1 (1 : Int32)).bind fun g13 =>
        (fX1_summariseAll g13).bind fun g15 =>
        (fX0_nodes g15).bind fun v17 =>
        some (v17, g15)
def fX0_melt (rs : RS) (p1 : Int32) : Option (Int32 × RS) :=
  (fX0_isNode rs p1).bind fun v1 =>
    if v1 = 0 then
    some ((-1 : Int32), rs)
  else
    if p1 = 0 then
      (fX0_childrenOf rs (0 : Int32)).bind fun v19 =>
        if v19 = (1 : Int32) then
        fX0_melt_B26 p1 rs
      else
        some ((-2 : Int32), rs)
    else
      fX0_melt_B26 p1 rs

def fX0_clears (rs : RS) : Option (RS) :=
  (fJ7_fill (rW rs) (0 : Int64)).bind fun g1 =>
    (fJ7_fill_2 (rT (rsW rs g1)) (0 : Int32)).bind fun g3 =>
    (fX1_summariseAll (rsP (rsT (rsW rs g1) g3) (0 : Int32))).bind fun g5 =>
    some g5

def fX0_grow_L29 (p1 : Int32) (p2 : Int32) : Nat → RS → Int32 → Int32 → Option (Int32 × RS)
  | 0, _, _, _ => none
  | nn + 1, rs_29, x3_29, x4_29 =>
    if p2 ≤ x4_29 then
          (fX0_deepestOfAll rs_29).bind fun v10 =>
            some (v10, rs_29)
        else
          (some (((x3_29 * (1103515245 : Int32)) + (12345 : Int32)) : Int32)).bind fun y12 =>
            (fX0_nodes rs_29).bind fun v13 =>
            if v13 = 0 then none else
            (some ((((((y12).toUInt32 >>> (((16 : Int32)).toUInt32 &&& Int32.toUInt32 31)).toInt32) &&& (32767 : Int32)) - ((((y12).toUInt32 >>> (((16 : Int32)).toUInt32 &&& Int32.toUInt32 31)).toInt32) &&& (32767 : Int32)) / v13 * v13) : Int32)).bind fun y16 =>
            (fX0_childrenOf rs_29 y16).bind fun v17 =>
            (fX0_leafComes rs_29 y16 v17 (0 : Int32)).bind fun (v19, g20) =>
            (fX0_grow_L29 p1 p2 nn) g20 y12 (x4_29 + 1)
def fX0_grow (rs : RS) (p1 : Int32) (p2 : Int32) : Option (Int32 × RS) :=
  (fX0_in ((p2).toInt64) (1 : Int64) (64 : Int64)).bind fun v1 =>
    if v1 = 0 then
    some ((-1 : Int32), rs)
  else
    (fX0_clears rs).bind fun g4 =>
      (fX0_plant g4 (0 : Int32)).bind fun (v6, g7) =>
      fX0_grow_L29 p1 p2 FU g7 p1 (1 : Int32)

def fX0_isSheet (p1 : Int32) (p2 : Int32) : Option (Int32) :=
  (fX0_in ((p1).toInt64) (0 : Int64) (3 : Int64)).bind fun v1 =>
    if v1 = 0 then
    some (0 : Int32)
  else
    (fX0_in ((p2).toInt64) (0 : Int64) (2 : Int64)).bind fun v4 =>
      if v4 = 0 then
      some (0 : Int32)
    else
      some (1 : Int32)

def fX0_torn (xi : Nat → Int32) : Option (Int32) :=
  some (xi 8)

def fX0_feed (xi : Nat → Int32) (tp : Nat → Int32) (p1 : Int32) : Option (Int32 × (Nat → Int32) × (Nat → Int32)) :=
  (fX0_in ((p1).toInt64) (0 : Int64) (127 : Int64)).bind fun v1 =>
    if v1 = 0 then
    some ((-1 : Int32), xi, tp)
  else
    if (xi 6) = (160 : Int32) then
      some ((-3 : Int32), xi, tp)
    else
      (wrI 160 tp (xi 6) (vp_nar .byte ((p1).toInt8.toInt32))).bind fun u5 =>
        some (((upd xi 6 ((xi 6) + (1 : Int32))) 6), (upd xi 6 ((xi 6) + (1 : Int32))), u5)

def fX0_end (xi : Nat → Int32) (p1 : Int32) : Option (Int32 × (Nat → Int32)) :=
  (fX0_in ((p1).toInt64) (0 : Int64) (((xi 6)).toInt64)).bind fun v1 =>
    if v1 = 0 then
    some ((-1 : Int32), xi)
  else
    (some ((xi 6) : Int32)).bind fun y4 =>
      some (y4, (upd xi 6 p1))

def fX0_keep (xi : Nat → Int32) (rs : RS) (r0 : RS) (r1 : RS) (p1 : Int32) : Option (Int32 × (Nat → Int32) × RS × RS) :=
  (fX0_in ((p1).toInt64) (0 : Int64) (1 : Int64)).bind fun v1 =>
    if v1 = 0 then
    some ((-1 : Int32), xi, r0, r1)
  else
    (some ((((xi 0) >>> (p1 &&& 31)) &&& (1 : Int32)) : Int32)).bind fun y4 =>
      if p1 = 0 then
      (fX1_as r0 rs).bind fun g6 =>
        some (y4, (upd xi 0 ((xi 0) ||| ((1 : Int32) <<< (p1 &&& 31)))), g6, r1)
    else
    if p1 = 1 then
      (fX1_as r1 rs).bind fun g9 =>
        some (y4, (upd xi 0 ((xi 0) ||| ((1 : Int32) <<< (p1 &&& 31)))), r0, g9)
    else
    none

def fX0_back (xi : Nat → Int32) (rs : RS) (r0 : RS) (r1 : RS) (p1 : Int32) : Option (Int32 × RS) :=
  (fX0_in ((p1).toInt64) (0 : Int64) (1 : Int64)).bind fun v1 =>
    if v1 = 0 then
    some ((-1 : Int32), rs)
  else
    if (((xi 0) >>> (p1 &&& 31)) &&& (1 : Int32)) = 0 then
      some ((-2 : Int32), rs)
    else
      if p1 = 0 then
        (fX1_as rs r0).bind fun g6 =>
          (fX0_nodes g6).bind fun v8 =>
          some (v8, g6)
      else
      if p1 = 1 then
        (fX1_as rs r1).bind fun g11 =>
          (fX0_nodes g11).bind fun v13 =>
          some (v13, g11)
      else
      none

def fX0_graft_L174 (p1 : Int32) (p2 : Int32) (p3 : Int32) : Nat → RS → RS → Int32 → Int32 → Int32 → Option (Int32 × RS × RS)
  | 0, _, _, _, _, _ => none
  | nn + 1, rs_174, rc_174, x4_174, x9_174, x10_174 =>
    if x4_174 ≤ x10_174 then
                            (fX1_summariseAll rs_174).bind fun g35 =>
                              some (x9_174, g35, rc_174)
                          else
                            (rdI 64 (rT rc_174) (p1 + x10_174)).bind fun v37 =>
                              (fX0_weightComes rs_174 (x9_174 + x10_174) v37).bind fun g38 =>
                              (fX0_graft_L174 p1 p2 p3 nn) g38 rc_174 x4_174 x9_174 (x10_174 + 1)
def fX0_graft_L135 (p1 : Int32) (p2 : Int32) (p3 : Int32) : Nat → RS → RS → Int32 → Int32 → Int32 → Int32 → Int32 → Option (Int32 × RS × RS)
  | 0, _, _, _, _, _, _, _ => none
  | nn + 1, rs_135, rc_135, x4_135, x6_135, x8_135, x9_135, x10_135 =>
    if ((2 : Int32) * x4_135) ≤ x10_135 then
                      fX0_graft_L174 p1 p2 p3 FU rs_135 rc_135 x4_135 x9_135 (0 : Int32)
                    else
                      (fX1_isOpen rc_135 (x6_135 + x10_135)).bind fun v40 =>
                        (fX0_bitComes rs_135 (x8_135 + x10_135) v40).bind fun g42 =>
                        (fX0_graft_L135 p1 p2 p3 nn) g42 rc_135 x4_135 x6_135 x8_135 x9_135 (x10_135 + 1)
def fX0_graft_B113 (p1 : Int32) (p2 : Int32) (p3 : Int32) (rs_113 : RS) (rc_113 : RS) (x4_113 : Int32) (x6_113 : Int32) (s0_113 : Int32) : Option (Int32 × RS × RS) :=
    (fX0_placeOfChild rs_113 s0_113 p3).bind fun v29 =>
                  (fX0_nodeAt rs_113 v29).bind fun v31 =>
                  fX0_graft_L135 p1 p2 p3 FU rs_113 rc_113 x4_113 x6_113 v29 v31 (0 : Int32)
def fX0_graft_B60 (p1 : Int32) (p2 : Int32) (p3 : Int32) (rs_60 : RS) (rc_60 : RS) (x4_60 : Int32) (s0_60 : Int32) (s1_60 : Int32) : Option (Int32 × RS × RS) :=
    (some ((s1_60 - s0_60) : Int32)).bind fun y18 =>
              (fX0_in ((p3).toInt64) (0 : Int64) ((y18).toInt64)).bind fun v19 =>
              if v19 = 0 then
              some ((-1 : Int32), rs_60, rc_60)
            else
              (fX1_as rc_60 rs_60).bind fun g22 =>
                (fX0_openOf rs_60 p1).bind fun v24 =>
                (fX0_falls rs_60 p1).bind fun g26 =>
                if p2 ≤ p1 then
                fX0_graft_B113 p1 p2 p3 g26 g22 x4_60 v24 p2
              else
                fX0_graft_B113 p1 p2 p3 g26 g22 x4_60 v24 (p2 - x4_60)
def fX0_graft (rs : RS) (rc : RS) (p1 : Int32) (p2 : Int32) (p3 : Int32) : Option (Int32 × RS × RS) :=
  (fX0_isNode rs p1).bind fun v1 =>
    if v1 = 0 then
    some ((-1 : Int32), rs, rc)
  else
    (fX0_isNode rs p2).bind fun v4 =>
      if v4 = 0 then
      some ((-1 : Int32), rs, rc)
    else
      (fX0_isAbove rs p1 p2).bind fun v7 =>
        if v7 = 0 then
        if p1 = 0 then
          some ((-2 : Int32), rs, rc)
        else
          (fX0_sizeOf rs p1).bind fun v11 =>
            (fX0_childrenOf rs p2).bind fun v13 =>
            (fX0_parentOf rs p1).bind fun v15 =>
            if v15 = p2 then
            fX0_graft_B60 p1 p2 p3 rs rc v11 (1 : Int32) v13
          else
            fX0_graft_B60 p1 p2 p3 rs rc v11 (0 : Int32) v13
      else
        some ((-2 : Int32), rs, rc)
