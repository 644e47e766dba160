/-! functions of the reader, by program -/
set_option maxRecDepth 100000
/-! THE READER OF A TEXT, by program -/
set_option maxRecDepth 100000
def ec {α β : Type} (x : Sum (Int32 × Int32) α) (k : α → Option (Sum (Int32 × Int32) β)) : Option (Sum (Int32 × Int32) β) := match x with | .inl e => some (.inl e) | .inr a => k a
theorem ec_r {α β : Type} {x : Sum (Int32 × Int32) α} {k : α → Option (Sum (Int32 × Int32) β)} {r : β} (h : ec x k = some (.inr r)) : ∃ a, x = .inr a ∧ k a = some (.inr r) := by
  cases x with
  | inl e => cases h
  | inr a => exact ⟨a, rfl, h⟩
theorem ec_l {α β : Type} {x : Sum (Int32 × Int32) α} {k : α → Option (Sum (Int32 × Int32) β)} {c : Int32 × Int32} (h : ec x k = some (.inl c)) : x = .inl c ∨ ∃ a, x = .inr a ∧ k a = some (.inl c) := by
  cases x with
  | inl e => cases h; exact Or.inl rfl
  | inr a => exact Or.inr ⟨a, rfl, h⟩
def fX4_need (ri : Nat → Int32) (p1 p2 : Int32) : Option (Sum (Int32 × Int32) Unit) := if p1 = 0 then some (.inl (p2, ri 4)) else some (.inr ())

def fX4_isIn (ri : Nat → Int32) (tp : Nat → Int32) (p1 : Int32) (p2 : Int32) : Option (Int32) :=
  if (ri 0) ≤ (ri 3) then
    some (0 : Int32)
  else
    (rdI 160 tp (ri 3)).bind fun v2 =>
      if v2 < p1 then
      some (0 : Int32)
    else
      (rdI 160 tp (ri 3)).bind fun v4 =>
        if p2 < v4 then
        some (0 : Int32)
      else
        some (1 : Int32)

def fX4_next_B214 (tp : Nat → Int32) (ri_214 : Nat → Int32) (s0_214 : Int32) : Option (Sum (Int32 × Int32) ((Nat → Int32))) :=
    (fX4_need ri_214 s0_214 (1 : Int32)).bind fun x12 => ec x12 fun _ =>
                  some (.inr (upd ri_214 3 ((ri_214 3) + (1 : Int32))))
def fX4_next_B209 (tp : Nat → Int32) (ri_209 : Nat → Int32) : Option (Sum (Int32 × Int32) ((Nat → Int32))) :=
    fX4_next_B214 tp ri_209 (1 : Int32)
def fX4_next_B186 (tp : Nat → Int32) (ri_186 : Nat → Int32) (s0_186 : Int32) : Option (Sum (Int32 × Int32) ((Nat → Int32))) :=
    if ((upd ri_186 5 s0_186) 5) = (2 : Int32) then
                fX4_next_B209 tp (upd ri_186 5 s0_186)
              else
                (fX4_isIn (upd ri_186 5 s0_186) tp (41 : Int32) (41 : Int32)).bind fun v13 =>
                  if v13 = 0 then
                  fX4_next_B214 tp (upd ri_186 5 s0_186) (0 : Int32)
                else
                  fX4_next_B209 tp (upd ri_186 5 s0_186)
def fX4_next_B162 (tp : Nat → Int32) (ri_162 : Nat → Int32) (s0_162 : Int32) : Option (Sum (Int32 × Int32) ((Nat → Int32))) :=
    (fX4_need ri_162 s0_162 (1 : Int32)).bind fun x20 => ec x20 fun _ =>
                      some (.inr ri_162)
def fX4_next_B127 (tp : Nat → Int32) (k72 : (Nat → Int32) → Option (Sum (Int32 × Int32) ((Nat → Int32)))) (ri_127 : Nat → Int32) (s0_127 : Int32) : Option (Sum (Int32 × Int32) ((Nat → Int32))) :=
    k72 (upd (upd ri_127 6 s0_127) 3 (((upd ri_127 6 s0_127) 3) + (1 : Int32)))
def fX4_next_L72 (tp : Nat → Int32) : Nat → (Nat → Int32) → Option (Sum (Int32 × Int32) ((Nat → Int32)))
  | 0, _ => none
  | nn + 1, ri_72 =>
    (fX4_isIn ri_72 tp (48 : Int32) (57 : Int32)).bind fun v16 =>
                  if v16 = 0 then
                  if (4 : Int32) < ((ri_72 3) - (ri_72 4)) then
                    fX4_next_B162 tp ri_72 (0 : Int32)
                  else
                    fX4_next_B162 tp ri_72 (1 : Int32)
                else
                  if (4 : Int32) ≤ ((ri_72 3) - (ri_72 4)) then
                    fX4_next_B127 tp (fX4_next_L72 tp nn) ri_72 (ri_72 6)
                  else
                    (rdI 160 tp (ri_72 3)).bind fun v22 =>
                      fX4_next_B127 tp (fX4_next_L72 tp nn) ri_72 ((((10 : Int32) * (ri_72 6)) + v22) - (48 : Int32))
def fX4_next_L0 (tp : Nat → Int32) : Nat → (Nat → Int32) → Option (Sum (Int32 × Int32) ((Nat → Int32)))
  | 0, _ => none
  | nn + 1, ri_0 =>
    (fX4_isIn ri_0 tp (32 : Int32) (32 : Int32)).bind fun v1 =>
        if v1 = 0 then
        if ((upd ri_0 4 (ri_0 3)) 3) = ((upd ri_0 4 (ri_0 3)) 0) then
          some (.inr (upd (upd ri_0 4 (ri_0 3)) 5 (0 : Int32)))
        else
          (fX4_isIn (upd ri_0 4 (ri_0 3)) tp (48 : Int32) (57 : Int32)).bind fun v5 =>
            if v5 = 0 then
            (fX4_isIn (upd ri_0 4 (ri_0 3)) tp (40 : Int32) (40 : Int32)).bind fun v8 =>
              if v8 = 0 then
              fX4_next_B186 tp (upd ri_0 4 (ri_0 3)) (3 : Int32)
            else
              fX4_next_B186 tp (upd ri_0 4 (ri_0 3)) (2 : Int32)
          else
            fX4_next_L72 tp FU (upd (upd (upd ri_0 4 (ri_0 3)) 5 (1 : Int32)) 6 (0 : Int32))
      else
        (fX4_next_L0 tp nn) (upd ri_0 3 ((ri_0 3) + (1 : Int32)))
def fX4_next (ri : Nat → Int32) (tp : Nat → Int32) : Option (Sum (Int32 × Int32) ((Nat → Int32))) :=
  fX4_next_L0 tp FU ri

def fX4_opens_B15 (tp : Nat → Int32) (ri_15 : Nat → Int32) (rq_15 : RS) (s0_15 : Int32) : Option (Sum (Int32 × Int32) ((Nat → Int32) × RS)) :=
    (fX4_need ri_15 s0_15 (5 : Int32)).bind fun x2 => ec x2 fun _ =>
      (fX1_becomes rq_15 (rP rq_15) (1 : Int32)).bind fun g3 =>
      (fX4_next (upd (upd ri_15 1 ((ri_15 1) + (1 : Int32))) 2 (((upd ri_15 1 ((ri_15 1) + (1 : Int32))) 2) + (1 : Int32))) tp).bind fun x5 => ec x5 fun g6 =>
      if (g6 5) = (1 : Int32) then
      (wrI 64 (rT (rsP g3 ((rP g3) + (1 : Int32)))) ((g6 1) - (1 : Int32)) (g6 6)).bind fun u8 =>
        (fX4_next g6 tp).bind fun x9 => ec x9 fun g10 =>
        some (.inr (g10, (rsT (rsP g3 ((rP g3) + (1 : Int32))) u8)))
    else
      some (.inr (g6, (rsP g3 ((rP g3) + (1 : Int32)))))
def fX4_opens (ri : Nat → Int32) (tp : Nat → Int32) (rq : RS) : Option (Sum (Int32 × Int32) ((Nat → Int32) × RS)) :=
  if (64 : Int32) ≤ (ri 1) then
    fX4_opens_B15 tp ri rq (0 : Int32)
  else
    fX4_opens_B15 tp ri rq (1 : Int32)

def fX4_closes (ri : Nat → Int32) (tp : Nat → Int32) (rq : RS) : Option (Sum (Int32 × Int32) ((Nat → Int32) × RS)) :=
  (fX1_becomes rq (rP rq) (0 : Int32)).bind fun g1 =>
    (fX4_next (upd ri 2 ((ri 2) - (1 : Int32))) tp).bind fun x3 => ec x3 fun g4 =>
    some (.inr (g4, (rsP g1 ((rP g1) + (1 : Int32)))))

def fX4_nodes_B79 (tp : Nat → Int32) (ri_79 : Nat → Int32) (rq_79 : RS) (s0_79 : Int32) : Option (Sum (Int32 × Int32) (Int32 × (Nat → Int32) × RS)) :=
    (fX4_need ri_79 s0_79 (2 : Int32)).bind fun x3 => ec x3 fun _ =>
        (fX1_summariseAll rq_79).bind fun g4 =>
        some (.inr ((ri_79 1), ri_79, g4))
def fX4_nodes_B66 (tp : Nat → Int32) (ri_66 : Nat → Int32) (rq_66 : RS) : Option (Sum (Int32 × Int32) (Int32 × (Nat → Int32) × RS)) :=
    if (ri_66 5) = 0 then
      fX4_nodes_B79 tp ri_66 rq_66 (1 : Int32)
    else
      fX4_nodes_B79 tp ri_66 rq_66 (0 : Int32)
def fX4_nodes_B59 (tp : Nat → Int32) (k7 : (Nat → Int32) → RS → Option (Sum (Int32 × Int32) (Int32 × (Nat → Int32) × RS))) (ri_59 : Nat → Int32) (rq_59 : RS) : Option (Sum (Int32 × Int32) (Int32 × (Nat → Int32) × RS)) :=
    if 0 < (ri_59 2) then
              k7 ri_59 rq_59
            else
              fX4_nodes_B66 tp ri_59 rq_59
def fX4_nodes_B36 (tp : Nat → Int32) (k7 : (Nat → Int32) → RS → Option (Sum (Int32 × Int32) (Int32 × (Nat → Int32) × RS))) (ri_36 : Nat → Int32) (rq_36 : RS) (s0_36 : Int32) : Option (Sum (Int32 × Int32) (Int32 × (Nat → Int32) × RS)) :=
    (fX4_need ri_36 s0_36 (2 : Int32)).bind fun x7 => ec x7 fun _ =>
            if (ri_36 5) = (2 : Int32) then
            (fX4_opens ri_36 tp rq_36).bind fun x13 => ec x13 fun (g14, g15) =>
              fX4_nodes_B59 tp k7 g14 g15
          else
            (fX4_closes ri_36 tp rq_36).bind fun x10 => ec x10 fun (g11, g12) =>
              fX4_nodes_B59 tp k7 g11 g12
def fX4_nodes_B31 (tp : Nat → Int32) (k7 : (Nat → Int32) → RS → Option (Sum (Int32 × Int32) (Int32 × (Nat → Int32) × RS))) (ri_31 : Nat → Int32) (rq_31 : RS) : Option (Sum (Int32 × Int32) (Int32 × (Nat → Int32) × RS)) :=
    fX4_nodes_B36 tp k7 ri_31 rq_31 (1 : Int32)
def fX4_nodes_B35 (tp : Nat → Int32) (k7 : (Nat → Int32) → RS → Option (Sum (Int32 × Int32) (Int32 × (Nat → Int32) × RS))) (ri_35 : Nat → Int32) (rq_35 : RS) : Option (Sum (Int32 × Int32) (Int32 × (Nat → Int32) × RS)) :=
    fX4_nodes_B36 tp k7 ri_35 rq_35 (0 : Int32)
def fX4_nodes_L7 (tp : Nat → Int32) : Nat → (Nat → Int32) → RS → Option (Sum (Int32 × Int32) (Int32 × (Nat → Int32) × RS))
  | 0, _, _ => none
  | nn + 1, ri_7, rq_7 =>
    if (ri_7 5) = (2 : Int32) then
          fX4_nodes_B31 tp (fX4_nodes_L7 tp nn) ri_7 rq_7
        else
          if (ri_7 5) = (3 : Int32) then
            if (ri_7 2) ≤ 0 then
              fX4_nodes_B35 tp (fX4_nodes_L7 tp nn) ri_7 rq_7
            else
              fX4_nodes_B31 tp (fX4_nodes_L7 tp nn) ri_7 rq_7
          else
            fX4_nodes_B35 tp (fX4_nodes_L7 tp nn) ri_7 rq_7
def fX4_nodes (ri : Nat → Int32) (tp : Nat → Int32) (rq : RS) : Option (Sum (Int32 × Int32) (Int32 × (Nat → Int32) × RS)) :=
  if (ri 5) = 0 then
    fX4_nodes_B66 tp ri rq
  else
    fX4_nodes_L7 tp FU ri rq

def fX0_text (xi tp : Nat → Int32) (rs : RS) : Option (Int32 × (Nat → Int32) × RS) :=
  (fX4_next (upd (fun _ => 0) 0 (xi 6)) tp).bind fun x1 => match x1 with
    | .inl c => some (-10 - c.2, upd (upd (upd xi 6 0) 7 0) 7 c.1, rs)
    | .inr ri1 => (fX4_nodes ri1 tp rs0).bind fun x2 => match x2 with
      | .inl c => some (-10 - c.2, upd (upd (upd xi 6 0) 7 0) 7 c.1, rs)
      | .inr n => (fX1_as rs n.2.2).bind fun rs2 => some (n.1, upd (upd (upd xi 6 0) 7 0) 0 0, rs2)
