/-! the methods of HatsDecideModel as functions -/
set_option maxRecDepth 100000
def m_in (N : Nat)  (x1 : Int32) (x2 : Int32) (x3 : Int32) (σ : MS) : Option (Int32 × MS) :=
  if x1 < x2 then (
    some ((0 : Int32), σ))
  else (
    if x3 < x1 then (
      some ((0 : Int32), σ))
    else (
      some ((1 : Int32), σ)))
def m_head (N : Nat)  (x1 : Int32) (σ : MS) : Option (Int32 × MS) :=
  bnd (m_in N x1 (0 : Int32) (9 : Int32) σ) fun v_2 s_1 =>
  if v_2 = 0 then (
    some ((-2 : Int32), s_1))
  else (
    if (gF s_1 0) = (6 : Int32) then (
      some ((-4 : Int32), s_1))
    else (
      if inb (gF s_1 0) 6 = true then nx (sR s_1 3 (gF s_1 0).toNatClampNeg x1) (fun s_3 =>
      if inb (gF s_3 0) 6 = true then nx (sR s_3 4 (gF s_3 0).toNatClampNeg (-1 : Int32)) (fun s_4 =>
      if inb (gF s_4 0) 6 = true then nx (sR s_4 5 (gF s_4 0).toNatClampNeg (-1 : Int32)) (fun s_5 =>
      nx (sF s_5 0 ((gF s_5 0) + (1 : Int32))) fun s_6 =>
      some (((gF s_6 0) - (1 : Int32)), s_6)) else none) else none) else none))
def m_isTrade (N : Nat)  (x1 : Int32) (σ : MS) : Option (Int32 × MS) :=
  bnd (m_in N x1 (0 : Int32) (4 : Int32) σ) fun v_2 s_1 =>
  if v_2 = 0 ∨ v_2 = 1 then some (v_2, s_1) else none
def m_hat_136b (N : Nat)  (rec136 : Int32 → MS → Option (Int32 × MS)) (x6 : Int32) (σ : MS) : Option (Int32 × MS) :=
  if (4 : Int32) ≤ x6 then (
    nx (sF σ 1 ((gF σ 1) + (1 : Int32))) fun s_1 =>
    some (((gF s_1 1) - (1 : Int32)), s_1))
  else (
    if inb (((4 : Int32) * (gF σ 1)) + x6) 24 = true then nx (sR σ 12 (((4 : Int32) * (gF σ 1)) + x6).toNatClampNeg (0 : Int32)) (fun s_2 =>
    nx (x6 + (1 : Int32)) fun x6_3 =>
    rec136 x6_3 s_2) else none)
def m_hat_136 (N : Nat)  : Nat → Int32 → MS → Option (Int32 × MS)
  | 0 => fun _ _ => none
  | k + 1 => fun x6 σ => m_hat_136b N  (m_hat_136 N  k) x6 σ
def m_hat (N : Nat)  (x1 : Int32) (x2 : Int32) (x3 : Int32) (x4 : Int32) (x5 : Int32) (σ : MS) : Option (Int32 × MS) :=
  bnd (m_in N x1 (0 : Int32) (6 : Int32) σ) fun v_2 s_1 =>
  if v_2 = 0 then (
    some ((-1 : Int32), s_1))
  else (
    bnd (m_isTrade N x5 s_1) fun v_4 s_3 =>
    if v_4 = 0 then (
      some ((-1 : Int32), s_3))
    else (
      bnd (m_in N x2 (0 : Int32) (9 : Int32) s_3) fun v_6 s_5 =>
      if v_6 = 0 then (
        some ((-2 : Int32), s_5))
      else (
        bnd (m_in N x3 (0 : Int32) (9 : Int32) s_5) fun v_8 s_7 =>
        if v_8 = 0 then (
          some ((-2 : Int32), s_7))
        else (
          bnd (m_in N x4 (0 : Int32) (50 : Int32) s_7) fun v_10 s_9 =>
          if v_10 = 0 then (
            some ((-2 : Int32), s_9))
          else (
            if (gF s_9 1) = (6 : Int32) then (
              some ((-4 : Int32), s_9))
            else (
              if inb (gF s_9 1) 6 = true then nx (sR s_9 6 (gF s_9 1).toNatClampNeg x1) (fun s_11 =>
              if inb (gF s_11 1) 6 = true then nx (sR s_11 7 (gF s_11 1).toNatClampNeg x2) (fun s_12 =>
              if inb (gF s_12 1) 6 = true then nx (sR s_12 8 (gF s_12 1).toNatClampNeg x3) (fun s_13 =>
              if inb (gF s_13 1) 6 = true then nx (sR s_13 9 (gF s_13 1).toNatClampNeg x4) (fun s_14 =>
              if inb (gF s_14 1) 6 = true then nx (sR s_14 10 (gF s_14 1).toNatClampNeg x5) (fun s_15 =>
              if inb (gF s_15 1) 6 = true then nx (sR s_15 11 (gF s_15 1).toNatClampNeg (0 : Int32)) (fun s_16 =>
              nx ((0 : Int32) : Int32) fun x6_17 =>
              m_hat_136 N N x6_17 s_16) else none) else none) else none) else none) else none) else none))))))
def m_isHat (N : Nat)  (x1 : Int32) (σ : MS) : Option (Int32 × MS) :=
  bnd (m_in N x1 (0 : Int32) ((gF σ 1) - (1 : Int32)) σ) fun v_2 s_1 =>
  if v_2 = 0 ∨ v_2 = 1 then some (v_2, s_1) else none
def m_row (N : Nat)  (x1 : Int32) (x2 : Int32) (x3 : Int32) (σ : MS) : Option (Int32 × MS) :=
  bnd (m_isHat N x1 σ) fun v_2 s_1 =>
  if v_2 = 0 then (
    some ((-1 : Int32), s_1))
  else (
    bnd (m_in N x2 (0 : Int32) (3 : Int32) s_1) fun v_4 s_3 =>
    if v_4 = 0 then (
      some ((-1 : Int32), s_3))
    else (
      bnd (m_in N x3 (0 : Int32) (9 : Int32) s_3) fun v_6 s_5 =>
      if v_6 = 0 then (
        some ((-2 : Int32), s_5))
      else (
        if inb x1 6 = true then (
        if (gR s_5 6 x1.toNatClampNeg) = (6 : Int32) then (
          if inb (((4 : Int32) * x1) + x2) 24 = true then (
          nx ((gR s_5 12 (((4 : Int32) * x1) + x2).toNatClampNeg) : Int32) fun x4_7 =>
          if inb (((4 : Int32) * x1) + x2) 24 = true then nx (sR s_5 12 (((4 : Int32) * x1) + x2).toNatClampNeg x3) (fun s_8 =>
          some (x4_7, s_8)) else none) else none)
        else (
          some ((-3 : Int32), s_5))) else none)))
def m_isHead (N : Nat)  (x1 : Int32) (σ : MS) : Option (Int32 × MS) :=
  bnd (m_in N x1 (0 : Int32) ((gF σ 0) - (1 : Int32)) σ) fun v_2 s_1 =>
  if v_2 = 0 ∨ v_2 = 1 then some (v_2, s_1) else none
def m_headOf_2b (N : Nat)  (rec2 : Int32 → Int32 → MS → Option (Int32 × MS)) (x1 : Int32) (x2 : Int32) (σ : MS) : Option (Int32 × MS) :=
  if (gF σ 0) ≤ x2 then (
    some ((-5 : Int32), σ))
  else (
    if inb x2 6 = true then (
    if (gR σ 5 x2.toNatClampNeg) = x1 then (
      some (x2, σ))
    else (
      nx (x2 + (1 : Int32)) fun x2_1 =>
      rec2 x1 x2_1 σ)) else none)
def m_headOf_2 (N : Nat)  : Nat → Int32 → Int32 → MS → Option (Int32 × MS)
  | 0 => fun _ _ _ => none
  | k + 1 => fun x1 x2 σ => m_headOf_2b N  (m_headOf_2 N  k) x1 x2 σ
def m_headOf (N : Nat)  (x1 : Int32) (σ : MS) : Option (Int32 × MS) :=
  nx ((0 : Int32) : Int32) fun x2_1 =>
  m_headOf_2 N N x1 x2_1 σ
def m_put_66 (N : Nat)  (x1 : Int32) (x2 : Int32) (x3 : Int32) (σ : MS) : Option (Int32 × MS) :=
  if x2 < 0 then (
    some (x3, σ))
  else (
    if inb x2 6 = true then nx (sR σ 5 x2.toNatClampNeg x1) (fun s_1 =>
    some (x3, s_1)) else none)
def m_put_49 (N : Nat)  (x1 : Int32) (x2 : Int32) (σ : MS) : Option (Int32 × MS) :=
  bnd (m_headOf N x1 σ) fun v_2 s_1 =>
  nx (v_2 : Int32) fun x3_3 =>
  if x3_3 < 0 then (
    m_put_66 N x1 x2 x3_3 s_1)
  else (
    if inb x3_3 6 = true then nx (sR s_1 5 x3_3.toNatClampNeg (-1 : Int32)) (fun s_4 =>
    m_put_66 N x1 x2 x3_3 s_4) else none)
def m_put_23 (N : Nat)  (x1 : Int32) (x2 : Int32) (σ : MS) : Option (Int32 × MS) :=
  if x2 < 0 then (
    m_put_49 N x1 x2 σ)
  else (
    if inb x2 6 = true then (
    if (gR σ 5 x2.toNatClampNeg) < 0 then (
      m_put_49 N x1 x2 σ)
    else (
      if inb x2 6 = true then (
      if (gR σ 5 x2.toNatClampNeg) = x1 then (
        m_put_49 N x1 x2 σ)
      else (
        some ((-3 : Int32), σ))) else none)) else none)
def m_put (N : Nat)  (x1 : Int32) (x2 : Int32) (σ : MS) : Option (Int32 × MS) :=
  bnd (m_isHat N x1 σ) fun v_2 s_1 =>
  if v_2 = 0 then (
    some ((-1 : Int32), s_1))
  else (
    if x2 = (-1 : Int32) then (
      m_put_23 N x1 x2 s_1)
    else (
      bnd (m_isHead N x2 s_1) fun v_4 s_3 =>
      if v_4 = 0 then (
        some ((-1 : Int32), s_3))
      else (
        m_put_23 N x1 x2 s_3)))
def m_orNone (N : Nat)  (x1 : Int32) (σ : MS) : Option (Int32 × MS) :=
  if 0 ≤ x1 then (
    some (x1, σ))
  else (
    some ((-5 : Int32), σ))
def m_own_23 (N : Nat)  (x1 : Int32) (x2 : Int32) (σ : MS) : Option (Int32 × MS) :=
  if inb x1 6 = true then (
  nx ((gR σ 4 x1.toNatClampNeg) : Int32) fun x3_1 =>
  if inb x1 6 = true then nx (sR σ 4 x1.toNatClampNeg x2) (fun s_2 =>
  bnd (m_orNone N x3_1 s_2) fun v_4 s_3 =>
  some (v_4, s_3)) else none) else none
def m_own (N : Nat)  (x1 : Int32) (x2 : Int32) (σ : MS) : Option (Int32 × MS) :=
  bnd (m_isHead N x1 σ) fun v_2 s_1 =>
  if v_2 = 0 then (
    some ((-1 : Int32), s_1))
  else (
    if x2 = (-1 : Int32) then (
      m_own_23 N x1 x2 s_1)
    else (
      bnd (m_isHat N x2 s_1) fun v_4 s_3 =>
      if v_4 = 0 then (
        some ((-1 : Int32), s_3))
      else (
        m_own_23 N x1 x2 s_3)))
def m_skill (N : Nat)  (x1 : Int32) (x2 : Int32) (σ : MS) : Option (Int32 × MS) :=
  bnd (m_isHat N x1 σ) fun v_2 s_1 =>
  if v_2 = 0 then (
    some ((-1 : Int32), s_1))
  else (
    bnd (m_in N x2 (0 : Int32) (50 : Int32) s_1) fun v_4 s_3 =>
    if v_4 = 0 then (
      some ((-2 : Int32), s_3))
    else (
      if inb x1 6 = true then (
      nx ((gR s_3 9 x1.toNatClampNeg) : Int32) fun x3_5 =>
      if inb x1 6 = true then nx (sR s_3 9 x1.toNatClampNeg x2) (fun s_6 =>
      some (x3_5, s_6)) else none) else none))
def m_feed (N : Nat)  (x1 : Int32) (σ : MS) : Option (Int32 × MS) :=
  bnd (m_in N x1 (0 : Int32) (127 : Int32) σ) fun v_2 s_1 =>
  if v_2 = 0 then (
    some ((-2 : Int32), s_1))
  else (
    if (gF s_1 16) = (100 : Int32) then (
      some ((-4 : Int32), s_1))
    else (
      if inb (gF s_1 16) 100 = true then nx (sR s_1 19 (gF s_1 16).toNatClampNeg x1) (fun s_3 =>
      nx (sF s_3 16 ((gF s_3 16) + (1 : Int32))) fun s_4 =>
      some ((gF s_4 16), s_4)) else none))
def m_next (N : Nat)   (σ : MS) : Option (Int32 × MS) :=
  if (gF σ 16) ≤ (gF σ 17) then (
    some ((-1 : Int32), σ))
  else (
    if inb (gF σ 17) 100 = true then (
    some ((gR σ 19 (gF σ 17).toNatClampNeg), σ)) else none)
def m_takes (N : Nat)  (x1 : Int32) (σ : MS) : Option (Int32 × MS) :=
  bnd (m_next N  σ) fun v_2 s_1 =>
  if v_2 = x1 then (
    nx (sF s_1 17 ((gF s_1 17) + (1 : Int32))) fun s_3 =>
    some ((1 : Int32), s_3))
  else (
    some ((0 : Int32), s_1))
def m_takesWord_2b (N : Nat)  (rec2 : Int32 → Int32 → Int32 → MS → Option (Int32 × MS)) (x1 : Int32) (x2 : Int32) (x3 : Int32) (σ : MS) : Option (Int32 × MS) :=
  if x2 ≤ x3 then (
    bnd (m_takes N (32 : Int32) σ) fun v_2 s_1 =>
    if v_2 = 0 ∨ v_2 = 1 then some (v_2, s_1) else none)
  else (
    if inb (x1 + x3) 16 = true then (
    bnd (m_takes N (gR σ 31 (x1 + x3).toNatClampNeg) σ) fun v_4 s_3 =>
    if v_4 = 0 then (
      some ((0 : Int32), s_3))
    else (
      nx (x3 + (1 : Int32)) fun x3_5 =>
      rec2 x1 x2 x3_5 s_3)) else none)
def m_takesWord_2 (N : Nat)  : Nat → Int32 → Int32 → Int32 → MS → Option (Int32 × MS)
  | 0 => fun _ _ _ _ => none
  | k + 1 => fun x1 x2 x3 σ => m_takesWord_2b N  (m_takesWord_2 N  k) x1 x2 x3 σ
def m_takesWord (N : Nat)  (x1 : Int32) (x2 : Int32) (σ : MS) : Option (Int32 × MS) :=
  nx ((0 : Int32) : Int32) fun x3_1 =>
  m_takesWord_2 N N x1 x2 x3_1 σ
def m_takesHead (N : Nat)  (x1 : Int32) (σ : MS) : Option (Int32 × MS) :=
  bnd (m_next N  σ) fun v_2 s_1 =>
  if v_2 = (103 : Int32) then (
    if inb x1 60 = true then nx (sR s_1 21 x1.toNatClampNeg (1 : Int32)) (fun s_4 =>
    bnd (m_takesWord N (4 : Int32) (4 : Int32) s_4) fun v_6 s_5 =>
    if v_6 = 0 ∨ v_6 = 1 then some (v_6, s_5) else none) else none)
  else
  if v_2 = (109 : Int32) then (
    if inb x1 60 = true then nx (sR s_1 21 x1.toNatClampNeg (2 : Int32)) (fun s_8 =>
    bnd (m_takesWord N (8 : Int32) (4 : Int32) s_8) fun v_10 s_9 =>
    if v_10 = 0 ∨ v_10 = 1 then some (v_10, s_9) else none) else none)
  else
  if v_2 = (115 : Int32) then (
    if inb x1 60 = true then nx (sR s_1 21 x1.toNatClampNeg (0 : Int32)) (fun s_12 =>
    bnd (m_takesWord N (0 : Int32) (4 : Int32) s_12) fun v_14 s_13 =>
    if v_14 = 0 ∨ v_14 = 1 then some (v_14, s_13) else none) else none)
  else
  if inb x1 60 = true then nx (sR s_1 21 x1.toNatClampNeg (3 : Int32)) (fun s_15 =>
  bnd (m_takesWord N (12 : Int32) (4 : Int32) s_15) fun v_17 s_16 =>
  if v_17 = 0 ∨ v_17 = 1 then some (v_17, s_16) else none) else none
def m_isDigit (N : Nat)   (σ : MS) : Option (Int32 × MS) :=
  bnd (m_next N  σ) fun v_2 s_1 =>
  bnd (m_in N v_2 (48 : Int32) (57 : Int32) s_1) fun v_4 s_3 =>
  if v_4 = 0 ∨ v_4 = 1 then some (v_4, s_3) else none
def m_takesNumber_16b (N : Nat)  (rec16 : Int32 → MS → Option (Int32 × MS)) (x1 : Int32) (σ : MS) : Option (Int32 × MS) :=
  if (2 : Int32) ≤ x1 then (
    some ((1 : Int32), σ))
  else (
    bnd (m_isDigit N  σ) fun v_2 s_1 =>
    if v_2 = 0 then (
      some ((1 : Int32), s_1))
    else (
      bnd (m_next N  s_1) fun v_4 s_3 =>
      nx (sF s_3 18 ((((10 : Int32) * (gF s_1 18)) + v_4) - (48 : Int32))) fun s_5 =>
      nx (sF s_5 17 ((gF s_5 17) + (1 : Int32))) fun s_6 =>
      nx (x1 + (1 : Int32)) fun x1_7 =>
      rec16 x1_7 s_6))
def m_takesNumber_16 (N : Nat)  : Nat → Int32 → MS → Option (Int32 × MS)
  | 0 => fun _ _ => none
  | k + 1 => fun x1 σ => m_takesNumber_16b N  (m_takesNumber_16 N  k) x1 σ
def m_takesNumber (N : Nat)   (σ : MS) : Option (Int32 × MS) :=
  bnd (m_isDigit N  σ) fun v_2 s_1 =>
  if v_2 = 0 then (
    some ((0 : Int32), s_1))
  else (
    nx (sF s_1 18 (0 : Int32)) fun s_3 =>
    nx ((0 : Int32) : Int32) fun x1_4 =>
    m_takesNumber_16 N N x1_4 s_3)
def m_place (N : Nat)  (x1 : Int32) (σ : MS) : Option (Int32 × MS) :=
  if x1 = (97 : Int32) then (
    some ((0 : Int32), σ))
  else
  if x1 = (100 : Int32) then (
    some ((5 : Int32), σ))
  else
  if x1 = (101 : Int32) then (
    some ((1 : Int32), σ))
  else
  if x1 = (107 : Int32) then (
    some ((2 : Int32), σ))
  else
  if x1 = (116 : Int32) then (
    some ((3 : Int32), σ))
  else
  if x1 = (117 : Int32) then (
    some ((4 : Int32), σ))
  else
  some ((-1 : Int32), σ)
def m_emits (N : Nat)  (x1 : Int32) (σ : MS) : Option (MS) :=
  if inb (gF σ 28) 600 = true then nx (sR σ 26 (gF σ 28).toNatClampNeg x1) (fun s_1 =>
  nx (sF s_1 28 ((gF s_1 28) + (1 : Int32))) fun s_2 =>
  some s_2) else none
def m_whole_0b (N : Nat)  (rec0 : MS → Option (MS))  (σ : MS) : Option (MS) :=
  if (gF σ 29) ≤ 0 then (
    some σ)
  else (
    if inb ((gF σ 29) - (1 : Int32)) 101 = true then (
    if (gR σ 27 ((gF σ 29) - (1 : Int32)).toNatClampNeg) = (33 : Int32) then (
      bnv (m_emits N (-33 : Int32) σ) fun s_1 =>
      nx (sF s_1 29 ((gF s_1 29) - (1 : Int32))) fun s_2 =>
      nx (sF s_2 30 ((gF s_2 30) - (1 : Int32))) fun s_3 =>
      rec0 s_3)
    else (
      some σ)) else none)
def m_whole_0 (N : Nat)  : Nat → MS → Option (MS)
  | 0 => fun  _ => none
  | k + 1 => fun  σ => m_whole_0b N  (m_whole_0 N  k)  σ
def m_whole (N : Nat)   (σ : MS) : Option (MS) :=
  m_whole_0 N N σ
def m_takesTest (N : Nat)   (σ : MS) : Option (Int32 × MS) :=
  bnd (m_next N  σ) fun v_2 s_1 =>
  bnd (m_place N v_2 s_1) fun v_4 s_3 =>
  nx (v_4 : Int32) fun x1_5 =>
  if 0 ≤ x1_5 then (
    nx (sF s_3 17 ((gF s_3 17) + (1 : Int32))) fun s_6 =>
    bnd (m_next N  s_6) fun v_8 s_7 =>
    nx (v_8 : Int32) fun x2_9 =>
    bnd (m_in N x2_9 (60 : Int32) (62 : Int32) s_7) fun v_11 s_10 =>
    if v_11 = 0 then (
      some ((0 : Int32), s_10))
    else (
      nx (sF s_10 17 ((gF s_10 17) + (1 : Int32))) fun s_12 =>
      bnd (m_takesNumber N  s_12) fun v_14 s_13 =>
      if v_14 = 0 then (
        some ((0 : Int32), s_13))
      else (
        bnv (m_emits N ((((1000 : Int32) * x1_5) + ((100 : Int32) * (x2_9 - (60 : Int32)))) + (gF s_13 18)) s_13) fun s_15 =>
        bnv (m_whole N  s_15) fun s_16 =>
        some ((1 : Int32), s_16))))
  else (
    some ((0 : Int32), s_3))
def m_settle_45 (N : Nat) (rec0 : Int32 → MS → Option (MS)) (x1 : Int32) (σ : MS) : Option (MS) :=
  nx (sF σ 29 ((gF σ 29) - (1 : Int32))) fun s_1 =>
  if inb (gF s_1 29) 101 = true then (
  bnv (m_emits N (-(gR s_1 27 (gF s_1 29).toNatClampNeg)) s_1) fun s_2 =>
  rec0 x1 s_2) else none
def m_settle_0b (N : Nat)  (rec0 : Int32 → MS → Option (MS)) (x1 : Int32) (σ : MS) : Option (MS) :=
  if (gF σ 29) ≤ 0 then (
    some σ)
  else (
    if inb ((gF σ 29) - (1 : Int32)) 101 = true then (
    if (gR σ 27 ((gF σ 29) - (1 : Int32)).toNatClampNeg) = (38 : Int32) then (
      m_settle_45 N rec0 x1 σ)
    else (
      if inb ((gF σ 29) - (1 : Int32)) 101 = true then (
      if (gR σ 27 ((gF σ 29) - (1 : Int32)).toNatClampNeg) = (124 : Int32) then (
        if x1 = (38 : Int32) then (
          some σ)
        else (
          m_settle_45 N rec0 x1 σ))
      else (
        some σ)) else none)) else none)
def m_settle_0 (N : Nat)  : Nat → Int32 → MS → Option (MS)
  | 0 => fun _ _ => none
  | k + 1 => fun x1 σ => m_settle_0b N  (m_settle_0 N  k) x1 σ
def m_settle (N : Nat)  (x1 : Int32) (σ : MS) : Option (MS) :=
  m_settle_0 N N x1 σ
def m_takesE_122 (N : Nat) (rec22 : Int32 → Int32 → MS → Option (Int32 × MS)) (x1 : Int32) (x3 : Int32) (σ : MS) : Option (Int32 × MS) :=
  bnv (m_settle N x3 σ) fun s_1 =>
  if inb (gF s_1 29) 101 = true then nx (sR s_1 27 (gF s_1 29).toNatClampNeg x3) (fun s_2 =>
  nx (sF s_2 29 ((gF s_2 29) + (1 : Int32))) fun s_3 =>
  nx ((1 : Int32) : Int32) fun x2_4 =>
  nx (sF s_3 17 ((gF s_3 17) + (1 : Int32))) fun s_5 =>
  rec22 x1 x2_4 s_5) else none
def m_takesE_43 (N : Nat) (rec22 : Int32 → Int32 → MS → Option (Int32 × MS)) (x1 : Int32) (x2 : Int32) (x3 : Int32) (σ : MS) : Option (Int32 × MS) :=
  if (gF σ 30) = (4 : Int32) then (
    some ((0 : Int32), σ))
  else (
    nx (sF σ 30 ((gF σ 30) + (1 : Int32))) fun s_1 =>
    if inb (gF s_1 29) 101 = true then nx (sR s_1 27 (gF s_1 29).toNatClampNeg x3) (fun s_2 =>
    nx (sF s_2 29 ((gF s_2 29) + (1 : Int32))) fun s_3 =>
    nx (sF s_3 17 ((gF s_3 17) + (1 : Int32))) fun s_4 =>
    rec22 x1 x2 s_4) else none)
def m_takesE_22b (N : Nat)  (rec22 : Int32 → Int32 → MS → Option (Int32 × MS)) (x1 : Int32) (x2 : Int32) (σ : MS) : Option (Int32 × MS) :=
  bnd (m_next N  σ) fun v_2 s_1 =>
  nx (v_2 : Int32) fun x3_3 =>
  if x2 = 0 then (
    if x3_3 = (38 : Int32) then (
      m_takesE_122 N rec22 x1 x3_3 s_1)
    else (
      if x3_3 = (124 : Int32) then (
        m_takesE_122 N rec22 x1 x3_3 s_1)
      else (
        bnv (m_settle N (124 : Int32) s_1) fun s_4 =>
        if inb x1 60 = true then nx (sR s_4 25 x1.toNatClampNeg (gF s_4 28)) (fun s_5 =>
        if (gF s_5 29) = 0 then (
          some ((1 : Int32), s_5))
        else (
          if x3_3 = (41 : Int32) then (
            nx (sF s_5 29 ((gF s_5 29) - (1 : Int32))) fun s_6 =>
            nx (sF s_6 30 ((gF s_6 30) - (1 : Int32))) fun s_7 =>
            nx (sF s_7 17 ((gF s_7 17) + (1 : Int32))) fun s_8 =>
            bnv (m_whole N  s_8) fun s_9 =>
            rec22 x1 x2 s_9)
          else (
            some ((0 : Int32), s_5)))) else none)))
  else (
    if x3_3 = (33 : Int32) then (
      m_takesE_43 N rec22 x1 x2 x3_3 s_1)
    else (
      if x3_3 = (40 : Int32) then (
        m_takesE_43 N rec22 x1 x2 x3_3 s_1)
      else (
        bnd (m_takesTest N  s_1) fun v_11 s_10 =>
        if v_11 = 0 then (
          some ((0 : Int32), s_10))
        else (
          nx ((0 : Int32) : Int32) fun x2_12 =>
          rec22 x1 x2_12 s_10))))
def m_takesE_22 (N : Nat)  : Nat → Int32 → Int32 → MS → Option (Int32 × MS)
  | 0 => fun _ _ _ => none
  | k + 1 => fun x1 x2 σ => m_takesE_22b N  (m_takesE_22 N  k) x1 x2 σ
def m_takesE (N : Nat)  (x1 : Int32) (σ : MS) : Option (Int32 × MS) :=
  nx (sF σ 29 (0 : Int32)) fun s_1 =>
  nx (sF s_1 30 (0 : Int32)) fun s_2 =>
  if inb x1 60 = true then nx (sR s_2 24 x1.toNatClampNeg (gF s_2 28)) (fun s_3 =>
  nx ((1 : Int32) : Int32) fun x2_4 =>
  m_takesE_22 N N x1 x2_4 s_3) else none
def m_takesClause (N : Nat)  (x1 : Int32) (σ : MS) : Option (Int32 × MS) :=
  bnd (m_takesHead N x1 σ) fun v_2 s_1 =>
  if v_2 = 0 then (
    some ((0 : Int32), s_1))
  else (
    bnd (m_takesNumber N  s_1) fun v_4 s_3 =>
    if v_4 = 0 then (
      some ((0 : Int32), s_3))
    else (
      if inb x1 60 = true then nx (sR s_3 22 x1.toNatClampNeg (gF s_3 18)) (fun s_5 =>
      if inb x1 60 = true then (
      if (gR s_5 21 x1.toNatClampNeg) = (2 : Int32) then (
        some ((1 : Int32), s_5))
      else (
        if inb x1 60 = true then (
        if (2 : Int32) ≤ (gR s_5 21 x1.toNatClampNeg) then (
          bnd (m_takes N (32 : Int32) s_5) fun v_7 s_6 =>
          if v_7 = 0 then (
            some ((0 : Int32), s_6))
          else (
            bnd (m_takesNumber N  s_6) fun v_9 s_8 =>
            if v_9 = 0 then (
              some ((0 : Int32), s_8))
            else (
              if inb x1 60 = true then nx (sR s_8 23 x1.toNatClampNeg (gF s_8 18)) (fun s_10 =>
              some ((1 : Int32), s_10)) else none)))
        else (
          bnd (m_takes N (32 : Int32) s_5) fun v_12 s_11 =>
          if v_12 = 0 then (
            some ((0 : Int32), s_11))
          else (
            bnd (m_takesE N x1 s_11) fun v_14 s_13 =>
            if v_14 = 0 then (
              some ((0 : Int32), s_13))
            else (
              some ((1 : Int32), s_13))))) else none)) else none) else none))
def m_goesText_15b (N : Nat)  (rec15 : Int32 → Int32 → MS → Option (Int32 × MS)) (x1 : Int32) (x2 : Int32) (σ : MS) : Option (Int32 × MS) :=
  bnd (m_takesClause N (((10 : Int32) * x1) + x2) σ) fun v_2 s_1 =>
  if v_2 = 0 then (
    some ((0 : Int32), s_1))
  else (
    nx (x2 + (1 : Int32)) fun x2_3 =>
    if inb x1 6 = true then nx (sR s_1 20 x1.toNatClampNeg x2_3) (fun s_4 =>
    if (gF s_4 17) = (gF s_4 16) then (
      some ((1 : Int32), s_4))
    else (
      if x2_3 = (10 : Int32) then (
        some ((0 : Int32), s_4))
      else (
        bnd (m_takes N (59 : Int32) s_4) fun v_6 s_5 =>
        if v_6 = 0 then (
          some ((0 : Int32), s_5))
        else (
          rec15 x1 x2_3 s_5)))) else none)
def m_goesText_15 (N : Nat)  : Nat → Int32 → Int32 → MS → Option (Int32 × MS)
  | 0 => fun _ _ _ => none
  | k + 1 => fun x1 x2 σ => m_goesText_15b N  (m_goesText_15 N  k) x1 x2 σ
def m_goesText (N : Nat)  (x1 : Int32) (σ : MS) : Option (Int32 × MS) :=
  nx (sF σ 17 (0 : Int32)) fun s_1 =>
  nx (sF s_1 28 ((100 : Int32) * x1)) fun s_2 =>
  nx ((0 : Int32) : Int32) fun x2_3 =>
  m_goesText_15 N N x1 x2_3 s_2
def m_town (N : Nat)   (σ : MS) : Option (Int32 × MS) :=
  if (gF σ 14) = (6 : Int32) then (
    some ((-4 : Int32), σ))
  else (
    bnd (m_goesText N (gF σ 14) σ) fun v_2 s_1 =>
    nx (v_2 : Int32) fun x1_3 =>
    nx (sF s_1 16 (0 : Int32)) fun s_4 =>
    if x1_3 = 0 then (
      some (((-10 : Int32) - (gF s_4 17)), s_4))
    else (
      nx (sF s_4 15 (gF s_4 14)) fun s_5 =>
      nx (sF s_5 14 ((gF s_5 14) + (1 : Int32))) fun s_6 =>
      some ((gF s_6 15), s_6)))
def m_begin (N : Nat)   (σ : MS) : Option (Int32 × MS) :=
  if 0 ≤ (gF σ 15) then (
    some (((10 : Int32) * (gF σ 15)), σ))
  else (
    some ((0 : Int32), σ))
def m_behind (N : Nat)   (σ : MS) : Option (Int32 × MS) :=
  if 0 ≤ (gF σ 15) then (
    if inb (gF σ 15) 6 = true then (
    some ((((10 : Int32) * (gF σ 15)) + (gR σ 20 (gF σ 15).toNatClampNeg)), σ)) else none)
  else (
    some ((0 : Int32), σ))
def m_factOf (N : Nat)  (x1 : Int32) (x2 : Int32) (x3 : Int32) (σ : MS) : Option (Int32 × MS) :=
  if x1 = (0 : Int32) then (
    some (x2, σ))
  else
  if x1 = (1 : Int32) then (
    some (x3, σ))
  else
  if x1 = (2 : Int32) then (
    if inb x2 6 = true then (
    some ((gR σ 6 x2.toNatClampNeg), σ)) else none)
  else
  if x1 = (3 : Int32) then (
    if inb x2 6 = true then (
    some ((gR σ 10 x2.toNatClampNeg), σ)) else none)
  else
  if x1 = (4 : Int32) then (
    if inb x2 6 = true then (
    some (((gR σ 11 x2.toNatClampNeg) - (gR σ 11 x2.toNatClampNeg) / (10 : Int32) * (10 : Int32)), σ)) else none)
  else
  some (((gF σ 2) - (gF σ 2) / (7 : Int32) * (7 : Int32)), σ)
def m_holds_247 (N : Nat) (rec11 : Int32 → Int32 → Int32 → Int32 → Int32 → MS → Option (Int32 × MS)) (x1 : Int32) (x2 : Int32) (x3 : Int32) (x4 : Int32) (x5 : Int32) (σ : MS) : Option (Int32 × MS) :=
  nx (x5 + (1 : Int32)) fun x5_1 =>
  rec11 x1 x2 x3 x4 x5_1 σ
def m_holds_243 (N : Nat) (rec11 : Int32 → Int32 → Int32 → Int32 → Int32 → MS → Option (Int32 × MS)) (x1 : Int32) (x2 : Int32) (x3 : Int32) (x4 : Int32) (x5 : Int32) (z0 : Int32) (z1 : Int32) (σ : MS) : Option (Int32 × MS) :=
  if inb z1 100 = true then nx (sR σ 32 z1.toNatClampNeg (vp_nar .boolean z0)) (fun s_1 =>
  nx (x4 + (1 : Int32)) fun x4_2 =>
  m_holds_247 N rec11 x1 x2 x3 x4_2 x5 s_1) else none
def m_holds_147 (N : Nat) (rec11 : Int32 → Int32 → Int32 → Int32 → Int32 → MS → Option (Int32 × MS)) (x1 : Int32) (x2 : Int32) (x3 : Int32) (x4 : Int32) (x5 : Int32) (z0 : Int32) (z1 : Int32) (σ : MS) : Option (Int32 × MS) :=
  if inb z1 100 = true then nx (sR σ 32 z1.toNatClampNeg (vp_nar .boolean z0)) (fun s_1 =>
  m_holds_247 N rec11 x1 x2 x3 x4 x5 s_1) else none
def m_holds_142 (N : Nat) (rec11 : Int32 → Int32 → Int32 → Int32 → Int32 → MS → Option (Int32 × MS)) (x1 : Int32) (x2 : Int32) (x3 : Int32) (x4 : Int32) (x5 : Int32) (z0 : Int32) (σ : MS) : Option (Int32 × MS) :=
  m_holds_147 N rec11 x1 x2 x3 x4 x5 (1 : Int32) z0 σ
def m_holds_116 (N : Nat) (rec11 : Int32 → Int32 → Int32 → Int32 → Int32 → MS → Option (Int32 × MS)) (x1 : Int32) (x2 : Int32) (x3 : Int32) (x4 : Int32) (x5 : Int32) (z0 : Int32) (σ : MS) : Option (Int32 × MS) :=
  m_holds_147 N rec11 x1 x2 x3 x4 x5 (0 : Int32) z0 σ
def m_holds_63 (N : Nat) (rec11 : Int32 → Int32 → Int32 → Int32 → Int32 → MS → Option (Int32 × MS)) (x1 : Int32) (x2 : Int32) (x3 : Int32) (x4 : Int32) (x5 : Int32) (z0 : Int32) (z1 : Int32) (σ : MS) : Option (Int32 × MS) :=
  if inb z1 100 = true then nx (sR σ 32 z1.toNatClampNeg (vp_nar .boolean z0)) (fun s_1 =>
  m_holds_247 N rec11 x1 x2 x3 x4 x5 s_1) else none
def m_holds_11b (N : Nat)  (rec11 : Int32 → Int32 → Int32 → Int32 → Int32 → MS → Option (Int32 × MS)) (x1 : Int32) (x2 : Int32) (x3 : Int32) (x4 : Int32) (x5 : Int32) (σ : MS) : Option (Int32 × MS) :=
  if inb x1 60 = true then (
  if (gR σ 25 x1.toNatClampNeg) ≤ x5 then (
    if inb (0 : Int32) 100 = true then (
    if (gR σ 32 (0 : Int32).toNatClampNeg) = 0 ∨ (gR σ 32 (0 : Int32).toNatClampNeg) = 1 then some ((gR σ 32 (0 : Int32).toNatClampNeg), σ) else none) else none)
  else (
    if inb x5 600 = true then (
    nx ((gR σ 26 x5.toNatClampNeg) : Int32) fun x6_1 =>
    if x6_1 = (-33 : Int32) then (
      if inb (x4 - (1 : Int32)) 100 = true then (
      if (gR σ 32 (x4 - (1 : Int32)).toNatClampNeg) = 0 then (
        m_holds_63 N rec11 x1 x2 x3 x4 x5 (1 : Int32) (x4 - (1 : Int32)) σ)
      else (
        m_holds_63 N rec11 x1 x2 x3 x4 x5 (0 : Int32) (x4 - (1 : Int32)) σ)) else none)
    else (
      if 0 ≤ x6_1 then (
        bnd (m_factOf N (x6_1 / (1000 : Int32)) x2 x3 σ) fun v_3 s_2 =>
        nx (v_3 : Int32) fun x7_4 =>
        nx (((x6_1 / (100 : Int32)) - (x6_1 / (100 : Int32)) / (10 : Int32) * (10 : Int32)) : Int32) fun x8_5 =>
        if x8_5 = 0 then (
          if (x6_1 - x6_1 / (100 : Int32) * (100 : Int32)) ≤ x7_4 then (
            m_holds_243 N rec11 x1 x2 x3 x4 x5 (0 : Int32) x4 s_2)
          else (
            m_holds_243 N rec11 x1 x2 x3 x4 x5 (1 : Int32) x4 s_2))
        else (
          if x8_5 = (1 : Int32) then (
            if x7_4 = (x6_1 - x6_1 / (100 : Int32) * (100 : Int32)) then (
              m_holds_243 N rec11 x1 x2 x3 x4 x5 (1 : Int32) x4 s_2)
            else (
              m_holds_243 N rec11 x1 x2 x3 x4 x5 (0 : Int32) x4 s_2))
          else (
            if x7_4 ≤ (x6_1 - x6_1 / (100 : Int32) * (100 : Int32)) then (
              m_holds_243 N rec11 x1 x2 x3 x4 x5 (0 : Int32) x4 s_2)
            else (
              m_holds_243 N rec11 x1 x2 x3 x4 x5 (1 : Int32) x4 s_2))))
      else (
        nx (x4 + (-1 : Int32)) fun x4_6 =>
        if x6_1 = (-38 : Int32) then (
          if inb (x4_6 - (1 : Int32)) 100 = true then (
          if (gR σ 32 (x4_6 - (1 : Int32)).toNatClampNeg) = 0 then (
            m_holds_116 N rec11 x1 x2 x3 x4_6 x5 (x4_6 - (1 : Int32)) σ)
          else (
            if inb x4_6 100 = true then (
            if (gR σ 32 x4_6.toNatClampNeg) = 0 then (
              m_holds_116 N rec11 x1 x2 x3 x4_6 x5 (x4_6 - (1 : Int32)) σ)
            else (
              m_holds_147 N rec11 x1 x2 x3 x4_6 x5 (1 : Int32) (x4_6 - (1 : Int32)) σ)) else none)) else none)
        else (
          if inb (x4_6 - (1 : Int32)) 100 = true then (
          if (gR σ 32 (x4_6 - (1 : Int32)).toNatClampNeg) = 0 then (
            if inb x4_6 100 = true then (
            if (gR σ 32 x4_6.toNatClampNeg) = 0 then (
              m_holds_147 N rec11 x1 x2 x3 x4_6 x5 (0 : Int32) (x4_6 - (1 : Int32)) σ)
            else (
              m_holds_142 N rec11 x1 x2 x3 x4_6 x5 (x4_6 - (1 : Int32)) σ)) else none)
          else (
            m_holds_142 N rec11 x1 x2 x3 x4_6 x5 (x4_6 - (1 : Int32)) σ)) else none)))) else none)) else none
def m_holds_11 (N : Nat)  : Nat → Int32 → Int32 → Int32 → Int32 → Int32 → MS → Option (Int32 × MS)
  | 0 => fun _ _ _ _ _ _ => none
  | k + 1 => fun x1 x2 x3 x4 x5 σ => m_holds_11b N  (m_holds_11 N  k) x1 x2 x3 x4 x5 σ
def m_holds (N : Nat)  (x1 : Int32) (x2 : Int32) (x3 : Int32) (σ : MS) : Option (Int32 × MS) :=
  nx ((0 : Int32) : Int32) fun x4_1 =>
  if inb x1 60 = true then (
  nx ((gR σ 24 x1.toNatClampNeg) : Int32) fun x5_2 =>
  m_holds_11 N N x1 x2 x3 x4_1 x5_2 σ) else none
def m_fits_73 (N : Nat) (rec8 : Int32 → Int32 → Int32 → Int32 → MS → Option (Int32 × MS)) (x1 : Int32) (x2 : Int32) (x3 : Int32) (x4 : Int32) (σ : MS) : Option (Int32 × MS) :=
  nx (x4 + (1 : Int32)) fun x4_1 =>
  rec8 x1 x2 x3 x4_1 σ
def m_fits_71 (N : Nat) (rec8 : Int32 → Int32 → Int32 → Int32 → MS → Option (Int32 × MS)) (x1 : Int32) (x2 : Int32) (x4 : Int32) (z0 : Int32) (z1 : Int32) (σ : MS) : Option (Int32 × MS) :=
  nx ((z1 + z0) : Int32) fun x3_1 =>
  m_fits_73 N rec8 x1 x2 x3_1 x4 σ
def m_fits_8b (N : Nat)  (rec8 : Int32 → Int32 → Int32 → Int32 → MS → Option (Int32 × MS)) (x1 : Int32) (x2 : Int32) (x3 : Int32) (x4 : Int32) (σ : MS) : Option (Int32 × MS) :=
  bnd (m_behind N  σ) fun v_2 s_1 =>
  if v_2 ≤ x4 then (
    some (x3, s_1))
  else (
    if inb x4 60 = true then (
    if (1 : Int32) < (gR s_1 21 x4.toNatClampNeg) then (
      m_fits_73 N rec8 x1 x2 x3 x4 s_1)
    else (
      bnd (m_holds N x4 x1 x2 s_1) fun v_4 s_3 =>
      if v_4 = 0 then (
        m_fits_73 N rec8 x1 x2 x3 x4 s_3)
      else (
        if inb x4 60 = true then (
        if (gR s_3 21 x4.toNatClampNeg) = 0 then (
          if inb x4 60 = true then (
          m_fits_71 N rec8 x1 x2 x4 (gR s_3 22 x4.toNatClampNeg) x3 s_3) else none)
        else (
          if inb x4 60 = true then (
          m_fits_71 N rec8 x1 x2 x4 (-(gR s_3 22 x4.toNatClampNeg)) x3 s_3) else none)) else none))) else none)
def m_fits_8 (N : Nat)  : Nat → Int32 → Int32 → Int32 → Int32 → MS → Option (Int32 × MS)
  | 0 => fun _ _ _ _ _ => none
  | k + 1 => fun x1 x2 x3 x4 σ => m_fits_8b N  (m_fits_8 N  k) x1 x2 x3 x4 σ
def m_fits (N : Nat)  (x1 : Int32) (x2 : Int32) (σ : MS) : Option (Int32 × MS) :=
  nx ((0 : Int32) : Int32) fun x3_1 =>
  bnd (m_begin N  σ) fun v_3 s_2 =>
  nx (v_3 : Int32) fun x4_4 =>
  m_fits_8 N N x1 x2 x3_1 x4_4 s_2
def m_most (N : Nat)  (x1 : Int32) (x2 : Int32) (σ : MS) : Option (Int32 × MS) :=
  if x1 ≤ x2 then (
    some (x2, σ))
  else (
    some (x1, σ))
def m_apart (N : Nat)  (x1 : Int32) (x2 : Int32) (σ : MS) : Option (Int32 × MS) :=
  if inb x1 6 = true then (
  if inb x2 6 = true then (
  if (gR σ 3 x2.toNatClampNeg) ≤ (gR σ 8 x1.toNatClampNeg) then (
    if inb x1 6 = true then (
    if inb x2 6 = true then (
    some (((gR σ 8 x1.toNatClampNeg) - (gR σ 3 x2.toNatClampNeg)), σ)) else none) else none)
  else (
    if inb x2 6 = true then (
    if inb x1 6 = true then (
    some (((gR σ 3 x2.toNatClampNeg) - (gR σ 8 x1.toNatClampNeg)), σ)) else none) else none)) else none) else none
def m_moth_35 (N : Nat) (rec7 : Int32 → Int32 → MS → Option (Int32 × MS)) (x2 : Int32) (z0 : Int32) (σ : MS) : Option (Int32 × MS) :=
  nx (z0 : Int32) fun x1_1 =>
  nx (x2 + (1 : Int32)) fun x2_2 =>
  rec7 x1_1 x2_2 σ
def m_moth_7b (N : Nat)  (rec7 : Int32 → Int32 → MS → Option (Int32 × MS)) (x1 : Int32) (x2 : Int32) (σ : MS) : Option (Int32 × MS) :=
  bnd (m_behind N  σ) fun v_2 s_1 =>
  if v_2 ≤ x2 then (
    some (x1, s_1))
  else (
    if inb x2 60 = true then (
    if (gR s_1 21 x2.toNatClampNeg) = (2 : Int32) then (
      if inb x2 60 = true then (
      m_moth_35 N rec7 x2 (gR s_1 22 x2.toNatClampNeg) s_1) else none)
    else (
      m_moth_35 N rec7 x2 x1 s_1)) else none)
def m_moth_7 (N : Nat)  : Nat → Int32 → Int32 → MS → Option (Int32 × MS)
  | 0 => fun _ _ _ => none
  | k + 1 => fun x1 x2 σ => m_moth_7b N  (m_moth_7 N  k) x1 x2 σ
def m_moth (N : Nat)   (σ : MS) : Option (Int32 × MS) :=
  nx ((0 : Int32) : Int32) fun x1_1 =>
  bnd (m_begin N  σ) fun v_3 s_2 =>
  nx (v_3 : Int32) fun x2_4 =>
  m_moth_7 N N x1_1 x2_4 s_2
def m_deed (N : Nat)  (x1 : Int32) (x2 : Int32) (σ : MS) : Option (Int32 × MS) :=
  if inb x1 6 = true then (
  bnd (m_fits N x1 x2 σ) fun v_2 s_1 =>
  bnd (m_most N (0 : Int32) ((gR σ 9 x1.toNatClampNeg) + v_2) s_1) fun v_4 s_3 =>
  nx (v_4 : Int32) fun x3_5 =>
  if inb x1 6 = true then (
  if (gR s_3 6 x1.toNatClampNeg) = (1 : Int32) then (
    bnd (m_apart N x1 x2 s_3) fun v_8 s_7 =>
    bnd (m_most N (0 : Int32) (x3_5 - ((2 : Int32) * v_8)) s_7) fun v_10 s_9 =>
    some (v_10, s_9))
  else
  if (gR s_3 6 x1.toNatClampNeg) = (2 : Int32) then (
    bnd (m_moth N  s_3) fun v_13 s_12 =>
    if inb x1 6 = true then (
    bnd (m_most N (0 : Int32) (x3_5 - ((v_13 * (gR s_12 11 x1.toNatClampNeg)) / (4 : Int32))) s_12) fun v_15 s_14 =>
    some (v_15, s_14)) else none)
  else
  if (gR s_3 6 x1.toNatClampNeg) = (3 : Int32) then (
    if inb x1 6 = true then (
    some ((x3_5 + (gR s_3 7 x1.toNatClampNeg)), s_3)) else none)
  else
  if (gR s_3 6 x1.toNatClampNeg) = (4 : Int32) then (
    bnd (m_apart N x1 x2 s_3) fun v_19 s_18 =>
    if v_19 ≤ 0 then (
      some (x3_5, s_18))
    else (
      some ((0 : Int32), s_18)))
  else
  if (gR s_3 6 x1.toNatClampNeg) = (5 : Int32) then (
    bnd (m_moth N  s_3) fun v_22 s_21 =>
    if inb x1 6 = true then (
    bnd (m_most N (0 : Int32) (x3_5 - ((v_22 * (gR s_21 11 x1.toNatClampNeg)) / (4 : Int32))) s_21) fun v_24 s_23 =>
    if inb x1 6 = true then (
    bnd (m_most N (0 : Int32) (v_24 - (gR s_23 7 x1.toNatClampNeg)) s_23) fun v_26 s_25 =>
    some (v_26, s_25)) else none) else none)
  else
  if (gR s_3 6 x1.toNatClampNeg) = (6 : Int32) then (
    if inb x1 6 = true then (
    if inb (((4 : Int32) * x1) + ((gF s_3 2) - (gF s_3 2) / (4 : Int32) * (4 : Int32))) 24 = true then (
    some (((x3_5 + (gR s_3 7 x1.toNatClampNeg)) + (gR s_3 12 (((4 : Int32) * x1) + ((gF s_3 2) - (gF s_3 2) / (4 : Int32) * (4 : Int32))).toNatClampNeg)), s_3)) else none) else none)
  else
  some (x3_5, s_3)) else none) else none
def m_of (N : Nat)  (x1 : Int32) (x2 : Int32) (σ : MS) : Option (Int32 × MS) :=
  bnd (m_isHat N x1 σ) fun v_2 s_1 =>
  if v_2 = 0 then (
    some ((-10001 : Int32), s_1))
  else (
    bnd (m_in N x2 (10 : Int32) ((9 : Int32) + (gF s_1 0)) s_1) fun v_4 s_3 =>
    if v_4 = 0 then (
      if x2 = (0 : Int32) then (
        if inb x1 6 = true then (
        some ((gR s_3 6 x1.toNatClampNeg), s_3)) else none)
      else
      if x2 = (1 : Int32) then (
        if inb x1 6 = true then (
        some ((gR s_3 7 x1.toNatClampNeg), s_3)) else none)
      else
      if x2 = (2 : Int32) then (
        if inb x1 6 = true then (
        some ((gR s_3 8 x1.toNatClampNeg), s_3)) else none)
      else
      if x2 = (3 : Int32) then (
        if inb x1 6 = true then (
        some ((gR s_3 9 x1.toNatClampNeg), s_3)) else none)
      else
      if x2 = (4 : Int32) then (
        if inb x1 6 = true then (
        some ((gR s_3 10 x1.toNatClampNeg), s_3)) else none)
      else
      if x2 = (5 : Int32) then (
        if inb x1 6 = true then (
        some ((gR s_3 11 x1.toNatClampNeg), s_3)) else none)
      else
      if x2 = (6 : Int32) then (
        bnd (m_headOf N x1 s_3) fun v_13 s_12 =>
        some (v_13, s_12))
      else
      some ((-10001 : Int32), s_3))
    else (
      bnd (m_deed N x1 (x2 - (10 : Int32)) s_3) fun v_15 s_14 =>
      some (v_15, s_14)))
def m_at (N : Nat)  (x1 : Int32) (x2 : Int32) (σ : MS) : Option (Int32 × MS) :=
  bnd (m_isHead N x1 σ) fun v_2 s_1 =>
  if v_2 = 0 then (
    some ((-1 : Int32), s_1))
  else (
    if x2 = 0 then (
      if inb x1 6 = true then (
      some ((gR s_1 3 x1.toNatClampNeg), s_1)) else none)
    else (
      if x2 = (1 : Int32) then (
        if inb x1 6 = true then (
        bnd (m_orNone N (gR s_1 5 x1.toNatClampNeg) s_1) fun v_6 s_5 =>
        some (v_6, s_5)) else none)
      else (
        if x2 = (2 : Int32) then (
          if inb x1 6 = true then (
          bnd (m_orNone N (gR s_1 4 x1.toNatClampNeg) s_1) fun v_4 s_3 =>
          some (v_4, s_3)) else none)
        else (
          some ((-1 : Int32), s_1)))))
def m_work_46 (N : Nat) (rec8 : Int32 → Int32 → Int32 → MS → Option (Int32 × MS)) (x1 : Int32) (x3 : Int32) (z0 : Int32) (σ : MS) : Option (Int32 × MS) :=
  nx (z0 : Int32) fun x2_1 =>
  nx (x3 + (1 : Int32)) fun x3_2 =>
  rec8 x1 x2_1 x3_2 σ
def m_work_45 (N : Nat) (rec8 : Int32 → Int32 → Int32 → MS → Option (Int32 × MS)) (x1 : Int32) (x2 : Int32) (x3 : Int32) (σ : MS) : Option (Int32 × MS) :=
  m_work_46 N rec8 x1 x3 x2 σ
def m_work_8b (N : Nat)  (rec8 : Int32 → Int32 → Int32 → MS → Option (Int32 × MS)) (x1 : Int32) (x2 : Int32) (x3 : Int32) (σ : MS) : Option (Int32 × MS) :=
  bnd (m_behind N  σ) fun v_2 s_1 =>
  if v_2 ≤ x3 then (
    some (x2, s_1))
  else (
    if inb x3 60 = true then (
    if (gR s_1 21 x3.toNatClampNeg) = (3 : Int32) then (
      if inb x3 60 = true then (
      if (gR s_1 22 x3.toNatClampNeg) = x1 then (
        if inb x3 60 = true then (
        m_work_46 N rec8 x1 x3 (gR s_1 23 x3.toNatClampNeg) s_1) else none)
      else (
        m_work_45 N rec8 x1 x2 x3 s_1)) else none)
    else (
      m_work_45 N rec8 x1 x2 x3 s_1)) else none)
def m_work_8 (N : Nat)  : Nat → Int32 → Int32 → Int32 → MS → Option (Int32 × MS)
  | 0 => fun _ _ _ _ => none
  | k + 1 => fun x1 x2 x3 σ => m_work_8b N  (m_work_8 N  k) x1 x2 x3 σ
def m_work (N : Nat)  (x1 : Int32) (σ : MS) : Option (Int32 × MS) :=
  nx ((10 : Int32) : Int32) fun x2_1 =>
  bnd (m_begin N  σ) fun v_3 s_2 =>
  nx (v_3 : Int32) fun x3_4 =>
  m_work_8 N N x1 x2_1 x3_4 s_2
def m_told (N : Nat)  (x1 : Int32) (σ : MS) : Option (Int32 × MS) :=
  bnd (m_in N x1 (10 : Int32) (14 : Int32) σ) fun v_2 s_1 =>
  if v_2 = 0 then (
    bnd (m_in N x1 (20 : Int32) (24 : Int32) s_1) fun v_4 s_3 =>
    if v_4 = 0 then (
      if x1 = 0 then (
        some ((gF s_3 2), s_3))
      else (
        if x1 = (1 : Int32) then (
          bnd (m_moth N  s_3) fun v_6 s_5 =>
          some (v_6, s_5))
        else (
          some ((-1 : Int32), s_3))))
    else (
      bnd (m_work N (x1 - (20 : Int32)) s_3) fun v_8 s_7 =>
      some (v_8, s_7)))
  else (
    if inb (x1 - (10 : Int32)) 5 = true then (
    some ((gR s_1 13 (x1 - (10 : Int32)).toNatClampNeg), s_1)) else none)
def m_todayOf_56 (N : Nat) (rec4 : Int32 → Int32 → Int32 → MS → Option (Int32 × MS)) (x1 : Int32) (x3 : Int32) (z0 : Int32) (z1 : Int32) (σ : MS) : Option (Int32 × MS) :=
  nx ((z1 + z0) : Int32) fun x2_1 =>
  nx (x3 + (1 : Int32)) fun x3_2 =>
  rec4 x1 x2_1 x3_2 σ
def m_todayOf_55 (N : Nat) (rec4 : Int32 → Int32 → Int32 → MS → Option (Int32 × MS)) (x1 : Int32) (x3 : Int32) (z0 : Int32) (σ : MS) : Option (Int32 × MS) :=
  m_todayOf_56 N rec4 x1 x3 (0 : Int32) z0 σ
def m_todayOf_41 (N : Nat) (rec4 : Int32 → Int32 → Int32 → MS → Option (Int32 × MS)) (x1 : Int32) (x3 : Int32) (z0 : Int32) (σ : MS) : Option (Int32 × MS) :=
  if inb x3 6 = true then (
  bnd (m_deed N (gR σ 5 x3.toNatClampNeg) x3 σ) fun v_2 s_1 =>
  m_todayOf_56 N rec4 x1 x3 v_2 z0 s_1) else none
def m_todayOf_4b (N : Nat)  (rec4 : Int32 → Int32 → Int32 → MS → Option (Int32 × MS)) (x1 : Int32) (x2 : Int32) (x3 : Int32) (σ : MS) : Option (Int32 × MS) :=
  if (gF σ 0) ≤ x3 then (
    some (x2, σ))
  else (
    if inb x3 6 = true then (
    if (gR σ 5 x3.toNatClampNeg) < 0 then (
      m_todayOf_55 N rec4 x1 x3 x2 σ)
    else (
      if x1 < 0 then (
        m_todayOf_41 N rec4 x1 x3 x2 σ)
      else (
        if inb x3 6 = true then (
        if inb (gR σ 5 x3.toNatClampNeg) 6 = true then (
        if (gR σ 10 (gR σ 5 x3.toNatClampNeg).toNatClampNeg) = x1 then (
          m_todayOf_41 N rec4 x1 x3 x2 σ)
        else (
          m_todayOf_55 N rec4 x1 x3 x2 σ)) else none) else none))) else none)
def m_todayOf_4 (N : Nat)  : Nat → Int32 → Int32 → Int32 → MS → Option (Int32 × MS)
  | 0 => fun _ _ _ _ => none
  | k + 1 => fun x1 x2 x3 σ => m_todayOf_4b N  (m_todayOf_4 N  k) x1 x2 x3 σ
def m_todayOf (N : Nat)  (x1 : Int32) (σ : MS) : Option (Int32 × MS) :=
  nx ((0 : Int32) : Int32) fun x2_1 =>
  nx ((0 : Int32) : Int32) fun x3_2 =>
  m_todayOf_4 N N x1 x2_1 x3_2 σ
def m_goDay_68 (N : Nat) (rec2 : Int32 → MS → Option (MS)) (x1 : Int32) (σ : MS) : Option (MS) :=
  nx (x1 + (1 : Int32)) fun x1_1 =>
  rec2 x1_1 σ
def m_goDay_67 (N : Nat) (rec2 : Int32 → MS → Option (MS)) (x1 : Int32) (z0 : Int32) (z1 : Int32) (σ : MS) : Option (MS) :=
  if inb z1 6 = true then nx (sR σ 11 z1.toNatClampNeg z0) (fun s_1 =>
  m_goDay_68 N rec2 x1 s_1) else none
def m_goDay_2b (N : Nat)  (rec2 : Int32 → MS → Option (MS)) (x1 : Int32) (σ : MS) : Option (MS) :=
  if (gF σ 0) ≤ x1 then (
    nx (sF σ 2 ((gF σ 2) + (1 : Int32))) fun s_1 =>
    some s_1)
  else (
    if inb x1 6 = true then (
    if (gR σ 5 x1.toNatClampNeg) < 0 then (
      m_goDay_68 N rec2 x1 σ)
    else (
      if inb x1 6 = true then (
      if inb x1 6 = true then (
      if inb (gR σ 5 x1.toNatClampNeg) 6 = true then (
      if (gF σ 33) ≤ (gR σ 11 (gR σ 5 x1.toNatClampNeg).toNatClampNeg) then (
        m_goDay_67 N rec2 x1 (gF σ 33) (gR σ 5 x1.toNatClampNeg) σ)
      else (
        if inb x1 6 = true then (
        if inb (gR σ 5 x1.toNatClampNeg) 6 = true then (
        m_goDay_67 N rec2 x1 ((gR σ 11 (gR σ 5 x1.toNatClampNeg).toNatClampNeg) + (1 : Int32)) (gR σ 5 x1.toNatClampNeg) σ) else none) else none)) else none) else none) else none)) else none)
def m_goDay_2 (N : Nat)  : Nat → Int32 → MS → Option (MS)
  | 0 => fun _ _ => none
  | k + 1 => fun x1 σ => m_goDay_2b N  (m_goDay_2 N  k) x1 σ
def m_goDay (N : Nat)   (σ : MS) : Option (MS) :=
  nx ((0 : Int32) : Int32) fun x1_1 =>
  m_goDay_2 N N x1_1 σ
def m_day_58 (N : Nat) (rec21 : Int32 → Int32 → MS → Option (Int32 × MS)) (x1 : Int32) (x2 : Int32) (z0 : Int32) (z1 : Int32) (σ : MS) : Option (Int32 × MS) :=
  if inb z1 5 = true then nx (sR σ 13 z1.toNatClampNeg z0) (fun s_1 =>
  nx (x2 + (1 : Int32)) fun x2_2 =>
  rec21 x1 x2_2 s_1) else none
def m_day_21b (N : Nat)  (rec21 : Int32 → Int32 → MS → Option (Int32 × MS)) (x1 : Int32) (x2 : Int32) (σ : MS) : Option (Int32 × MS) :=
  if (5 : Int32) ≤ x2 then (
    bnv (m_goDay N  σ) fun s_1 =>
    some (x1, s_1))
  else (
    if inb x2 5 = true then (
    bnd (m_todayOf N x2 σ) fun v_3 s_2 =>
    nx (((gR σ 13 x2.toNatClampNeg) + v_3) : Int32) fun x3_4 =>
    if x3_4 ≤ (999999 : Int32) then (
      m_day_58 N rec21 x1 x2 x3_4 x2 s_2)
    else (
      m_day_58 N rec21 x1 x2 (999999 : Int32) x2 s_2)) else none)
def m_day_21 (N : Nat)  : Nat → Int32 → Int32 → MS → Option (Int32 × MS)
  | 0 => fun _ _ _ => none
  | k + 1 => fun x1 x2 σ => m_day_21b N  (m_day_21 N  k) x1 x2 σ
def m_day (N : Nat)   (σ : MS) : Option (Int32 × MS) :=
  if (gF σ 2) = (9999 : Int32) then (
    some ((-3 : Int32), σ))
  else (
    bnd (m_todayOf N (-1 : Int32) σ) fun v_2 s_1 =>
    nx (v_2 : Int32) fun x1_3 =>
    nx ((0 : Int32) : Int32) fun x2_4 =>
    m_day_21 N N x1_3 x2_4 s_1)
def m_goGust_56b (N : Nat)  (rec56 : Int32 → Int32 → MS → Option (Int32 × MS)) (x2 : Int32) (x3 : Int32) (σ : MS) : Option (Int32 × MS) :=
  if (gF σ 0) ≤ x3 then (
    some (x2, σ))
  else (
    if inb x3 6 = true then (
    if inb x3 6 = true then nx (sR σ 5 x3.toNatClampNeg (gR σ 34 x3.toNatClampNeg)) (fun s_1 =>
    nx (x3 + (1 : Int32)) fun x3_2 =>
    rec56 x2 x3_2 s_1) else none) else none)
def m_goGust_56 (N : Nat)  : Nat → Int32 → Int32 → MS → Option (Int32 × MS)
  | 0 => fun _ _ _ => none
  | k + 1 => fun x2 x3 σ => m_goGust_56b N  (m_goGust_56 N  k) x2 x3 σ
def m_goGust_46 (N : Nat) (rec4 : Int32 → Int32 → Int32 → MS → Option (Int32 × MS)) (x1 : Int32) (x3 : Int32) (z0 : Int32) (z1 : Int32) (σ : MS) : Option (Int32 × MS) :=
  nx ((z1 + z0) : Int32) fun x2_1 =>
  nx (x3 + (1 : Int32)) fun x3_2 =>
  rec4 x1 x2_1 x3_2 σ
def m_goGust_4b (N : Nat)  (rec4 : Int32 → Int32 → Int32 → MS → Option (Int32 × MS)) (x1 : Int32) (x2 : Int32) (x3 : Int32) (σ : MS) : Option (Int32 × MS) :=
  if (gF σ 0) ≤ x3 then (
    nx ((0 : Int32) : Int32) fun x3_1 =>
    m_goGust_56 N N x2 x3_1 σ)
  else (
    if (gF σ 0) = 0 then none else
    if inb x3 6 = true then (
    if inb ((x3 + x1) - (x3 + x1) / (gF σ 0) * (gF σ 0)) 6 = true then nx (sR σ 34 ((x3 + x1) - (x3 + x1) / (gF σ 0) * (gF σ 0)).toNatClampNeg (gR σ 5 x3.toNatClampNeg)) (fun s_2 =>
    if inb x3 6 = true then (
    if (gR s_2 5 x3.toNatClampNeg) < 0 then (
      m_goGust_46 N rec4 x1 x3 (0 : Int32) x2 s_2)
    else (
      m_goGust_46 N rec4 x1 x3 (1 : Int32) x2 s_2)) else none) else none) else none)
def m_goGust_4 (N : Nat)  : Nat → Int32 → Int32 → Int32 → MS → Option (Int32 × MS)
  | 0 => fun _ _ _ _ => none
  | k + 1 => fun x1 x2 x3 σ => m_goGust_4b N  (m_goGust_4 N  k) x1 x2 x3 σ
def m_goGust (N : Nat)  (x1 : Int32) (σ : MS) : Option (Int32 × MS) :=
  nx ((0 : Int32) : Int32) fun x2_1 =>
  nx ((0 : Int32) : Int32) fun x3_2 =>
  m_goGust_4 N N x1 x2_1 x3_2 σ
def m_gust (N : Nat)  (x1 : Int32) (σ : MS) : Option (Int32 × MS) :=
  bnd (m_in N x1 (0 : Int32) (5 : Int32) σ) fun v_2 s_1 =>
  if v_2 = 0 then (
    some ((-2 : Int32), s_1))
  else (
    bnd (m_goGust N x1 s_1) fun v_4 s_3 =>
    some (v_4, s_3))
def m_swaps (N : Nat)  (x1 : Int32) (x2 : Int32) (σ : MS) : Option (MS) :=
  if inb x1 6 = true then (
  nx ((gR σ 5 x1.toNatClampNeg) : Int32) fun x3_1 =>
  if inb x2 6 = true then (
  if inb x1 6 = true then nx (sR σ 5 x1.toNatClampNeg (gR σ 5 x2.toNatClampNeg)) (fun s_2 =>
  if inb x2 6 = true then nx (sR s_2 5 x2.toNatClampNeg x3_1) (fun s_3 =>
  some s_3) else none) else none) else none) else none
def m_change (N : Nat)  (x1 : Int32) (x2 : Int32) (σ : MS) : Option (Int32 × MS) :=
  bnd (m_isHead N x1 σ) fun v_2 s_1 =>
  if v_2 = 0 then (
    some ((-1 : Int32), s_1))
  else (
    bnd (m_isHead N x2 s_1) fun v_4 s_3 =>
    if v_4 = 0 then (
      some ((-1 : Int32), s_3))
    else (
      if x1 = x2 then (
        some ((-2 : Int32), s_3))
      else (
        bnv (m_swaps N x1 x2 s_3) fun s_5 =>
        some ((1 : Int32), s_5))))
def m_today_13 (N : Nat)  (x1 : Int32) (σ : MS) : Option (Int32 × MS) :=
  bnd (m_todayOf N x1 σ) fun v_2 s_1 =>
  some (v_2, s_1)
def m_today (N : Nat)  (x1 : Int32) (σ : MS) : Option (Int32 × MS) :=
  if x1 = (-1 : Int32) then (
    m_today_13 N x1 σ)
  else (
    bnd (m_isTrade N x1 σ) fun v_2 s_1 =>
    if v_2 = 0 then (
      some ((-1 : Int32), s_1))
    else (
      m_today_13 N x1 s_1))
def m_enough_30 (N : Nat) (rec4 : Int32 → Int32 → MS → Option (Int32 × MS)) (x2 : Int32) (z0 : Int32) (z1 : Int32) (σ : MS) : Option (Int32 × MS) :=
  nx ((z1 ||| z0) : Int32) fun x1_1 =>
  nx (x2 + (1 : Int32)) fun x2_2 =>
  rec4 x1_1 x2_2 σ
def m_enough_4b (N : Nat)  (rec4 : Int32 → Int32 → MS → Option (Int32 × MS)) (x1 : Int32) (x2 : Int32) (σ : MS) : Option (Int32 × MS) :=
  if (5 : Int32) ≤ x2 then (
    some (x1, σ))
  else (
    bnd (m_todayOf N x2 σ) fun v_2 s_1 =>
    bnd (m_work N x2 s_1) fun v_4 s_3 =>
    if v_2 < v_4 then (
      m_enough_30 N rec4 x2 (0 : Int32) x1 s_3)
    else (
      m_enough_30 N rec4 x2 ((1 : Int32) <<< (x2 &&& 31)) x1 s_3))
def m_enough_4 (N : Nat)  : Nat → Int32 → Int32 → MS → Option (Int32 × MS)
  | 0 => fun _ _ _ => none
  | k + 1 => fun x1 x2 σ => m_enough_4b N  (m_enough_4 N  k) x1 x2 σ
def m_enough (N : Nat)   (σ : MS) : Option (Int32 × MS) :=
  nx ((0 : Int32) : Int32) fun x1_1 =>
  nx ((0 : Int32) : Int32) fun x2_2 =>
  m_enough_4 N N x1_1 x2_2 σ
def m_best_51 (N : Nat) (rec18 : Int32 → Int32 → Int32 → Int32 → MS → Option (Int32 × MS)) (x1 : Int32) (x2 : Int32) (x3 : Int32) (x4 : Int32) (σ : MS) : Option (Int32 × MS) :=
  nx (x4 + (1 : Int32)) fun x4_1 =>
  rec18 x1 x2 x3 x4_1 σ
def m_best_18b (N : Nat)  (rec18 : Int32 → Int32 → Int32 → Int32 → MS → Option (Int32 × MS)) (x1 : Int32) (x2 : Int32) (x3 : Int32) (x4 : Int32) (σ : MS) : Option (Int32 × MS) :=
  if (gF σ 0) ≤ x4 then (
    some (x2, σ))
  else (
    bnd (m_deed N x1 x4 σ) fun v_2 s_1 =>
    nx (v_2 : Int32) fun x5_3 =>
    if x3 < x5_3 then (
      nx (x4 : Int32) fun x2_4 =>
      nx (x5_3 : Int32) fun x3_5 =>
      m_best_51 N rec18 x1 x2_4 x3_5 x4 s_1)
    else (
      m_best_51 N rec18 x1 x2 x3 x4 s_1))
def m_best_18 (N : Nat)  : Nat → Int32 → Int32 → Int32 → Int32 → MS → Option (Int32 × MS)
  | 0 => fun _ _ _ _ _ => none
  | k + 1 => fun x1 x2 x3 x4 σ => m_best_18b N  (m_best_18 N  k) x1 x2 x3 x4 σ
def m_best (N : Nat)  (x1 : Int32) (σ : MS) : Option (Int32 × MS) :=
  bnd (m_isHat N x1 σ) fun v_2 s_1 =>
  if v_2 = 0 then (
    some ((-1 : Int32), s_1))
  else (
    nx ((-5 : Int32) : Int32) fun x2_3 =>
    nx ((-1 : Int32) : Int32) fun x3_4 =>
    nx ((0 : Int32) : Int32) fun x4_5 =>
    m_best_18 N N x1 x2_3 x3_4 x4_5 s_1)
def m_save_17b (N : Nat)  (rec17 : Int32 → MS → Option (MS)) (x1 : Int32) (σ : MS) : Option (MS) :=
  if (6 : Int32) ≤ x1 then (
    some σ)
  else (
    if inb x1 6 = true then (
    if inb x1 6 = true then nx (sR σ 36 x1.toNatClampNeg (gR σ 11 x1.toNatClampNeg)) (fun s_1 =>
    if inb x1 6 = true then (
    if inb x1 6 = true then nx (sR s_1 37 x1.toNatClampNeg (gR s_1 5 x1.toNatClampNeg)) (fun s_2 =>
    nx (x1 + (1 : Int32)) fun x1_3 =>
    rec17 x1_3 s_2) else none) else none) else none) else none)
def m_save_17 (N : Nat)  : Nat → Int32 → MS → Option (MS)
  | 0 => fun _ _ => none
  | k + 1 => fun x1 σ => m_save_17b N  (m_save_17 N  k) x1 σ
def m_save (N : Nat)   (σ : MS) : Option (MS) :=
  nx (sF σ 33 (2000000000 : Int32)) fun s_1 =>
  nx (sF s_1 35 (gF s_1 2)) fun s_2 =>
  nx ((0 : Int32) : Int32) fun x1_3 =>
  m_save_17 N N x1_3 s_2
def m_putBack_17b (N : Nat)  (rec17 : Int32 → MS → Option (MS)) (x1 : Int32) (σ : MS) : Option (MS) :=
  if (6 : Int32) ≤ x1 then (
    some σ)
  else (
    if inb x1 6 = true then (
    if inb x1 6 = true then nx (sR σ 11 x1.toNatClampNeg (gR σ 36 x1.toNatClampNeg)) (fun s_1 =>
    if inb x1 6 = true then (
    if inb x1 6 = true then nx (sR s_1 5 x1.toNatClampNeg (gR s_1 37 x1.toNatClampNeg)) (fun s_2 =>
    nx (x1 + (1 : Int32)) fun x1_3 =>
    rec17 x1_3 s_2) else none) else none) else none) else none)
def m_putBack_17 (N : Nat)  : Nat → Int32 → MS → Option (MS)
  | 0 => fun _ _ => none
  | k + 1 => fun x1 σ => m_putBack_17b N  (m_putBack_17 N  k) x1 σ
def m_putBack (N : Nat)   (σ : MS) : Option (MS) :=
  nx (sF σ 33 (9999 : Int32)) fun s_1 =>
  nx (sF s_1 2 (gF s_1 35)) fun s_2 =>
  nx ((0 : Int32) : Int32) fun x1_3 =>
  m_putBack_17 N N x1_3 s_2
def m_on_33b (N : Nat)  (rec33 : Int32 → Int32 → Int32 → Int32 → MS → Option (Int32 × MS)) (x1 : Int32) (x2 : Int32) (x3 : Int32) (x4 : Int32) (σ : MS) : Option (Int32 × MS) :=
  if x2 ≤ x4 then (
    bnv (m_putBack N  σ) fun s_1 =>
    some (x3, s_1))
  else (
    bnd (m_todayOf N x1 σ) fun v_3 s_2 =>
    nx ((x3 + v_3) : Int32) fun x3_4 =>
    bnv (m_goDay N  s_2) fun s_5 =>
    nx (x4 + (1 : Int32)) fun x4_6 =>
    rec33 x1 x2 x3_4 x4_6 s_5)
def m_on_33 (N : Nat)  : Nat → Int32 → Int32 → Int32 → Int32 → MS → Option (Int32 × MS)
  | 0 => fun _ _ _ _ _ => none
  | k + 1 => fun x1 x2 x3 x4 σ => m_on_33b N  (m_on_33 N  k) x1 x2 x3 x4 σ
def m_on (N : Nat)  (x1 : Int32) (x2 : Int32) (σ : MS) : Option (Int32 × MS) :=
  bnd (m_isTrade N x1 σ) fun v_2 s_1 =>
  if v_2 = 0 then (
    some ((-1 : Int32), s_1))
  else (
    bnd (m_in N x2 (0 : Int32) (30 : Int32) s_1) fun v_4 s_3 =>
    if v_4 = 0 then (
      some ((-2 : Int32), s_3))
    else (
      bnv (m_save N  s_3) fun s_5 =>
      nx ((0 : Int32) : Int32) fun x3_6 =>
      nx ((0 : Int32) : Int32) fun x4_7 =>
      m_on_33 N N x1 x2 x3_6 x4_7 s_5))
def m_lasts_45 (N : Nat)  (x2 : Int32) (σ : MS) : Option (Int32 × MS) :=
  bnv (m_putBack N  σ) fun s_1 =>
  if (31 : Int32) ≤ x2 then (
    some ((-5 : Int32), s_1))
  else (
    some (x2, s_1))
def m_lasts_16b (N : Nat)  (rec16 : Int32 → Int32 → MS → Option (Int32 × MS)) (x1 : Int32) (x2 : Int32) (σ : MS) : Option (Int32 × MS) :=
  if (31 : Int32) ≤ x2 then (
    m_lasts_45 N x2 σ)
  else (
    bnd (m_todayOf N x1 σ) fun v_2 s_1 =>
    bnd (m_work N x1 s_1) fun v_4 s_3 =>
    if v_2 < v_4 then (
      m_lasts_45 N x2 s_3)
    else (
      bnv (m_goDay N  s_3) fun s_5 =>
      nx (x2 + (1 : Int32)) fun x2_6 =>
      rec16 x1 x2_6 s_5))
def m_lasts_16 (N : Nat)  : Nat → Int32 → Int32 → MS → Option (Int32 × MS)
  | 0 => fun _ _ _ => none
  | k + 1 => fun x1 x2 σ => m_lasts_16b N  (m_lasts_16 N  k) x1 x2 σ
def m_lasts (N : Nat)  (x1 : Int32) (σ : MS) : Option (Int32 × MS) :=
  bnd (m_isTrade N x1 σ) fun v_2 s_1 =>
  if v_2 = 0 then (
    some ((-1 : Int32), s_1))
  else (
    bnv (m_save N  s_1) fun s_3 =>
    nx ((0 : Int32) : Int32) fun x2_4 =>
    m_lasts_16 N N x1 x2_4 s_3)
def m_layDeeds_12b (N : Nat) (rec2 : Int32 → MS → Option (MS)) (rec12 : Int32 → Int32 → MS → Option (MS)) (x1 : Int32) (x2 : Int32) (σ : MS) : Option (MS) :=
  if (gF σ 0) ≤ x2 then (
    nx (x1 + (1 : Int32)) fun x1_1 =>
    rec2 x1_1 σ)
  else (
    bnd (m_deed N x1 x2 σ) fun v_3 s_2 =>
    if inb (((6 : Int32) * x1) + x2) 36 = true then nx (sR s_2 39 (((6 : Int32) * x1) + x2).toNatClampNeg v_3) (fun s_4 =>
    nx (x2 + (1 : Int32)) fun x2_5 =>
    rec12 x1 x2_5 s_4) else none)
def m_layDeeds_12 (N : Nat) (rec2 : Int32 → MS → Option (MS)) : Nat → Int32 → Int32 → MS → Option (MS)
  | 0 => fun _ _ _ => none
  | k + 1 => fun x1 x2 σ => m_layDeeds_12b N rec2 (m_layDeeds_12 N rec2 k) x1 x2 σ
def m_layDeeds_2b (N : Nat)  (rec2 : Int32 → MS → Option (MS)) (x1 : Int32) (σ : MS) : Option (MS) :=
  if (gF σ 1) ≤ x1 then (
    some σ)
  else (
    nx ((0 : Int32) : Int32) fun x2_1 =>
    m_layDeeds_12 N rec2 N x1 x2_1 σ)
def m_layDeeds_2 (N : Nat)  : Nat → Int32 → MS → Option (MS)
  | 0 => fun _ _ => none
  | k + 1 => fun x1 σ => m_layDeeds_2b N  (m_layDeeds_2 N  k) x1 σ
def m_layDeeds (N : Nat)   (σ : MS) : Option (MS) :=
  nx ((0 : Int32) : Int32) fun x1_1 =>
  m_layDeeds_2 N N x1_1 σ
def m_ones_4b (N : Nat)  (rec4 : Int32 → Int32 → MS → Option (Int32 × MS)) (x2 : Int32) (x3 : Int32) (σ : MS) : Option (Int32 × MS) :=
  if x3 = 0 then (
    some (x2, σ))
  else (
    nx (x2 + (1 : Int32)) fun x2_1 =>
    nx ((x3 &&& (x3 - (1 : Int32))) : Int32) fun x3_2 =>
    rec4 x2_1 x3_2 σ)
def m_ones_4 (N : Nat)  : Nat → Int32 → Int32 → MS → Option (Int32 × MS)
  | 0 => fun _ _ _ => none
  | k + 1 => fun x2 x3 σ => m_ones_4b N  (m_ones_4 N  k) x2 x3 σ
def m_ones (N : Nat)  (x1 : Int32) (σ : MS) : Option (Int32 × MS) :=
  nx ((0 : Int32) : Int32) fun x2_1 =>
  nx (x1 : Int32) fun x3_2 =>
  m_ones_4 N N x2_1 x3_2 σ
def m_has (N : Nat)  (x1 : Int32) (x2 : Int32) (σ : MS) : Option (Int32 × MS) :=
  if ((x1 >>> (x2 &&& 31)) &&& (1 : Int32)) = (1 : Int32) then (
    some ((1 : Int32), σ))
  else (
    some ((0 : Int32), σ))
def m_onwardBy_38 (N : Nat)  (x1 : Int32) (x3 : Int32) (z0 : Int32) (z1 : Int32) (σ : MS) : Option (Int32 × MS) :=
  if inb (z1 + z0) 448 = true then (
  nx ((gR σ 41 (z1 + z0).toNatClampNeg) : Int32) fun x4_1 =>
  if 0 ≤ x4_1 then (
    if 0 ≤ x3 then (
      if inb (((6 : Int32) * x3) + x1) 36 = true then (
      some ((x4_1 + (gR σ 39 (((6 : Int32) * x3) + x1).toNatClampNeg)), σ)) else none)
    else (
      some ((x4_1 + (0 : Int32)), σ)))
  else (
    some ((-1 : Int32), σ))) else none
def m_onwardBy_15 (N : Nat)  (x1 : Int32) (x2 : Int32) (x3 : Int32) (σ : MS) : Option (Int32 × MS) :=
  if 0 ≤ x3 then (
    m_onwardBy_38 N x1 x3 (x2 ||| ((1 : Int32) <<< (x3 &&& 31))) ((64 : Int32) * (x1 + (1 : Int32))) σ)
  else (
    m_onwardBy_38 N x1 x3 x2 ((64 : Int32) * (x1 + (1 : Int32))) σ)
def m_onwardBy (N : Nat)  (x1 : Int32) (x2 : Int32) (x3 : Int32) (σ : MS) : Option (Int32 × MS) :=
  if x3 < 0 then (
    m_onwardBy_15 N x1 x2 x3 σ)
  else (
    bnd (m_has N x2 x3 σ) fun v_2 s_1 =>
    if v_2 = 0 then (
      m_onwardBy_15 N x1 x2 x3 s_1)
    else (
      some ((-1 : Int32), s_1)))
def m_layBest_225 (N : Nat) (rec164 : Int32 → Int32 → MS → Option (MS)) (x3 : Int32) (z0 : Int32) (z1 : Int32) (σ : MS) : Option (MS) :=
  nx ((z1 ||| z0) : Int32) fun x2_1 =>
  nx (x3 + (1 : Int32)) fun x3_2 =>
  rec164 x2_1 x3_2 σ
def m_layBest_175b (N : Nat) (rec164 : Int32 → Int32 → MS → Option (MS)) (rec175 : Int32 → Int32 → Int32 → MS → Option (MS)) (x2 : Int32) (x3 : Int32) (x4 : Int32) (σ : MS) : Option (MS) :=
  bnd (m_onwardBy N x3 x2 x4 σ) fun v_2 s_1 =>
  if inb (((64 : Int32) * x3) + x2) 448 = true then (
  if v_2 = (gR s_1 41 (((64 : Int32) * x3) + x2).toNatClampNeg) then (
    if inb x3 6 = true then nx (sR s_1 38 x3.toNatClampNeg x4) (fun s_3 =>
    if 0 ≤ x4 then (
      m_layBest_225 N rec164 x3 ((1 : Int32) <<< (x4 &&& 31)) x2 s_3)
    else (
      m_layBest_225 N rec164 x3 (0 : Int32) x2 s_3)) else none)
  else (
    nx (x4 + (1 : Int32)) fun x4_4 =>
    rec175 x2 x3 x4_4 s_1)) else none
def m_layBest_175 (N : Nat) (rec164 : Int32 → Int32 → MS → Option (MS)) : Nat → Int32 → Int32 → Int32 → MS → Option (MS)
  | 0 => fun _ _ _ _ => none
  | k + 1 => fun x2 x3 x4 σ => m_layBest_175b N rec164 (m_layBest_175 N rec164 k) x2 x3 x4 σ
def m_layBest_164b (N : Nat)  (rec164 : Int32 → Int32 → MS → Option (MS)) (x2 : Int32) (x3 : Int32) (σ : MS) : Option (MS) :=
  if (gF σ 0) ≤ x3 then (
    some σ)
  else (
    nx ((-1 : Int32) : Int32) fun x4_1 =>
    m_layBest_175 N rec164 N x2 x3 x4_1 σ)
def m_layBest_164 (N : Nat)  : Nat → Int32 → Int32 → MS → Option (MS)
  | 0 => fun _ _ _ => none
  | k + 1 => fun x2 x3 σ => m_layBest_164b N  (m_layBest_164 N  k) x2 x3 σ
def m_layBest_94b (N : Nat) (rec76 : Int32 → MS → Option (MS)) (rec82 : Int32 → Int32 → MS → Option (MS)) (rec94 : Int32 → Int32 → Int32 → Int32 → MS → Option (MS)) (x2 : Int32) (x3 : Int32) (x4 : Int32) (x5 : Int32) (σ : MS) : Option (MS) :=
  if (gF σ 1) ≤ x5 then (
    if inb (((64 : Int32) * x2) + x3) 448 = true then nx (sR σ 41 (((64 : Int32) * x2) + x3).toNatClampNeg x4) (fun s_1 =>
    nx (x3 + (1 : Int32)) fun x3_2 =>
    rec82 x2 x3_2 s_1) else none)
  else (
    bnd (m_onwardBy N x2 x3 x5 σ) fun v_4 s_3 =>
    bnd (m_most N x4 v_4 s_3) fun v_6 s_5 =>
    nx (v_6 : Int32) fun x4_7 =>
    nx (x5 + (1 : Int32)) fun x5_8 =>
    rec94 x2 x3 x4_7 x5_8 s_5)
def m_layBest_94 (N : Nat) (rec76 : Int32 → MS → Option (MS)) (rec82 : Int32 → Int32 → MS → Option (MS)) : Nat → Int32 → Int32 → Int32 → Int32 → MS → Option (MS)
  | 0 => fun _ _ _ _ _ => none
  | k + 1 => fun x2 x3 x4 x5 σ => m_layBest_94b N rec76 rec82 (m_layBest_94 N rec76 rec82 k) x2 x3 x4 x5 σ
def m_layBest_82b (N : Nat) (rec76 : Int32 → MS → Option (MS)) (rec82 : Int32 → Int32 → MS → Option (MS)) (x2 : Int32) (x3 : Int32) (σ : MS) : Option (MS) :=
  if (64 : Int32) ≤ x3 then (
    nx (x2 + (-1 : Int32)) fun x2_1 =>
    rec76 x2_1 σ)
  else (
    nx ((-1 : Int32) : Int32) fun x4_2 =>
    nx ((-1 : Int32) : Int32) fun x5_3 =>
    m_layBest_94 N rec76 rec82 N x2 x3 x4_2 x5_3 σ)
def m_layBest_82 (N : Nat) (rec76 : Int32 → MS → Option (MS)) : Nat → Int32 → Int32 → MS → Option (MS)
  | 0 => fun _ _ _ => none
  | k + 1 => fun x2 x3 σ => m_layBest_82b N rec76 (m_layBest_82 N rec76 k) x2 x3 σ
def m_layBest_76b (N : Nat)  (rec76 : Int32 → MS → Option (MS)) (x2 : Int32) (σ : MS) : Option (MS) :=
  if x2 < 0 then (
    if inb (0 : Int32) 448 = true then (
    nx (sF σ 40 (gR σ 41 (0 : Int32).toNatClampNeg)) fun s_1 =>
    nx ((0 : Int32) : Int32) fun x2_2 =>
    nx ((0 : Int32) : Int32) fun x3_3 =>
    m_layBest_164 N N x2_2 x3_3 s_1) else none)
  else (
    nx ((0 : Int32) : Int32) fun x3_4 =>
    m_layBest_82 N rec76 N x2 x3_4 σ)
def m_layBest_76 (N : Nat)  : Nat → Int32 → MS → Option (MS)
  | 0 => fun _ _ => none
  | k + 1 => fun x2 σ => m_layBest_76b N  (m_layBest_76 N  k) x2 σ
def m_layBest_62 (N : Nat) (rec29 : Int32 → Int32 → MS → Option (MS)) (x1 : Int32) (x2 : Int32) (z0 : Int32) (z1 : Int32) (σ : MS) : Option (MS) :=
  if inb z1 448 = true then nx (sR σ 41 z1.toNatClampNeg z0) (fun s_1 =>
  nx (x2 + (1 : Int32)) fun x2_2 =>
  rec29 x1 x2_2 s_1) else none
def m_layBest_29b (N : Nat)  (rec29 : Int32 → Int32 → MS → Option (MS)) (x1 : Int32) (x2 : Int32) (σ : MS) : Option (MS) :=
  if (64 : Int32) ≤ x2 then (
    nx (((gF σ 0) - (1 : Int32)) : Int32) fun x2_1 =>
    m_layBest_76 N N x2_1 σ)
  else (
    bnd (m_ones N x2 σ) fun v_3 s_2 =>
    if v_3 = x1 then (
      m_layBest_62 N rec29 x1 x2 (0 : Int32) (((64 : Int32) * (gF σ 0)) + x2) s_2)
    else (
      m_layBest_62 N rec29 x1 x2 (-1 : Int32) (((64 : Int32) * (gF σ 0)) + x2) s_2))
def m_layBest_29 (N : Nat)  : Nat → Int32 → Int32 → MS → Option (MS)
  | 0 => fun _ _ _ => none
  | k + 1 => fun x1 x2 σ => m_layBest_29b N  (m_layBest_29 N  k) x1 x2 σ
def m_layBest_26 (N : Nat)  (z0 : Int32) (σ : MS) : Option (MS) :=
  nx (z0 : Int32) fun x1_1 =>
  nx ((0 : Int32) : Int32) fun x2_2 =>
  m_layBest_29 N N x1_1 x2_2 σ
def m_layBest (N : Nat)   (σ : MS) : Option (MS) :=
  bnv (m_layDeeds N  σ) fun s_1 =>
  if (gF s_1 1) ≤ (gF s_1 0) then (
    m_layBest_26 N (gF s_1 1) s_1)
  else (
    m_layBest_26 N (gF s_1 0) s_1)
def m_by (N : Nat)  (x1 : Int32) (σ : MS) : Option (Int32 × MS) :=
  bnd (m_in N x1 (-1 : Int32) (5 : Int32) σ) fun v_2 s_1 =>
  if v_2 = 0 then (
    some ((-1 : Int32), s_1))
  else (
    if x1 < (gF s_1 0) then (
      bnv (m_layBest N  s_1) fun s_3 =>
      if 0 ≤ x1 then (
        if inb x1 6 = true then (
        bnd (m_orNone N (gR s_3 38 x1.toNatClampNeg) s_3) fun v_5 s_4 =>
        some (v_5, s_4)) else none)
      else (
        some ((gF s_3 40), s_3)))
    else (
      some ((-5 : Int32), s_1)))
def m_mostOf_174b (N : Nat)  (rec174 : Int32 → Int32 → MS → Option (Int32 × MS)) (x2 : Int32) (x3 : Int32) (σ : MS) : Option (Int32 × MS) :=
  if (64 : Int32) ≤ x3 then (
    some (x2, σ))
  else (
    if inb x3 64 = true then (
    bnd (m_most N x2 (gR σ 42 x3.toNatClampNeg) σ) fun v_2 s_1 =>
    nx (v_2 : Int32) fun x2_3 =>
    nx (x3 + (1 : Int32)) fun x3_4 =>
    rec174 x2_3 x3_4 s_1) else none)
def m_mostOf_174 (N : Nat)  : Nat → Int32 → Int32 → MS → Option (Int32 × MS)
  | 0 => fun _ _ _ => none
  | k + 1 => fun x2 x3 σ => m_mostOf_174b N  (m_mostOf_174 N  k) x2 x3 σ
def m_mostOf_164 (N : Nat) (rec31 : Int32 → Int32 → MS → Option (Int32 × MS)) (x1 : Int32) (x2 : Int32) (σ : MS) : Option (Int32 × MS) :=
  nx (x2 + (1 : Int32)) fun x2_1 =>
  rec31 x1 x2_1 σ
def m_mostOf_152 (N : Nat) (rec31 : Int32 → Int32 → MS → Option (Int32 × MS)) (rec61 : Int32 → Int32 → Int32 → MS → Option (Int32 × MS)) (rec68 : Int32 → Int32 → Int32 → Int32 → MS → Option (Int32 × MS)) (x1 : Int32) (x2 : Int32) (x3 : Int32) (x4 : Int32) (σ : MS) : Option (Int32 × MS) :=
  nx (x4 + (1 : Int32)) fun x4_1 =>
  rec68 x1 x2 x3 x4_1 σ
def m_mostOf_68b (N : Nat) (rec31 : Int32 → Int32 → MS → Option (Int32 × MS)) (rec61 : Int32 → Int32 → Int32 → MS → Option (Int32 × MS)) (rec68 : Int32 → Int32 → Int32 → Int32 → MS → Option (Int32 × MS)) (x1 : Int32) (x2 : Int32) (x3 : Int32) (x4 : Int32) (σ : MS) : Option (Int32 × MS) :=
  if (gF σ 0) ≤ x4 then (
    nx (x3 + (-1 : Int32)) fun x3_1 =>
    rec61 x1 x2 x3_1 σ)
  else (
    bnd (m_has N x3 x4 σ) fun v_3 s_2 =>
    if v_3 = 0 then (
      m_mostOf_152 N rec31 rec61 rec68 x1 x2 x3 x4 s_2)
    else (
      if inb (x3 &&& (((1 : Int32) <<< (x4 &&& 31)) ^^^ (-1 : Int32))) 64 = true then (
      if 0 ≤ (gR s_2 42 (x3 &&& (((1 : Int32) <<< (x4 &&& 31)) ^^^ (-1 : Int32))).toNatClampNeg) then (
        if inb (x3 &&& (((1 : Int32) <<< (x4 &&& 31)) ^^^ (-1 : Int32))) 64 = true then (
        if inb (((6 : Int32) * x2) + x4) 36 = true then (
        nx (((gR s_2 42 (x3 &&& (((1 : Int32) <<< (x4 &&& 31)) ^^^ (-1 : Int32))).toNatClampNeg) + (gR s_2 39 (((6 : Int32) * x2) + x4).toNatClampNeg)) : Int32) fun x5_4 =>
        if inb x3 64 = true then (
        bnd (m_most N (gR s_2 42 x3.toNatClampNeg) x5_4 s_2) fun v_6 s_5 =>
        if inb x3 64 = true then nx (sR s_5 42 x3.toNatClampNeg v_6) (fun s_7 =>
        m_mostOf_152 N rec31 rec61 rec68 x1 x2 x3 x4 s_7) else none) else none) else none) else none)
      else (
        m_mostOf_152 N rec31 rec61 rec68 x1 x2 x3 x4 s_2)) else none))
def m_mostOf_68 (N : Nat) (rec31 : Int32 → Int32 → MS → Option (Int32 × MS)) (rec61 : Int32 → Int32 → Int32 → MS → Option (Int32 × MS)) : Nat → Int32 → Int32 → Int32 → Int32 → MS → Option (Int32 × MS)
  | 0 => fun _ _ _ _ _ => none
  | k + 1 => fun x1 x2 x3 x4 σ => m_mostOf_68b N rec31 rec61 (m_mostOf_68 N rec31 rec61 k) x1 x2 x3 x4 σ
def m_mostOf_61b (N : Nat) (rec31 : Int32 → Int32 → MS → Option (Int32 × MS)) (rec61 : Int32 → Int32 → Int32 → MS → Option (Int32 × MS)) (x1 : Int32) (x2 : Int32) (x3 : Int32) (σ : MS) : Option (Int32 × MS) :=
  if x3 < 0 then (
    m_mostOf_164 N rec31 x1 x2 σ)
  else (
    nx ((0 : Int32) : Int32) fun x4_1 =>
    m_mostOf_68 N rec31 rec61 N x1 x2 x3 x4_1 σ)
def m_mostOf_61 (N : Nat) (rec31 : Int32 → Int32 → MS → Option (Int32 × MS)) : Nat → Int32 → Int32 → Int32 → MS → Option (Int32 × MS)
  | 0 => fun _ _ _ _ => none
  | k + 1 => fun x1 x2 x3 σ => m_mostOf_61b N rec31 (m_mostOf_61 N rec31 k) x1 x2 x3 σ
def m_mostOf_31b (N : Nat)  (rec31 : Int32 → Int32 → MS → Option (Int32 × MS)) (x1 : Int32) (x2 : Int32) (σ : MS) : Option (Int32 × MS) :=
  if (gF σ 1) ≤ x2 then (
    nx ((0 : Int32) : Int32) fun x2_1 =>
    nx ((0 : Int32) : Int32) fun x3_2 =>
    m_mostOf_174 N N x2_1 x3_2 σ)
  else (
    if inb x2 6 = true then (
    if (gR σ 10 x2.toNatClampNeg) = x1 then (
      nx ((((1 : Int32) <<< ((gF σ 0) &&& 31)) - (1 : Int32)) : Int32) fun x3_3 =>
      m_mostOf_61 N rec31 N x1 x2 x3_3 σ)
    else (
      m_mostOf_164 N rec31 x1 x2 σ)) else none)
def m_mostOf_31 (N : Nat)  : Nat → Int32 → Int32 → MS → Option (Int32 × MS)
  | 0 => fun _ _ _ => none
  | k + 1 => fun x1 x2 σ => m_mostOf_31b N  (m_mostOf_31 N  k) x1 x2 σ
def m_mostOf_22 (N : Nat) (rec2 : Int32 → Int32 → MS → Option (Int32 × MS)) (x1 : Int32) (x2 : Int32) (z0 : Int32) (z1 : Int32) (σ : MS) : Option (Int32 × MS) :=
  if inb z1 64 = true then nx (sR σ 42 z1.toNatClampNeg z0) (fun s_1 =>
  nx (x2 + (1 : Int32)) fun x2_2 =>
  rec2 x1 x2_2 s_1) else none
def m_mostOf_2b (N : Nat)  (rec2 : Int32 → Int32 → MS → Option (Int32 × MS)) (x1 : Int32) (x2 : Int32) (σ : MS) : Option (Int32 × MS) :=
  if (64 : Int32) ≤ x2 then (
    nx ((0 : Int32) : Int32) fun x2_1 =>
    m_mostOf_31 N N x1 x2_1 σ)
  else (
    if x2 = 0 then (
      m_mostOf_22 N rec2 x1 x2 (0 : Int32) x2 σ)
    else (
      m_mostOf_22 N rec2 x1 x2 (-1 : Int32) x2 σ))
def m_mostOf_2 (N : Nat)  : Nat → Int32 → Int32 → MS → Option (Int32 × MS)
  | 0 => fun _ _ _ => none
  | k + 1 => fun x1 x2 σ => m_mostOf_2b N  (m_mostOf_2 N  k) x1 x2 σ
def m_mostOf (N : Nat)  (x1 : Int32) (σ : MS) : Option (Int32 × MS) :=
  nx ((0 : Int32) : Int32) fun x2_1 =>
  m_mostOf_2 N N x1 x2_1 σ
def m_can_34 (N : Nat) (rec8 : Int32 → Int32 → MS → Option (Int32 × MS)) (x2 : Int32) (z0 : Int32) (z1 : Int32) (σ : MS) : Option (Int32 × MS) :=
  nx ((z1 ||| z0) : Int32) fun x1_1 =>
  nx (x2 + (1 : Int32)) fun x2_2 =>
  rec8 x1_1 x2_2 σ
def m_can_8b (N : Nat)  (rec8 : Int32 → Int32 → MS → Option (Int32 × MS)) (x1 : Int32) (x2 : Int32) (σ : MS) : Option (Int32 × MS) :=
  if (5 : Int32) ≤ x2 then (
    some (x1, σ))
  else (
    bnd (m_mostOf N x2 σ) fun v_2 s_1 =>
    bnd (m_work N x2 s_1) fun v_4 s_3 =>
    if v_2 < v_4 then (
      m_can_34 N rec8 x2 (0 : Int32) x1 s_3)
    else (
      m_can_34 N rec8 x2 ((1 : Int32) <<< (x2 &&& 31)) x1 s_3))
def m_can_8 (N : Nat)  : Nat → Int32 → Int32 → MS → Option (Int32 × MS)
  | 0 => fun _ _ _ => none
  | k + 1 => fun x1 x2 σ => m_can_8b N  (m_can_8 N  k) x1 x2 σ
def m_can (N : Nat)   (σ : MS) : Option (Int32 × MS) :=
  bnv (m_layDeeds N  σ) fun s_1 =>
  nx ((0 : Int32) : Int32) fun x1_2 =>
  nx ((0 : Int32) : Int32) fun x2_3 =>
  m_can_8 N N x1_2 x2_3 s_1
def m_isClash_61 (N : Nat) (rec2 : Int32 → MS → Option (Int32 × MS)) (rec14 : Int32 → Int32 → MS → Option (Int32 × MS)) (x1 : Int32) (x2 : Int32) (σ : MS) : Option (Int32 × MS) :=
  nx (x2 + (1 : Int32)) fun x2_1 =>
  rec14 x1 x2_1 σ
def m_isClash_14b (N : Nat) (rec2 : Int32 → MS → Option (Int32 × MS)) (rec14 : Int32 → Int32 → MS → Option (Int32 × MS)) (x1 : Int32) (x2 : Int32) (σ : MS) : Option (Int32 × MS) :=
  if (gF σ 0) ≤ x2 then (
    nx (x1 + (1 : Int32)) fun x1_1 =>
    rec2 x1_1 σ)
  else (
    if inb x1 6 = true then (
    if (gR σ 4 x1.toNatClampNeg) < 0 then (
      m_isClash_61 N rec2 rec14 x1 x2 σ)
    else (
      if inb x1 6 = true then (
      if inb x2 6 = true then (
      if (gR σ 4 x1.toNatClampNeg) = (gR σ 4 x2.toNatClampNeg) then (
        if inb x1 6 = true then (
        bnd (m_headOf N (gR σ 4 x1.toNatClampNeg) σ) fun v_3 s_2 =>
        if v_3 < 0 then (
          m_isClash_61 N rec2 rec14 x1 x2 s_2)
        else (
          some ((1 : Int32), s_2))) else none)
      else (
        m_isClash_61 N rec2 rec14 x1 x2 σ)) else none) else none)) else none)
def m_isClash_14 (N : Nat) (rec2 : Int32 → MS → Option (Int32 × MS)) : Nat → Int32 → Int32 → MS → Option (Int32 × MS)
  | 0 => fun _ _ _ => none
  | k + 1 => fun x1 x2 σ => m_isClash_14b N rec2 (m_isClash_14 N rec2 k) x1 x2 σ
def m_isClash_2b (N : Nat)  (rec2 : Int32 → MS → Option (Int32 × MS)) (x1 : Int32) (σ : MS) : Option (Int32 × MS) :=
  if (gF σ 0) ≤ x1 then (
    some ((0 : Int32), σ))
  else (
    nx ((x1 + (1 : Int32)) : Int32) fun x2_1 =>
    m_isClash_14 N rec2 N x1 x2_1 σ)
def m_isClash_2 (N : Nat)  : Nat → Int32 → MS → Option (Int32 × MS)
  | 0 => fun _ _ => none
  | k + 1 => fun x1 σ => m_isClash_2b N  (m_isClash_2 N  k) x1 σ
def m_isClash (N : Nat)   (σ : MS) : Option (Int32 × MS) :=
  nx ((0 : Int32) : Int32) fun x1_1 =>
  m_isClash_2 N N x1_1 σ
def m_dueFor_13b (N : Nat)  (rec13 : Int32 → Int32 → MS → Option (Int32 × MS)) (x1 : Int32) (x2 : Int32) (σ : MS) : Option (Int32 × MS) :=
  if (gF σ 0) ≤ x2 then (
    some ((-1 : Int32), σ))
  else (
    if inb x2 6 = true then (
    if inb x1 6 = true then (
    if (gR σ 4 x2.toNatClampNeg) = (gR σ 5 x1.toNatClampNeg) then (
      some (x2, σ))
    else (
      nx (x2 + (1 : Int32)) fun x2_1 =>
      rec13 x1 x2_1 σ)) else none) else none)
def m_dueFor_13 (N : Nat)  : Nat → Int32 → Int32 → MS → Option (Int32 × MS)
  | 0 => fun _ _ _ => none
  | k + 1 => fun x1 x2 σ => m_dueFor_13b N  (m_dueFor_13 N  k) x1 x2 σ
def m_dueFor (N : Nat)  (x1 : Int32) (σ : MS) : Option (Int32 × MS) :=
  if inb x1 6 = true then (
  if 0 ≤ (gR σ 5 x1.toNatClampNeg) then (
    nx ((0 : Int32) : Int32) fun x2_1 =>
    m_dueFor_13 N N x1 x2_1 σ)
  else (
    some ((-1 : Int32), σ))) else none
def m_isRing_13b (N : Nat)  (rec13 : Int32 → Int32 → MS → Option (Int32 × MS)) (x1 : Int32) (x2 : Int32) (σ : MS) : Option (Int32 × MS) :=
  if x2 ≤ x1 then (
    if x2 = x1 then (
      some ((1 : Int32), σ))
    else (
      some ((0 : Int32), σ)))
  else (
    bnd (m_dueFor N x2 σ) fun v_2 s_1 =>
    nx (v_2 : Int32) fun x2_3 =>
    rec13 x1 x2_3 s_1)
def m_isRing_13 (N : Nat)  : Nat → Int32 → Int32 → MS → Option (Int32 × MS)
  | 0 => fun _ _ _ => none
  | k + 1 => fun x1 x2 σ => m_isRing_13b N  (m_isRing_13 N  k) x1 x2 σ
def m_isRing (N : Nat)  (x1 : Int32) (σ : MS) : Option (Int32 × MS) :=
  bnd (m_dueFor N x1 σ) fun v_2 s_1 =>
  nx (v_2 : Int32) fun x2_3 =>
  if x2_3 = x1 then (
    some ((0 : Int32), s_1))
  else (
    m_isRing_13 N N x1 x2_3 s_1)
def m_back_61 (N : Nat) (rec14 : Int32 → Int32 → MS → Option (Int32 × MS)) (x2 : Int32) (z0 : Int32) (z1 : Int32) (σ : MS) : Option (Int32 × MS) :=
  nx ((z1 - z0) : Int32) fun x1_1 =>
  nx (x2 + (1 : Int32)) fun x2_2 =>
  rec14 x1_1 x2_2 σ
def m_back_45 (N : Nat) (rec14 : Int32 → Int32 → MS → Option (Int32 × MS)) (x2 : Int32) (z0 : Int32) (z1 : Int32) (σ : MS) : Option (Int32 × MS) :=
  nx ((z1 + z0) : Int32) fun x1_1 =>
  bnd (m_isRing N x2 σ) fun v_3 s_2 =>
  if v_3 = 0 then (
    m_back_61 N rec14 x2 (0 : Int32) x1_1 s_2)
  else (
    m_back_61 N rec14 x2 (1 : Int32) x1_1 s_2)
def m_back_44 (N : Nat) (rec14 : Int32 → Int32 → MS → Option (Int32 × MS)) (x2 : Int32) (z0 : Int32) (σ : MS) : Option (Int32 × MS) :=
  m_back_45 N rec14 x2 (0 : Int32) z0 σ
def m_back_14b (N : Nat)  (rec14 : Int32 → Int32 → MS → Option (Int32 × MS)) (x1 : Int32) (x2 : Int32) (σ : MS) : Option (Int32 × MS) :=
  if (gF σ 0) ≤ x2 then (
    some (x1, σ))
  else (
    bnd (m_dueFor N x2 σ) fun v_2 s_1 =>
    if v_2 < 0 then (
      m_back_44 N rec14 x2 x1 s_1)
    else (
      bnd (m_dueFor N x2 s_1) fun v_4 s_3 =>
      if v_4 = x2 then (
        m_back_44 N rec14 x2 x1 s_3)
      else (
        m_back_45 N rec14 x2 (1 : Int32) x1 s_3)))
def m_back_14 (N : Nat)  : Nat → Int32 → Int32 → MS → Option (Int32 × MS)
  | 0 => fun _ _ _ => none
  | k + 1 => fun x1 x2 σ => m_back_14b N  (m_back_14 N  k) x1 x2 σ
def m_back (N : Nat)   (σ : MS) : Option (Int32 × MS) :=
  bnd (m_isClash N  σ) fun v_2 s_1 =>
  if v_2 = 0 then (
    nx ((0 : Int32) : Int32) fun x1_3 =>
    nx ((0 : Int32) : Int32) fun x2_4 =>
    m_back_14 N N x1_3 x2_4 s_1)
  else (
    some ((-5 : Int32), s_1))
def m_gustedBy (N : Nat)  (x1 : Int32) (σ : MS) : Option (Int32 × MS) :=
  bnv (m_save N  σ) fun s_1 =>
  bnd (m_goGust N x1 s_1) fun v_3 s_2 =>
  nx (v_3 : Int32) fun x2_4 =>
  bnd (m_todayOf N (-1 : Int32) s_2) fun v_6 s_5 =>
  nx (v_6 : Int32) fun x3_7 =>
  bnv (m_putBack N  s_5) fun s_8 =>
  some (x3_7, s_8)
def m_gusted (N : Nat)  (x1 : Int32) (σ : MS) : Option (Int32 × MS) :=
  bnd (m_in N x1 (0 : Int32) (5 : Int32) σ) fun v_2 s_1 =>
  if v_2 = 0 then (
    some ((-2 : Int32), s_1))
  else (
    bnd (m_gustedBy N x1 s_1) fun v_4 s_3 =>
    some (v_4, s_3))
def m_lucky_36 (N : Nat) (rec7 : Int32 → Int32 → Int32 → MS → Option (Int32 × MS)) (x1 : Int32) (x2 : Int32) (x3 : Int32) (σ : MS) : Option (Int32 × MS) :=
  nx (x3 + (1 : Int32)) fun x3_1 =>
  rec7 x1 x2 x3_1 σ
def m_lucky_7b (N : Nat)  (rec7 : Int32 → Int32 → Int32 → MS → Option (Int32 × MS)) (x1 : Int32) (x2 : Int32) (x3 : Int32) (σ : MS) : Option (Int32 × MS) :=
  if (gF σ 0) ≤ x3 then (
    some (x1, σ))
  else (
    bnd (m_gustedBy N x3 σ) fun v_2 s_1 =>
    nx (v_2 : Int32) fun x4_3 =>
    if x2 < x4_3 then (
      nx (x3 : Int32) fun x1_4 =>
      nx (x4_3 : Int32) fun x2_5 =>
      m_lucky_36 N rec7 x1_4 x2_5 x3 s_1)
    else (
      m_lucky_36 N rec7 x1 x2 x3 s_1))
def m_lucky_7 (N : Nat)  : Nat → Int32 → Int32 → Int32 → MS → Option (Int32 × MS)
  | 0 => fun _ _ _ _ => none
  | k + 1 => fun x1 x2 x3 σ => m_lucky_7b N  (m_lucky_7 N  k) x1 x2 x3 σ
def m_lucky (N : Nat)   (σ : MS) : Option (Int32 × MS) :=
  nx ((-5 : Int32) : Int32) fun x1_1 =>
  nx ((-1 : Int32) : Int32) fun x2_2 =>
  nx ((0 : Int32) : Int32) fun x3_3 =>
  m_lucky_7 N N x1_1 x2_2 x3_3 σ
def m_swap_74 (N : Nat) (rec11 : Int32 → Int32 → Int32 → MS → Option (Int32 × MS)) (rec24 : Int32 → Int32 → Int32 → Int32 → MS → Option (Int32 × MS)) (x1 : Int32) (x2 : Int32) (x3 : Int32) (x4 : Int32) (σ : MS) : Option (Int32 × MS) :=
  nx (x4 + (1 : Int32)) fun x4_1 =>
  rec24 x1 x2 x3 x4_1 σ
def m_swap_24b (N : Nat) (rec11 : Int32 → Int32 → Int32 → MS → Option (Int32 × MS)) (rec24 : Int32 → Int32 → Int32 → Int32 → MS → Option (Int32 × MS)) (x1 : Int32) (x2 : Int32) (x3 : Int32) (x4 : Int32) (σ : MS) : Option (Int32 × MS) :=
  if (gF σ 0) ≤ x4 then (
    nx (x3 + (1 : Int32)) fun x3_1 =>
    rec11 x1 x2 x3_1 σ)
  else (
    bnv (m_swaps N x3 x4 σ) fun s_2 =>
    bnd (m_todayOf N (-1 : Int32) s_2) fun v_4 s_3 =>
    nx (v_4 : Int32) fun x5_5 =>
    bnv (m_swaps N x3 x4 s_3) fun s_6 =>
    if x1 < x5_5 then (
      nx ((((10 : Int32) * x3) + x4) : Int32) fun x2_7 =>
      nx (x5_5 : Int32) fun x1_8 =>
      m_swap_74 N rec11 rec24 x1_8 x2_7 x3 x4 s_6)
    else (
      m_swap_74 N rec11 rec24 x1 x2 x3 x4 s_6))
def m_swap_24 (N : Nat) (rec11 : Int32 → Int32 → Int32 → MS → Option (Int32 × MS)) : Nat → Int32 → Int32 → Int32 → Int32 → MS → Option (Int32 × MS)
  | 0 => fun _ _ _ _ _ => none
  | k + 1 => fun x1 x2 x3 x4 σ => m_swap_24b N rec11 (m_swap_24 N rec11 k) x1 x2 x3 x4 σ
def m_swap_11b (N : Nat)  (rec11 : Int32 → Int32 → Int32 → MS → Option (Int32 × MS)) (x1 : Int32) (x2 : Int32) (x3 : Int32) (σ : MS) : Option (Int32 × MS) :=
  if (gF σ 0) ≤ x3 then (
    some (x2, σ))
  else (
    nx ((x3 + (1 : Int32)) : Int32) fun x4_1 =>
    m_swap_24 N rec11 N x1 x2 x3 x4_1 σ)
def m_swap_11 (N : Nat)  : Nat → Int32 → Int32 → Int32 → MS → Option (Int32 × MS)
  | 0 => fun _ _ _ _ => none
  | k + 1 => fun x1 x2 x3 σ => m_swap_11b N  (m_swap_11 N  k) x1 x2 x3 σ
def m_swap (N : Nat)   (σ : MS) : Option (Int32 × MS) :=
  bnd (m_todayOf N (-1 : Int32) σ) fun v_2 s_1 =>
  nx (v_2 : Int32) fun x1_3 =>
  nx ((-5 : Int32) : Int32) fun x2_4 =>
  nx ((0 : Int32) : Int32) fun x3_5 =>
  m_swap_11 N N x1_3 x2_4 x3_5 s_1
def m_quarrel (N : Nat)  (x1 : Int32) (x2 : Int32) (x3 : Int32) (σ : MS) : Option (Int32 × MS) :=
  bnd (m_isHat N x1 σ) fun v_2 s_1 =>
  if v_2 = 0 then (
    some ((-10001 : Int32), s_1))
  else (
    bnd (m_isHat N x2 s_1) fun v_4 s_3 =>
    if v_4 = 0 then (
      some ((-10001 : Int32), s_3))
    else (
      bnd (m_isHead N x3 s_3) fun v_6 s_5 =>
      if v_6 = 0 then (
        some ((-10001 : Int32), s_5))
      else (
        if x1 = x2 then (
          some ((-10002 : Int32), s_5))
        else (
          bnd (m_deed N x1 x3 s_5) fun v_8 s_7 =>
          bnd (m_deed N x2 x3 s_7) fun v_10 s_9 =>
          some ((v_8 - v_10), s_9)))))
def m_how_72 (N : Nat) (rec19 : Int32 → Int32 → Int32 → Int32 → MS → Option (Int32 × MS)) (x1 : Int32) (x2 : Int32) (x3 : Int32) (x4 : Int32) (σ : MS) : Option (Int32 × MS) :=
  nx (x4 + (1 : Int32)) fun x4_1 =>
  rec19 x1 x2 x3 x4_1 σ
def m_how_70 (N : Nat) (rec19 : Int32 → Int32 → Int32 → Int32 → MS → Option (Int32 × MS)) (x1 : Int32) (x3 : Int32) (x4 : Int32) (z0 : Int32) (z1 : Int32) (σ : MS) : Option (Int32 × MS) :=
  nx ((z1 + z0) : Int32) fun x2_1 =>
  m_how_72 N rec19 x1 x2_1 x3 x4 σ
def m_how_19b (N : Nat)  (rec19 : Int32 → Int32 → Int32 → Int32 → MS → Option (Int32 × MS)) (x1 : Int32) (x2 : Int32) (x3 : Int32) (x4 : Int32) (σ : MS) : Option (Int32 × MS) :=
  if (gF σ 0) ≤ x4 then (
    if x1 = 0 then (
      some (x2, σ))
    else (
      some (x3, σ)))
  else (
    if inb x4 6 = true then (
    if 0 ≤ (gR σ 5 x4.toNatClampNeg) then (
      if inb x4 6 = true then (
      bnd (m_apart N (gR σ 5 x4.toNatClampNeg) x4 σ) fun v_2 s_1 =>
      if v_2 ≤ 0 then (
        m_how_70 N rec19 x1 x3 x4 (0 : Int32) x2 s_1)
      else (
        m_how_70 N rec19 x1 x3 x4 (1 : Int32) x2 s_1)) else none)
    else (
      nx ((x3 ||| ((1 : Int32) <<< (x4 &&& 31))) : Int32) fun x3_3 =>
      m_how_72 N rec19 x1 x2 x3_3 x4 σ)) else none)
def m_how_19 (N : Nat)  : Nat → Int32 → Int32 → Int32 → Int32 → MS → Option (Int32 × MS)
  | 0 => fun _ _ _ _ _ => none
  | k + 1 => fun x1 x2 x3 x4 σ => m_how_19b N  (m_how_19 N  k) x1 x2 x3 x4 σ
def m_how (N : Nat)  (x1 : Int32) (σ : MS) : Option (Int32 × MS) :=
  bnd (m_in N x1 (0 : Int32) (1 : Int32) σ) fun v_2 s_1 =>
  if v_2 = 0 then (
    some ((-1 : Int32), s_1))
  else (
    nx ((0 : Int32) : Int32) fun x2_3 =>
    nx ((0 : Int32) : Int32) fun x3_4 =>
    nx ((0 : Int32) : Int32) fun x4_5 =>
    m_how_19 N N x1 x2_3 x3_4 x4_5 s_1)
def m_see (N : Nat)  (x1 : Int32) (x2 : Int32) (σ : MS) : Option (Int32 × MS) :=
  if x1 = (-1 : Int32) then (
    nx (sF σ 43 (0 : Int32)) fun s_8 =>
    some ((0 : Int32), s_8))
  else (
    bnd (m_isHat N x1 σ) fun v_2 s_1 =>
    if v_2 = 0 then (
      some ((-1 : Int32), s_1))
    else (
      bnd (m_in N x2 (0 : Int32) (999 : Int32) s_1) fun v_4 s_3 =>
      if v_4 = 0 then (
        some ((-2 : Int32), s_3))
      else (
        if (gF s_3 43) = (6 : Int32) then (
          some ((-4 : Int32), s_3))
        else (
          if inb (gF s_3 43) 6 = true then nx (sR s_3 44 (gF s_3 43).toNatClampNeg x1) (fun s_5 =>
          if inb (gF s_5 43) 6 = true then nx (sR s_5 45 (gF s_5 43).toNatClampNeg x2) (fun s_6 =>
          nx (sF s_6 43 ((gF s_6 43) + (1 : Int32))) fun s_7 =>
          some ((gF s_7 43), s_7)) else none) else none))))
def m_woreOn_89 (N : Nat) (rec4 : Int32 → Int32 → Int32 → MS → Option (Int32 × MS)) (x1 : Int32) (x3 : Int32) (z0 : Int32) (z1 : Int32) (σ : MS) : Option (Int32 × MS) :=
  nx ((z1 ||| z0) : Int32) fun x2_1 =>
  nx (x3 + (1 : Int32)) fun x3_2 =>
  rec4 x1 x2_1 x3_2 σ
def m_woreOn_68 (N : Nat) (rec4 : Int32 → Int32 → Int32 → MS → Option (Int32 × MS)) (rec26 : Int32 → Int32 → Int32 → Int32 → Int32 → Int32 → MS → Option (Int32 × MS)) (x1 : Int32) (x2 : Int32) (x3 : Int32) (x4 : Int32) (x6 : Int32) (z0 : Int32) (σ : MS) : Option (Int32 × MS) :=
  nx (z0 : Int32) fun x5_1 =>
  nx (x6 + (1 : Int32)) fun x6_2 =>
  rec26 x1 x2 x3 x4 x5_1 x6_2 σ
def m_woreOn_67 (N : Nat) (rec4 : Int32 → Int32 → Int32 → MS → Option (Int32 × MS)) (rec26 : Int32 → Int32 → Int32 → Int32 → Int32 → Int32 → MS → Option (Int32 × MS)) (x1 : Int32) (x2 : Int32) (x3 : Int32) (x4 : Int32) (x6 : Int32) (σ : MS) : Option (Int32 × MS) :=
  m_woreOn_68 N rec4 rec26 x1 x2 x3 x4 x6 (0 : Int32) σ
def m_woreOn_63 (N : Nat) (rec4 : Int32 → Int32 → Int32 → MS → Option (Int32 × MS)) (rec26 : Int32 → Int32 → Int32 → Int32 → Int32 → Int32 → MS → Option (Int32 × MS)) (x1 : Int32) (x2 : Int32) (x3 : Int32) (x4 : Int32) (x6 : Int32) (σ : MS) : Option (Int32 × MS) :=
  m_woreOn_68 N rec4 rec26 x1 x2 x3 x4 x6 (1 : Int32) σ
def m_woreOn_26b (N : Nat) (rec4 : Int32 → Int32 → Int32 → MS → Option (Int32 × MS)) (rec26 : Int32 → Int32 → Int32 → Int32 → Int32 → Int32 → MS → Option (Int32 × MS)) (x1 : Int32) (x2 : Int32) (x3 : Int32) (x4 : Int32) (x5 : Int32) (x6 : Int32) (σ : MS) : Option (Int32 × MS) :=
  if (gF σ 43) ≤ x6 then (
    if x5 = 0 then (
      m_woreOn_89 N rec4 x1 x3 (0 : Int32) x2 σ)
    else (
      m_woreOn_89 N rec4 x1 x3 ((1 : Int32) <<< (x3 &&& 31)) x2 σ))
  else (
    if x5 = 0 then (
      m_woreOn_67 N rec4 rec26 x1 x2 x3 x4 x6 σ)
    else (
      if inb x6 6 = true then (
      if (gR σ 44 x6.toNatClampNeg) = x1 then (
        if inb x6 6 = true then (
        if (gR σ 45 x6.toNatClampNeg) = x4 then (
          m_woreOn_63 N rec4 rec26 x1 x2 x3 x4 x6 σ)
        else (
          m_woreOn_67 N rec4 rec26 x1 x2 x3 x4 x6 σ)) else none)
      else (
        m_woreOn_63 N rec4 rec26 x1 x2 x3 x4 x6 σ)) else none))
def m_woreOn_26 (N : Nat) (rec4 : Int32 → Int32 → Int32 → MS → Option (Int32 × MS)) : Nat → Int32 → Int32 → Int32 → Int32 → Int32 → Int32 → MS → Option (Int32 × MS)
  | 0 => fun _ _ _ _ _ _ _ => none
  | k + 1 => fun x1 x2 x3 x4 x5 x6 σ => m_woreOn_26b N rec4 (m_woreOn_26 N rec4 k) x1 x2 x3 x4 x5 x6 σ
def m_woreOn_4b (N : Nat)  (rec4 : Int32 → Int32 → Int32 → MS → Option (Int32 × MS)) (x1 : Int32) (x2 : Int32) (x3 : Int32) (σ : MS) : Option (Int32 × MS) :=
  if (gF σ 0) ≤ x3 then (
    some (x2, σ))
  else (
    bnd (m_deed N x1 x3 σ) fun v_2 s_1 =>
    nx (v_2 : Int32) fun x4_3 =>
    nx ((1 : Int32) : Int32) fun x5_4 =>
    nx ((0 : Int32) : Int32) fun x6_5 =>
    m_woreOn_26 N rec4 N x1 x2 x3 x4_3 x5_4 x6_5 s_1)
def m_woreOn_4 (N : Nat)  : Nat → Int32 → Int32 → Int32 → MS → Option (Int32 × MS)
  | 0 => fun _ _ _ _ => none
  | k + 1 => fun x1 x2 x3 σ => m_woreOn_4b N  (m_woreOn_4 N  k) x1 x2 x3 σ
def m_woreOn (N : Nat)  (x1 : Int32) (σ : MS) : Option (Int32 × MS) :=
  nx ((0 : Int32) : Int32) fun x2_1 =>
  nx ((0 : Int32) : Int32) fun x3_2 =>
  m_woreOn_4 N N x1 x2_1 x3_2 σ
def m_wore (N : Nat)  (x1 : Int32) (σ : MS) : Option (Int32 × MS) :=
  bnd (m_isHat N x1 σ) fun v_2 s_1 =>
  if v_2 = 0 then (
    some ((-1 : Int32), s_1))
  else (
    bnd (m_woreOn N x1 s_1) fun v_4 s_3 =>
    some (v_4, s_3))
def m_who_189b (N : Nat)  (rec189 : Int32 → Int32 → MS → Option (Int32 × MS)) (x1 : Int32) (x2 : Int32) (σ : MS) : Option (Int32 × MS) :=
  if (64 : Int32) ≤ x2 then (
    some (x1, σ))
  else (
    if inb x2 64 = true then (
    nx ((x1 + (gR σ 46 x2.toNatClampNeg)) : Int32) fun x1_1 =>
    nx (x2 + (1 : Int32)) fun x2_2 =>
    rec189 x1_1 x2_2 σ) else none)
def m_who_189 (N : Nat)  : Nat → Int32 → Int32 → MS → Option (Int32 × MS)
  | 0 => fun _ _ _ => none
  | k + 1 => fun x1 x2 σ => m_who_189b N  (m_who_189 N  k) x1 x2 σ
def m_who_179 (N : Nat) (rec31 : Int32 → MS → Option (Int32 × MS)) (x1 : Int32) (σ : MS) : Option (Int32 × MS) :=
  nx (x1 + (1 : Int32)) fun x1_1 =>
  rec31 x1_1 σ
def m_who_155 (N : Nat) (rec31 : Int32 → MS → Option (Int32 × MS)) (rec94 : Int32 → Int32 → Int32 → MS → Option (Int32 × MS)) (rec105 : Int32 → Int32 → Int32 → Int32 → Int32 → MS → Option (Int32 × MS)) (x1 : Int32) (x3 : Int32) (x4 : Int32) (x6 : Int32) (z0 : Int32) (z1 : Int32) (σ : MS) : Option (Int32 × MS) :=
  nx ((z1 + z0) : Int32) fun x5_1 =>
  nx (x6 + (1 : Int32)) fun x6_2 =>
  rec105 x1 x3 x4 x5_1 x6_2 σ
def m_who_154 (N : Nat) (rec31 : Int32 → MS → Option (Int32 × MS)) (rec94 : Int32 → Int32 → Int32 → MS → Option (Int32 × MS)) (rec105 : Int32 → Int32 → Int32 → Int32 → Int32 → MS → Option (Int32 × MS)) (x1 : Int32) (x3 : Int32) (x4 : Int32) (x6 : Int32) (z0 : Int32) (σ : MS) : Option (Int32 × MS) :=
  m_who_155 N rec31 rec94 rec105 x1 x3 x4 x6 (0 : Int32) z0 σ
def m_who_105b (N : Nat) (rec31 : Int32 → MS → Option (Int32 × MS)) (rec94 : Int32 → Int32 → Int32 → MS → Option (Int32 × MS)) (rec105 : Int32 → Int32 → Int32 → Int32 → Int32 → MS → Option (Int32 × MS)) (x1 : Int32) (x3 : Int32) (x4 : Int32) (x5 : Int32) (x6 : Int32) (σ : MS) : Option (Int32 × MS) :=
  if (gF σ 0) ≤ x6 then (
    if inb x4 64 = true then nx (sR σ 46 x4.toNatClampNeg x5) (fun s_1 =>
    nx (x4 + (-1 : Int32)) fun x4_2 =>
    rec94 x1 x3 x4_2 s_1) else none)
  else (
    bnd (m_has N x4 x6 σ) fun v_4 s_3 =>
    if v_4 = 0 then (
      m_who_154 N rec31 rec94 rec105 x1 x3 x4 x6 x5 s_3)
    else (
      bnd (m_has N x3 x6 s_3) fun v_6 s_5 =>
      if v_6 = 0 then (
        m_who_154 N rec31 rec94 rec105 x1 x3 x4 x6 x5 s_5)
      else (
        if inb (x4 &&& (((1 : Int32) <<< (x6 &&& 31)) ^^^ (-1 : Int32))) 64 = true then (
        m_who_155 N rec31 rec94 rec105 x1 x3 x4 x6 (gR s_5 46 (x4 &&& (((1 : Int32) <<< (x6 &&& 31)) ^^^ (-1 : Int32))).toNatClampNeg) x5 s_5) else none)))
def m_who_105 (N : Nat) (rec31 : Int32 → MS → Option (Int32 × MS)) (rec94 : Int32 → Int32 → Int32 → MS → Option (Int32 × MS)) : Nat → Int32 → Int32 → Int32 → Int32 → Int32 → MS → Option (Int32 × MS)
  | 0 => fun _ _ _ _ _ _ => none
  | k + 1 => fun x1 x3 x4 x5 x6 σ => m_who_105b N rec31 rec94 (m_who_105 N rec31 rec94 k) x1 x3 x4 x5 x6 σ
def m_who_94b (N : Nat) (rec31 : Int32 → MS → Option (Int32 × MS)) (rec94 : Int32 → Int32 → Int32 → MS → Option (Int32 × MS)) (x1 : Int32) (x3 : Int32) (x4 : Int32) (σ : MS) : Option (Int32 × MS) :=
  if x4 < 0 then (
    m_who_179 N rec31 x1 σ)
  else (
    nx ((0 : Int32) : Int32) fun x5_1 =>
    nx ((0 : Int32) : Int32) fun x6_2 =>
    m_who_105 N rec31 rec94 N x1 x3 x4 x5_1 x6_2 σ)
def m_who_94 (N : Nat) (rec31 : Int32 → MS → Option (Int32 × MS)) : Nat → Int32 → Int32 → Int32 → MS → Option (Int32 × MS)
  | 0 => fun _ _ _ _ => none
  | k + 1 => fun x1 x3 x4 σ => m_who_94b N rec31 (m_who_94 N rec31 k) x1 x3 x4 σ
def m_who_70 (N : Nat) (rec31 : Int32 → MS → Option (Int32 × MS)) (rec43 : Int32 → Int32 → Int32 → MS → Option (Int32 × MS)) (x1 : Int32) (x3 : Int32) (z0 : Int32) (σ : MS) : Option (Int32 × MS) :=
  nx (z0 : Int32) fun x2_1 =>
  nx (x3 + (1 : Int32)) fun x3_2 =>
  rec43 x1 x2_1 x3_2 σ
def m_who_65 (N : Nat) (rec31 : Int32 → MS → Option (Int32 × MS)) (rec43 : Int32 → Int32 → Int32 → MS → Option (Int32 × MS)) (x1 : Int32) (x3 : Int32) (σ : MS) : Option (Int32 × MS) :=
  m_who_70 N rec31 rec43 x1 x3 (1 : Int32) σ
def m_who_43b (N : Nat) (rec31 : Int32 → MS → Option (Int32 × MS)) (rec43 : Int32 → Int32 → Int32 → MS → Option (Int32 × MS)) (x1 : Int32) (x2 : Int32) (x3 : Int32) (σ : MS) : Option (Int32 × MS) :=
  if (gF σ 43) ≤ x3 then (
    if x2 = 0 then (
      m_who_179 N rec31 x1 σ)
    else (
      bnd (m_woreOn N x1 σ) fun v_2 s_1 =>
      nx (v_2 : Int32) fun x3_3 =>
      nx ((63 : Int32) : Int32) fun x4_4 =>
      m_who_94 N rec31 N x1 x3_3 x4_4 s_1))
  else (
    if x2 = 0 then (
      if inb x3 6 = true then (
      if (gR σ 44 x3.toNatClampNeg) = x1 then (
        m_who_65 N rec31 rec43 x1 x3 σ)
      else (
        m_who_70 N rec31 rec43 x1 x3 (0 : Int32) σ)) else none)
    else (
      m_who_65 N rec31 rec43 x1 x3 σ))
def m_who_43 (N : Nat) (rec31 : Int32 → MS → Option (Int32 × MS)) : Nat → Int32 → Int32 → Int32 → MS → Option (Int32 × MS)
  | 0 => fun _ _ _ _ => none
  | k + 1 => fun x1 x2 x3 σ => m_who_43b N rec31 (m_who_43 N rec31 k) x1 x2 x3 σ
def m_who_31b (N : Nat)  (rec31 : Int32 → MS → Option (Int32 × MS)) (x1 : Int32) (σ : MS) : Option (Int32 × MS) :=
  if (gF σ 1) ≤ x1 then (
    nx ((0 : Int32) : Int32) fun x1_1 =>
    nx ((0 : Int32) : Int32) fun x2_2 =>
    m_who_189 N N x1_1 x2_2 σ)
  else (
    nx ((0 : Int32) : Int32) fun x2_3 =>
    nx ((0 : Int32) : Int32) fun x3_4 =>
    m_who_43 N rec31 N x1 x2_3 x3_4 σ)
def m_who_31 (N : Nat)  : Nat → Int32 → MS → Option (Int32 × MS)
  | 0 => fun _ _ => none
  | k + 1 => fun x1 σ => m_who_31b N  (m_who_31 N  k) x1 σ
def m_who_22 (N : Nat) (rec2 : Int32 → MS → Option (Int32 × MS)) (x1 : Int32) (z0 : Int32) (z1 : Int32) (σ : MS) : Option (Int32 × MS) :=
  if inb z1 64 = true then nx (sR σ 46 z1.toNatClampNeg z0) (fun s_1 =>
  nx (x1 + (1 : Int32)) fun x1_2 =>
  rec2 x1_2 s_1) else none
def m_who_2b (N : Nat)  (rec2 : Int32 → MS → Option (Int32 × MS)) (x1 : Int32) (σ : MS) : Option (Int32 × MS) :=
  if (64 : Int32) ≤ x1 then (
    nx ((0 : Int32) : Int32) fun x1_1 =>
    m_who_31 N N x1_1 σ)
  else (
    if x1 = 0 then (
      m_who_22 N rec2 x1 (1 : Int32) x1 σ)
    else (
      m_who_22 N rec2 x1 (0 : Int32) x1 σ))
def m_who_2 (N : Nat)  : Nat → Int32 → MS → Option (Int32 × MS)
  | 0 => fun _ _ => none
  | k + 1 => fun x1 σ => m_who_2b N  (m_who_2 N  k) x1 σ
def m_who (N : Nat)   (σ : MS) : Option (Int32 × MS) :=
  nx ((0 : Int32) : Int32) fun x1_1 =>
  m_who_2 N N x1_1 σ
def m_divisor_5b (N : Nat)  (rec5 : Int32 → Int32 → MS → Option (Int32 × MS)) (x3 : Int32) (x4 : Int32) (σ : MS) : Option (Int32 × MS) :=
  if x4 = 0 then (
    some (x3, σ))
  else (
    if x4 = 0 then none else
    nx ((x3 - x3 / x4 * x4) : Int32) fun x5_1 =>
    nx (x4 : Int32) fun x3_2 =>
    nx (x5_1 : Int32) fun x4_3 =>
    rec5 x3_2 x4_3 σ)
def m_divisor_5 (N : Nat)  : Nat → Int32 → Int32 → MS → Option (Int32 × MS)
  | 0 => fun _ _ _ => none
  | k + 1 => fun x3 x4 σ => m_divisor_5b N  (m_divisor_5 N  k) x3 x4 σ
def m_divisor (N : Nat)  (x1 : Int32) (x2 : Int32) (σ : MS) : Option (Int32 × MS) :=
  nx (x1 : Int32) fun x3_1 =>
  nx (x2 : Int32) fun x4_2 =>
  m_divisor_5 N N x3_1 x4_2 σ
def m_lowest (N : Nat)  (x1 : Int32) (x2 : Int32) (x3 : Int32) (σ : MS) : Option (Int64 × MS) :=
  bnd (m_divisor N x1 x2 σ) fun v_2 s_1 =>
  nx (v_2 : Int32) fun x4_3 =>
  if x3 = 0 then (
    if x4_3 = 0 then none else
    some (((x1 / x4_3).toInt64), s_1))
  else (
    if x4_3 = 0 then none else
    some (((x2 / x4_3).toInt64), s_1))
def m_odds_74 (N : Nat) (rec34 : Int32 → Int32 → Int32 → Int32 → MS → Option (Int64 × MS)) (x1 : Int32) (x2 : Int32) (x4 : Int32) (z0 : Int32) (z1 : Int32) (σ : MS) : Option (Int64 × MS) :=
  nx ((z1 + z0) : Int32) fun x3_1 =>
  bnv (m_putBack N  σ) fun s_2 =>
  nx (x4 + (1 : Int32)) fun x4_3 =>
  rec34 x1 x2 x3_1 x4_3 s_2
def m_odds_34b (N : Nat)  (rec34 : Int32 → Int32 → Int32 → Int32 → MS → Option (Int64 × MS)) (x1 : Int32) (x2 : Int32) (x3 : Int32) (x4 : Int32) (σ : MS) : Option (Int64 × MS) :=
  if (gF σ 0) ≤ x4 then (
    bnd (m_lowest N x3 (gF σ 0) x2 σ) fun v_2 s_1 =>
    some (v_2, s_1))
  else (
    bnv (m_save N  σ) fun s_3 =>
    bnd (m_goGust N x4 s_3) fun v_5 s_4 =>
    nx (v_5 : Int32) fun x5_6 =>
    bnd (m_todayOf N x1 s_4) fun v_8 s_7 =>
    bnd (m_work N x1 s_7) fun v_10 s_9 =>
    if v_8 < v_10 then (
      m_odds_74 N rec34 x1 x2 x4 (0 : Int32) x3 s_9)
    else (
      m_odds_74 N rec34 x1 x2 x4 (1 : Int32) x3 s_9))
def m_odds_34 (N : Nat)  : Nat → Int32 → Int32 → Int32 → Int32 → MS → Option (Int64 × MS)
  | 0 => fun _ _ _ _ _ => none
  | k + 1 => fun x1 x2 x3 x4 σ => m_odds_34b N  (m_odds_34 N  k) x1 x2 x3 x4 σ
def m_odds (N : Nat)  (x1 : Int32) (x2 : Int32) (σ : MS) : Option (Int64 × MS) :=
  bnd (m_isTrade N x1 σ) fun v_2 s_1 =>
  if v_2 = 0 then (
    some ((-9223372036854775808 : Int64), s_1))
  else (
    bnd (m_in N x2 (0 : Int32) (1 : Int32) s_1) fun v_4 s_3 =>
    if v_4 = 0 then (
      some ((-9223372036854775808 : Int64), s_3))
    else (
      if (gF s_3 0) = 0 then (
        some ((-9223372036854775808 : Int64), s_3))
      else (
        nx ((0 : Int32) : Int32) fun x3_5 =>
        nx ((0 : Int32) : Int32) fun x4_6 =>
        m_odds_34 N N x1 x2 x3_5 x4_6 s_3)))
def m_mean_34b (N : Nat)  (rec34 : Int32 → Int32 → Int32 → Int32 → MS → Option (Int64 × MS)) (x1 : Int32) (x2 : Int32) (x3 : Int32) (x4 : Int32) (σ : MS) : Option (Int64 × MS) :=
  if (gF σ 0) ≤ x4 then (
    bnd (m_lowest N x3 (gF σ 0) x2 σ) fun v_2 s_1 =>
    some (v_2, s_1))
  else (
    bnd (m_deed N x1 x4 σ) fun v_4 s_3 =>
    nx ((x3 + v_4) : Int32) fun x3_5 =>
    nx (x4 + (1 : Int32)) fun x4_6 =>
    rec34 x1 x2 x3_5 x4_6 s_3)
def m_mean_34 (N : Nat)  : Nat → Int32 → Int32 → Int32 → Int32 → MS → Option (Int64 × MS)
  | 0 => fun _ _ _ _ _ => none
  | k + 1 => fun x1 x2 x3 x4 σ => m_mean_34b N  (m_mean_34 N  k) x1 x2 x3 x4 σ
def m_mean (N : Nat)  (x1 : Int32) (x2 : Int32) (σ : MS) : Option (Int64 × MS) :=
  bnd (m_isHat N x1 σ) fun v_2 s_1 =>
  if v_2 = 0 then (
    some ((-9223372036854775808 : Int64), s_1))
  else (
    bnd (m_in N x2 (0 : Int32) (1 : Int32) s_1) fun v_4 s_3 =>
    if v_4 = 0 then (
      some ((-9223372036854775808 : Int64), s_3))
    else (
      if (gF s_3 0) = 0 then (
        some ((-9223372036854775808 : Int64), s_3))
      else (
        nx ((0 : Int32) : Int32) fun x3_5 =>
        nx ((0 : Int32) : Int32) fun x4_6 =>
        m_mean_34 N N x1 x2 x3_5 x4_6 s_3)))
def m_book (N : Nat)  (x1 : Int32) (x2 : Int32) (σ : MS) : Option (Int32 × MS) :=
  if x1 = (-1 : Int32) then (
    nx (sF σ 47 (0 : Int32)) fun s_8 =>
    some ((0 : Int32), s_8))
  else (
    bnd (m_isHat N x1 σ) fun v_2 s_1 =>
    if v_2 = 0 then (
      some ((-1 : Int32), s_1))
    else (
      bnd (m_isHead N x2 s_1) fun v_4 s_3 =>
      if v_4 = 0 then (
        some ((-1 : Int32), s_3))
      else (
        if (gF s_3 47) = (8 : Int32) then (
          some ((-4 : Int32), s_3))
        else (
          if inb (gF s_3 47) 8 = true then nx (sR s_3 48 (gF s_3 47).toNatClampNeg x1) (fun s_5 =>
          if inb (gF s_5 47) 8 = true then nx (sR s_5 49 (gF s_5 47).toNatClampNeg x2) (fun s_6 =>
          nx (sF s_6 47 ((gF s_6 47) + (1 : Int32))) fun s_7 =>
          some ((gF s_7 47), s_7)) else none) else none))))
def m_looked_2b (N : Nat)  (rec2 : Int32 → MS → Option (Int32 × MS)) (x1 : Int32) (σ : MS) : Option (Int32 × MS) :=
  if (gF σ 47) ≤ x1 then (
    some ((-5 : Int32), σ))
  else (
    if inb x1 8 = true then (
    if inb (gR σ 49 x1.toNatClampNeg) 6 = true then (
    if inb x1 8 = true then (
    if (gR σ 5 (gR σ 49 x1.toNatClampNeg).toNatClampNeg) = (gR σ 48 x1.toNatClampNeg) then (
      nx (x1 + (1 : Int32)) fun x1_1 =>
      rec2 x1_1 σ)
    else (
      some (x1, σ))) else none) else none) else none)
def m_looked_2 (N : Nat)  : Nat → Int32 → MS → Option (Int32 × MS)
  | 0 => fun _ _ => none
  | k + 1 => fun x1 σ => m_looked_2b N  (m_looked_2 N  k) x1 σ
def m_looked (N : Nat)   (σ : MS) : Option (Int32 × MS) :=
  nx ((0 : Int32) : Int32) fun x1_1 =>
  m_looked_2 N N x1_1 σ
def m_isTape (N : Nat)  (x1 : Int32) (σ : MS) : Option (Int32 × MS) :=
  bnd (m_in N x1 (0 : Int32) (5 : Int32) σ) fun v_2 s_1 =>
  if v_2 = 0 ∨ v_2 = 1 then some (v_2, s_1) else none
def m_judge_24b (N : Nat)  (rec24 : Int32 → Int32 → Int32 → MS → Option (Int32 × MS)) (x1 : Int32) (x2 : Int32) (x3 : Int32) (σ : MS) : Option (Int32 × MS) :=
  if (gF σ 0) ≤ x3 then (
    some ((-5 : Int32), σ))
  else (
    if inb x1 6 = true then (
    if (gR σ 74 x1.toNatClampNeg) < 0 then (
      some (((100 : Int32) + x3), σ))
    else (
      if x2 < 0 then (
        some (((100 : Int32) + x3), σ))
      else (
        if inb x1 6 = true then (
        if x2 ≤ (((gR σ 75 x1.toNatClampNeg) - x3) - (1 : Int32)) then (
          if inb ((((60 : Int32) * x1) + x2) + x3) 360 = true then (
          if inb x3 6 = true then (
          if (lg_cmp (gJ σ 76 ((((60 : Int32) * x1) + x2) + x3).toNatClampNeg) ((gR σ 5 x3.toNatClampNeg).toInt64)) = 0 then (
            nx (x3 + (1 : Int32)) fun x3_1 =>
            rec24 x1 x2 x3_1 σ)
          else (
            some (x3, σ))) else none) else none)
        else (
          some (((100 : Int32) + x3), σ))) else none))) else none)
def m_judge_24 (N : Nat)  : Nat → Int32 → Int32 → Int32 → MS → Option (Int32 × MS)
  | 0 => fun _ _ _ _ => none
  | k + 1 => fun x1 x2 x3 σ => m_judge_24b N  (m_judge_24 N  k) x1 x2 x3 σ
def m_judge (N : Nat)  (x1 : Int32) (x2 : Int32) (σ : MS) : Option (Int32 × MS) :=
  bnd (m_isTape N x1 σ) fun v_2 s_1 =>
  if v_2 = 0 then (
    some ((-1 : Int32), s_1))
  else (
    if inb x1 6 = true then (
    if (gR s_1 74 x1.toNatClampNeg) ≤ 0 then (
      nx ((0 : Int32) : Int32) fun x3_3 =>
      m_judge_24 N N x1 x2 x3_3 s_1)
    else (
      some ((-12 : Int32), s_1))) else none)
def m_image_252b (N : Nat)  (rec252 : Int32 → MS → Option (Int32 × MS)) (x1 : Int32) (σ : MS) : Option (Int32 × MS) :=
  if (8 : Int32) ≤ x1 then (
    some ((gF σ 1), σ))
  else (
    if inb x1 8 = true then (
    if inb x1 8 = true then nx (sR σ 70 x1.toNatClampNeg (gR σ 48 x1.toNatClampNeg)) (fun s_1 =>
    if inb x1 8 = true then (
    if inb x1 8 = true then nx (sR s_1 71 x1.toNatClampNeg (gR s_1 49 x1.toNatClampNeg)) (fun s_2 =>
    nx (x1 + (1 : Int32)) fun x1_3 =>
    rec252 x1_3 s_2) else none) else none) else none) else none)
def m_image_252 (N : Nat)  : Nat → Int32 → MS → Option (Int32 × MS)
  | 0 => fun _ _ => none
  | k + 1 => fun x1 σ => m_image_252b N  (m_image_252 N  k) x1 σ
def m_image_227b (N : Nat)  (rec227 : Int32 → MS → Option (Int32 × MS)) (x1 : Int32) (σ : MS) : Option (Int32 × MS) :=
  if (5 : Int32) ≤ x1 then (
    nx ((0 : Int32) : Int32) fun x1_1 =>
    m_image_252 N N x1_1 σ)
  else (
    if inb x1 5 = true then (
    if inb x1 5 = true then nx (sR σ 67 x1.toNatClampNeg (gR σ 13 x1.toNatClampNeg)) (fun s_2 =>
    nx (x1 + (1 : Int32)) fun x1_3 =>
    rec227 x1_3 s_2) else none) else none)
def m_image_227 (N : Nat)  : Nat → Int32 → MS → Option (Int32 × MS)
  | 0 => fun _ _ => none
  | k + 1 => fun x1 σ => m_image_227b N  (m_image_227 N  k) x1 σ
def m_image_201b (N : Nat)  (rec201 : Int32 → MS → Option (Int32 × MS)) (x1 : Int32) (σ : MS) : Option (Int32 × MS) :=
  if (24 : Int32) ≤ x1 then (
    nx ((0 : Int32) : Int32) fun x1_1 =>
    m_image_227 N N x1_1 σ)
  else (
    if inb x1 24 = true then (
    if inb x1 24 = true then nx (sR σ 66 x1.toNatClampNeg (gR σ 12 x1.toNatClampNeg)) (fun s_2 =>
    nx (x1 + (1 : Int32)) fun x1_3 =>
    rec201 x1_3 s_2) else none) else none)
def m_image_201 (N : Nat)  : Nat → Int32 → MS → Option (Int32 × MS)
  | 0 => fun _ _ => none
  | k + 1 => fun x1 σ => m_image_201b N  (m_image_201 N  k) x1 σ
def m_image_55b (N : Nat)  (rec55 : Int32 → MS → Option (Int32 × MS)) (x1 : Int32) (σ : MS) : Option (Int32 × MS) :=
  if (6 : Int32) ≤ x1 then (
    nx ((0 : Int32) : Int32) fun x1_1 =>
    m_image_201 N N x1_1 σ)
  else (
    if inb x1 6 = true then (
    if inb x1 6 = true then nx (sR σ 57 x1.toNatClampNeg (gR σ 3 x1.toNatClampNeg)) (fun s_2 =>
    if inb x1 6 = true then (
    if inb x1 6 = true then nx (sR s_2 58 x1.toNatClampNeg (gR s_2 4 x1.toNatClampNeg)) (fun s_3 =>
    if inb x1 6 = true then (
    if inb x1 6 = true then nx (sR s_3 59 x1.toNatClampNeg (gR s_3 5 x1.toNatClampNeg)) (fun s_4 =>
    if inb x1 6 = true then (
    if inb x1 6 = true then nx (sR s_4 60 x1.toNatClampNeg (gR s_4 6 x1.toNatClampNeg)) (fun s_5 =>
    if inb x1 6 = true then (
    if inb x1 6 = true then nx (sR s_5 61 x1.toNatClampNeg (gR s_5 7 x1.toNatClampNeg)) (fun s_6 =>
    if inb x1 6 = true then (
    if inb x1 6 = true then nx (sR s_6 62 x1.toNatClampNeg (gR s_6 8 x1.toNatClampNeg)) (fun s_7 =>
    if inb x1 6 = true then (
    if inb x1 6 = true then nx (sR s_7 63 x1.toNatClampNeg (gR s_7 9 x1.toNatClampNeg)) (fun s_8 =>
    if inb x1 6 = true then (
    if inb x1 6 = true then nx (sR s_8 64 x1.toNatClampNeg (gR s_8 10 x1.toNatClampNeg)) (fun s_9 =>
    if inb x1 6 = true then (
    if inb x1 6 = true then nx (sR s_9 65 x1.toNatClampNeg (gR s_9 11 x1.toNatClampNeg)) (fun s_10 =>
    if inb x1 6 = true then (
    if inb x1 6 = true then nx (sR s_10 68 x1.toNatClampNeg (gR s_10 44 x1.toNatClampNeg)) (fun s_11 =>
    if inb x1 6 = true then (
    if inb x1 6 = true then nx (sR s_11 69 x1.toNatClampNeg (gR s_11 45 x1.toNatClampNeg)) (fun s_12 =>
    nx (x1 + (1 : Int32)) fun x1_13 =>
    rec55 x1_13 s_12) else none) else none) else none) else none) else none) else none) else none) else none) else none) else none) else none) else none) else none) else none) else none) else none) else none) else none) else none) else none) else none) else none)
def m_image_55 (N : Nat)  : Nat → Int32 → MS → Option (Int32 × MS)
  | 0 => fun _ _ => none
  | k + 1 => fun x1 σ => m_image_55b N  (m_image_55 N  k) x1 σ
def m_image (N : Nat)   (σ : MS) : Option (Int32 × MS) :=
  nx (sF σ 50 (1 : Int32)) fun s_1 =>
  nx (sF s_1 51 (gF s_1 15)) fun s_2 =>
  nx (sF s_2 52 (gF s_2 0)) fun s_3 =>
  nx (sF s_3 53 (gF s_3 1)) fun s_4 =>
  nx (sF s_4 54 (gF s_4 2)) fun s_5 =>
  nx (sF s_5 55 (gF s_5 43)) fun s_6 =>
  nx (sF s_6 56 (gF s_6 47)) fun s_7 =>
  nx ((0 : Int32) : Int32) fun x1_8 =>
  m_image_55 N N x1_8 s_7
def m_undo_257b (N : Nat)  (rec257 : Int32 → MS → Option (Int32 × MS)) (x1 : Int32) (σ : MS) : Option (Int32 × MS) :=
  if (8 : Int32) ≤ x1 then (
    some ((gF σ 1), σ))
  else (
    if inb x1 8 = true then (
    if inb x1 8 = true then nx (sR σ 48 x1.toNatClampNeg (gR σ 70 x1.toNatClampNeg)) (fun s_1 =>
    if inb x1 8 = true then (
    if inb x1 8 = true then nx (sR s_1 49 x1.toNatClampNeg (gR s_1 71 x1.toNatClampNeg)) (fun s_2 =>
    nx (x1 + (1 : Int32)) fun x1_3 =>
    rec257 x1_3 s_2) else none) else none) else none) else none)
def m_undo_257 (N : Nat)  : Nat → Int32 → MS → Option (Int32 × MS)
  | 0 => fun _ _ => none
  | k + 1 => fun x1 σ => m_undo_257b N  (m_undo_257 N  k) x1 σ
def m_undo_232b (N : Nat)  (rec232 : Int32 → MS → Option (Int32 × MS)) (x1 : Int32) (σ : MS) : Option (Int32 × MS) :=
  if (5 : Int32) ≤ x1 then (
    nx ((0 : Int32) : Int32) fun x1_1 =>
    m_undo_257 N N x1_1 σ)
  else (
    if inb x1 5 = true then (
    if inb x1 5 = true then nx (sR σ 13 x1.toNatClampNeg (gR σ 67 x1.toNatClampNeg)) (fun s_2 =>
    nx (x1 + (1 : Int32)) fun x1_3 =>
    rec232 x1_3 s_2) else none) else none)
def m_undo_232 (N : Nat)  : Nat → Int32 → MS → Option (Int32 × MS)
  | 0 => fun _ _ => none
  | k + 1 => fun x1 σ => m_undo_232b N  (m_undo_232 N  k) x1 σ
def m_undo_206b (N : Nat)  (rec206 : Int32 → MS → Option (Int32 × MS)) (x1 : Int32) (σ : MS) : Option (Int32 × MS) :=
  if (24 : Int32) ≤ x1 then (
    nx ((0 : Int32) : Int32) fun x1_1 =>
    m_undo_232 N N x1_1 σ)
  else (
    if inb x1 24 = true then (
    if inb x1 24 = true then nx (sR σ 12 x1.toNatClampNeg (gR σ 66 x1.toNatClampNeg)) (fun s_2 =>
    nx (x1 + (1 : Int32)) fun x1_3 =>
    rec206 x1_3 s_2) else none) else none)
def m_undo_206 (N : Nat)  : Nat → Int32 → MS → Option (Int32 × MS)
  | 0 => fun _ _ => none
  | k + 1 => fun x1 σ => m_undo_206b N  (m_undo_206 N  k) x1 σ
def m_undo_60b (N : Nat)  (rec60 : Int32 → MS → Option (Int32 × MS)) (x1 : Int32) (σ : MS) : Option (Int32 × MS) :=
  if (6 : Int32) ≤ x1 then (
    nx ((0 : Int32) : Int32) fun x1_1 =>
    m_undo_206 N N x1_1 σ)
  else (
    if inb x1 6 = true then (
    if inb x1 6 = true then nx (sR σ 3 x1.toNatClampNeg (gR σ 57 x1.toNatClampNeg)) (fun s_2 =>
    if inb x1 6 = true then (
    if inb x1 6 = true then nx (sR s_2 4 x1.toNatClampNeg (gR s_2 58 x1.toNatClampNeg)) (fun s_3 =>
    if inb x1 6 = true then (
    if inb x1 6 = true then nx (sR s_3 5 x1.toNatClampNeg (gR s_3 59 x1.toNatClampNeg)) (fun s_4 =>
    if inb x1 6 = true then (
    if inb x1 6 = true then nx (sR s_4 6 x1.toNatClampNeg (gR s_4 60 x1.toNatClampNeg)) (fun s_5 =>
    if inb x1 6 = true then (
    if inb x1 6 = true then nx (sR s_5 7 x1.toNatClampNeg (gR s_5 61 x1.toNatClampNeg)) (fun s_6 =>
    if inb x1 6 = true then (
    if inb x1 6 = true then nx (sR s_6 8 x1.toNatClampNeg (gR s_6 62 x1.toNatClampNeg)) (fun s_7 =>
    if inb x1 6 = true then (
    if inb x1 6 = true then nx (sR s_7 9 x1.toNatClampNeg (gR s_7 63 x1.toNatClampNeg)) (fun s_8 =>
    if inb x1 6 = true then (
    if inb x1 6 = true then nx (sR s_8 10 x1.toNatClampNeg (gR s_8 64 x1.toNatClampNeg)) (fun s_9 =>
    if inb x1 6 = true then (
    if inb x1 6 = true then nx (sR s_9 11 x1.toNatClampNeg (gR s_9 65 x1.toNatClampNeg)) (fun s_10 =>
    if inb x1 6 = true then (
    if inb x1 6 = true then nx (sR s_10 44 x1.toNatClampNeg (gR s_10 68 x1.toNatClampNeg)) (fun s_11 =>
    if inb x1 6 = true then (
    if inb x1 6 = true then nx (sR s_11 45 x1.toNatClampNeg (gR s_11 69 x1.toNatClampNeg)) (fun s_12 =>
    nx (x1 + (1 : Int32)) fun x1_13 =>
    rec60 x1_13 s_12) else none) else none) else none) else none) else none) else none) else none) else none) else none) else none) else none) else none) else none) else none) else none) else none) else none) else none) else none) else none) else none) else none)
def m_undo_60 (N : Nat)  : Nat → Int32 → MS → Option (Int32 × MS)
  | 0 => fun _ _ => none
  | k + 1 => fun x1 σ => m_undo_60b N  (m_undo_60 N  k) x1 σ
def m_undo (N : Nat)   (σ : MS) : Option (Int32 × MS) :=
  if (gF σ 50) = 0 then (
    some ((-3 : Int32), σ))
  else (
    nx (sF σ 15 (gF σ 51)) fun s_1 =>
    nx (sF s_1 0 (gF s_1 52)) fun s_2 =>
    nx (sF s_2 1 (gF s_2 53)) fun s_3 =>
    nx (sF s_3 2 (gF s_3 54)) fun s_4 =>
    nx (sF s_4 43 (gF s_4 55)) fun s_5 =>
    nx (sF s_5 47 (gF s_5 56)) fun s_6 =>
    nx ((0 : Int32) : Int32) fun x1_7 =>
    m_undo_60 N N x1_7 s_6)
def m_body_19 (N : Nat)   (σ : MS) : Option (MS) :=
  nx (sF σ 72 ((gF σ 72) + (1 : Int32))) fun s_1 =>
  some s_1
def m_body (N : Nat)  (x1 : Int32) (σ : MS) : Option (MS) :=
  if (20 : Int32) ≤ (gF σ 72) then (
    m_body_19 N σ)
  else (
    if inb (gF σ 72) 20 = true then nx (sR σ 73 (gF σ 72).toNatClampNeg x1) (fun s_1 =>
    m_body_19 N s_1) else none)
def m_hatSits (N : Nat)  (x1 : Int32) (x2 : Int32) (σ : MS) : Option (Int32 × MS) :=
  bnv (m_body N (10 : Int32) σ) fun s_1 =>
  some ((x2 + x1), s_1)
def m_sitsAct (N : Nat)  (x1 : Int32) (x2 : Int32) (σ : MS) : Option (Int32 × MS) :=
  if inb x1 6 = true then (
  if (gR σ 6 x1.toNatClampNeg) = (2 : Int32) then (
    bnv (m_body N (30 : Int32) σ) fun s_2 =>
    bnd (m_hatSits N x1 (x2 * (3 : Int32)) s_2) fun v_4 s_3 =>
    some (v_4, s_3))
  else
  if (gR σ 6 x1.toNatClampNeg) = (3 : Int32) then (
    bnd (m_hatSits N x1 x2 σ) fun v_7 s_6 =>
    some (v_7, s_6))
  else
  if (gR σ 6 x1.toNatClampNeg) = (4 : Int32) then (
    bnv (m_body N (50 : Int32) σ) fun s_9 =>
    bnd (m_hatSits N x1 x2 s_9) fun v_11 s_10 =>
    some ((-v_11), s_10))
  else
  if (gR σ 6 x1.toNatClampNeg) = (5 : Int32) then (
    bnv (m_body N (30 : Int32) σ) fun s_13 =>
    bnd (m_hatSits N x1 (x2 * (3 : Int32)) s_13) fun v_15 s_14 =>
    some (v_15, s_14))
  else
  if (gR σ 6 x1.toNatClampNeg) = (6 : Int32) then (
    bnv (m_body N (71 : Int32) σ) fun s_17 =>
    bnd (m_hatSits N x1 x2 s_17) fun v_19 s_18 =>
    if inb x1 6 = true then (
    some ((v_19 ^^^ (gR s_18 7 x1.toNatClampNeg)), s_18)) else none)
  else
  bnd (m_hatSits N x1 x2 σ) fun v_21 s_20 =>
  some (v_21, s_20)) else none
def m_hatDoes (N : Nat)  (x1 : Int32) (x2 : Int32) (σ : MS) : Option (Int32 × MS) :=
  bnv (m_body N (11 : Int32) σ) fun s_1 =>
  bnd (m_sitsAct N x1 x2 s_1) fun v_3 s_2 =>
  if inb x1 6 = true then (
  some ((v_3 - (gR s_2 7 x1.toNatClampNeg)), s_2)) else none
def m_tightDoes (N : Nat)  (x1 : Int32) (x2 : Int32) (σ : MS) : Option (Int32 × MS) :=
  bnv (m_body N (20 : Int32) σ) fun s_1 =>
  bnd (m_hatDoes N x1 x2 s_1) fun v_3 s_2 =>
  some ((v_3 ^^^ (6 : Int32)), s_2)
def m_doesAct (N : Nat)  (x1 : Int32) (x2 : Int32) (σ : MS) : Option (Int32 × MS) :=
  if inb x1 6 = true then (
  if (gR σ 6 x1.toNatClampNeg) = (1 : Int32) then (
    bnd (m_tightDoes N x1 x2 σ) fun v_3 s_2 =>
    some (v_3, s_2))
  else
  if (gR σ 6 x1.toNatClampNeg) = (4 : Int32) then (
    bnv (m_body N (51 : Int32) σ) fun s_5 =>
    bnd (m_tightDoes N x1 (x2 + (1 : Int32)) s_5) fun v_7 s_6 =>
    some (v_7, s_6))
  else
  if (gR σ 6 x1.toNatClampNeg) = (6 : Int32) then (
    bnv (m_body N (70 : Int32) σ) fun s_9 =>
    bnd (m_hatDoes N x1 x2 s_9) fun v_11 s_10 =>
    nx (v_11 : Int32) fun x3_12 =>
    bnd (m_hatSits N x1 (2 : Int32) s_10) fun v_14 s_13 =>
    some ((x3_12 + v_14), s_13))
  else
  bnd (m_hatDoes N x1 x2 σ) fun v_16 s_15 =>
  some (v_16, s_15)) else none
def m_hatTells (N : Nat)  (x1 : Int32) (x2 : Int32) (σ : MS) : Option (Int32 × MS) :=
  bnv (m_body N (12 : Int32) σ) fun s_1 =>
  bnd (m_doesAct N x1 x2 s_1) fun v_3 s_2 =>
  some ((v_3 * (2 : Int32)), s_2)
def m_tellsAct (N : Nat)  (x1 : Int32) (x2 : Int32) (σ : MS) : Option (Int32 × MS) :=
  if inb x1 6 = true then (
  if (gR σ 6 x1.toNatClampNeg) = (3 : Int32) then (
    bnv (m_body N (40 : Int32) σ) fun s_2 =>
    bnd (m_hatTells N x1 x2 s_2) fun v_4 s_3 =>
    nx (v_4 : Int32) fun x3_5 =>
    bnd (m_doesAct N x1 (1 : Int32) s_3) fun v_7 s_6 =>
    some ((x3_5 + v_7), s_6))
  else
  if (gR σ 6 x1.toNatClampNeg) = (4 : Int32) then (
    bnd (m_hatTells N x1 x2 σ) fun v_10 s_9 =>
    some (v_10, s_9))
  else
  if (gR σ 6 x1.toNatClampNeg) = (5 : Int32) then (
    bnv (m_body N (60 : Int32) σ) fun s_12 =>
    bnd (m_hatTells N x1 (x2 - x1) s_12) fun v_14 s_13 =>
    some (v_14, s_13))
  else
  if (gR σ 6 x1.toNatClampNeg) = (6 : Int32) then (
    bnv (m_body N (40 : Int32) σ) fun s_16 =>
    bnd (m_hatTells N x1 x2 s_16) fun v_18 s_17 =>
    nx (v_18 : Int32) fun x3_19 =>
    bnd (m_doesAct N x1 (1 : Int32) s_17) fun v_21 s_20 =>
    some ((x3_19 + v_21), s_20))
  else
  bnd (m_hatTells N x1 x2 σ) fun v_23 s_22 =>
  some (v_23, s_22)) else none
def m_act (N : Nat)  (x1 : Int32) (x2 : Int32) (x3 : Int32) (σ : MS) : Option (Int32 × MS) :=
  nx (sF σ 72 (0 : Int32)) fun s_1 =>
  bnd (m_isHat N x1 s_1) fun v_3 s_2 =>
  if v_3 = 0 then (
    some ((0 : Int32), s_2))
  else (
    bnd (m_in N x2 (0 : Int32) (2 : Int32) s_2) fun v_5 s_4 =>
    if v_5 = 0 then (
      some ((0 : Int32), s_4))
    else (
      if x2 = 0 then (
        bnd (m_sitsAct N x1 x3 s_4) fun v_11 s_10 =>
        some (v_11, s_10))
      else (
        if x2 = (1 : Int32) then (
          bnd (m_doesAct N x1 x3 s_4) fun v_9 s_8 =>
          some (v_9, s_8))
        else (
          bnd (m_tellsAct N x1 x3 s_4) fun v_7 s_6 =>
          some (v_7, s_6)))))
def m_trace (N : Nat)  (x1 : Int32) (σ : MS) : Option (Int32 × MS) :=
  bnd (m_in N x1 (0 : Int32) (19 : Int32) σ) fun v_2 s_1 =>
  if v_2 = 0 then (
    some ((-1 : Int32), s_1))
  else (
    if (gF s_1 72) ≤ x1 then (
      some ((-1 : Int32), s_1))
    else (
      if inb x1 20 = true then (
      some ((gR s_1 73 x1.toNatClampNeg), s_1)) else none))
def m_taken_61 (N : Nat)  (x2 : Int32) (x3 : Int32) (σ : MS) : Option (Int32 × MS) :=
  if x2 = (3 : Int32) then (
    if x3 = (6 : Int32) then (
      some (x3, σ))
    else (
      some ((-12 : Int32), σ)))
  else (
    some ((-12 : Int32), σ))
def m_taken_51 (N : Nat)  (x2 : Int32) (x3 : Int32) (σ : MS) : Option (Int32 × MS) :=
  if x2 = (2 : Int32) then (
    if x3 = (5 : Int32) then (
      some (x3, σ))
    else (
      m_taken_61 N x2 x3 σ))
  else (
    m_taken_61 N x2 x3 σ)
def m_taken (N : Nat)  (x1 : Int32) (x2 : Int32) (σ : MS) : Option (Int32 × MS) :=
  bnd (m_in N x2 (0 : Int32) (6 : Int32) σ) fun v_2 s_1 =>
  if v_2 = 0 then (
    some ((-2 : Int32), s_1))
  else (
    bnd (m_isHat N x1 s_1) fun v_4 s_3 =>
    if v_4 = 0 then (
      some ((-11 : Int32), s_3))
    else (
      if inb x1 6 = true then (
      nx ((gR s_3 6 x1.toNatClampNeg) : Int32) fun x3_5 =>
      if x2 = 0 then (
        some (x3_5, s_3))
      else (
        if x3_5 = x2 then (
          some (x3_5, s_3))
        else (
          if x2 = (1 : Int32) then (
            if x3_5 = (4 : Int32) then (
              some (x3_5, s_3))
            else (
              m_taken_51 N x2 x3_5 s_3))
          else (
            m_taken_51 N x2 x3_5 s_3)))) else none))
def m_count (N : Nat)  (x1 : Int32) (σ : MS) : Option (Int32 × MS) :=
  if x1 = (0 : Int32) then (
    some ((gF σ 1), σ))
  else
  if x1 = (1 : Int32) then (
    some ((gF σ 0), σ))
  else
  if x1 = (2 : Int32) then (
    some ((gF σ 14), σ))
  else
  if x1 = (3 : Int32) then (
    some ((gF σ 43), σ))
  else
  if x1 = (4 : Int32) then (
    some ((gF σ 47), σ))
  else
  if x1 = (5 : Int32) then (
    some ((gF σ 16), σ))
  else
  if x1 = (6 : Int32) then (
    some ((gF σ 72), σ))
  else
  some ((-2 : Int32), σ)
def m_tape_69b (N : Nat)  (rec69 : Int32 → Int32 → MS → Option (Int32 × MS)) (x1 : Int32) (x4 : Int32) (σ : MS) : Option (Int32 × MS) :=
  if (60 : Int32) ≤ x4 then (
    some ((1 : Int32), σ))
  else (
    if inb (((60 : Int32) * x1) + x4) 360 = true then nx (sJ σ 76 (((60 : Int32) * x1) + x4).toNatClampNeg (0 : Int64)) (fun s_1 =>
    nx (x4 + (1 : Int32)) fun x4_2 =>
    rec69 x1 x4_2 s_1) else none)
def m_tape_69 (N : Nat)  : Nat → Int32 → Int32 → MS → Option (Int32 × MS)
  | 0 => fun _ _ _ => none
  | k + 1 => fun x1 x4 σ => m_tape_69b N  (m_tape_69 N  k) x1 x4 σ
def m_tape_65 (N : Nat)  (x1 : Int32) (z0 : Int32) (z1 : Int32) (σ : MS) : Option (Int32 × MS) :=
  if inb z1 6 = true then nx (sR σ 75 z1.toNatClampNeg z0) (fun s_1 =>
  nx ((0 : Int32) : Int32) fun x4_2 =>
  m_tape_69 N N x1 x4_2 s_1) else none
def m_tape_44 (N : Nat)  (x1 : Int32) (x2 : Int32) (x3 : Int32) (σ : MS) : Option (Int32 × MS) :=
  if inb x1 6 = true then nx (sR σ 74 x1.toNatClampNeg x2) (fun s_1 =>
  if 0 ≤ x2 then (
    m_tape_65 N x1 x3 x1 s_1)
  else (
    m_tape_65 N x1 (0 : Int32) x1 s_1)) else none
def m_tape_33 (N : Nat)  (x1 : Int32) (x2 : Int32) (x3 : Int32) (σ : MS) : Option (Int32 × MS) :=
  if x2 < 0 then (
    m_tape_44 N x1 x2 x3 σ)
  else (
    if 0 ≤ x3 then (
      m_tape_44 N x1 x2 x3 σ)
    else (
      some ((-14 : Int32), σ)))
def m_tape (N : Nat)  (x1 : Int32) (x2 : Int32) (x3 : Int32) (σ : MS) : Option (Int32 × MS) :=
  bnd (m_isTape N x1 σ) fun v_2 s_1 =>
  if v_2 = 0 then (
    some ((-1 : Int32), s_1))
  else (
    bnd (m_in N x2 (-1 : Int32) (4 : Int32) s_1) fun v_4 s_3 =>
    if v_4 = 0 then (
      some ((-2 : Int32), s_3))
    else (
      if x2 < 0 then (
        m_tape_33 N x1 x2 x3 s_3)
      else (
        if x3 ≤ (60 : Int32) then (
          m_tape_33 N x1 x2 x3 s_3)
        else (
          some ((-2 : Int32), s_3)))))
def m_narrow (N : Nat)  (x1 : Int32) (x2 : Int64) (σ : MS) : Option (Int64 × MS) :=
  if x1 = 0 then (
    some ((((x2.toInt32).toInt8.toInt32).toInt64), σ))
  else (
    if x1 = (1 : Int32) then (
      some ((((x2.toInt32).toInt16.toInt32).toInt64), σ))
    else (
      if x1 = (2 : Int32) then (
        some (((x2.toInt32).toInt64), σ))
      else (
        if x1 = (4 : Int32) then (
          if (lg_cmp x2 (0 : Int64)) = 0 then (
            some ((0 : Int64), σ))
          else (
            some ((1 : Int64), σ)))
        else (
          some (x2, σ)))))
def m_item (N : Nat)  (x1 : Int32) (x2 : Int32) (x3 : Int64) (σ : MS) : Option (Int32 × MS) :=
  bnd (m_isTape N x1 σ) fun v_2 s_1 =>
  if v_2 = 0 then (
    some ((-1 : Int32), s_1))
  else (
    if inb x1 6 = true then (
    if 0 ≤ (gR s_1 74 x1.toNatClampNeg) then (
      if inb x1 6 = true then (
      bnd (m_in N x2 (0 : Int32) ((gR s_1 75 x1.toNatClampNeg) - (1 : Int32)) s_1) fun v_4 s_3 =>
      if v_4 = 0 then (
        some ((-13 : Int32), s_3))
      else (
        if inb x1 6 = true then (
        bnd (m_narrow N (gR s_3 74 x1.toNatClampNeg) x3 s_3) fun v_6 s_5 =>
        if inb (((60 : Int32) * x1) + x2) 360 = true then nx (sJ s_5 76 (((60 : Int32) * x1) + x2).toNatClampNeg v_6) (fun s_7 =>
        some ((1 : Int32), s_7)) else none) else none)) else none)
    else (
      some ((-11 : Int32), s_1))) else none)
def m_read (N : Nat)  (x1 : Int32) (x2 : Int32) (σ : MS) : Option (Int64 × MS) :=
  bnd (m_isTape N x1 σ) fun v_2 s_1 =>
  if v_2 = 0 then (
    some ((-9223372036854775808 : Int64), s_1))
  else (
    if inb x1 6 = true then (
    if (gR s_1 74 x1.toNatClampNeg) < 0 then (
      some ((-9223372036854775808 : Int64), s_1))
    else (
      if inb x1 6 = true then (
      bnd (m_in N x2 (0 : Int32) ((gR s_1 75 x1.toNatClampNeg) - (1 : Int32)) s_1) fun v_4 s_3 =>
      if v_4 = 0 then (
        some ((-9223372036854775808 : Int64), s_3))
      else (
        if inb (((60 : Int32) * x1) + x2) 360 = true then (
        some ((gJ s_3 76 (((60 : Int32) * x1) + x2).toNatClampNeg), s_3)) else none)) else none)) else none)
def m_shift_141b (N : Nat)  (rec141 : Int32 → Int32 → Int32 → Int32 → MS → Option (Int32 × MS)) (x3 : Int32) (x4 : Int32) (x5 : Int32) (x6 : Int32) (σ : MS) : Option (Int32 × MS) :=
  if x5 ≤ x6 then (
    some (x5, σ))
  else (
    if inb x6 60 = true then (
    if inb ((((60 : Int32) * x3) + x4) + x6) 360 = true then nx (sJ σ 76 ((((60 : Int32) * x3) + x4) + x6).toNatClampNeg (gJ σ 77 x6.toNatClampNeg)) (fun s_1 =>
    nx (x6 + (1 : Int32)) fun x6_2 =>
    rec141 x3 x4 x5 x6_2 s_1) else none) else none)
def m_shift_141 (N : Nat)  : Nat → Int32 → Int32 → Int32 → Int32 → MS → Option (Int32 × MS)
  | 0 => fun _ _ _ _ _ => none
  | k + 1 => fun x3 x4 x5 x6 σ => m_shift_141b N  (m_shift_141 N  k) x3 x4 x5 x6 σ
def m_shift_104b (N : Nat)  (rec104 : Int32 → Int32 → Int32 → Int32 → Int32 → Int32 → MS → Option (Int32 × MS)) (x1 : Int32) (x2 : Int32) (x3 : Int32) (x4 : Int32) (x5 : Int32) (x6 : Int32) (σ : MS) : Option (Int32 × MS) :=
  if x5 ≤ x6 then (
    nx ((0 : Int32) : Int32) fun x6_1 =>
    m_shift_141 N N x3 x4 x5 x6_1 σ)
  else (
    if inb ((((60 : Int32) * x1) + x2) + x6) 360 = true then (
    if inb x6 60 = true then nx (sJ σ 77 x6.toNatClampNeg (gJ σ 76 ((((60 : Int32) * x1) + x2) + x6).toNatClampNeg)) (fun s_2 =>
    nx (x6 + (1 : Int32)) fun x6_3 =>
    rec104 x1 x2 x3 x4 x5 x6_3 s_2) else none) else none)
def m_shift_104 (N : Nat)  : Nat → Int32 → Int32 → Int32 → Int32 → Int32 → Int32 → MS → Option (Int32 × MS)
  | 0 => fun _ _ _ _ _ _ _ => none
  | k + 1 => fun x1 x2 x3 x4 x5 x6 σ => m_shift_104b N  (m_shift_104 N  k) x1 x2 x3 x4 x5 x6 σ
def m_shift (N : Nat)  (x1 : Int32) (x2 : Int32) (x3 : Int32) (x4 : Int32) (x5 : Int32) (σ : MS) : Option (Int32 × MS) :=
  bnd (m_isTape N x1 σ) fun v_2 s_1 =>
  if v_2 = 0 then (
    some ((-1 : Int32), s_1))
  else (
    bnd (m_isTape N x3 s_1) fun v_4 s_3 =>
    if v_4 = 0 then (
      some ((-1 : Int32), s_3))
    else (
      if inb x1 6 = true then (
      if (gR s_3 74 x1.toNatClampNeg) < 0 then (
        some ((-11 : Int32), s_3))
      else (
        if inb x3 6 = true then (
        if 0 ≤ (gR s_3 74 x3.toNatClampNeg) then (
          if inb x1 6 = true then (
          if inb x3 6 = true then (
          if (gR s_3 74 x1.toNatClampNeg) = (gR s_3 74 x3.toNatClampNeg) then (
            if x5 < 0 then (
              some ((-13 : Int32), s_3))
            else (
              if x2 < 0 then (
                some ((-13 : Int32), s_3))
              else (
                if x4 < 0 then (
                  some ((-13 : Int32), s_3))
                else (
                  if inb x1 6 = true then (
                  if ((gR s_3 75 x1.toNatClampNeg) - x5) < x2 then (
                    some ((-13 : Int32), s_3))
                  else (
                    if inb x3 6 = true then (
                    if x4 ≤ ((gR s_3 75 x3.toNatClampNeg) - x5) then (
                      nx ((0 : Int32) : Int32) fun x6_5 =>
                      m_shift_104 N N x1 x2 x3 x4 x5 x6_5 s_3)
                    else (
                      some ((-13 : Int32), s_3))) else none)) else none))))
          else (
            some ((-12 : Int32), s_3))) else none) else none)
        else (
          some ((-11 : Int32), s_3))) else none)) else none))
