/-! THE TWIN'S METHODS AS PURE FUNCTIONS, by program out of their bytecode (wip: gen.py) -/
set_option maxRecDepth 100000
def T_copy_l2 (k0 : Nat) (k1 : Nat) : Nat → TS → Int32 → Option (TS)
  | 0, _, _ => none
  | n + 1, τ, v2 =>
    if v2 < 2030 then
      if inb v2 2030 = true then
      if inb v2 2030 = true then nm (wA τ k1 v2.toNatClampNeg (tA τ k0 v2.toNatClampNeg)) (fun τ1 =>
      nm (v2 + 1) (fun x2 =>
      (T_copy_l2 k0 k1 n) τ1 x2))
      else none
      else none
    else
      some τ
def T_copy (τ : TS) (k0 : Nat) (k1 : Nat) : Option (TS) :=
  T_copy_l2 k0 k1 FU τ 0
def T_isIn (v0 : Int32) (v1 : Int32) (v2 : Int32) : Option (Int32) :=
  if v0 < v1 then
    some 0
  else
    if v2 < v0 then
      some 0
    else
      some 1
def T_put (τ : TS) (v1 : Int32) (v2 : Int32) (v3 : Int32) : Option (TS) :=
  if inb ((10 + (5 * v1)) + v2) 2030 = true then nm (wA τ 0 ((10 + (5 * v1)) + v2).toNatClampNeg v3) (fun τ1 =>
  some τ1)
  else none
def T_get (τ : TS) (v1 : Int32) (v2 : Int32) : Option (Int32) :=
  if inb ((10 + (5 * v1)) + v2) 2030 = true then
  some (tA τ 0 ((10 + (5 * v1)) + v2).toNatClampNeg)
  else none
def T_begin (τ : TS) (v1 : Int32) : Option (TS) :=
  ob1 (T_get τ v1 3) (fun r1 =>
  ob1 (T_put τ v1 0 r1) (fun τ4 =>
  ob1 (T_get τ4 v1 4) (fun r5 =>
  ob1 (T_put τ4 v1 1 r5) (fun τ8 =>
  ob1 (T_put τ8 v1 2 0) (fun τ10 =>
  some τ10)))))
def T_person (τ : TS) (v1 : Int32) (v2 : Int32) : Option (Int32 × TS) :=
  ob1 (T_isIn v1 0 99) (fun r1 =>
  if r1 = 0 then
    some ((-1), τ)
  else
    ob1 (T_isIn v2 0 9) (fun r3 =>
    if r3 = 0 then
      some ((-1), τ)
    else
      if (tA τ 0 0) = 8 then
        some ((-1), τ)
      else
        nm (tA τ 0 0) (fun x5 =>
        ob1 (T_put τ x5 3 v1) (fun τ7 =>
        ob1 (T_put τ7 x5 4 v2) (fun τ9 =>
        ob1 (T_begin τ9 x5) (fun τ11 =>
        nm (wA τ11 0 0 ((tA τ11 0 0) + 1)) (fun τ12 =>
        some (x5, τ12))))))))
def T_isChair (v0 : Int32) : Option (Int32) :=
  ob1 (T_isIn v0 0 7) (fun r1 =>
  if isZ r1 = true then some r1 else none)
def T_other (τ : TS) (v1 : Int32) (v2 : Int32) : Option (Int32 × TS) :=
  ob1 (T_isChair v1) (fun r1 =>
  if r1 = 0 then
    some (0, τ)
  else
    ob1 (T_isChair v2) (fun r3 =>
    if r3 = 0 then
      some (0, τ)
    else
      if inb (50 + v1) 2030 = true then nm (wA τ 0 (50 + v1).toNatClampNeg v2) (fun τ5 =>
      some (1, τ5))
      else none))
def T_four_l3 (v1 : Int32) : Nat → TS → Int32 → Option (TS)
  | 0, _, _ => none
  | n + 1, τ, v2 =>
    if v2 < 0 then
      some τ
    else
      if inb (tI τ 4) 300 = true then nm (wA τ 3 (tI τ 4).toNatClampNeg ((i_shr v1 v2) &&& 255)) (fun τ1 =>
      nm (sI τ1 4 ((tI τ1 4) + 1)) (fun τ2 =>
      nm (v2 + (-8)) (fun x3 =>
      (T_four_l3 v1 n) τ2 x3)))
      else none
def T_four (τ : TS) (v1 : Int32) : Option (TS) :=
  T_four_l3 v1 FU τ 24
def T_feed (τ : TS) (v1 : Int32) (v2 : Int32) (v3 : Int32) (v4 : Int32) (v5 : Int32) : Option (Int32 × TS) :=
  if 300 < ((tI τ 4) + 20) then
    some ((-1), τ)
  else
    ob1 (T_four τ v1) (fun τ2 =>
    ob1 (T_four τ2 v2) (fun τ4 =>
    ob1 (T_four τ4 v3) (fun τ6 =>
    ob1 (T_four τ6 v4) (fun τ8 =>
    ob1 (T_four τ8 v5) (fun τ10 =>
    some ((tI τ10 4), τ10))))))
def T_end (τ : TS) (v1 : Int32) : Option (Int32 × TS) :=
  ob1 (T_isIn v1 0 (tI τ 4)) (fun r1 =>
  if r1 = 0 then
    some ((-1), τ)
  else
    nm (sI τ 4 v1) (fun τ3 =>
    some (v1, τ3)))
def T_byteAt (τ : TS) (v1 : Int32) : Option (Int32) :=
  if v1 < (tI τ 4) then
    if inb v1 300 = true then
    some (tA τ 3 v1.toNatClampNeg)
    else none
  else
    some (-1)
def T_isFigure (v0 : Int32) : Option (Int32) :=
  if v0 < 48 then
    some 0
  else
    if 57 < v0 then
      some 0
    else
      some 1
def T_isLetterByte_j12 (v0 : Int32) : Option (Int32) :=
  if v0 < 65 then
    some 0
  else
    if 90 < v0 then
      some 0
    else
      some 1
def T_isLetterByte (v0 : Int32) : Option (Int32) :=
  if v0 < 97 then
    T_isLetterByte_j12 v0
  else
    if 122 < v0 then
      T_isLetterByte_j12 v0
    else
      some 1
def T_isSign (v0 : Int32) : Option (Int32) :=
  if v0 = 35 then
    some 1
  else
  if v0 = 40 then
    some 1
  else
  if v0 = 41 then
    some 1
  else
  if v0 = 42 then
    some 1
  else
  if v0 = 43 then
    some 1
  else
  if v0 = 45 then
    some 1
  else
  if v0 = 47 then
    some 1
  else
  if v0 = 58 then
    some 1
  else
  if v0 = 59 then
    some 1
  else
  if v0 = 60 then
    some 1
  else
  if v0 = 61 then
    some 1
  else
  if v0 = 62 then
    some 1
  else
  if v0 = 94 then
    some 1
  else
  some 0
def T_nextToken_j26 (k0 : TS → Option (TS)) (τ : TS) : Option (TS) :=
  nm (sI τ 7 ((tI τ 7) + 1)) (fun τ3 =>
  k0 τ3)
def T_nextToken_j297 (τ : TS) (s1 : Int32) : Option (TS) :=
  nm (sI τ 9 s1) (fun τ19 =>
  nm (sI τ19 7 ((tI τ19 7) + 1)) (fun τ20 =>
  some τ20))
def T_nextToken_j272 (τ : TS) (v1 : Int32) : Option (TS) :=
  ob1 (T_byteAt τ (tI τ 7)) (fun r17 =>
  if r17 = 61 then
    if v1 = 60 then
      T_nextToken_j297 τ 4
    else
      T_nextToken_j297 τ 5
  else
    some τ)
def T_nextToken_j247 (τ : TS) (v1 : Int32) (s1 : Int32) : Option (TS) :=
  nm (sI τ 9 s1) (fun τ15 =>
  nm (sI τ15 7 ((tI τ15 7) + 1)) (fun τ16 =>
  if v1 = 60 then
    T_nextToken_j272 τ16 v1
  else
    if v1 = 62 then
      T_nextToken_j272 τ16 v1
    else
      some τ16))
def T_nextToken_j218 (k168 : TS → Option (TS)) (τ : TS) (s1 : Int64) : Option (TS) :=
  nm (sW τ s1) (fun τ29 =>
  nm (sI τ29 7 ((tI τ29 7) + 1)) (fun τ30 =>
  k168 τ30))
def T_nextToken_l168  : Nat → TS → Option (TS)
  | 0, _ => none
  | n + 1, τ =>
    ob1 (T_byteAt τ (tI τ 7)) (fun r23 =>
    ob1 (T_isLetterByte r23) (fun r25 =>
    if r25 = 0 then
      some τ
    else
      if (l_shr (tW τ) 48) = 0 then
        ob1 (T_byteAt τ (tI τ 7)) (fun r27 =>
        T_nextToken_j218 (T_nextToken_l168 n) τ ((l_shl (tW τ) 8) ||| (Int32.toInt64 r27)))
      else
        T_nextToken_j218 (T_nextToken_l168 n) τ 1152921504606846976))
def T_nextToken_j135 (k85 : TS → Option (TS)) (τ : TS) (s1 : Int32) : Option (TS) :=
  nm (sI τ 10 s1) (fun τ39 =>
  nm (sI τ39 7 ((tI τ39 7) + 1)) (fun τ40 =>
  k85 τ40))
def T_nextToken_l85  : Nat → TS → Option (TS)
  | 0, _ => none
  | n + 1, τ =>
    ob1 (T_byteAt τ (tI τ 7)) (fun r33 =>
    ob1 (T_isFigure r33) (fun r35 =>
    if r35 = 0 then
      some τ
    else
      if 99999 < (tI τ 10) then
        T_nextToken_j135 (T_nextToken_l85 n) τ (tI τ 10)
      else
        ob1 (T_byteAt τ (tI τ 7)) (fun r37 =>
        T_nextToken_j135 (T_nextToken_l85 n) τ (((10 * (tI τ 10)) + r37) - 48))))
def T_nextToken_l0  : Nat → TS → Option (TS)
  | 0, _ => none
  | n + 1, τ =>
    ob1 (T_byteAt τ (tI τ 7)) (fun r1 =>
    if r1 = 32 then
      T_nextToken_j26 (T_nextToken_l0 n) τ
    else
      ob1 (T_byteAt τ (tI τ 7)) (fun r4 =>
      if r4 = 10 then
        T_nextToken_j26 (T_nextToken_l0 n) τ
      else
        nm (sI τ 8 (tI τ 7)) (fun τ6 =>
        ob1 (T_byteAt τ6 (tI τ6 7)) (fun r7 =>
        if r7 < 0 then
          nm (sI τ6 9 0) (fun τ41 =>
          some τ41)
        else
          ob1 (T_isFigure r7) (fun r9 =>
          if r9 = 0 then
            ob1 (T_isLetterByte r7) (fun r11 =>
            if r11 = 0 then
              ob1 (T_isSign r7) (fun r13 =>
              if r13 = 0 then
                T_nextToken_j247 τ6 r7 3
              else
                T_nextToken_j247 τ6 r7 r7)
            else
              nm (sI τ6 9 2) (fun τ21 =>
              nm (sW τ21 0) (fun τ22 =>
              T_nextToken_l168 FU τ22)))
          else
            nm (sI τ6 9 1) (fun τ31 =>
            nm (sI τ31 10 0) (fun τ32 =>
            T_nextToken_l85 FU τ32)))))))
def T_nextToken (τ : TS) : Option (TS) :=
  T_nextToken_l0 FU τ
def T_w2 (v0 : Int32) (v1 : Int32) : Option (Int64) :=
  some ((l_shl (Int32.toInt64 v0) 8) ||| (Int32.toInt64 v1))
def T_w3 (v0 : Int32) (v1 : Int32) (v2 : Int32) : Option (Int64) :=
  ob1 (T_w2 v0 v1) (fun r1 =>
  some ((l_shl r1 8) ||| (Int32.toInt64 v2)))
def T_w4 (v0 : Int32) (v1 : Int32) (v2 : Int32) (v3 : Int32) : Option (Int64) :=
  ob1 (T_w3 v0 v1 v2) (fun r1 =>
  some ((l_shl r1 8) ||| (Int32.toInt64 v3)))
def T_w5 (v0 : Int32) (v1 : Int32) (v2 : Int32) (v3 : Int32) (v4 : Int32) : Option (Int64) :=
  ob1 (T_w4 v0 v1 v2 v3) (fun r1 =>
  some ((l_shl r1 8) ||| (Int32.toInt64 v4)))
def T_isWord (τ : TS) (v1 : Int64) : Option (Int32) :=
  if (tI τ 9) = 2 then
    if (tW τ) = v1 then
      some 1
    else
      some 0
  else
    some 0
def T_w6 (v0 : Int32) (v1 : Int32) (v2 : Int32) (v3 : Int32) (v4 : Int32) (v5 : Int32) : Option (Int64) :=
  ob1 (T_w5 v0 v1 v2 v3 v4) (fun r1 =>
  some ((l_shl r1 8) ||| (Int32.toInt64 v5)))
def T_sortOf (τ : TS) : Option (Int32) :=
  ob1 (T_w5 114 97 122 101 115) (fun r1 =>
  ob1 (T_isWord τ r1) (fun r3 =>
  if r3 = 0 then
    ob1 (T_w5 115 108 105 112 115) (fun r5 =>
    ob1 (T_isWord τ r5) (fun r7 =>
    if r7 = 0 then
      ob1 (T_w5 114 97 116 101 115) (fun r9 =>
      ob1 (T_isWord τ r9) (fun r11 =>
      if r11 = 0 then
        ob1 (T_w6 112 101 114 115 111 110) (fun r13 =>
        ob1 (T_isWord τ r13) (fun r15 =>
        if r15 = 0 then
          ob1 (T_w5 111 116 104 101 114) (fun r17 =>
          ob1 (T_isWord τ r17) (fun r19 =>
          if r19 = 0 then
            ob1 (T_w5 115 104 97 118 101) (fun r21 =>
            ob1 (T_isWord τ r21) (fun r23 =>
            if r23 = 0 then
              ob1 (T_w4 99 97 108 109) (fun r25 =>
              ob1 (T_isWord τ r25) (fun r27 =>
              if r27 = 0 then
                ob1 (T_w3 100 97 121) (fun r29 =>
                ob1 (T_isWord τ r29) (fun r31 =>
                if r31 = 0 then
                  some (-1)
                else
                  some 7))
              else
                some 6))
            else
              some 5))
          else
            some 4))
        else
          some 3))
      else
        some 2))
    else
      some 1))
  else
    some 0))
def T_has (v0 : Int32) (v1 : Int32) : Option (Int32) :=
  if ((i_shr v0 v1) &&& 1) = 1 then
    some 1
  else
    some 0
def T_figure (τ : TS) (v1 : Int32) (v2 : Int32) (v3 : Int32) : Option (Int32 × TS) :=
  if (tI τ 9) = 1 then
    ob1 (T_isIn (tI τ 10) v2 v3) (fun r1 =>
    if r1 = 0 then
      some (2, τ)
    else
      if inb v1 2724 = true then nm (wA τ 2 v1.toNatClampNeg (tI τ 10)) (fun τ3 =>
      ob1 (T_nextToken τ3) (fun τ5 =>
      some (0, τ5)))
      else none)
  else
    some (1, τ)
def T_pair (τ : TS) (v1 : Int32) (v2 : Int32) (v3 : Int64) (v5 : Int32) : Option (Int32 × TS) :=
  ob2 (T_figure τ (v1 + 1) 0 v2) (fun r1 τ3 =>
  if r1 = 0 then
    ob1 (T_isWord τ3 v3) (fun r4 =>
    if r4 = 0 then
      some (1, τ3)
    else
      ob1 (T_nextToken τ3) (fun τ7 =>
      ob2 (T_figure τ7 (v1 + 2) 0 v5) (fun r8 τ10 =>
      some (r8, τ10))))
  else
    some (r1, τ3))
def T_openAt_l7 (τ : TS) : Nat → Int32 → Option (Int32)
  | 0, _ => none
  | n + 1, v1 =>
    if v1 < 0 then
      some v1
    else
      if inb v1 160 = true then
      if (tA τ 15 v1.toNatClampNeg) < 40 then
        nm (v1 + (-1)) (fun x2 =>
        (T_openAt_l7 τ n) x2)
      else
        some v1
      else none
def T_openAt (τ : TS) : Option (Int32) :=
  nm ((tI τ 16) - 1) (fun x1 =>
  T_openAt_l7 τ FU x1)
def T_openNow (τ : TS) : Option (Int32) :=
  ob1 (T_openAt τ) (fun r1 =>
  if r1 < 0 then
    some (-1)
  else
    ob1 (T_openAt τ) (fun r3 =>
    if inb r3 160 = true then
    some (tA τ 15 r3.toNatClampNeg)
    else none))
def T_rank (v0 : Int32) : Option (Int32) :=
  if v0 < 40 then
    if v0 < 20 then
      if v0 < 10 then
        if v0 = 9 then
          some 7
        else
          if v0 < 7 then
            if v0 < 5 then
              some 8
            else
              some 5
          else
            some 6
      else
        some 4
    else
      if v0 = 22 then
        some 1
      else
        if v0 = 21 then
          some 2
        else
          some 3
  else
    some 0
def T_isCompared_j30 (τ : TS) (v1 : Int32) : Option (Int32) :=
  if v1 < 0 then
    some 0
  else
    if inb v1 160 = true then
    ob1 (T_rank (tA τ 15 v1.toNatClampNeg)) (fun r2 =>
    if r2 = 4 then
      some 1
    else
      some 0)
    else none
def T_isCompared_l7 (τ : TS) : Nat → Int32 → Option (Int32)
  | 0, _ => none
  | n + 1, v1 =>
    if v1 < 0 then
      T_isCompared_j30 τ v1
    else
      if inb v1 160 = true then
      ob1 (T_rank (tA τ 15 v1.toNatClampNeg)) (fun r4 =>
      if 4 < r4 then
        nm (v1 + (-1)) (fun x6 =>
        (T_isCompared_l7 τ n) x6)
      else
        T_isCompared_j30 τ v1)
      else none
def T_isCompared (τ : TS) : Option (Int32) :=
  nm ((tI τ 16) - 1) (fun x1 =>
  T_isCompared_l7 τ FU x1)
def T_compareOf (τ : TS) : Option (Int32) :=
  if (tI τ 9) = 60 then
    some 10
  else
    if (tI τ 9) = 4 then
      some 11
    else
      if (tI τ 9) = 62 then
        some 12
      else
        if (tI τ 9) = 5 then
          some 13
        else
          if (tI τ 9) = 61 then
            some 14
          else
            if (tI τ 9) = 35 then
              some 15
            else
              some (-1)
def T_betweenOf (τ : TS) : Option (Int32) :=
  if (tI τ 9) = 43 then
    some 5
  else
    if (tI τ 9) = 45 then
      some 6
    else
      if (tI τ 9) = 42 then
        some 7
      else
        if (tI τ 9) = 47 then
          some 8
        else
          if (tI τ 9) = 94 then
            some 9
          else
            ob1 (T_openNow τ) (fun r1 =>
            if r1 = 42 then
              ob1 (T_isCompared τ) (fun r3 =>
              if r3 = 0 then
                ob1 (T_compareOf τ) (fun r13 =>
                some r13)
              else
                ob1 (T_w3 97 110 100) (fun r5 =>
                ob1 (T_isWord τ r5) (fun r7 =>
                if r7 = 0 then
                  ob1 (T_w2 111 114) (fun r9 =>
                  ob1 (T_isWord τ r9) (fun r11 =>
                  if r11 = 0 then
                    some (-1)
                  else
                    some 22))
                else
                  some 21)))
            else
              some (-1))
def T_emit (τ : TS) (v1 : Int32) (v2 : Int32) : Option (TS) :=
  if inb (((tI τ 12) + 73) + (2 * (tI τ 13))) 2724 = true then nm (wA τ 2 (((tI τ 12) + 73) + (2 * (tI τ 13))).toNatClampNeg v1) (fun τ1 =>
  if inb ((((tI τ1 12) + 73) + (2 * (tI τ1 13))) + 1) 2724 = true then nm (wA τ1 2 ((((tI τ1 12) + 73) + (2 * (tI τ1 13))) + 1).toNatClampNeg v2) (fun τ2 =>
  nm (sI τ2 13 ((tI τ2 13) + 1)) (fun τ3 =>
  some τ3))
  else none)
  else none
def T_settle_j80 (k0 : TS → Option (TS)) (τ : TS) (v1 : Int32) : Option (TS) :=
  nm (sI τ 17 ((tI τ 17) - 1)) (fun τ8 =>
  k0 τ8)
def T_settle_l0 (v1 : Int32) : Nat → TS → Option (TS)
  | 0, _ => none
  | n + 1, τ =>
    if 0 < (tI τ 16) then
      if inb ((tI τ 16) - 1) 160 = true then
      ob1 (T_rank (tA τ 15 ((tI τ 16) - 1).toNatClampNeg)) (fun r1 =>
      if r1 < v1 then
        some τ
      else
        nm (sI τ 16 ((tI τ 16) - 1)) (fun τ3 =>
        if inb (tI τ3 16) 160 = true then
        ob1 (T_emit τ3 (tA τ3 15 (tI τ3 16).toNatClampNeg) 0) (fun τ5 =>
        if inb (tI τ5 16) 160 = true then
        ob1 (T_rank (tA τ5 15 (tI τ5 16).toNatClampNeg)) (fun r6 =>
        if r6 = 8 then
          T_settle_j80 (T_settle_l0 v1 n) τ5 v1
        else
          if inb (tI τ5 16) 160 = true then
          if (tA τ5 15 (tI τ5 16).toNatClampNeg) = 20 then
            T_settle_j80 (T_settle_l0 v1 n) τ5 v1
          else
            (T_settle_l0 v1 n) τ5
          else none)
        else none)
        else none))
      else none
    else
      some τ
def T_settle (τ : TS) (v1 : Int32) : Option (TS) :=
  T_settle_l0 v1 FU τ
def T_partOf (τ : TS) (v1 : Int32) : Option (Int32) :=
  if v1 = 40 then
    if (tI τ 9) = 41 then
      some 0
    else
      some (-1)
  else
  if v1 = 41 then
    some (-1)
  else
  if v1 = 42 then
    ob1 (T_w4 116 104 101 110) (fun r7 =>
    ob1 (T_isWord τ r7) (fun r9 =>
    if r9 = 0 then
      some (-1)
    else
      ob1 (T_isCompared τ) (fun r11 =>
      if r11 = 0 then
        some (-1)
      else
        some 43)))
  else
  if v1 = 43 then
    ob1 (T_w4 101 108 115 101) (fun r15 =>
    ob1 (T_isWord τ r15) (fun r17 =>
    if r17 = 0 then
      some (-1)
    else
      some 44))
  else
  if v1 = 44 then
    ob1 (T_w3 101 110 100) (fun r21 =>
    ob1 (T_isWord τ r21) (fun r23 =>
    if r23 = 0 then
      some (-1)
    else
      some 0))
  else
  some (-1)
def T_endOne (τ : TS) : Option (Int32 × TS) :=
  ob1 (T_settle τ 8) (fun τ2 =>
  nm (sI τ2 18 1) (fun τ3 =>
  if (tI τ3 16) = 0 then
    some (0, τ3)
  else
    if inb ((tI τ3 16) - 1) 160 = true then
    if (tA τ3 15 ((tI τ3 16) - 1).toNatClampNeg) = 41 then
      ob1 (T_w2 98 121) (fun r4 =>
      ob1 (T_isWord τ3 r4) (fun r6 =>
      if r6 = 0 then
        some (1, τ3)
      else
        ob1 (T_nextToken τ3) (fun τ9 =>
        if inb ((tI τ9 16) - 1) 160 = true then nm (wA τ9 15 ((tI τ9 16) - 1).toNatClampNeg 4) (fun τ10 =>
        nm (sI τ10 18 0) (fun τ11 =>
        some (0, τ11)))
        else none)))
    else
      some (0, τ3)
    else none))
def T_behindOne_j122 (τ : TS) : Option (Int32 × TS) :=
  ob2 (T_endOne τ) (fun r17 τ19 =>
  some (r17, τ19))
def T_behindOne_j26 (τ : TS) (v1 : Int32) (s1 : Int32) : Option (Int32 × TS) :=
  ob1 (T_settle τ s1) (fun τ27 =>
  if inb (tI τ27 16) 160 = true then nm (wA τ27 15 (tI τ27 16).toNatClampNeg v1) (fun τ28 =>
  nm (sI τ28 16 ((tI τ28 16) + 1)) (fun τ29 =>
  nm (sI τ29 18 0) (fun τ30 =>
  ob1 (T_nextToken τ30) (fun τ32 =>
  some (0, τ32)))))
  else none)
def T_behindOne (τ : TS) : Option (Int32 × TS) :=
  ob1 (T_betweenOf τ) (fun r1 =>
  if r1 < 0 then
    ob1 (T_openNow τ) (fun r3 =>
    ob1 (T_partOf τ r3) (fun r5 =>
    if r5 < 0 then
      some ((-1), τ)
    else
      ob1 (T_settle τ 1) (fun τ8 =>
      ob1 (T_nextToken τ8) (fun τ10 =>
      if r5 = 0 then
        nm (sI τ10 17 ((tI τ10 17) - 1)) (fun τ15 =>
        nm (sI τ15 16 ((tI τ15 16) - 1)) (fun τ16 =>
        if r3 = 44 then
          ob1 (T_emit τ16 2 0) (fun τ21 =>
          T_behindOne_j122 τ21)
        else
          T_behindOne_j122 τ16))
      else
        ob1 (T_openAt τ10) (fun r11 =>
        if inb r11 160 = true then nm (wA τ10 15 r11.toNatClampNeg r5) (fun τ13 =>
        nm (sI τ13 18 0) (fun τ14 =>
        some (0, τ14)))
        else none)))))
  else
    ob1 (T_rank r1) (fun r22 =>
    if r22 = 4 then
      T_behindOne_j26 τ r1 5
    else
      ob1 (T_rank r1) (fun r24 =>
      T_behindOne_j26 τ r1 r24)))
def T_isTakings (τ : TS) : Option (Int32) :=
  if (tI τ 9) = 2 then
    if ((tI τ 7) - (tI τ 8)) = 7 then
      ob1 (T_byteAt τ (tI τ 8)) (fun r1 =>
      ob1 (T_byteAt τ ((tI τ 8) + 1)) (fun r3 =>
      ob1 (T_byteAt τ ((tI τ 8) + 2)) (fun r5 =>
      ob1 (T_byteAt τ ((tI τ 8) + 3)) (fun r7 =>
      ob1 (T_w4 r1 r3 r5 r7) (fun r9 =>
      ob1 (T_w4 116 97 107 105) (fun r11 =>
      if r9 = r11 then
        ob1 (T_byteAt τ ((tI τ 8) + 4)) (fun r13 =>
        ob1 (T_byteAt τ ((tI τ 8) + 5)) (fun r15 =>
        ob1 (T_byteAt τ ((tI τ 8) + 6)) (fun r17 =>
        ob1 (T_w3 r13 r15 r17) (fun r19 =>
        ob1 (T_w3 110 103 115) (fun r21 =>
        if r19 = r21 then
          some 1
        else
          some 0)))))
      else
        some 0))))))
    else
      some 0
  else
    some 0
def T_nameOf (τ : TS) : Option (Int32) :=
  if (tI τ 9) = 2 then
    ob1 (T_w3 100 97 121) (fun r1 =>
    if (tW τ) = r1 then
      some 0
    else
      ob1 (T_w5 99 104 97 105 114) (fun r3 =>
      if (tW τ) = r3 then
        some 1
      else
        ob1 (T_w5 110 101 114 118 101) (fun r5 =>
        if (tW τ) = r5 then
          some 2
        else
          ob1 (T_w5 111 116 104 101 114) (fun r7 =>
          if (tW τ) = r7 then
            some 3
          else
            ob1 (T_w5 115 99 97 114 115) (fun r9 =>
            if (tW τ) = r9 then
              some 4
            else
              ob1 (T_w5 98 101 97 114 100) (fun r11 =>
              if (tW τ) = r11 then
                some 5
              else
                ob1 (T_isTakings τ) (fun r13 =>
                if r13 = 0 then
                  some (-1)
                else
                  some 6)))))))
  else
    some (-1)
def T_isOf (τ : TS) (v1 : Int32) : Option (Int32) :=
  if v1 < 5 then
    some 1
  else
    if v1 = 5 then
      if (tI τ 14) = 2 then
        some 0
      else
        some 1
    else
      if (tI τ 14) = 2 then
        some 1
      else
        some 0
def T_opened (τ : TS) (v1 : Int32) : Option (Int32 × TS) :=
  if (tI τ 17) = 8 then
    some (3, τ)
  else
    nm (sI τ 17 ((tI τ 17) + 1)) (fun τ1 =>
    if inb (tI τ1 16) 160 = true then nm (wA τ1 15 (tI τ1 16).toNatClampNeg v1) (fun τ2 =>
    nm (sI τ2 16 ((tI τ2 16) + 1)) (fun τ3 =>
    ob1 (T_nextToken τ3) (fun τ5 =>
    some (0, τ5))))
    else none)
def T_isAskAhead (τ : TS) : Option (Int32) :=
  ob1 (T_openNow τ) (fun r1 =>
  if r1 = 42 then
    if inb ((tI τ 16) - 1) 160 = true then
    if (tA τ 15 ((tI τ 16) - 1).toNatClampNeg) < 40 then
      if inb ((tI τ 16) - 1) 160 = true then
      ob1 (T_rank (tA τ 15 ((tI τ 16) - 1).toNatClampNeg)) (fun r3 =>
      ob1 (T_isIn r3 1 3) (fun r5 =>
      if r5 = 0 then
        some 0
      else
        some 1))
      else none
    else
      some 1
    else none
  else
    some 0)
def T_beginOne_j81 (τ : TS) (s1 : Int32) (s2 : Int32) : Option (Int32 × TS) :=
  ob1 (T_emit τ s1 s2) (fun τ4 =>
  ob1 (T_nextToken τ4) (fun τ6 =>
  ob2 (T_endOne τ6) (fun r7 τ9 =>
  some (r7, τ9))))
def T_beginOne_j65 (τ : TS) (v1 : Int32) (s1 : Int32) : Option (Int32 × TS) :=
  if (tI τ 9) = 1 then
    T_beginOne_j81 τ s1 (tI τ 10)
  else
    T_beginOne_j81 τ s1 v1
def T_beginOne_j51 (τ : TS) (v1 : Int32) : Option (Int32 × TS) :=
  if (tI τ 9) = 1 then
    T_beginOne_j65 τ v1 0
  else
    T_beginOne_j65 τ v1 1
def T_beginOne_j39 (τ : TS) (v1 : Int32) : Option (Int32 × TS) :=
  if (tI τ 9) = 1 then
    T_beginOne_j51 τ v1
  else
    if v1 < 0 then
      if (tI τ 9) = 40 then
        ob2 (T_opened τ 40) (fun r36 τ38 =>
        some (r36, τ38))
      else
        if (tI τ 9) = 45 then
          ob2 (T_opened τ 3) (fun r33 τ35 =>
          some (r33, τ35))
        else
          ob1 (T_w5 97 102 116 101 114) (fun r10 =>
          ob1 (T_isWord τ r10) (fun r12 =>
          if r12 = 0 then
            ob1 (T_w2 105 102) (fun r14 =>
            ob1 (T_isWord τ r14) (fun r16 =>
            if r16 = 0 then
              ob1 (T_w3 110 111 116) (fun r18 =>
              ob1 (T_isWord τ r18) (fun r20 =>
              if r20 = 0 then
                some (1, τ)
              else
                ob1 (T_isAskAhead τ) (fun r22 =>
                if r22 = 0 then
                  some (1, τ)
                else
                  ob2 (T_opened τ 20) (fun r24 τ26 =>
                  some (r24, τ26)))))
            else
              ob2 (T_opened τ 42) (fun r27 τ29 =>
              some (r27, τ29))))
          else
            ob2 (T_opened τ 41) (fun r30 τ32 =>
            some (r30, τ32))))
    else
      T_beginOne_j51 τ v1
def T_beginOne_j20 (τ : TS) : Option (Int32 × TS) :=
  ob1 (T_nameOf τ) (fun r1 =>
  if r1 < 0 then
    T_beginOne_j39 τ r1
  else
    ob1 (T_isOf τ r1) (fun r39 =>
    if r39 = 0 then
      some (5, τ)
    else
      T_beginOne_j39 τ r1))
def T_beginOne (τ : TS) : Option (Int32 × TS) :=
  if (tI τ 9) = 1 then
    if 9999 < (tI τ 10) then
      some (2, τ)
    else
      T_beginOne_j20 τ
  else
    T_beginOne_j20 τ
def T_summed_j33 (k15 : TS → Option (Int32 × TS)) (τ : TS) (s0 : Int32) : Option (Int32 × TS) :=
  if 0 < s0 then
    some (s0, τ)
  else
    if s0 = 0 then
      k15 τ
    else
      ob1 (T_openNow τ) (fun r7 =>
      if r7 < 0 then
        ob1 (T_settle τ 1) (fun τ10 =>
        some (0, τ10))
      else
        some (1, τ))
def T_summed_l15  : Nat → TS → Option (Int32 × TS)
  | 0, _ => none
  | n + 1, τ =>
    if (tI τ 18) = 0 then
      ob2 (T_beginOne τ) (fun r4 τ6 =>
      T_summed_j33 (T_summed_l15 n) τ6 r4)
    else
      ob2 (T_behindOne τ) (fun r11 τ13 =>
      T_summed_j33 (T_summed_l15 n) τ13 r11)
def T_summed (τ : TS) : Option (Int32 × TS) :=
  nm (sI τ 16 0) (fun τ1 =>
  nm (sI τ1 17 0) (fun τ2 =>
  nm (sI τ2 18 0) (fun τ3 =>
  T_summed_l15 FU τ3)))
def T_lawClause (τ : TS) (v1 : Int32) : Option (Int32 × TS) :=
  if inb (v1 + 1) 2724 = true then nm (wA τ 2 (v1 + 1).toNatClampNeg (tI τ 13)) (fun τ1 =>
  ob2 (T_summed τ1) (fun r2 τ4 =>
  if inb (v1 + 2) 2724 = true then nm (wA τ4 2 (v1 + 2).toNatClampNeg (tI τ4 13)) (fun τ5 =>
  some (r2, τ5))
  else none))
  else none
def T_body (τ : TS) (v1 : Int32) (v2 : Int32) : Option (Int32 × TS) :=
  if v1 = 3 then
    ob1 (T_w5 110 101 114 118 101) (fun r3 =>
    ob2 (T_pair τ v2 99 r3 9) (fun r5 τ7 =>
    some (r5, τ7)))
  else
  if v1 = 4 then
    ob1 (T_w2 116 111) (fun r10 =>
    ob2 (T_pair τ v2 7 r10 7) (fun r12 τ14 =>
    some (r12, τ14)))
  else
  if v1 = 5 then
    ob2 (T_figure τ (v2 + 1) 0 7) (fun r17 τ19 =>
    some (r17, τ19))
  else
  if v1 = 6 then
    ob2 (T_figure τ (v2 + 1) 0 7) (fun r22 τ24 =>
    some (r22, τ24))
  else
  if v1 = 7 then
    ob2 (T_figure τ (v2 + 1) 1 60) (fun r27 τ29 =>
    some (r27, τ29))
  else
  ob2 (T_lawClause τ v2) (fun r30 τ32 =>
  some (r30, τ32))
def T_clause_j65 (τ : TS) (v1 : Int32) (v2 : Int32) : Option (Int32 × TS) :=
  nm (sI τ 14 v1) (fun τ4 =>
  ob1 (T_nextToken τ4) (fun τ6 =>
  nm (((tI τ6 12) + 1) + (3 * v2)) (fun x7 =>
  if inb x7 2724 = true then nm (wA τ6 2 x7.toNatClampNeg v1) (fun τ8 =>
  ob2 (T_body τ8 v1 x7) (fun r9 τ11 =>
  if r9 = 0 then
    if inb (tI τ11 12) 2724 = true then
    if inb (tI τ11 12) 2724 = true then nm (wA τ11 2 (tI τ11 12).toNatClampNeg ((tA τ11 2 (tI τ11 12).toNatClampNeg) + 1)) (fun τ12 =>
    if (tI τ12 9) = 59 then
      ob1 (T_nextToken τ12) (fun τ14 =>
      some (0, τ14))
    else
      some (1, τ12))
    else none
    else none
  else
    some (r9, τ11)))
  else none)))
def T_clause_j29 (τ : TS) (v1 : Int32) : Option (Int32 × TS) :=
  if inb (tI τ 12) 2724 = true then
  nm (tA τ 2 (tI τ 12).toNatClampNeg) (fun x3 =>
  if x3 = 24 then
    some (6, τ)
  else
    if 2 < v1 then
      T_clause_j65 τ v1 x3
    else
      nm (sI τ 19 ((tI τ 19) ||| (i_shl 1 v1))) (fun τ15 =>
      T_clause_j65 τ15 v1 x3))
  else none
def T_clause (τ : TS) : Option (Int32 × TS) :=
  ob1 (T_sortOf τ) (fun r1 =>
  if r1 < 0 then
    some (1, τ)
  else
    if 2 < r1 then
      T_clause_j29 τ r1
    else
      ob1 (T_has (tI τ 19) r1) (fun r16 =>
      if r16 = 0 then
        T_clause_j29 τ r1
      else
        some (4, τ)))
def T_readText_l43  : Nat → TS → Option (Int32 × TS)
  | 0, _ => none
  | n + 1, τ =>
    if (tI τ 9) = 0 then
      some (0, τ)
    else
      ob2 (T_clause τ) (fun r8 τ10 =>
      if r8 = 0 then
        (T_readText_l43 n) τ10
      else
        some (r8, τ10))
def T_readText (τ : TS) : Option (Int32 × TS) :=
  nm (sI τ 12 (681 * (tA τ 0 1))) (fun τ1 =>
  if inb (tI τ1 12) 2724 = true then nm (wA τ1 2 (tI τ1 12).toNatClampNeg 0) (fun τ2 =>
  nm (sI τ2 13 0) (fun τ3 =>
  nm (sI τ3 19 0) (fun τ4 =>
  nm (sI τ4 7 0) (fun τ5 =>
  ob1 (T_nextToken τ5) (fun τ7 =>
  T_readText_l43 FU τ7)))))
  else none)
def T_text_j36 (τ : TS) (s1 : Int32) : Option (Int32 × TS) :=
  nm (sI τ 6 s1) (fun τ5 =>
  nm (sI τ5 4 0) (fun τ6 =>
  if (tI τ6 5) = 0 then
    nm (wA τ6 0 1 ((tA τ6 0 1) + 1)) (fun τ7 =>
    some (((tA τ7 0 1) - 1), τ7))
  else
    some ((-1), τ6)))
def T_text (τ : TS) : Option (Int32 × TS) :=
  if (tA τ 0 1) = 4 then
    some ((-1), τ)
  else
    ob2 (T_readText τ) (fun r1 τ3 =>
    nm (sI τ3 5 r1) (fun τ4 =>
    if (tI τ4 5) = 0 then
      T_text_j36 τ4 (-1)
    else
      T_text_j36 τ4 (tI τ4 8)))
def T_fault (τ : TS) (v1 : Int32) : Option (Int32) :=
  if v1 = 0 then
    some (tI τ 5)
  else
    if v1 = 1 then
      some (tI τ 6)
    else
      some (-1)
def T_by (τ : TS) (v1 : Int32) : Option (Int32 × TS) :=
  ob1 (T_isIn v1 (-1) ((tA τ 0 1) - 1)) (fun r1 =>
  if r1 = 0 then
    some (0, τ)
  else
    nm (wA τ 0 2 v1) (fun τ3 =>
    some (1, τ3)))
def T_undo_l145 (v1 : Int32) : Nat → TS → Int32 → Option (Int32 × TS)
  | 0, _, _ => none
  | n + 1, τ, v2 =>
    if v2 < 30 then
      if inb ((v1 + 29) + v2) 2030 = true then
      if inb (2000 + v2) 2030 = true then nm (wA τ 0 (2000 + v2).toNatClampNeg (tA τ 0 ((v1 + 29) + v2).toNatClampNeg)) (fun τ3 =>
      nm (v2 + 1) (fun x4 =>
      (T_undo_l145 v1 n) τ3 x4))
      else none
      else none
    else
      some ((tA τ 0 3), τ)
def T_undo_j137 (k69 : TS → Int32 → Option (Int32 × TS)) (τ : TS) (v1 : Int32) (v2 : Int32) : Option (Int32 × TS) :=
  nm (v2 + 1) (fun x5 =>
  k69 τ x5)
def T_undo_l96 (k69 : TS → Int32 → Option (Int32 × TS)) (v1 : Int32) (v2 : Int32) : Nat → TS → Int32 → Option (Int32 × TS)
  | 0, _, _ => none
  | n + 1, τ, v3 =>
    if v3 < 3 then
      if inb v1 2030 = true then
      if v2 < (tA τ 0 v1.toNatClampNeg) then
        if inb (((v1 + 5) + (3 * v2)) + v3) 2030 = true then
        ob1 (T_put τ v2 v3 (tA τ 0 (((v1 + 5) + (3 * v2)) + v3).toNatClampNeg)) (fun τ7 =>
        nm (v3 + 1) (fun x8 =>
        (T_undo_l96 k69 v1 v2 n) τ7 x8))
        else none
      else
        T_undo_j137 k69 τ v1 v2
      else none
    else
      T_undo_j137 k69 τ v1 v2
def T_undo_j94 (k69 : TS → Int32 → Option (Int32 × TS)) (τ : TS) (v1 : Int32) (v2 : Int32) : Option (Int32 × TS) :=
  T_undo_l96 k69 v1 v2 FU τ 0
def T_undo_l69 (v1 : Int32) : Nat → TS → Int32 → Option (Int32 × TS)
  | 0, _, _ => none
  | n + 1, τ, v2 =>
    if v2 < (tA τ 0 0) then
      if inb v1 2030 = true then
      if v2 < (tA τ 0 v1.toNatClampNeg) then
        T_undo_j94 (T_undo_l69 v1 n) τ v1 v2
      else
        ob1 (T_begin τ v2) (fun τ10 =>
        T_undo_j94 (T_undo_l69 v1 n) τ10 v1 v2)
      else none
    else
      T_undo_l145 v1 FU τ 0
def T_undo_l37 (v1 : Int32) : Nat → TS → Int32 → Option (Int32 × TS)
  | 0, _, _ => none
  | n + 1, τ, v2 =>
    if v2 < 4 then
      if inb ((v1 + 1) + v2) 2030 = true then
      if inb (6 + v2) 2030 = true then nm (wA τ 0 (6 + v2).toNatClampNeg (tA τ 0 ((v1 + 1) + v2).toNatClampNeg)) (fun τ11 =>
      nm (v2 + 1) (fun x12 =>
      (T_undo_l37 v1 n) τ11 x12))
      else none
      else none
    else
      T_undo_l69 v1 FU τ 0
def T_undo (τ : TS) : Option (Int32 × TS) :=
  if (tA τ 0 3) = 0 then
    some ((-1), τ)
  else
    nm (wA τ 0 3 ((tA τ 0 3) - 1)) (fun τ1 =>
    nm (230 + (59 * (tA τ1 0 3))) (fun x2 =>
    T_undo_l37 x2 FU τ1 0))
def T_isPerson (τ : TS) (v1 : Int32) : Option (Int32) :=
  ob1 (T_isIn v1 0 ((tA τ 0 0) - 1)) (fun r1 =>
  if isZ r1 = true then some r1 else none)
def T_keep_l163 (v1 : Int32) : Nat → TS → Int32 → Option (TS)
  | 0, _, _ => none
  | n + 1, τ, v2 =>
    if v2 < 30 then
      if inb (2000 + v2) 2030 = true then
      if inb ((v1 + 29) + v2) 2030 = true then nm (wA τ 0 ((v1 + 29) + v2).toNatClampNeg (tA τ 0 (2000 + v2).toNatClampNeg)) (fun τ4 =>
      nm (v2 + 1) (fun x5 =>
      (T_keep_l163 v1 n) τ4 x5))
      else none
      else none
    else
      nm (wA τ 0 3 ((tA τ 0 3) + 1)) (fun τ3 =>
      some τ3)
def T_keep_l124 (k116 : TS → Int32 → Option (TS)) (v1 : Int32) (v2 : Int32) : Nat → TS → Int32 → Option (TS)
  | 0, _, _ => none
  | n + 1, τ, v3 =>
    if v3 < 3 then
      ob1 (T_get τ v2 v3) (fun r7 =>
      if inb (((v1 + 5) + (3 * v2)) + v3) 2030 = true then nm (wA τ 0 (((v1 + 5) + (3 * v2)) + v3).toNatClampNeg r7) (fun τ9 =>
      nm (v3 + 1) (fun x10 =>
      (T_keep_l124 k116 v1 v2 n) τ9 x10))
      else none)
    else
      nm (v2 + 1) (fun x6 =>
      k116 τ x6)
def T_keep_l116 (v1 : Int32) : Nat → TS → Int32 → Option (TS)
  | 0, _, _ => none
  | n + 1, τ, v2 =>
    if v2 < 8 then
      T_keep_l124 (T_keep_l116 v1 n) v1 v2 FU τ 0
    else
      T_keep_l163 v1 FU τ 0
def T_keep_l84 (v1 : Int32) : Nat → TS → Int32 → Option (TS)
  | 0, _, _ => none
  | n + 1, τ, v2 =>
    if v2 < 4 then
      if inb (6 + v2) 2030 = true then
      if inb ((v1 + 1) + v2) 2030 = true then nm (wA τ 0 ((v1 + 1) + v2).toNatClampNeg (tA τ 0 (6 + v2).toNatClampNeg)) (fun τ11 =>
      nm (v2 + 1) (fun x12 =>
      (T_keep_l84 v1 n) τ11 x12))
      else none
      else none
    else
      T_keep_l116 v1 FU τ 0
def T_keep_j56 (τ : TS) : Option (TS) :=
  nm (230 + (59 * (tA τ 0 3))) (fun x1 =>
  if inb x1 2030 = true then nm (wA τ 0 x1.toNatClampNeg (tA τ 0 0)) (fun τ2 =>
  T_keep_l84 x1 FU τ2 0)
  else none)
def T_keep_l13  : Nat → TS → Int32 → Option (TS)
  | 0, _, _ => none
  | n + 1, τ, v1 =>
    if v1 < 1711 then
      if inb (289 + v1) 2030 = true then
      if inb (230 + v1) 2030 = true then nm (wA τ 0 (230 + v1).toNatClampNeg (tA τ 0 (289 + v1).toNatClampNeg)) (fun τ14 =>
      nm (v1 + 1) (fun x15 =>
      (T_keep_l13 n) τ14 x15))
      else none
      else none
    else
      nm (wA τ 0 3 ((tA τ 0 3) - 1)) (fun τ13 =>
      T_keep_j56 τ13)
def T_keep (τ : TS) : Option (TS) :=
  if (tA τ 0 3) = 30 then
    T_keep_l13 FU τ 0
  else
    T_keep_j56 τ
def T_otherOf (τ : TS) (v1 : Int32) : Option (Int32) :=
  if inb (50 + v1) 2030 = true then
  some (tA τ 0 (50 + v1).toNatClampNeg)
  else none
def T_name_j86 (τ : TS) (s1 : Int32) (s2 : Int32) : Option (TS) :=
  if inb s1 7 = true then nm (wA τ 20 s1.toNatClampNeg s2) (fun τ16 =>
  nm (wA τ16 20 6 (tA τ16 0 7)) (fun τ17 =>
  some τ17))
  else none
def T_name (τ : TS) (v1 : Int32) : Option (TS) :=
  nm (wA τ 20 0 (tA τ 0 6)) (fun τ1 =>
  nm (wA τ1 20 1 v1) (fun τ2 =>
  ob1 (T_get τ2 v1 1) (fun r3 =>
  nm (wA τ2 20 2 r3) (fun τ5 =>
  ob1 (T_otherOf τ5 v1) (fun r6 =>
  nm (wA τ5 20 3 r6) (fun τ8 =>
  ob1 (T_get τ8 v1 2) (fun r9 =>
  nm (wA τ8 20 4 r9) (fun τ11 =>
  ob1 (T_otherOf τ11 v1) (fun r12 =>
  ob1 (T_isPerson τ11 r12) (fun r14 =>
  if r14 = 0 then
    T_name_j86 τ11 5 0
  else
    ob1 (T_otherOf τ11 v1) (fun r18 =>
    ob1 (T_get τ11 r18 0) (fun r20 =>
    T_name_j86 τ11 5 r20))))))))))))
def T_roundOf_l8 (τ : TS) (v1 : Int32) : Nat → Int32 → Int32 → Option (Int32)
  | 0, _, _ => none
  | n + 1, v2, v3 =>
    if v3 = v1 then
      some v2
    else
      nm (v2 + 1) (fun x3 =>
      ob1 (T_otherOf τ v3) (fun r4 =>
      (T_roundOf_l8 τ v1 n) x3 r4))
def T_roundOf (τ : TS) (v1 : Int32) : Option (Int32) :=
  ob1 (T_otherOf τ v1) (fun r1 =>
  T_roundOf_l8 τ v1 FU 1 r1)
def T_goneFrom_l65 (τ : TS) : Nat → Int32 → Int64 → Option (Int32)
  | 0, _, _ => none
  | n + 1, v4, v5 =>
    if 0 < v5 then
      ob1 (T_otherOf τ v4) (fun r4 =>
      nm (v5 - 1) (fun x6 =>
      (T_goneFrom_l65 τ n) r4 x6))
    else
      some v4
def T_goneFrom_j43 (τ : TS) (v4 : Int32) (v5 : Int64) : Option (Int32) :=
  if 0 < v5 then
    ob1 (T_roundOf τ v4) (fun r1 =>
    if (Int32.toInt64 r1) = 0 then none else
    nm (l_rem v5 (Int32.toInt64 r1)) (fun x3 =>
    T_goneFrom_l65 τ FU v4 x3))
  else
    some v4
def T_goneFrom_l9 (τ : TS) : Nat → Int32 → Int64 → Int32 → Option (Int32)
  | 0, _, _, _ => none
  | n + 1, v4, v5, v7 =>
    if v7 < 8 then
      if 0 < v5 then
        ob1 (T_otherOf τ v4) (fun r7 =>
        nm (v5 - 1) (fun x9 =>
        nm (v7 + 1) (fun x10 =>
        (T_goneFrom_l9 τ n) r7 x9 x10)))
      else
        T_goneFrom_j43 τ v4 v5
    else
      T_goneFrom_j43 τ v4 v5
def T_goneFrom (τ : TS) (v1 : Int32) (v2 : Int64) : Option (Int32) :=
  T_goneFrom_l9 τ FU v1 v2 0
def T_behindBy (τ : TS) (v1 : Int64) (v3 : Int64) : Option (Int64) :=
  if v1 < 0 then
    some 0
  else
    if v1 < 8 then
      ob1 (T_goneFrom τ (Int64.toInt32 v1) v3) (fun r1 =>
      some (Int32.toInt64 r1))
    else
      some 0
def T_power_j75 (k29 : Int64 → Int64 → Option (Int64)) (v0 : Int64) (v6 : Int64) (v8 : Int64) (s0 : Int64) : Option (Int64) :=
  nm (v8 + 1) (fun x2 =>
  k29 s0 x2)
def T_power_l29 (v0 : Int64) (v6 : Int64) : Nat → Int64 → Int64 → Option (Int64)
  | 0, _, _ => none
  | n + 1, v4, v8 =>
    if v8 < v6 then
      nm (v4 * v0) (fun x1 =>
      if 1000000 < x1 then
        T_power_j75 (T_power_l29 v0 v6 n) v0 v6 v8 1000000
      else
        if x1 < (-1000000) then
          T_power_j75 (T_power_l29 v0 v6 n) v0 v6 v8 (-1000000)
        else
          T_power_j75 (T_power_l29 v0 v6 n) v0 v6 v8 x1)
    else
      some v4
def T_power_j24 (v0 : Int64) (v4 : Int64) (s0 : Int64) : Option (Int64) :=
  T_power_l29 v0 s0 FU v4 0
def T_power (v0 : Int64) (v2 : Int64) : Option (Int64) :=
  if 40 < v2 then
    T_power_j24 v0 1 (40 + (l_rem v2 2))
  else
    T_power_j24 v0 1 v2
def T_clip (v0 : Int64) : Option (Int64) :=
  if 1000000 < v0 then
    some 1000000
  else
    if v0 < (-1000000) then
      some (-1000000)
    else
      some v0
def T_two (v0 : Int32) (v1 : Int64) (v3 : Int64) : Option (Int64) :=
  if v0 = 5 then
    ob1 (T_clip (v1 + v3)) (fun r3 =>
    some r3)
  else
  if v0 = 6 then
    ob1 (T_clip (v1 - v3)) (fun r7 =>
    some r7)
  else
  if v0 = 7 then
    ob1 (T_clip (v1 * v3)) (fun r11 =>
    some r11)
  else
  if v3 = 0 then
    some 0
  else
    if v3 = 0 then none else
    ob1 (T_clip (v1 / v3)) (fun r13 =>
    some r13)
def T_isAsked (v0 : Int32) (v1 : Int64) (v3 : Int64) : Option (Int32) :=
  if v0 = 10 then
    if v1 < v3 then
      some 1
    else
      some 0
  else
    if v0 = 11 then
      if v3 < v1 then
        some 0
      else
        some 1
    else
      if v0 = 12 then
        if v3 < v1 then
          some 1
        else
          some 0
      else
        if v0 = 13 then
          if v1 < v3 then
            some 0
          else
            some 1
        else
          if v0 = 14 then
            if v1 = v3 then
              some 1
            else
              some 0
          else
            if v1 = v3 then
              some 0
            else
              some 1
def T_joined (v0 : Int32) (v1 : Int32) (v2 : Int32) : Option (Int32) :=
  if v0 = 21 then
    if v1 = 0 then
      some 0
    else
      if v2 = 0 then
        some 0
      else
        some 1
  else
    if v1 = 0 then
      if v2 = 0 then
        some 0
      else
        some 1
    else
      some 1
def T_summedUp_j402 (k38 : TS → Int32 → Int32 → Int32 → Option (Int64 × TS)) (τ : TS) (v3 : Int32) (v4 : Int32) (v5 : Int32) (v6 : Int32) (v7 : Int32) : Option (Int64 × TS) :=
  nm (v7 + 1) (fun x10 =>
  k38 τ v5 v6 x10)
def T_summedUp_j365 (k38 : TS → Int32 → Int32 → Int32 → Option (Int64 × TS)) (τ : TS) (v3 : Int32) (v4 : Int32) (v5 : Int32) (v6 : Int32) (v7 : Int32) (s1 : Int32) (s2 : Int32) : Option (Int64 × TS) :=
  if inb s1 330 = true then nm (wA τ 22 s1.toNatClampNeg (vp_nar .boolean s2)) (fun τ11 =>
  T_summedUp_j402 k38 τ11 v3 v4 v5 v6 v7)
  else none
def T_summedUp_j285 (k38 : TS → Int32 → Int32 → Int32 → Option (Int64 × TS)) (τ : TS) (v3 : Int32) (v4 : Int32) (v5 : Int32) (v6 : Int32) (v7 : Int32) (s1 : Int32) (s2 : Int64) : Option (Int64 × TS) :=
  if inb s1 330 = true then nm (wL τ 21 s1.toNatClampNeg s2) (fun τ20 =>
  T_summedUp_j402 k38 τ20 v3 v4 v5 v6 v7)
  else none
def T_summedUp_j112 (k38 : TS → Int32 → Int32 → Int32 → Option (Int64 × TS)) (τ : TS) (v3 : Int32) (v4 : Int32) (v5 : Int32) (v6 : Int32) (v7 : Int32) (s1 : Int32) (s2 : Int64) : Option (Int64 × TS) :=
  if inb s1 330 = true then nm (wL τ 21 s1.toNatClampNeg s2) (fun τ29 =>
  nm (v5 + 1) (fun x30 =>
  T_summedUp_j402 k38 τ29 v3 v4 x30 v6 v7))
  else none
def T_summedUp_l38 (v3 : Int32) (v4 : Int32) : Nat → TS → Int32 → Int32 → Int32 → Option (Int64 × TS)
  | 0, _, _, _, _ => none
  | n + 1, τ, v5, v6, v7 =>
    if inb (v3 + 2) 2724 = true then
    if v7 < (tA τ 2 (v3 + 2).toNatClampNeg) then
      if inb (v4 + (2 * v7)) 2724 = true then
      nm (tA τ 2 (v4 + (2 * v7)).toNatClampNeg) (fun x4 =>
      if inb ((v4 + (2 * v7)) + 1) 2724 = true then
      nm (tA τ 2 ((v4 + (2 * v7)) + 1).toNatClampNeg) (fun x5 =>
      if 1 < x4 then
        if x4 = 2 then
          nm (v5 + (-1)) (fun x26 =>
          nm (v6 + (-1)) (fun x27 =>
          if inb x27 330 = true then
          if (tA τ 22 x27.toNatClampNeg) = 0 then
            if inb x26 330 = true then
            if inb (x26 - 1) 330 = true then nm (wL τ 21 (x26 - 1).toNatClampNeg (tL τ 21 x26.toNatClampNeg)) (fun τ28 =>
            T_summedUp_j402 (T_summedUp_l38 v3 v4 n) τ28 v3 v4 x26 x27 v7)
            else none
            else none
          else
            T_summedUp_j402 (T_summedUp_l38 v3 v4 n) τ v3 v4 x26 x27 v7
          else none))
        else
          if x4 = 3 then
            if inb (v5 - 1) 330 = true then
            if inb (v5 - 1) 330 = true then nm (wL τ 21 (v5 - 1).toNatClampNeg (-(tL τ 21 (v5 - 1).toNatClampNeg))) (fun τ25 =>
            T_summedUp_j402 (T_summedUp_l38 v3 v4 n) τ25 v3 v4 v5 v6 v7)
            else none
            else none
          else
            if x4 < 10 then
              nm (v5 + (-1)) (fun x17 =>
              if x4 = 4 then
                if inb (x17 - 1) 330 = true then
                if inb x17 330 = true then
                ob1 (T_behindBy τ (tL τ 21 (x17 - 1).toNatClampNeg) (tL τ 21 x17.toNatClampNeg)) (fun r23 =>
                T_summedUp_j285 (T_summedUp_l38 v3 v4 n) τ v3 v4 x17 v6 v7 (x17 - 1) r23)
                else none
                else none
              else
                if x4 = 9 then
                  if inb (x17 - 1) 330 = true then
                  if inb x17 330 = true then
                  ob1 (T_power (tL τ 21 (x17 - 1).toNatClampNeg) (tL τ 21 x17.toNatClampNeg)) (fun r21 =>
                  T_summedUp_j285 (T_summedUp_l38 v3 v4 n) τ v3 v4 x17 v6 v7 (x17 - 1) r21)
                  else none
                  else none
                else
                  if inb (x17 - 1) 330 = true then
                  if inb x17 330 = true then
                  ob1 (T_two x4 (tL τ 21 (x17 - 1).toNatClampNeg) (tL τ 21 x17.toNatClampNeg)) (fun r18 =>
                  T_summedUp_j285 (T_summedUp_l38 v3 v4 n) τ v3 v4 x17 v6 v7 (x17 - 1) r18)
                  else none
                  else none)
            else
              if x4 < 20 then
                nm (v5 + (-2)) (fun x12 =>
                if inb x12 330 = true then
                if inb (x12 + 1) 330 = true then
                ob1 (T_isAsked x4 (tL τ 21 x12.toNatClampNeg) (tL τ 21 (x12 + 1).toNatClampNeg)) (fun r13 =>
                if inb v6 330 = true then nm (wA τ 22 v6.toNatClampNeg (vp_nar .boolean r13)) (fun τ15 =>
                nm (v6 + 1) (fun x16 =>
                T_summedUp_j402 (T_summedUp_l38 v3 v4 n) τ15 v3 v4 x12 x16 v7))
                else none)
                else none
                else none)
              else
                if x4 = 20 then
                  if inb (v6 - 1) 330 = true then
                  if (tA τ 22 (v6 - 1).toNatClampNeg) = 0 then
                    T_summedUp_j365 (T_summedUp_l38 v3 v4 n) τ v3 v4 v5 v6 v7 (v6 - 1) 1
                  else
                    T_summedUp_j365 (T_summedUp_l38 v3 v4 n) τ v3 v4 v5 v6 v7 (v6 - 1) 0
                  else none
                else
                  nm (v6 + (-1)) (fun x6 =>
                  if inb (x6 - 1) 330 = true then
                  if inb x6 330 = true then
                  ob1 (T_joined x4 (tA τ 22 (x6 - 1).toNatClampNeg) (tA τ 22 x6.toNatClampNeg)) (fun r7 =>
                  if inb (x6 - 1) 330 = true then nm (wA τ 22 (x6 - 1).toNatClampNeg (vp_nar .boolean r7)) (fun τ9 =>
                  T_summedUp_j402 (T_summedUp_l38 v3 v4 n) τ9 v3 v4 v5 x6 v7)
                  else none)
                  else none
                  else none)
      else
        if x4 = 0 then
          T_summedUp_j112 (T_summedUp_l38 v3 v4 n) τ v3 v4 v5 v6 v7 v5 (Int32.toInt64 x5)
        else
          if inb x5 7 = true then
          T_summedUp_j112 (T_summedUp_l38 v3 v4 n) τ v3 v4 v5 v6 v7 v5 (Int32.toInt64 (tA τ 20 x5.toNatClampNeg))
          else none)
      else none)
      else none
    else
      some ((tL τ 21 0), τ)
    else none
def T_summedUp (τ : TS) (v1 : Int32) (v2 : Int32) : Option (Int64 × TS) :=
  nm (((681 * v1) + 1) + (3 * v2)) (fun x1 =>
  nm ((681 * v1) + 73) (fun x2 =>
  if inb (x1 + 1) 2724 = true then
  nm (tA τ 2 (x1 + 1).toNatClampNeg) (fun x3 =>
  T_summedUp_l38 x1 x2 FU τ 0 0 x3)
  else none))
def T_held (v0 : Int64) (v2 : Int32) (v3 : Int32) : Option (Int32) :=
  if v0 < (Int32.toInt64 v2) then
    some v2
  else
    if (Int32.toInt64 v3) < v0 then
      some v3
    else
      some (Int64.toInt32 v0)
def T_says_j63 (τ : TS) (v3 : Int32) (v4 : Int32) : Option (Int32 × TS) :=
  ob1 (T_held (Int32.toInt64 v3) 0 v4) (fun r1 =>
  some (r1, τ))
def T_says_l3 (τ : TS) (v1 : Int32) (v2 : Int32) (v3 : Int32) (v4 : Int32) : Nat → Int32 → Option (Int32 × TS)
  | 0, _ => none
  | n + 1, v5 =>
    if v1 < 0 then
      T_says_j63 τ v3 v4
    else
      if inb (681 * v1) 2724 = true then
      if v5 < (tA τ 2 (681 * v1).toNatClampNeg) then
        if inb (((681 * v1) + 1) + (3 * v5)) 2724 = true then
        if (tA τ 2 (((681 * v1) + 1) + (3 * v5)).toNatClampNeg) = v2 then
          ob2 (T_summedUp τ v1 v5) (fun r4 τ6 =>
          ob1 (T_held r4 0 v4) (fun r7 =>
          some (r7, τ6)))
        else
          nm (v5 + 1) (fun x3 =>
          (T_says_l3 τ v1 v2 v3 v4 n) x3)
        else none
      else
        T_says_j63 τ v3 v4
      else none
def T_says (τ : TS) (v1 : Int32) (v2 : Int32) (v3 : Int32) (v4 : Int32) : Option (Int32 × TS) :=
  T_says_l3 τ v1 v2 v3 v4 FU 0
def T_slipsOf (τ : TS) (v1 : Int32) : Option (Int32 × TS) :=
  ob1 (T_name τ v1) (fun τ2 =>
  ob2 (T_says τ2 (tA τ2 0 2) 1 ((tA τ2 20 2) / 2) 10) (fun r3 τ5 =>
  some (r3, τ5)))
def T_razesOf (τ : TS) (v1 : Int32) : Option (Int32 × TS) :=
  ob1 (T_name τ v1) (fun τ2 =>
  ob2 (T_says τ2 (tA τ2 0 2) 0 5 99) (fun r3 τ5 =>
  some (r3, τ5)))
def T_ratesOf (τ : TS) (v1 : Int32) (v2 : Int32) : Option (Int32 × TS) :=
  ob1 (T_name τ v2) (fun τ2 =>
  ob2 (T_says τ2 v1 2 (10 - (tA τ2 20 2)) 99) (fun r3 τ5 =>
  some (r3, τ5)))
def T_write_j71 (τ : TS) (v1 : Int32) (v2 : Int32) (v3 : Int32) : Option (TS) :=
  if inb (2000 + (tA τ 0 9)) 2030 = true then nm (wA τ 0 (2000 + (tA τ 0 9)).toNatClampNeg (((((((tA τ 0 6) * 8) + v1) * 100) + v2) * 2) + v3)) (fun τ1 =>
  nm (wA τ1 0 9 ((tA τ1 0 9) + 1)) (fun τ2 =>
  some τ2))
  else none
def T_write_l23 (v1 : Int32) (v2 : Int32) (v3 : Int32) : Nat → TS → Int32 → Option (TS)
  | 0, _, _ => none
  | n + 1, τ, v4 =>
    if v4 < 30 then
      if inb (2000 + v4) 2030 = true then
      if inb ((2000 + v4) - 1) 2030 = true then nm (wA τ 0 ((2000 + v4) - 1).toNatClampNeg (tA τ 0 (2000 + v4).toNatClampNeg)) (fun τ4 =>
      nm (v4 + 1) (fun x5 =>
      (T_write_l23 v1 v2 v3 n) τ4 x5))
      else none
      else none
    else
      nm (wA τ 0 9 ((tA τ 0 9) - 1)) (fun τ3 =>
      T_write_j71 τ3 v1 v2 v3)
def T_write (τ : TS) (v1 : Int32) (v2 : Int32) (v3 : Int32) : Option (TS) :=
  if (tI τ 23) = 0 then
    some τ
  else
    if (tA τ 0 9) = 30 then
      T_write_l23 v1 v2 v3 FU τ 1
    else
      T_write_j71 τ v1 v2 v3
def T_anew (τ : TS) : Option (TS) :=
  nm (wA τ 0 8 (Int64.toInt32 (l_rem (((Int32.toInt64 (tA τ 0 8)) * 457) + 347) 30631))) (fun τ1 =>
  some τ1)
def T_shaveNow_j199 (τ : TS) (v5 : Int32) (s1 : Int32) (s2 : Int32) (s3 : Int32) : Option (Int32 × TS) :=
  ob1 (T_write τ s1 s2 s3) (fun τ28 =>
  some (v5, τ28))
def T_shaveNow_j185 (τ : TS) (v1 : Int32) (v5 : Int32) (v6 : Int32) : Option (Int32 × TS) :=
  if v6 = 0 then
    T_shaveNow_j199 τ v5 v1 v5 0
  else
    T_shaveNow_j199 τ v5 v1 v5 1
def T_shaveNow_j130 (τ : TS) (v1 : Int32) (v4 : Int32) (v5 : Int32) (s0 : Int32) : Option (Int32 × TS) :=
  ob1 (T_anew τ) (fun τ26 =>
  if s0 = 0 then
    T_shaveNow_j185 τ26 v1 v5 s0
  else
    ob1 (T_get τ26 v4 2) (fun r29 =>
    ob1 (T_held (Int32.toInt64 (r29 + 1)) 0 99) (fun r31 =>
    ob1 (T_put τ26 v4 2 r31) (fun τ34 =>
    ob1 (T_get τ34 v1 1) (fun r35 =>
    ob1 (T_held (Int32.toInt64 (r35 + 1)) 0 9) (fun r37 =>
    ob1 (T_put τ34 v1 1 r37) (fun τ40 =>
    T_shaveNow_j185 τ40 v1 v5 s0)))))))
def T_shaveNow_j92 (τ : TS) (v1 : Int32) (v2 : Int32) (v4 : Int32) (s0 : Int32) : Option (Int32 × TS) :=
  ob1 (T_get τ v4 0) (fun r21 =>
  ob1 (T_put τ v4 0 (r21 - s0)) (fun τ24 =>
  if (i_rem (tA τ24 0 8) 10) < v2 then
    T_shaveNow_j130 τ24 v1 v4 s0 1
  else
    T_shaveNow_j130 τ24 v1 v4 s0 0))
def T_shaveNow (τ : TS) (v1 : Int32) : Option (Int32 × TS) :=
  ob2 (T_slipsOf τ v1) (fun r1 τ3 =>
  ob2 (T_razesOf τ3 v1) (fun r4 τ6 =>
  ob2 (T_ratesOf τ6 (tA τ6 0 2) v1) (fun r7 τ9 =>
  ob1 (T_held (Int32.toInt64 ((tA τ6 0 7) + r7)) 0 99999) (fun r10 =>
  nm (wA τ9 0 7 r10) (fun τ12 =>
  ob1 (T_otherOf τ12 v1) (fun r13 =>
  ob1 (T_isPerson τ12 r13) (fun r15 =>
  if r15 = 0 then
    ob1 (T_write τ12 v1 0 0) (fun τ42 =>
    some (0, τ42))
  else
    ob1 (T_get τ12 r13 0) (fun r17 =>
    if r4 < r17 then
      T_shaveNow_j92 τ12 v1 r1 r13 r4
    else
      ob1 (T_get τ12 r13 0) (fun r19 =>
      T_shaveNow_j92 τ12 v1 r1 r13 r19)))))))))
def T_shave (τ : TS) (v1 : Int32) : Option (Int32 × TS) :=
  ob1 (T_isPerson τ v1) (fun r1 =>
  if r1 = 0 then
    some ((-1), τ)
  else
    ob1 (T_keep τ) (fun τ4 =>
    ob2 (T_shaveNow τ4 v1) (fun r5 τ7 =>
    some (r5, τ7))))
def T_canCalm (τ : TS) (v1 : Int32) : Option (Int32) :=
  ob1 (T_isPerson τ v1) (fun r1 =>
  if r1 = 0 then
    some 0
  else
    ob1 (T_get τ v1 1) (fun r3 =>
    if 0 < r3 then
      some 1
    else
      some 0))
def T_calm (τ : TS) (v1 : Int32) : Option (Int32 × TS) :=
  ob1 (T_canCalm τ v1) (fun r1 =>
  if r1 = 0 then
    some (0, τ)
  else
    ob1 (T_keep τ) (fun τ4 =>
    ob1 (T_get τ4 v1 1) (fun r5 =>
    ob1 (T_put τ4 v1 1 (r5 - 1)) (fun τ8 =>
    some (1, τ8)))))
def T_pass_l2  : Nat → TS → Int32 → Option (TS)
  | 0, _, _ => none
  | n + 1, τ, v1 =>
    if v1 < (tA τ 0 0) then
      ob1 (T_get τ v1 0) (fun r2 =>
      ob1 (T_held (Int32.toInt64 (r2 + 1)) 0 99) (fun r4 =>
      ob1 (T_put τ v1 0 r4) (fun τ7 =>
      nm (v1 + 1) (fun x8 =>
      (T_pass_l2 n) τ7 x8))))
    else
      nm (wA τ 0 6 ((tA τ 0 6) + 1)) (fun τ1 =>
      some τ1)
def T_pass (τ : TS) : Option (TS) :=
  T_pass_l2 FU τ 0
def T_arePassed_l2 (v1 : Int32) : Nat → TS → Int32 → Option (Int32 × TS)
  | 0, _, _ => none
  | n + 1, τ, v2 =>
    if v2 < v1 then
      if (tA τ 0 6) = 9999 then
        some (0, τ)
      else
        ob1 (T_keep τ) (fun τ2 =>
        ob1 (T_pass τ2) (fun τ4 =>
        nm (v2 + 1) (fun x5 =>
        (T_arePassed_l2 v1 n) τ4 x5)))
    else
      some (1, τ)
def T_arePassed (τ : TS) (v1 : Int32) : Option (Int32 × TS) :=
  T_arePassed_l2 v1 FU τ 0
def T_sumOf_l4 (τ : TS) (v1 : Int32) : Nat → Int32 → Int32 → Option (Int32)
  | 0, _, _ => none
  | n + 1, v2, v3 =>
    if v3 < (tA τ 0 0) then
      ob1 (T_get τ v3 v1) (fun r1 =>
      nm (v2 + r1) (fun x3 =>
      nm (v3 + 1) (fun x4 =>
      (T_sumOf_l4 τ v1 n) x3 x4)))
    else
      some v2
def T_sumOf (τ : TS) (v1 : Int32) : Option (Int32) :=
  T_sumOf_l4 τ v1 FU 0 0
def T_day (τ : TS) (v1 : Int32) : Option (Int32 × TS) :=
  ob1 (T_isIn v1 1 60) (fun r1 =>
  if r1 = 0 then
    some ((-1), τ)
  else
    if 9999 < ((tA τ 0 6) + v1) then
      some ((-1), τ)
    else
      ob2 (T_arePassed τ v1) (fun r3 τ5 =>
      if r3 = 0 then
        some ((-1), τ5)
      else
        ob1 (T_sumOf τ5 0) (fun r6 =>
        some (r6, τ5))))
def T_isPlayed (τ : TS) (v1 : Int32) : Option (Int32 × TS) :=
  if inb (v1 + 1) 2724 = true then
  nm (tA τ 2 (v1 + 1).toNatClampNeg) (fun x1 =>
  if inb (v1 + 2) 2724 = true then
  nm (tA τ 2 (v1 + 2).toNatClampNeg) (fun x2 =>
  if inb v1 2724 = true then
  nm (tA τ 2 v1.toNatClampNeg) (fun x3 =>
  if x3 = 3 then
    ob2 (T_person τ x1 x2) (fun r6 τ8 =>
    if r6 < 0 then
      some (0, τ8)
    else
      some (1, τ8))
  else
  if x3 = 4 then
    ob2 (T_other τ x1 x2) (fun r11 τ13 =>
    if isZ r11 = true then some (r11, τ13) else none)
  else
  if x3 = 5 then
    ob2 (T_shave τ x1) (fun r17 τ19 =>
    if r17 < 0 then
      some (0, τ19)
    else
      some (1, τ19))
  else
  if x3 = 6 then
    ob2 (T_calm τ x1) (fun r22 τ24 =>
    if isZ r22 = true then some (r22, τ24) else none)
  else
  if x3 = 7 then
    ob2 (T_arePassed τ x1) (fun r28 τ30 =>
    if isZ r28 = true then some (r28, τ30) else none)
  else
  some (1, τ))
  else none)
  else none)
  else none
def T_played_l21 (v1 : Int32) : Nat → TS → Int32 → Option (Int32 × TS)
  | 0, _, _ => none
  | n + 1, τ, v2 =>
    if inb (681 * v1) 2724 = true then
    if v2 < (tA τ 2 (681 * v1).toNatClampNeg) then
      ob2 (T_isPlayed τ (((681 * v1) + 1) + (3 * v2))) (fun r3 τ5 =>
      if r3 = 0 then
        some (v2, τ5)
      else
        nm (v2 + 1) (fun x6 =>
        (T_played_l21 v1 n) τ5 x6))
    else
      some ((-1), τ)
    else none
def T_played (τ : TS) (v1 : Int32) : Option (Int32 × TS) :=
  ob1 (T_isIn v1 0 ((tA τ 0 1) - 1)) (fun r1 =>
  if r1 = 0 then
    some ((-2), τ)
  else
    T_played_l21 v1 FU τ 0)
def T_happens (τ : TS) (v1 : Int32) : Option (TS) :=
  if 2 < (i_rem v1 5) then
    if (tA τ 0 6) < 9999 then
      ob1 (T_pass τ) (fun τ12 =>
      some τ12)
    else
      some τ
  else
    if (tA τ 0 0) = 0 then
      some τ
    else
      if (tA τ 0 0) = 0 then none else
      nm (i_rem v1 (tA τ 0 0)) (fun x1 =>
      if (i_rem v1 5) < 2 then
        ob2 (T_shaveNow τ x1) (fun r8 τ10 =>
        some τ10)
      else
        if (i_rem v1 4) = 0 then
          ob1 (T_canCalm τ x1) (fun r2 =>
          if r2 = 0 then
            some τ
          else
            ob1 (T_get τ x1 1) (fun r4 =>
            ob1 (T_put τ x1 1 (r4 - 1)) (fun τ7 =>
            some τ7)))
        else
          some τ)
def T_years_l43 (v2 : Int32) : Nat → TS → Int32 → Option (Int32 × TS)
  | 0, _, _ => none
  | n + 1, τ, v3 =>
    if v3 < v2 then
      nm (tA τ 0 8) (fun x8 =>
      ob1 (T_anew τ) (fun τ10 =>
      ob1 (T_happens τ10 x8) (fun τ12 =>
      nm (v3 + 1) (fun x13 =>
      (T_years_l43 v2 n) τ12 x13))))
    else
      some ((tA τ 0 6), τ)
def T_years (τ : TS) (v1 : Int32) (v2 : Int32) : Option (Int32 × TS) :=
  ob1 (T_isIn v1 0 9999) (fun r1 =>
  if r1 = 0 then
    some ((-1), τ)
  else
    ob1 (T_isIn v2 1 40) (fun r3 =>
    if r3 = 0 then
      some ((-1), τ)
    else
      ob1 (T_keep τ) (fun τ6 =>
      nm (wA τ6 0 8 ((v1 * 2) + 223)) (fun τ7 =>
      T_years_l43 v2 FU τ7 0))))
def T_of (τ : TS) (v1 : Int32) (v2 : Int32) : Option (Int32 × TS) :=
  ob1 (T_isPerson τ v1) (fun r1 =>
  if r1 = 0 then
    some ((-1), τ)
  else
    if v2 = 3 then
      ob2 (T_razesOf τ v1) (fun r5 τ7 =>
      some (r5, τ7))
    else
    if v2 = 4 then
      ob2 (T_slipsOf τ v1) (fun r10 τ12 =>
      some (r10, τ12))
    else
    if v2 = 5 then
      ob2 (T_ratesOf τ (tA τ 0 2) v1) (fun r15 τ17 =>
      some (r15, τ17))
    else
    ob1 (T_isIn v2 0 2) (fun r18 =>
    if r18 = 0 then
      some ((-1), τ)
    else
      ob1 (T_get τ v1 v2) (fun r20 =>
      some (r20, τ))))
def T_told (τ : TS) (v1 : Int32) : Option (Int32) :=
  ob1 (T_isChair v1) (fun r1 =>
  if r1 = 0 then
    some (-1)
  else
    ob1 (T_otherOf τ v1) (fun r3 =>
    some r3))
def T_is (τ : TS) (v1 : Int32) : Option (Int32) :=
  ob1 (T_isIn v1 0 2) (fun r1 =>
  if r1 = 0 then
    some (-2)
  else
    if inb (6 + v1) 2030 = true then
    some (tA τ 0 (6 + v1).toNatClampNeg)
    else none)
def T_entry (τ : TS) (v1 : Int32) (v2 : Int32) : Option (Int32) :=
  if inb (2000 + v1) 2030 = true then
  nm (tA τ 0 (2000 + v1).toNatClampNeg) (fun x1 =>
  if v2 = 0 then
    some (x1 / 1600)
  else
    if v2 = 1 then
      some (i_rem (x1 / 200) 8)
    else
      if v2 = 2 then
        some (i_rem (x1 / 2) 100)
      else
        some (i_rem x1 2))
  else none
def T_book (τ : TS) (v1 : Int32) (v2 : Int32) : Option (Int32) :=
  if v1 = (-1) then
    some (tA τ 0 9)
  else
    ob1 (T_isIn v1 0 ((tA τ 0 9) - 1)) (fun r1 =>
    if r1 = 0 then
      some (-2)
    else
      ob1 (T_isIn v2 0 3) (fun r3 =>
      if r3 = 0 then
        some (-2)
      else
        ob1 (T_entry τ v1 v2) (fun r5 =>
        some r5)))
def T_ledger_j45 (k13 : Int32 → Int32 → Option (Int32)) (τ : TS) (v1 : Int32) (v3 : Int32) (s0 : Int32) (s1 : Int32) : Option (Int32) :=
  nm (s0 + s1) (fun x5 =>
  nm (v3 + 1) (fun x6 =>
  k13 x5 x6))
def T_ledger_l13 (τ : TS) (v1 : Int32) : Nat → Int32 → Int32 → Option (Int32)
  | 0, _, _ => none
  | n + 1, v2, v3 =>
    if v3 < (tA τ 0 9) then
      ob1 (T_entry τ v3 1) (fun r3 =>
      if r3 = v1 then
        ob1 (T_entry τ v3 2) (fun r7 =>
        T_ledger_j45 (T_ledger_l13 τ v1 n) τ v1 v3 v2 r7)
      else
        T_ledger_j45 (T_ledger_l13 τ v1 n) τ v1 v3 v2 0)
    else
      some v2
def T_ledger (τ : TS) (v1 : Int32) : Option (Int32) :=
  ob1 (T_isChair v1) (fun r1 =>
  if r1 = 0 then
    some (-1)
  else
    T_ledger_l13 τ v1 FU 0 0)
def T_hairiest_j36 (k4 : Int32 → Int32 → Option (Int32)) (τ : TS) (v1 : Int32) (v2 : Int32) : Option (Int32) :=
  nm (v2 + 1) (fun x1 =>
  k4 v1 x1)
def T_hairiest_j34 (k4 : Int32 → Int32 → Option (Int32)) (τ : TS) (v2 : Int32) : Option (Int32) :=
  T_hairiest_j36 k4 τ v2 v2
def T_hairiest_l4 (τ : TS) : Nat → Int32 → Int32 → Option (Int32)
  | 0, _, _ => none
  | n + 1, v1, v2 =>
    if v2 < (tA τ 0 0) then
      if v1 = (-1) then
        T_hairiest_j34 (T_hairiest_l4 τ n) τ v2
      else
        ob1 (T_get τ v2 0) (fun r2 =>
        ob1 (T_get τ v1 0) (fun r4 =>
        if r4 < r2 then
          T_hairiest_j34 (T_hairiest_l4 τ n) τ v2
        else
          T_hairiest_j36 (T_hairiest_l4 τ n) τ v1 v2))
    else
      some v1
def T_hairiest (τ : TS) : Option (Int32) :=
  T_hairiest_l4 τ FU (-1) 0
def T_calmest_j36 (k4 : Int32 → Int32 → Option (Int32)) (τ : TS) (v1 : Int32) (v2 : Int32) : Option (Int32) :=
  nm (v2 + 1) (fun x1 =>
  k4 v1 x1)
def T_calmest_j34 (k4 : Int32 → Int32 → Option (Int32)) (τ : TS) (v2 : Int32) : Option (Int32) :=
  T_calmest_j36 k4 τ v2 v2
def T_calmest_l4 (τ : TS) : Nat → Int32 → Int32 → Option (Int32)
  | 0, _, _ => none
  | n + 1, v1, v2 =>
    if v2 < (tA τ 0 0) then
      if v1 = (-1) then
        T_calmest_j34 (T_calmest_l4 τ n) τ v2
      else
        ob1 (T_get τ v2 1) (fun r2 =>
        ob1 (T_get τ v1 1) (fun r4 =>
        if r2 < r4 then
          T_calmest_j34 (T_calmest_l4 τ n) τ v2
        else
          T_calmest_j36 (T_calmest_l4 τ n) τ v1 v2))
    else
      some v1
def T_calmest (τ : TS) : Option (Int32) :=
  T_calmest_l4 τ FU (-1) 0
def T_without_j31 (k4 : Int32 → Int32 → Option (Int32)) (τ : TS) (v1 : Int32) (v3 : Int32) (s0 : Int32) (s1 : Int32) : Option (Int32) :=
  nm (s0 ||| s1) (fun x3 =>
  nm (v3 + 1) (fun x4 =>
  k4 x3 x4))
def T_without_l4 (τ : TS) (v1 : Int32) : Nat → Int32 → Int32 → Option (Int32)
  | 0, _, _ => none
  | n + 1, v2, v3 =>
    if v3 < (tA τ 0 0) then
      ob1 (T_get τ v3 v1) (fun r1 =>
      if r1 = 0 then
        T_without_j31 (T_without_l4 τ v1 n) τ v1 v3 v2 (i_shl 1 v3)
      else
        T_without_j31 (T_without_l4 τ v1 n) τ v1 v3 v2 0)
    else
      some v2
def T_without (τ : TS) (v1 : Int32) : Option (Int32) :=
  T_without_l4 τ v1 FU 0 0
def T_smooth (τ : TS) : Option (Int32) :=
  ob1 (T_without τ 0) (fun r1 =>
  some r1)
def T_unscarred (τ : TS) : Option (Int32) :=
  ob1 (T_without τ 2) (fun r1 =>
  some r1)
def T_alone_j34 (k4 : Int32 → Int32 → Option (Int32)) (τ : TS) (v2 : Int32) (s0 : Int32) (s1 : Int32) : Option (Int32) :=
  nm (s0 ||| s1) (fun x5 =>
  nm (v2 + 1) (fun x6 =>
  k4 x5 x6))
def T_alone_l4 (τ : TS) : Nat → Int32 → Int32 → Option (Int32)
  | 0, _, _ => none
  | n + 1, v1, v2 =>
    if v2 < (tA τ 0 0) then
      ob1 (T_otherOf τ v2) (fun r1 =>
      ob1 (T_isPerson τ r1) (fun r3 =>
      if r3 = 0 then
        T_alone_j34 (T_alone_l4 τ n) τ v2 v1 (i_shl 1 v2)
      else
        T_alone_j34 (T_alone_l4 τ n) τ v2 v1 0))
    else
      some v1
def T_alone (τ : TS) : Option (Int32) :=
  T_alone_l4 τ FU 0 0
def T_foretold_l122 (v3 : Int32) : Nat → TS → Int32 → Option (Int32 × TS)
  | 0, _, _ => none
  | n + 1, τ, v4 =>
    if v4 < 50 then
      if inb v4 50 = true then
      if inb v4 2030 = true then nm (wA τ 0 v4.toNatClampNeg (tA τ 24 v4.toNatClampNeg)) (fun τ9 =>
      nm (v4 + 1) (fun x10 =>
      (T_foretold_l122 v3 n) τ9 x10))
      else none
      else none
    else
      nm (sI τ 23 1) (fun τ8 =>
      some (v3, τ8))
def T_foretold_j117 (τ : TS) (s0 : Int32) : Option (Int32 × TS) :=
  T_foretold_l122 s0 FU τ 6
def T_foretold_j114 (τ : TS) (s1 : Int32) : Option (Int32 × TS) :=
  ob1 (T_sumOf τ s1) (fun r6 =>
  T_foretold_j117 τ r6)
def T_foretold_j83 (k63 : TS → Int32 → Option (Int32 × TS)) (τ : TS) (v1 : Int32) (v2 : Int32) (v3 : Int32) : Option (Int32 × TS) :=
  nm (v3 + 1) (fun x13 =>
  k63 τ x13)
def T_foretold_l63 (v1 : Int32) (v2 : Int32) : Nat → TS → Int32 → Option (Int32 × TS)
  | 0, _, _ => none
  | n + 1, τ, v3 =>
    if v3 < 8 then
      ob1 (T_has v1 v3) (fun r11 =>
      if r11 = 0 then
        T_foretold_j83 (T_foretold_l63 v1 v2 n) τ v1 v2 v3
      else
        ob2 (T_shaveNow τ v3) (fun r14 τ16 =>
        T_foretold_j83 (T_foretold_l63 v1 v2 n) τ16 v1 v2 v3))
    else
      if v2 = 0 then
        T_foretold_j117 τ (tA τ 0 7)
      else
        if v2 = 1 then
          T_foretold_j114 τ 2
        else
          T_foretold_j114 τ 0
def T_foretold_l32 (v1 : Int32) (v2 : Int32) : Nat → TS → Int32 → Option (Int32 × TS)
  | 0, _, _ => none
  | n + 1, τ, v3 =>
    if v3 < 50 then
      if inb v3 2030 = true then
      if inb v3 50 = true then nm (wA τ 24 v3.toNatClampNeg (tA τ 0 v3.toNatClampNeg)) (fun τ17 =>
      nm (v3 + 1) (fun x18 =>
      (T_foretold_l32 v1 v2 n) τ17 x18))
      else none
      else none
    else
      nm (sI τ 23 0) (fun τ5 =>
      T_foretold_l63 v1 v2 FU τ5 0)
def T_foretold (τ : TS) (v1 : Int32) (v2 : Int32) : Option (Int32 × TS) :=
  ob1 (T_isIn v1 1 ((i_shl 1 (tA τ 0 0)) - 1)) (fun r1 =>
  if r1 = 0 then
    some ((-1), τ)
  else
    ob1 (T_isIn v2 0 2) (fun r3 =>
    if r3 = 0 then
      some ((-1), τ)
    else
      T_foretold_l32 v1 v2 FU τ 6))
def T_after (τ : TS) (v1 : Int32) (v2 : Int64) : Option (Int32) :=
  ob1 (T_isChair v1) (fun r1 =>
  if r1 = 0 then
    some (-1)
  else
    if v2 < 0 then
      some (-1)
    else
      ob1 (T_goneFrom τ v1 v2) (fun r3 =>
      some r3))
def T_ringOf_l11 (τ : TS) : Nat → Int32 → Int32 → Option (Int32)
  | 0, _, _ => none
  | n + 1, v2, v3 =>
    ob1 (T_has v3 v2) (fun r3 =>
    if r3 = 0 then
      nm (v3 ||| (i_shl 1 v2)) (fun x5 =>
      ob1 (T_otherOf τ v2) (fun r6 =>
      (T_ringOf_l11 τ n) r6 x5))
    else
      some v3)
def T_ringOf (τ : TS) (v1 : Int32) : Option (Int32) :=
  ob1 (T_goneFrom τ v1 8) (fun r1 =>
  T_ringOf_l11 τ FU r1 0)
def T_bits_l4  : Nat → Int32 → Int32 → Option (Int32)
  | 0, _, _ => none
  | n + 1, v1, v2 =>
    if v2 = 0 then
      some v1
    else
      nm (v1 + 1) (fun x1 =>
      nm (v2 &&& (v2 - 1)) (fun x2 =>
      (T_bits_l4 n) x1 x2))
def T_bits (v0 : Int32) : Option (Int32) :=
  T_bits_l4 FU 0 v0
def T_tillRing_l4 (τ : TS) (v1 : Int32) : Nat → Int32 → Int32 → Option (Int32)
  | 0, _, _ => none
  | n + 1, v2, v3 =>
    ob1 (T_ringOf τ v1) (fun r1 =>
    ob1 (T_has r1 v3) (fun r3 =>
    if r3 = 0 then
      nm (v2 + 1) (fun x5 =>
      ob1 (T_otherOf τ v3) (fun r6 =>
      (T_tillRing_l4 τ v1 n) x5 r6))
    else
      some v2))
def T_tillRing (τ : TS) (v1 : Int32) : Option (Int32) :=
  T_tillRing_l4 τ v1 FU 0 v1
def T_ring (τ : TS) (v1 : Int32) (v2 : Int32) : Option (Int32) :=
  ob1 (T_isChair v1) (fun r1 =>
  if r1 = 0 then
    some (-1)
  else
    ob1 (T_isIn v2 0 2) (fun r3 =>
    if r3 = 0 then
      some (-1)
    else
      if v2 = 0 then
        ob1 (T_ringOf τ v1) (fun r9 =>
        ob1 (T_bits r9) (fun r11 =>
        some r11))
      else
        if v2 = 1 then
          ob1 (T_tillRing τ v1) (fun r7 =>
          some r7)
        else
          ob1 (T_ringOf τ v1) (fun r5 =>
          some r5)))
def T_divisor_l6  : Nat → Int64 → Int64 → Option (Int64)
  | 0, _, _ => none
  | n + 1, v4, v6 =>
    if v6 = 0 then
      some v4
    else
      if v6 = 0 then none else
      nm (l_rem v4 v6) (fun x1 =>
      (T_divisor_l6 n) v6 x1)
def T_divisor (v0 : Int64) (v2 : Int64) : Option (Int64) :=
  T_divisor_l6 FU v0 v2
def T_rounds_l4 (τ : TS) : Nat → Int64 → Int32 → Option (Int64)
  | 0, _, _ => none
  | n + 1, v1, v3 =>
    if v3 < 8 then
      ob1 (T_ringOf τ v3) (fun r1 =>
      ob1 (T_bits r1) (fun r3 =>
      ob1 (T_divisor v1 (Int32.toInt64 r3)) (fun r5 =>
      if r5 = 0 then none else
      ob1 (T_ringOf τ v3) (fun r7 =>
      ob1 (T_bits r7) (fun r9 =>
      nm ((v1 / r5) * (Int32.toInt64 r9)) (fun x11 =>
      nm (v3 + 1) (fun x12 =>
      (T_rounds_l4 τ n) x11 x12)))))))
    else
      some v1
def T_rounds (τ : TS) : Option (Int64) :=
  T_rounds_l4 τ FU 1 0
def T_done_j36 (k13 : Int32 → Int32 → Option (Int32)) (τ : TS) (v1 : Int32) (v3 : Int32) (s0 : Int32) (s1 : Int32) : Option (Int32) :=
  nm (s0 ||| s1) (fun x5 =>
  nm (v3 + 1) (fun x6 =>
  k13 x5 x6))
def T_done_l13 (τ : TS) (v1 : Int32) : Nat → Int32 → Int32 → Option (Int32)
  | 0, _, _ => none
  | n + 1, v2, v3 =>
    if v3 < 8 then
      ob1 (T_otherOf τ v3) (fun r3 =>
      if r3 = v1 then
        T_done_j36 (T_done_l13 τ v1 n) τ v1 v3 v2 (i_shl 1 v3)
      else
        T_done_j36 (T_done_l13 τ v1 n) τ v1 v3 v2 0)
    else
      some v2
def T_done (τ : TS) (v1 : Int32) : Option (Int32) :=
  ob1 (T_isChair v1) (fun r1 =>
  if r1 = 0 then
    some (-1)
  else
    T_done_l13 τ v1 FU 0 0)
def T_meet_l24 (τ : TS) : Nat → Int32 → Int32 → Int32 → Option (Int32)
  | 0, _, _, _ => none
  | n + 1, v3, v4, v5 =>
    if 8 < v5 then
      some (-1)
    else
      if v3 = v4 then
        some v5
      else
        ob1 (T_otherOf τ v3) (fun r5 =>
        ob1 (T_otherOf τ v4) (fun r7 =>
        nm (v5 + 1) (fun x9 =>
        (T_meet_l24 τ n) r5 r7 x9)))
def T_meet (τ : TS) (v1 : Int32) (v2 : Int32) : Option (Int32) :=
  ob1 (T_isChair v1) (fun r1 =>
  if r1 = 0 then
    some (-1)
  else
    ob1 (T_isChair v2) (fun r3 =>
    if r3 = 0 then
      some (-1)
    else
      T_meet_l24 τ FU v1 v2 0))
def T_outermost_j25 (k4 : Int32 → Int32 → Option (Int32)) (τ : TS) (v1 : Int32) (v2 : Int32) : Option (Int32) :=
  nm (v2 + 1) (fun x5 =>
  k4 v1 x5)
def T_outermost_l4 (τ : TS) : Nat → Int32 → Int32 → Option (Int32)
  | 0, _, _ => none
  | n + 1, v1, v2 =>
    if v2 < 8 then
      ob1 (T_tillRing τ v2) (fun r1 =>
      ob1 (T_tillRing τ v1) (fun r3 =>
      if r3 < r1 then
        T_outermost_j25 (T_outermost_l4 τ n) τ v2 v2
      else
        T_outermost_j25 (T_outermost_l4 τ n) τ v1 v2))
    else
      some v1
def T_outermost (τ : TS) : Option (Int32) :=
  T_outermost_l4 τ FU 0 1
def T_swap (τ : TS) (v1 : Int32) (v2 : Int32) : Option (TS) :=
  if inb v1 8 = true then
  nm (tA τ 25 v1.toNatClampNeg) (fun x1 =>
  if inb v2 8 = true then
  if inb v1 8 = true then nm (wA τ 25 v1.toNatClampNeg (tA τ 25 v2.toNatClampNeg)) (fun τ2 =>
  if inb v2 8 = true then nm (wA τ2 25 v2.toNatClampNeg x1) (fun τ3 =>
  some τ3)
  else none)
  else none
  else none)
  else none
def T_isNextTurn_l74  : Nat → TS → Int32 → Int32 → Option (Int32 × TS)
  | 0, _, _, _ => none
  | n + 1, τ, v3, v4 =>
    if v4 < v3 then
      ob1 (T_swap τ v4 v3) (fun τ5 =>
      nm (v3 + (-1)) (fun x6 =>
      nm (v4 + 1) (fun x7 =>
      (T_isNextTurn_l74 n) τ5 x6 x7)))
    else
      some (1, τ)
def T_isNextTurn_l39 (τ : TS) (v1 : Int32) : Nat → Int32 → Option (Int32 × TS)
  | 0, _ => none
  | n + 1, v2 =>
    if inb v2 8 = true then
    if inb v1 8 = true then
    if (tA τ 25 v2.toNatClampNeg) < (tA τ 25 v1.toNatClampNeg) then
      nm (v2 + (-1)) (fun x8 =>
      (T_isNextTurn_l39 τ v1 n) x8)
    else
      ob1 (T_swap τ v1 v2) (fun τ2 =>
      nm (v1 + 1) (fun x3 =>
      T_isNextTurn_l74 FU τ2 7 x3))
    else none
    else none
def T_isNextTurn_j30 (τ : TS) (v1 : Int32) : Option (Int32 × TS) :=
  if v1 < 0 then
    some (0, τ)
  else
    T_isNextTurn_l39 τ v1 FU 7
def T_isNextTurn_l3 (τ : TS) : Nat → Int32 → Option (Int32 × TS)
  | 0, _ => none
  | n + 1, v1 =>
    if v1 < 0 then
      T_isNextTurn_j30 τ v1
    else
      if inb v1 8 = true then
      if inb (v1 + 1) 8 = true then
      if (tA τ 25 (v1 + 1).toNatClampNeg) < (tA τ 25 v1.toNatClampNeg) then
        nm (v1 + (-1)) (fun x9 =>
        (T_isNextTurn_l3 τ n) x9)
      else
        T_isNextTurn_j30 τ v1
      else none
      else none
def T_isNextTurn (τ : TS) : Option (Int32 × TS) :=
  T_isNextTurn_l3 τ FU 6
def T_isMirror_l2 (τ : TS) : Nat → Int32 → Option (Int32)
  | 0, _ => none
  | n + 1, v1 =>
    if v1 < 8 then
      ob1 (T_otherOf τ v1) (fun r1 =>
      if inb r1 8 = true then
      if inb v1 8 = true then
      ob1 (T_otherOf τ (tA τ 25 v1.toNatClampNeg)) (fun r3 =>
      if (tA τ 25 r1.toNatClampNeg) = r3 then
        nm (v1 + 1) (fun x5 =>
        (T_isMirror_l2 τ n) x5)
      else
        some 0)
      else none
      else none)
    else
      some 1
def T_isMirror (τ : TS) : Option (Int32) :=
  T_isMirror_l2 τ FU 0
def T_mirrors_j43 (k23 : TS → Int32 → Option (Int32 × TS)) (τ : TS) (s0 : Int32) (s1 : Int32) : Option (Int32 × TS) :=
  nm (s0 + s1) (fun x6 =>
  k23 τ x6)
def T_mirrors_l23  : Nat → TS → Int32 → Option (Int32 × TS)
  | 0, _, _ => none
  | n + 1, τ, v1 =>
    ob2 (T_isNextTurn τ) (fun r1 τ3 =>
    if r1 = 0 then
      some (v1, τ3)
    else
      ob1 (T_isMirror τ3) (fun r4 =>
      if r4 = 0 then
        T_mirrors_j43 (T_mirrors_l23 n) τ3 v1 0
      else
        T_mirrors_j43 (T_mirrors_l23 n) τ3 v1 1))
def T_mirrors_l2  : Nat → TS → Int32 → Option (Int32 × TS)
  | 0, _, _ => none
  | n + 1, τ, v1 =>
    if v1 < 8 then
      if inb v1 8 = true then nm (wA τ 25 v1.toNatClampNeg v1) (fun τ7 =>
      nm (v1 + 1) (fun x8 =>
      (T_mirrors_l2 n) τ7 x8))
      else none
    else
      T_mirrors_l23 FU τ 1
def T_mirrors (τ : TS) : Option (Int32 × TS) :=
  T_mirrors_l2 FU τ 0
def T_ratesBy (τ : TS) (v1 : Int32) (v2 : Int32) : Option (Int32 × TS) :=
  ob1 (T_get τ v1 1) (fun r1 =>
  ob1 (T_put τ v1 1 v2) (fun τ4 =>
  ob2 (T_ratesOf τ4 (tA τ4 0 2) v1) (fun r5 τ7 =>
  ob1 (T_put τ7 v1 1 r1) (fun τ9 =>
  some (r5, τ9)))))
def T_shamOf_j27 (k4 : TS → Int32 → Int32 → Option (Int32 × TS)) (τ : TS) (v1 : Int32) (v2 : Int32) (v3 : Int32) : Option (Int32 × TS) :=
  nm (v3 + 1) (fun x7 =>
  k4 τ v2 x7)
def T_shamOf_l4 (v1 : Int32) : Nat → TS → Int32 → Int32 → Option (Int32 × TS)
  | 0, _, _, _ => none
  | n + 1, τ, v2, v3 =>
    if v3 < 10 then
      ob2 (T_ratesBy τ v1 v3) (fun r1 τ3 =>
      ob2 (T_ratesBy τ3 v1 v2) (fun r4 τ6 =>
      if r1 < r4 then
        T_shamOf_j27 (T_shamOf_l4 v1 n) τ6 v1 v3 v3
      else
        T_shamOf_j27 (T_shamOf_l4 v1 n) τ6 v1 v2 v3))
    else
      some (v2, τ)
def T_shamOf (τ : TS) (v1 : Int32) : Option (Int32 × TS) :=
  T_shamOf_l4 v1 FU τ 0 1
def T_sham (τ : TS) (v1 : Int32) : Option (Int32 × TS) :=
  ob1 (T_isPerson τ v1) (fun r1 =>
  if r1 = 0 then
    some ((-1), τ)
  else
    ob2 (T_shamOf τ v1) (fun r3 τ5 =>
    some (r3, τ5)))
def T_shams_j46 (k4 : TS → Int32 → Int32 → Option (Int32 × TS)) (τ : TS) (v2 : Int32) (s0 : Int32) (s1 : Int32) : Option (Int32 × TS) :=
  nm (s0 ||| s1) (fun x10 =>
  nm (v2 + 1) (fun x11 =>
  k4 τ x10 x11))
def T_shams_l4  : Nat → TS → Int32 → Int32 → Option (Int32 × TS)
  | 0, _, _, _ => none
  | n + 1, τ, v1, v2 =>
    if v2 < (tA τ 0 0) then
      ob2 (T_shamOf τ v2) (fun r1 τ3 =>
      ob2 (T_ratesBy τ3 v2 r1) (fun r4 τ6 =>
      ob2 (T_ratesOf τ6 (tA τ6 0 2) v2) (fun r7 τ9 =>
      if r4 < r7 then
        T_shams_j46 (T_shams_l4 n) τ9 v2 v1 (i_shl 1 v2)
      else
        T_shams_j46 (T_shams_l4 n) τ9 v2 v1 0)))
    else
      some (v1, τ)
def T_shams (τ : TS) : Option (Int32 × TS) :=
  T_shams_l4 FU τ 0 0
def T_till (τ : TS) (v1 : Int32) (v2 : Int32) : Option (Int32) :=
  ob1 (T_isPerson τ v1) (fun r1 =>
  if r1 = 0 then
    some (-1)
  else
    ob1 (T_isIn v2 0 99) (fun r3 =>
    if r3 = 0 then
      some (-1)
    else
      ob1 (T_get τ v1 0) (fun r5 =>
      if r5 < v2 then
        ob1 (T_get τ v1 0) (fun r7 =>
        some (v2 - r7))
      else
        some 0)))
def T_need (τ : TS) (v1 : Int32) (v2 : Int32) : Option (Int32 × TS) :=
  ob1 (T_isChair v1) (fun r1 =>
  if r1 = 0 then
    some (0, τ)
  else
    ob1 (T_isIn v2 0 3) (fun r3 =>
    if r3 = 0 then
      some (0, τ)
    else
      if inb (58 + v1) 2030 = true then nm (wA τ 0 (58 + v1).toNatClampNeg v2) (fun τ5 =>
      some (1, τ5))
      else none))
def T_isWithin_l2 (v0 : Int32) (v1 : Int32) : Nat → Int32 → Option (Int32)
  | 0, _ => none
  | n + 1, v2 =>
    if v2 < 8 then
      if ((i_shr v1 (2 * v2)) &&& 3) < ((i_shr v0 (2 * v2)) &&& 3) then
        some 0
      else
        nm (v2 + 1) (fun x1 =>
        (T_isWithin_l2 v0 v1 n) x1)
    else
      some 1
def T_isWithin (v0 : Int32) (v1 : Int32) : Option (Int32) :=
  T_isWithin_l2 v0 v1 FU 0
def T_lessBy (v0 : Int32) (v1 : Int32) : Option (Int32) :=
  if ((i_shr v0 (2 * v1)) &&& 3) = 0 then
    some v0
  else
    some (v0 - (i_shl 1 (2 * v1)))
def T_behindSitting (τ : TS) (v1 : Int32) (v2 : Int32) : Option (Int32) :=
  ob1 (T_otherOf τ v2) (fun r1 =>
  ob1 (T_lessBy v1 r1) (fun r3 =>
  ob1 (T_otherOf τ r1) (fun r5 =>
  if r5 = r1 then
    some r3
  else
    ob1 (T_otherOf τ r1) (fun r7 =>
    ob1 (T_lessBy r3 r7) (fun r9 =>
    some r9)))))
def T_laySittings_j135 (k41 : TS → Int32 → Option (Int32 × TS)) (τ : TS) (v1 : Int32) (v2 : Int32) : Option (Int32 × TS) :=
  nm (v2 + 1) (fun x5 =>
  k41 τ x5)
def T_laySittings_j134 (k41 : TS → Int32 → Option (Int32 × TS)) (τ : TS) (v1 : Int32) (v2 : Int32) (s1 : Int32) (s2 : Int32) : Option (Int32 × TS) :=
  if inb s1 65536 = true then nm (wA τ 26 s1.toNatClampNeg s2) (fun τ4 =>
  T_laySittings_j135 k41 τ4 v1 v2)
  else none
def T_laySittings_j109 (k41 : TS → Int32 → Option (Int32 × TS)) (k64 : Int32 → Int32 → Option (Int32 × TS)) (τ : TS) (v1 : Int32) (v2 : Int32) (v3 : Int32) (v4 : Int32) : Option (Int32 × TS) :=
  nm (v4 + 1) (fun x8 =>
  k64 v3 x8)
def T_laySittings_l64 (k41 : TS → Int32 → Option (Int32 × TS)) (τ : TS) (v1 : Int32) (v2 : Int32) : Nat → Int32 → Int32 → Option (Int32 × TS)
  | 0, _, _ => none
  | n + 1, v3, v4 =>
    if v4 < 8 then
      ob1 (T_behindSitting τ v2 v4) (fun r6 =>
      if r6 = v2 then
        T_laySittings_j109 k41 (T_laySittings_l64 k41 τ v1 v2 n) τ v1 v2 v3 v4
      else
        if inb r6 65536 = true then
        if ((tA τ 26 r6.toNatClampNeg) + 1) < v3 then
          if inb r6 65536 = true then
          nm ((tA τ 26 r6.toNatClampNeg) + 1) (fun x9 =>
          T_laySittings_j109 k41 (T_laySittings_l64 k41 τ v1 v2 n) τ v1 v2 x9 v4)
          else none
        else
          T_laySittings_j109 k41 (T_laySittings_l64 k41 τ v1 v2 n) τ v1 v2 v3 v4
        else none)
    else
      if 1000000 < v3 then
        T_laySittings_j134 k41 τ v1 v2 v2 1000000
      else
        T_laySittings_j134 k41 τ v1 v2 v2 v3
def T_laySittings_l41 (v1 : Int32) : Nat → TS → Int32 → Option (Int32 × TS)
  | 0, _, _ => none
  | n + 1, τ, v2 =>
    if v1 < v2 then
      some (v1, τ)
    else
      ob1 (T_isWithin v2 v1) (fun r2 =>
      if r2 = 0 then
        T_laySittings_j135 (T_laySittings_l41 v1 n) τ v1 v2
      else
        T_laySittings_l64 (T_laySittings_l41 v1 n) τ v1 v2 FU 1000000 0)
def T_laySittings_l4 (τ : TS) : Nat → Int32 → Int32 → Option (Int32 × TS)
  | 0, _, _ => none
  | n + 1, v1, v2 =>
    if v2 < 8 then
      if inb (58 + v2) 2030 = true then
      nm (v1 ||| (i_shl (tA τ 0 (58 + v2).toNatClampNeg) (2 * v2))) (fun x10 =>
      nm (v2 + 1) (fun x11 =>
      (T_laySittings_l4 τ n) x10 x11))
      else none
    else
      nm (wA τ 26 0 0) (fun τ1 =>
      T_laySittings_l41 v1 FU τ1 1)
def T_laySittings (τ : TS) : Option (Int32 × TS) :=
  T_laySittings_l4 τ FU 0 0
def T_booking_j87 (k46 : Int32 → Int32 → Int32 → Option (Int32 × TS)) (k55 : Int32 → Option (Int32 × TS)) (τ : TS) (v1 : Int32) (v2 : Int32) (v3 : Int32) (v4 : Int32) (v5 : Int32) : Option (Int32 × TS) :=
  nm (v4 + 1) (fun x9 =>
  k55 x9)
def T_booking_l55 (k46 : Int32 → Int32 → Int32 → Option (Int32 × TS)) (τ : TS) (v1 : Int32) (v2 : Int32) (v3 : Int32) (v5 : Int32) : Nat → Int32 → Option (Int32 × TS)
  | 0, _ => none
  | n + 1, v4 =>
    ob1 (T_behindSitting τ v2 v4) (fun r7 =>
    if r7 = v2 then
      T_booking_j87 k46 (T_booking_l55 k46 τ v1 v2 v3 v5 n) τ v1 v2 v3 v4 v5
    else
      ob1 (T_behindSitting τ v2 v4) (fun r10 =>
      if inb r10 65536 = true then
      if (tA τ 26 r10.toNatClampNeg) = ((v3 - v5) - 1) then
        ob1 (T_behindSitting τ v2 v4) (fun r12 =>
        nm (v5 + 1) (fun x14 =>
        k46 r12 v4 x14))
      else
        T_booking_j87 k46 (T_booking_l55 k46 τ v1 v2 v3 v5 n) τ v1 v2 v3 v4 v5
      else none))
def T_booking_l46 (τ : TS) (v1 : Int32) (v3 : Int32) : Nat → Int32 → Int32 → Int32 → Option (Int32 × TS)
  | 0, _, _, _ => none
  | n + 1, v2, v4, v5 =>
    if v1 < v5 then
      some (v4, τ)
    else
      T_booking_l55 (T_booking_l46 τ v1 v3 n) τ v1 v2 v3 v5 FU 0
def T_booking (τ : TS) (v1 : Int32) : Option (Int32 × TS) :=
  ob2 (T_laySittings τ) (fun r1 τ3 =>
  if inb r1 65536 = true then
  nm (tA τ3 26 r1.toNatClampNeg) (fun x4 =>
  if x4 = 1000000 then
    some ((-2), τ3)
  else
    ob1 (T_isIn v1 (-1) (x4 - 1)) (fun r5 =>
    if r5 = 0 then
      some ((-2), τ3)
    else
      if v1 = (-1) then
        some (x4, τ3)
      else
        T_booking_l46 τ3 v1 x4 FU r1 0 0))
  else none)
def T_seen (τ : TS) (v1 : Int32) (v2 : Int32) : Option (Int32 × TS) :=
  if v1 = (-1) then
    nm (wA τ 0 4 0) (fun τ8 =>
    some (0, τ8))
  else
    ob1 (T_isIn v1 1 255) (fun r1 =>
    if r1 = 0 then
      some ((-2), τ)
    else
      ob1 (T_isIn v2 0 255) (fun r3 =>
      if r3 = 0 then
        some ((-2), τ)
      else
        if (tA τ 0 4) = 6 then
          some ((-2), τ)
        else
          if inb (66 + (2 * (tA τ 0 4))) 2030 = true then nm (wA τ 0 (66 + (2 * (tA τ 0 4))).toNatClampNeg v1) (fun τ5 =>
          if inb ((66 + (2 * (tA τ5 0 4))) + 1) 2030 = true then nm (wA τ5 0 ((66 + (2 * (tA τ5 0 4))) + 1).toNatClampNeg v2) (fun τ6 =>
          nm (wA τ6 0 4 ((tA τ6 0 4) + 1)) (fun τ7 =>
          some ((tA τ7 0 4), τ7)))
          else none)
          else none))
def T_digitOf_l5 (v1 : Int32) (v2 : Int32) : Nat → Int32 → Int32 → Option (Int32)
  | 0, _, _ => none
  | n + 1, v3, v4 =>
    if v4 < v2 then
      if v1 = 0 then none else
      nm (v3 / v1) (fun x1 =>
      nm (v4 + 1) (fun x2 =>
      (T_digitOf_l5 v1 v2 n) x1 x2))
    else
      if v1 = 0 then none else
      some (i_rem v3 v1)
def T_digitOf (v0 : Int32) (v1 : Int32) (v2 : Int32) : Option (Int32) :=
  T_digitOf_l5 v1 v2 FU v0 0
def T_isSeenBy_j71 (k2 : Int32 → Option (Int32)) (k40 : Int32 → Int32 → Option (Int32)) (τ : TS) (v1 : Int32) (v2 : Int32) (v3 : Int32) (v4 : Int32) (v6 : Int32) (s0 : Int32) (s1 : Int32) : Option (Int32) :=
  nm (s0 ||| s1) (fun x5 =>
  nm (v6 + 1) (fun x6 =>
  k40 x5 x6))
def T_isSeenBy_l40 (k2 : Int32 → Option (Int32)) (τ : TS) (v1 : Int32) (v2 : Int32) (v3 : Int32) (v4 : Int32) : Nat → Int32 → Int32 → Option (Int32)
  | 0, _, _ => none
  | n + 1, v5, v6 =>
    if v6 < v2 then
      ob1 (T_has v4 v6) (fun r3 =>
      if r3 = 0 then
        T_isSeenBy_j71 k2 (T_isSeenBy_l40 k2 τ v1 v2 v3 v4 n) τ v1 v2 v3 v4 v6 v5 0
      else
        ob1 (T_digitOf v1 v2 v6) (fun r7 =>
        T_isSeenBy_j71 k2 (T_isSeenBy_l40 k2 τ v1 v2 v3 v4 n) τ v1 v2 v3 v4 v6 v5 (i_shl 1 r7)))
    else
      if inb ((66 + (2 * v3)) + 1) 2030 = true then
      if v5 = (tA τ 0 ((66 + (2 * v3)) + 1).toNatClampNeg) then
        nm (v3 + 1) (fun x2 =>
        k2 x2)
      else
        some 0
      else none
def T_isSeenBy_l2 (τ : TS) (v1 : Int32) (v2 : Int32) : Nat → Int32 → Option (Int32)
  | 0, _ => none
  | n + 1, v3 =>
    if v3 < (tA τ 0 4) then
      if inb (66 + (2 * v3)) 2030 = true then
      nm (tA τ 0 (66 + (2 * v3)).toNatClampNeg) (fun x1 =>
      if (i_shr x1 v2) = 0 then
        T_isSeenBy_l40 (T_isSeenBy_l2 τ v1 v2 n) τ v1 v2 v3 x1 FU 0 0
      else
        some 0)
      else none
    else
      some 1
def T_isSeenBy (τ : TS) (v1 : Int32) (v2 : Int32) : Option (Int32) :=
  T_isSeenBy_l2 τ v1 v2 FU 0
def T_layWays_j107 (k46 : TS → Int32 → Option (TS)) (τ : TS) (v1 : Int32) (v2 : Int32) (v3 : Int32) : Option (TS) :=
  nm (v3 + 1) (fun x5 =>
  k46 τ x5)
def T_layWays_l76 (k46 : TS → Int32 → Option (TS)) (v1 : Int32) (v2 : Int32) (v3 : Int32) : Nat → TS → Int32 → Option (TS)
  | 0, _, _ => none
  | n + 1, τ, v4 =>
    if v4 < v1 then
      if inb v4 5 = true then
      ob1 (T_digitOf v3 v1 v4) (fun r6 =>
      if inb v4 5 = true then nm (wA τ 28 v4.toNatClampNeg ((tA τ 28 v4.toNatClampNeg) ||| (i_shl 1 r6))) (fun τ8 =>
      nm (v4 + 1) (fun x9 =>
      (T_layWays_l76 k46 v1 v2 v3 n) τ8 x9))
      else none)
      else none
    else
      T_layWays_j107 k46 τ v1 v2 v3
def T_layWays_l46 (v1 : Int32) (v2 : Int32) : Nat → TS → Int32 → Option (TS)
  | 0, _, _ => none
  | n + 1, τ, v3 =>
    if v3 < v2 then
      ob1 (T_isSeenBy τ v3 v1) (fun r2 =>
      if r2 = 0 then
        T_layWays_j107 (T_layWays_l46 v1 v2 n) τ v1 v2 v3
      else
        nm (sI τ 27 ((tI τ 27) + 1)) (fun τ4 =>
        T_layWays_l76 (T_layWays_l46 v1 v2 n) v1 v2 v3 FU τ4 0))
    else
      some τ
def T_layWays_l26 (v1 : Int32) (v2 : Int32) : Nat → TS → Int32 → Option (TS)
  | 0, _, _ => none
  | n + 1, τ, v3 =>
    if v3 < 5 then
      if inb v3 5 = true then nm (wA τ 28 v3.toNatClampNeg 0) (fun τ10 =>
      nm (v3 + 1) (fun x11 =>
      (T_layWays_l26 v1 v2 n) τ10 x11))
      else none
    else
      T_layWays_l46 v1 v2 FU τ 0
def T_layWays_l4 (τ : TS) (v1 : Int32) : Nat → Int32 → Int32 → Option (TS)
  | 0, _, _ => none
  | n + 1, v2, v3 =>
    if v3 < v1 then
      nm (v2 * v1) (fun x12 =>
      nm (v3 + 1) (fun x13 =>
      (T_layWays_l4 τ v1 n) x12 x13))
    else
      nm (sI τ 27 0) (fun τ1 =>
      T_layWays_l26 v1 v2 FU τ1 0)
def T_layWays (τ : TS) (v1 : Int32) : Option (TS) :=
  T_layWays_l4 τ v1 FU 1 0
def T_fits (τ : TS) (v1 : Int32) : Option (Int32 × TS) :=
  ob1 (T_isIn v1 1 5) (fun r1 =>
  if r1 = 0 then
    some ((-1), τ)
  else
    ob1 (T_layWays τ v1) (fun τ4 =>
    some ((tI τ4 27), τ4)))
def T_whose (τ : TS) (v1 : Int32) (v2 : Int32) : Option (Int32 × TS) :=
  ob1 (T_isIn v1 1 5) (fun r1 =>
  if r1 = 0 then
    some ((-1), τ)
  else
    ob1 (T_isIn v2 0 (v1 - 1)) (fun r3 =>
    if r3 = 0 then
      some ((-1), τ)
    else
      ob1 (T_layWays τ v1) (fun τ6 =>
      if inb v2 5 = true then
      some ((tA τ6 28 v2.toNatClampNeg), τ6)
      else none)))
def T_next_j60 (k23 : Int32 → Int32 → Int32 → Option (Int32 × TS)) (τ : TS) (v1 : Int32) (v2 : Int32) (v3 : Int32) (v4 : Int32) : Option (Int32 × TS) :=
  nm (v4 + 1) (fun x9 =>
  k23 v2 v3 x9)
def T_next_l23 (τ : TS) (v1 : Int32) : Nat → Int32 → Int32 → Int32 → Option (Int32 × TS)
  | 0, _, _, _ => none
  | n + 1, v2, v3, v4 =>
    if v4 < v1 then
      if inb v4 5 = true then
      ob1 (T_bits (tA τ 28 v4.toNatClampNeg)) (fun r5 =>
      if v3 < r5 then
        if inb v4 5 = true then
        ob1 (T_bits (tA τ 28 v4.toNatClampNeg)) (fun r7 =>
        T_next_j60 (T_next_l23 τ v1 n) τ v1 v4 r7 v4)
        else none
      else
        T_next_j60 (T_next_l23 τ v1 n) τ v1 v2 v3 v4)
      else none
    else
      some (v2, τ)
def T_next (τ : TS) (v1 : Int32) : Option (Int32 × TS) :=
  ob1 (T_isIn v1 1 5) (fun r1 =>
  if r1 = 0 then
    some ((-1), τ)
  else
    ob1 (T_layWays τ v1) (fun τ4 =>
    T_next_l23 τ4 v1 FU (-1) 0 0))
def T_cut (τ : TS) (v1 : Int32) (v2 : Int32) (v3 : Int32) : Option (Int32 × TS) :=
  ob1 (T_isChair v1) (fun r1 =>
  if r1 = 0 then
    some (0, τ)
  else
    ob1 (T_isChair v2) (fun r3 =>
    if r3 = 0 then
      some (0, τ)
    else
      if v1 = v2 then
        some (0, τ)
      else
        ob1 (T_isIn v3 0 99) (fun r5 =>
        if r5 = 0 then
          some (0, τ)
        else
          if inb ((78 + (8 * v1)) + v2) 2030 = true then nm (wA τ 0 ((78 + (8 * v1)) + v2).toNatClampNeg v3) (fun τ7 =>
          if inb ((78 + (8 * v2)) + v1) 2030 = true then nm (wA τ7 0 ((78 + (8 * v2)) + v1).toNatClampNeg v3) (fun τ8 =>
          some (1, τ8))
          else none)
          else none)))
def T_lowestOf_l2 (v0 : Int32) : Nat → Int32 → Option (Int32)
  | 0, _ => none
  | n + 1, v1 =>
    ob1 (T_has v0 v1) (fun r1 =>
    if r1 = 0 then
      nm (v1 + 1) (fun x3 =>
      (T_lowestOf_l2 v0 n) x3)
    else
      some v1)
def T_lowestOf (v0 : Int32) : Option (Int32) :=
  T_lowestOf_l2 v0 FU 0
def T_withPair (τ : TS) (v1 : Int32) (v2 : Int32) : Option (Int32) :=
  ob1 (T_lowestOf v1) (fun r1 =>
  if inb ((78 + (8 * r1)) + v2) 2030 = true then
  if inb ((v1 &&& ((i_shl 1 r1) ^^^ (-1))) &&& ((i_shl 1 v2) ^^^ (-1))) 256 = true then
  some ((tA τ 0 ((78 + (8 * r1)) + v2).toNatClampNeg) + (tA τ 29 ((v1 &&& ((i_shl 1 r1) ^^^ (-1))) &&& ((i_shl 1 v2) ^^^ (-1))).toNatClampNeg))
  else none
  else none)
def T_pairs_j179 (k142 : Int32 → Option (Int32 × TS)) (k154 : Int32 → Option (Int32 × TS)) (τ : TS) (v2 : Int32) (v3 : Int32) (v4 : Int32) (v5 : Int32) : Option (Int32 × TS) :=
  nm (v5 + 1) (fun x10 =>
  k154 x10)
def T_pairs_l154 (k142 : Int32 → Option (Int32 × TS)) (τ : TS) (v2 : Int32) (v3 : Int32) (v4 : Int32) : Nat → Int32 → Option (Int32 × TS)
  | 0, _ => none
  | n + 1, v5 =>
    ob1 (T_has v3 v5) (fun r8 =>
    if r8 = 0 then
      T_pairs_j179 k142 (T_pairs_l154 k142 τ v2 v3 v4 n) τ v2 v3 v4 v5
    else
      ob1 (T_withPair τ v3 v5) (fun r11 =>
      if inb v3 256 = true then
      if r11 = (tA τ 29 v3.toNatClampNeg) then
        if v4 = v2 then
          some (v5, τ)
        else
          if v5 = v2 then
            some (v4, τ)
          else
            nm (v3 &&& (((i_shl 1 v4) ^^^ (-1)) &&& ((i_shl 1 v5) ^^^ (-1)))) (fun x13 =>
            k142 x13)
      else
        T_pairs_j179 k142 (T_pairs_l154 k142 τ v2 v3 v4 n) τ v2 v3 v4 v5
      else none))
def T_pairs_l142 (τ : TS) (v2 : Int32) : Nat → Int32 → Option (Int32 × TS)
  | 0, _ => none
  | n + 1, v3 =>
    ob1 (T_lowestOf v3) (fun r5 =>
    nm (r5 + 1) (fun x7 =>
    T_pairs_l154 (T_pairs_l142 τ v2 n) τ v2 v3 r5 FU x7))
def T_pairs_j112 (k44 : TS → Int32 → Option (Int32 × TS)) (k68 : TS → Int32 → Option (Int32 × TS)) (τ : TS) (v1 : Int32) (v2 : Int32) (v3 : Int32) (v4 : Int32) : Option (Int32 × TS) :=
  nm (v4 + 1) (fun x21 =>
  k68 τ x21)
def T_pairs_l68 (k44 : TS → Int32 → Option (Int32 × TS)) (v1 : Int32) (v2 : Int32) (v3 : Int32) : Nat → TS → Int32 → Option (Int32 × TS)
  | 0, _, _ => none
  | n + 1, τ, v4 =>
    if v4 < v1 then
      ob1 (T_has v3 v4) (fun r19 =>
      if r19 = 0 then
        T_pairs_j112 k44 (T_pairs_l68 k44 v1 v2 v3 n) τ v1 v2 v3 v4
      else
        ob1 (T_withPair τ v3 v4) (fun r22 =>
        if inb v3 256 = true then
        if r22 < (tA τ 29 v3.toNatClampNeg) then
          ob1 (T_withPair τ v3 v4) (fun r24 =>
          if inb v3 256 = true then nm (wA τ 29 v3.toNatClampNeg r24) (fun τ26 =>
          T_pairs_j112 k44 (T_pairs_l68 k44 v1 v2 v3 n) τ26 v1 v2 v3 v4)
          else none)
        else
          T_pairs_j112 k44 (T_pairs_l68 k44 v1 v2 v3 n) τ v1 v2 v3 v4
        else none))
    else
      nm (v3 + 1) (fun x18 =>
      k44 τ x18)
def T_pairs_l44 (v1 : Int32) (v2 : Int32) : Nat → TS → Int32 → Option (Int32 × TS)
  | 0, _, _ => none
  | n + 1, τ, v3 =>
    if v3 < (i_shl 1 v1) then
      if inb v3 256 = true then nm (wA τ 29 v3.toNatClampNeg 1000000) (fun τ14 =>
      ob1 (T_lowestOf v3) (fun r15 =>
      nm (r15 + 1) (fun x17 =>
      T_pairs_l68 (T_pairs_l44 v1 v2 n) v1 v2 v3 FU τ14 x17)))
      else none
    else
      nm ((i_shl 1 v1) - 1) (fun x4 =>
      if v2 = (-1) then
        if inb x4 256 = true then
        some ((tA τ 29 x4.toNatClampNeg), τ)
        else none
      else
        T_pairs_l142 τ v2 FU x4)
def T_pairs_j22 (τ : TS) (v1 : Int32) (v2 : Int32) : Option (Int32 × TS) :=
  ob1 (T_isIn v2 (-1) (v1 - 1)) (fun r1 =>
  if r1 = 0 then
    some ((-1), τ)
  else
    nm (wA τ 29 0 0) (fun τ3 =>
    T_pairs_l44 v1 v2 FU τ3 1))
def T_pairs (τ : TS) (v1 : Int32) (v2 : Int32) : Option (Int32 × TS) :=
  if v1 = 2 then
    T_pairs_j22 τ v1 v2
  else
    if v1 = 4 then
      T_pairs_j22 τ v1 v2
    else
      if v1 = 6 then
        T_pairs_j22 τ v1 v2
      else
        if v1 = 8 then
          T_pairs_j22 τ v1 v2
        else
          some ((-1), τ)
def T_likes (τ : TS) (v1 : Int32) (v2 : Int32) (v3 : Int32) : Option (Int32 × TS) :=
  ob1 (T_isChair v1) (fun r1 =>
  if r1 = 0 then
    some (0, τ)
  else
    ob1 (T_isChair v2) (fun r3 =>
    if r3 = 0 then
      some (0, τ)
    else
      ob1 (T_isIn v3 0 9) (fun r5 =>
      if r5 = 0 then
        some (0, τ)
      else
        if inb ((142 + (8 * v1)) + v2) 2030 = true then nm (wA τ 0 ((142 + (8 * v1)) + v2).toNatClampNeg v3) (fun τ7 =>
        some (1, τ7))
        else none)))
def T_bestOf_j63 (k5 : Int32 → Int32 → Option (Int32)) (τ : TS) (v1 : Int32) (v2 : Int32) (v3 : Int32) (v4 : Int32) : Option (Int32) :=
  nm (v4 + 1) (fun x3 =>
  k5 v3 x3)
def T_bestOf_j60 (k5 : Int32 → Int32 → Option (Int32)) (τ : TS) (v1 : Int32) (v2 : Int32) (v4 : Int32) : Option (Int32) :=
  T_bestOf_j63 k5 τ v1 v2 v4 v4
def T_bestOf_l5 (τ : TS) (v1 : Int32) (v2 : Int32) : Nat → Int32 → Int32 → Option (Int32)
  | 0, _, _ => none
  | n + 1, v3, v4 =>
    if v4 < 8 then
      ob1 (T_has v2 v4) (fun r1 =>
      if r1 = 0 then
        T_bestOf_j63 (T_bestOf_l5 τ v1 v2 n) τ v1 v2 v3 v4
      else
        if v3 = (-1) then
          T_bestOf_j60 (T_bestOf_l5 τ v1 v2 n) τ v1 v2 v4
        else
          if inb ((142 + (8 * v1)) + v4) 2030 = true then
          if inb ((142 + (8 * v1)) + v3) 2030 = true then
          if (tA τ 0 ((142 + (8 * v1)) + v4).toNatClampNeg) < (tA τ 0 ((142 + (8 * v1)) + v3).toNatClampNeg) then
            T_bestOf_j60 (T_bestOf_l5 τ v1 v2 n) τ v1 v2 v4
          else
            T_bestOf_j63 (T_bestOf_l5 τ v1 v2 n) τ v1 v2 v3 v4
          else none
          else none)
    else
      some v3
def T_bestOf (τ : TS) (v1 : Int32) (v2 : Int32) : Option (Int32) :=
  T_bestOf_l5 τ v1 v2 FU (-1) 0
def T_layTrades_l40 (k6 : TS → Int32 → Option (TS)) (v1 : Int32) (v2 : Int32) : Nat → TS → Int32 → Int32 → Option (TS)
  | 0, _, _, _ => none
  | n + 1, τ, v3, v4 =>
    ob1 (T_has v4 v3) (fun r4 =>
    if r4 = 0 then
      nm (v4 ||| (i_shl 1 v3)) (fun x7 =>
      ob1 (T_bestOf τ v3 v2) (fun r8 =>
      if inb v3 8 = true then nm (wA τ 30 v3.toNatClampNeg r8) (fun τ10 =>
      if inb v3 8 = true then
      nm (tA τ10 30 v3.toNatClampNeg) (fun x11 =>
      (T_layTrades_l40 k6 v1 v2 n) τ10 x11 x7)
      else none)
      else none))
    else
      nm (v2 &&& (v4 ^^^ (-1))) (fun x6 =>
      k6 τ x6))
def T_layTrades_l18 (k6 : TS → Int32 → Option (TS)) (τ : TS) (v1 : Int32) (v2 : Int32) : Nat → Int32 → Int32 → Option (TS)
  | 0, _, _ => none
  | n + 1, v3, v4 =>
    if v4 < v1 then
      ob1 (T_bestOf τ v3 v2) (fun r12 =>
      nm (v4 + 1) (fun x14 =>
      (T_layTrades_l18 k6 τ v1 v2 n) r12 x14))
    else
      T_layTrades_l40 k6 v1 v2 FU τ v3 0
def T_layTrades_l6 (v1 : Int32) : Nat → TS → Int32 → Option (TS)
  | 0, _, _ => none
  | n + 1, τ, v2 =>
    if v2 = 0 then
      some τ
    else
      ob1 (T_lowestOf v2) (fun r2 =>
      T_layTrades_l18 (T_layTrades_l6 v1 n) τ v1 v2 FU r2 0)
def T_layTrades (τ : TS) (v1 : Int32) : Option (TS) :=
  nm ((i_shl 1 v1) - 1) (fun x1 =>
  T_layTrades_l6 v1 FU τ x1)
def T_traded (τ : TS) (v1 : Int32) (v2 : Int32) : Option (Int32 × TS) :=
  ob1 (T_isIn v1 1 8) (fun r1 =>
  if r1 = 0 then
    some ((-1), τ)
  else
    ob1 (T_isIn v2 0 (v1 - 1)) (fun r3 =>
    if r3 = 0 then
      some ((-1), τ)
    else
      ob1 (T_layTrades τ v1) (fun τ6 =>
      if inb v2 8 = true then
      some ((tA τ6 30 v2.toNatClampNeg), τ6)
      else none)))
def T_rather_j44 (k21 : Int32 → Int32 → Option (Int32 × TS)) (τ : TS) (v1 : Int32) (v3 : Int32) (s0 : Int32) (s1 : Int32) : Option (Int32 × TS) :=
  nm (s0 ||| s1) (fun x5 =>
  nm (v3 + 1) (fun x6 =>
  k21 x5 x6))
def T_rather_l21 (τ : TS) (v1 : Int32) : Nat → Int32 → Int32 → Option (Int32 × TS)
  | 0, _, _ => none
  | n + 1, v2, v3 =>
    if v3 < v1 then
      if inb v3 8 = true then
      if (tA τ 30 v3.toNatClampNeg) = v3 then
        T_rather_j44 (T_rather_l21 τ v1 n) τ v1 v3 v2 0
      else
        T_rather_j44 (T_rather_l21 τ v1 n) τ v1 v3 v2 (i_shl 1 v3)
      else none
    else
      some (v2, τ)
def T_rather (τ : TS) (v1 : Int32) : Option (Int32 × TS) :=
  ob1 (T_isIn v1 1 8) (fun r1 =>
  if r1 = 0 then
    some ((-1), τ)
  else
    ob1 (T_layTrades τ v1) (fun τ4 =>
    T_rather_l21 τ4 v1 FU 0 0))
def T_slip (τ : TS) (v1 : Int32) (v2 : Int32) : Option (Int32 × TS) :=
  ob1 (T_isChair v1) (fun r1 =>
  if r1 = 0 then
    some (0, τ)
  else
    ob1 (T_isIn v2 0 10) (fun r3 =>
    if r3 = 0 then
      some (0, τ)
    else
      if inb (206 + v1) 2030 = true then nm (wA τ 0 (206 + v1).toNatClampNeg v2) (fun τ5 =>
      some (1, τ5))
      else none))
def T_scars_j21 (τ : TS) : Option (Int64 × TS) :=
  some ((-1), τ)
def T_scars_j189 (τ : TS) (v2 : Int32) (v4 : Int64) (s0 : Int64) : Option (Int64 × TS) :=
  if inb v2 9 = true then
  ob1 (T_divisor (tL τ 31 v2.toNatClampNeg) v4) (fun r5 =>
  if r5 = 0 then none else
  some ((s0 / r5), τ))
  else none
def T_scars_j168 (k64 : TS → Int64 → Int32 → Option (Int64 × TS)) (τ : TS) (v1 : Int32) (v2 : Int32) (v3 : Int32) (v4 : Int64) (v6 : Int32) : Option (Int64 × TS) :=
  nm (v6 + 1) (fun x10 =>
  k64 τ v4 x10)
def T_scars_j152 (k64 : TS → Int64 → Int32 → Option (Int64 × TS)) (k87 : TS → Int32 → Option (Int64 × TS)) (τ : TS) (v1 : Int32) (v2 : Int32) (v3 : Int32) (v4 : Int64) (v6 : Int32) (v7 : Int32) (s1 : Int32) (s2 : Int64) (s3 : Int64) : Option (Int64 × TS) :=
  if inb s1 9 = true then nm (wL τ 31 s1.toNatClampNeg (s2 + s3)) (fun τ11 =>
  nm (v7 + (-1)) (fun x12 =>
  k87 τ11 x12))
  else none
def T_scars_l87 (k64 : TS → Int64 → Int32 → Option (Int64 × TS)) (v1 : Int32) (v2 : Int32) (v3 : Int32) (v4 : Int64) (v6 : Int32) : Nat → TS → Int32 → Option (Int64 × TS)
  | 0, _, _ => none
  | n + 1, τ, v7 =>
    if v7 < 0 then
      nm (v4 * 10) (fun x9 =>
      T_scars_j168 k64 τ v1 v2 v3 x9 v6)
    else
      if inb v7 9 = true then
      if inb (206 + v6) 2030 = true then
      if 0 < v7 then
        if inb (v7 - 1) 9 = true then
        if inb (206 + v6) 2030 = true then
        T_scars_j152 k64 (T_scars_l87 k64 v1 v2 v3 v4 v6 n) τ v1 v2 v3 v4 v6 v7 v7 ((tL τ 31 v7.toNatClampNeg) * (Int32.toInt64 (10 - (tA τ 0 (206 + v6).toNatClampNeg)))) ((tL τ 31 (v7 - 1).toNatClampNeg) * (Int32.toInt64 (tA τ 0 (206 + v6).toNatClampNeg)))
        else none
        else none
      else
        T_scars_j152 k64 (T_scars_l87 k64 v1 v2 v3 v4 v6 n) τ v1 v2 v3 v4 v6 v7 v7 ((tL τ 31 v7.toNatClampNeg) * (Int32.toInt64 (10 - (tA τ 0 (206 + v6).toNatClampNeg)))) 0
      else none
      else none
def T_scars_l64 (v1 : Int32) (v2 : Int32) (v3 : Int32) : Nat → TS → Int64 → Int32 → Option (Int64 × TS)
  | 0, _, _, _ => none
  | n + 1, τ, v4, v6 =>
    if v6 < 8 then
      ob1 (T_has v1 v6) (fun r7 =>
      if r7 = 0 then
        T_scars_j168 (T_scars_l64 v1 v2 v3 n) τ v1 v2 v3 v4 v6
      else
        T_scars_l87 (T_scars_l64 v1 v2 v3 n) v1 v2 v3 v4 v6 FU τ 8)
    else
      if v3 = 0 then
        if inb v2 9 = true then
        T_scars_j189 τ v2 v4 (tL τ 31 v2.toNatClampNeg)
        else none
      else
        T_scars_j189 τ v2 v4 v4
def T_scars_j54 (k31 : TS → Int32 → Option (Int64 × TS)) (τ : TS) (v1 : Int32) (v2 : Int32) (v3 : Int32) (v4 : Int64) (v6 : Int32) (s1 : Int32) (s2 : Int64) : Option (Int64 × TS) :=
  if inb s1 9 = true then nm (wL τ 31 s1.toNatClampNeg s2) (fun τ13 =>
  nm (v6 + 1) (fun x14 =>
  k31 τ13 x14))
  else none
def T_scars_l31 (v1 : Int32) (v2 : Int32) (v3 : Int32) (v4 : Int64) : Nat → TS → Int32 → Option (Int64 × TS)
  | 0, _, _ => none
  | n + 1, τ, v6 =>
    if v6 < 9 then
      if v6 = 0 then
        T_scars_j54 (T_scars_l31 v1 v2 v3 v4 n) τ v1 v2 v3 v4 v6 v6 1
      else
        T_scars_j54 (T_scars_l31 v1 v2 v3 v4 n) τ v1 v2 v3 v4 v6 v6 0
    else
      T_scars_l64 v1 v2 v3 FU τ v4 0
def T_scars (τ : TS) (v1 : Int32) (v2 : Int32) (v3 : Int32) : Option (Int64 × TS) :=
  ob1 (T_isIn v1 1 255) (fun r1 =>
  if r1 = 0 then
    T_scars_j21 τ
  else
    ob1 (T_isIn v2 0 8) (fun r3 =>
    if r3 = 0 then
      T_scars_j21 τ
    else
      T_scars_l31 v1 v2 v3 1 FU τ 0))
def T_rate (τ : TS) (v1 : Int32) (v2 : Int32) : Option (Int32 × TS) :=
  if v1 = (-1) then
    nm (wA τ 0 5 0) (fun τ8 =>
    some (0, τ8))
  else
    ob1 (T_isPerson τ v1) (fun r1 =>
    if r1 = 0 then
      some ((-2), τ)
    else
      ob1 (T_isIn v2 0 99) (fun r3 =>
      if r3 = 0 then
        some ((-2), τ)
      else
        if (tA τ 0 5) = 8 then
          some ((-2), τ)
        else
          if inb (214 + (2 * (tA τ 0 5))) 2030 = true then nm (wA τ 0 (214 + (2 * (tA τ 0 5))).toNatClampNeg v1) (fun τ5 =>
          if inb ((214 + (2 * (tA τ5 0 5))) + 1) 2030 = true then nm (wA τ5 0 ((214 + (2 * (tA τ5 0 5))) + 1).toNatClampNeg v2) (fun τ6 =>
          nm (wA τ6 0 5 ((tA τ6 0 5) + 1)) (fun τ7 =>
          some ((tA τ7 0 5), τ7)))
          else none)
          else none))
def T_law_j94 (k4 : TS → Int32 → Int32 → Option (Int32 × TS)) (τ : TS) (v2 : Int32) (s0 : Int32) (s1 : Int32) : Option (Int32 × TS) :=
  nm (s0 ||| s1) (fun x1 =>
  nm (v2 + 1) (fun x2 =>
  k4 τ x1 x2))
def T_law_j75 (k4 : TS → Int32 → Int32 → Option (Int32 × TS)) (k19 : TS → Int32 → Int32 → Option (Int32 × TS)) (τ : TS) (v1 : Int32) (v2 : Int32) (v4 : Int32) (s0 : Int32) : Option (Int32 × TS) :=
  nm (v4 + 1) (fun x3 =>
  k19 τ s0 x3)
def T_law_j74 (k4 : TS → Int32 → Int32 → Option (Int32 × TS)) (k19 : TS → Int32 → Int32 → Option (Int32 × TS)) (τ : TS) (v1 : Int32) (v2 : Int32) (v4 : Int32) : Option (Int32 × TS) :=
  T_law_j75 k4 k19 τ v1 v2 v4 0
def T_law_l19 (k4 : TS → Int32 → Int32 → Option (Int32 × TS)) (v1 : Int32) (v2 : Int32) : Nat → TS → Int32 → Int32 → Option (Int32 × TS)
  | 0, _, _, _ => none
  | n + 1, τ, v3, v4 =>
    if v4 < (tA τ 0 5) then
      if v3 = 0 then
        T_law_j74 k4 (T_law_l19 k4 v1 v2 n) τ v1 v2 v4
      else
        if inb (214 + (2 * v4)) 2030 = true then
        ob2 (T_ratesOf τ v2 (tA τ 0 (214 + (2 * v4)).toNatClampNeg)) (fun r4 τ6 =>
        if inb ((214 + (2 * v4)) + 1) 2030 = true then
        if r4 = (tA τ6 0 ((214 + (2 * v4)) + 1).toNatClampNeg) then
          T_law_j75 k4 (T_law_l19 k4 v1 v2 n) τ6 v1 v2 v4 1
        else
          T_law_j74 k4 (T_law_l19 k4 v1 v2 n) τ6 v1 v2 v4
        else none)
        else none
    else
      if v3 = 0 then
        T_law_j94 k4 τ v2 v1 0
      else
        T_law_j94 k4 τ v2 v1 (i_shl 1 v2)
def T_law_l4  : Nat → TS → Int32 → Int32 → Option (Int32 × TS)
  | 0, _, _, _ => none
  | n + 1, τ, v1, v2 =>
    if v2 < (tA τ 0 1) then
      T_law_l19 (T_law_l4 n) v1 v2 FU τ 1 0
    else
      some (v1, τ)
def T_law (τ : TS) : Option (Int32 × TS) :=
  T_law_l4 FU τ 0 0
def T_image (τ : TS) : Option (Int32 × TS) :=
  ob1 (T_copy τ 0 1) (fun τ2 =>
  some ((tA τ2 0 6), τ2))
def T_back (τ : TS) : Option (Int32 × TS) :=
  ob1 (T_copy τ 1 0) (fun τ2 =>
  some ((tA τ2 0 6), τ2))
def T_about (τ : TS) (v1 : Int32) : Option (Int32) :=
  ob1 (T_isIn v1 0 5) (fun r1 =>
  if r1 = 0 then
    if v1 = 6 then
      some (tI τ 4)
    else
      some (-2)
  else
    if inb v1 2030 = true then
    some (tA τ 0 v1.toNatClampNeg)
    else none)
