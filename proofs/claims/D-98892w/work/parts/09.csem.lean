/-! THE COMPONENT'S METHODS AS PURE FUNCTIONS (those that rest on no text), by program (wip: gen_c.py) -/
set_option maxRecDepth 100000
def F_fill_l5 (k0 : Nat) (n0 : Nat) (v1 : Int32) (v3 : Int32) : Nat → CS → Int32 → Option (CS)
  | 0, _, _ => none
  | n + 1, σ, v2 =>
    if v2 < v3 then
      if inb v2 n0 = true then nm (eA σ k0 v2.toNatClampNeg v1) (fun σ2 =>
      nm (v2 + 1) (fun x3 =>
      (F_fill_l5 k0 n0 v1 v3 n) σ2 x3))
      else none
    else
      some σ
def F_fill (σ : CS) (k0 : Nat) (n0 : Nat) (v1 : Int32) : Option (CS) :=
  nm (Int32.ofNat n0) (fun x1 =>
  F_fill_l5 k0 n0 v1 x1 FU σ 0)
def S_copy (σ : CS) (k0 : Nat) (n0 : Nat) (k1 : Nat) (n1 : Nat) : Option (CS) :=
  if cpOK 0 0 (Int32.ofNat n0) n0 n1 = true then nm (dCp σ k0 k1 0 0 (Int32.ofNat n0)) (fun σ1 =>
  some σ1)
  else none
def S_copy_2_l2 (g : Nat) (w0 : Nat) (w1 : Nat) : Nat → CS → Int32 → Option (CS)
  | 0, _, _ => none
  | n + 1, σ, v2 =>
    if v2 < (Int32.ofNat (cgn g)) then
      if inb v2 (cgn g) = true then
      if inb v2 (cgn g) = true then
      ob1 (S_copy σ (cgb w0 g + v2.toNatClampNeg) (crl g) (cgb w1 g + v2.toNatClampNeg) (crl g)) (fun σ4 =>
      nm (v2 + 1) (fun x5 =>
      (S_copy_2_l2 g w0 w1 n) σ4 x5))
      else none
      else none
    else
      some σ
def S_copy_2 (σ : CS) (g : Nat) (w0 : Nat) (w1 : Nat) : Option (CS) :=
  S_copy_2_l2 g w0 w1 FU σ 0
def S_be (σ : CS) (w : Nat) (w1 : Nat) : Option (CS) :=
  ob1 (S_copy σ (100 * w1 + 0) 6 (100 * w + 0) 6) (fun σ2 =>
  ob1 (S_copy σ2 (100 * w1 + 1) 148 (100 * w + 1) 148) (fun σ4 =>
  ob1 (S_copy σ4 (100 * w1 + 2) 8 (100 * w + 2) 8) (fun σ6 =>
  ob1 (S_copy σ6 (100 * w1 + 3) 8 (100 * w + 3) 8) (fun σ8 =>
  ob1 (S_copy σ8 (100 * w1 + 4) 8 (100 * w + 4) 8) (fun σ10 =>
  ob1 (S_copy_2 σ10 5 w1 w) (fun σ12 =>
  ob1 (S_copy_2 σ12 6 w1 w) (fun σ14 =>
  ob1 (S_copy_2 σ14 7 w1 w) (fun σ16 =>
  ob1 (S_copy_2 σ16 8 w1 w) (fun σ18 =>
  ob1 (S_copy_2 σ18 9 w1 w) (fun σ20 =>
  nm (dT σ20 w (va_cpy (cT σ20 w1) (cT σ20 w) 0 0 4)) (fun σ21 =>
  some σ21)))))))))))
def C_in (v0 : Int32) (v1 : Int32) (v2 : Int32) : Option (Int32) :=
  if v0 < v1 then
    some 0
  else
    if v2 < v0 then
      some 0
    else
      some 1
def S_tells_l9 (w : Nat) (v1 : Int32) (v2 : Int32) : Nat → CS → Int32 → Option (CS)
  | 0, _, _ => none
  | n + 1, σ, v3 =>
    if v3 < (cA σ (100 * w + 0) 3) then
      if inb v3 30 = true then
      if inb v1 148 = true then nm (eA σ ((100 * w + 50) + v3.toNatClampNeg) v1.toNatClampNeg v2) (fun σ3 =>
      nm (v3 + 1) (fun x4 =>
      (S_tells_l9 w v1 v2 n) σ3 x4))
      else none
      else none
    else
      some σ
def S_tells (σ : CS) (w : Nat) (v1 : Int32) (v2 : Int32) : Option (CS) :=
  if inb v1 148 = true then nm (eA σ (100 * w + 1) v1.toNatClampNeg v2) (fun σ1 =>
  S_tells_l9 w v1 v2 FU σ1 0)
  else none
def C_person (σ : CS) (v1 : Int32) (v2 : Int32) : Option (Int32 × CS) :=
  nm (cA σ 0 0) (fun x1 =>
  ob1 (C_in v1 0 99) (fun r2 =>
  if r2 = 0 then
    some ((-1), σ)
  else
    ob1 (C_in v2 0 9) (fun r4 =>
    if r4 = 0 then
      some ((-1), σ)
    else
      if x1 = 8 then
        some ((-1), σ)
      else
        nm (eA σ 0 0 ((cA σ 0 0) + 1)) (fun σ6 =>
        ob1 (S_tells σ6 0 (3 + x1) v1) (fun σ8 =>
        ob1 (S_tells σ8 0 (11 + x1) v2) (fun σ10 =>
        some (x1, σ10)))))))
def C_isChair (v0 : Int32) : Option (Int32) :=
  ob1 (C_in v0 0 7) (fun r1 =>
  if isZ r1 = true then some r1 else none)
def C_other (σ : CS) (v1 : Int32) (v2 : Int32) : Option (Int32 × CS) :=
  ob1 (C_isChair v1) (fun r1 =>
  if r1 = 0 then
    some (0, σ)
  else
    ob1 (C_isChair v2) (fun r3 =>
    if r3 = 0 then
      some (0, σ)
    else
      if inb v1 8 = true then nm (eA σ 2 v1.toNatClampNeg v2) (fun σ5 =>
      some (1, σ5))
      else none))
def C_put_l3 (v1 : Int32) : Nat → CS → Int32 → Option (CS)
  | 0, _, _ => none
  | n + 1, σ, v2 =>
    if v2 < 0 then
      some σ
    else
      if inb (cI σ 3) 300 = true then nm (eA σ 200 (cI σ 3).toNatClampNeg (vp_nar .byte ((i_shr v1 v2).toInt8.toInt32))) (fun σ1 =>
      nm (dI σ1 3 ((cI σ1 3) + 1)) (fun σ2 =>
      nm (v2 + (-8)) (fun x3 =>
      (C_put_l3 v1 n) σ2 x3)))
      else none
def C_put (σ : CS) (v1 : Int32) : Option (CS) :=
  C_put_l3 v1 FU σ 24
def C_feed (σ : CS) (v1 : Int32) (v2 : Int32) (v3 : Int32) (v4 : Int32) (v5 : Int32) : Option (Int32 × CS) :=
  if 300 < ((cI σ 3) + 20) then
    some ((-1), σ)
  else
    ob1 (C_put σ v1) (fun σ2 =>
    ob1 (C_put σ2 v2) (fun σ4 =>
    ob1 (C_put σ4 v3) (fun σ6 =>
    ob1 (C_put σ6 v4) (fun σ8 =>
    ob1 (C_put σ8 v5) (fun σ10 =>
    some ((cI σ10 3), σ10))))))
def C_end (σ : CS) (v1 : Int32) : Option (Int32 × CS) :=
  ob1 (C_in v1 0 (cI σ 3)) (fun r1 =>
  if r1 = 0 then
    some ((-1), σ)
  else
    nm (dI σ 3 v1) (fun σ3 =>
    some (v1, σ3)))
def C_fault (σ : CS) (v1 : Int32) : Option (Int32) :=
  if v1 = 0 then
    some (cI σ 4)
  else
    if v1 = 1 then
      some (cI σ 5)
    else
      some (-1)
def C_isText (σ : CS) (v1 : Int32) : Option (Int32) :=
  ob1 (C_in v1 0 ((cA σ 0 1) - 1)) (fun r1 =>
  if isZ r1 = true then some r1 else none)
def C_by_j15 (σ : CS) (v1 : Int32) : Option (Int32 × CS) :=
  nm (eA σ 0 2 v1) (fun σ1 =>
  some (1, σ1))
def C_by (σ : CS) (v1 : Int32) : Option (Int32 × CS) :=
  if v1 = (-1) then
    C_by_j15 σ v1
  else
    ob1 (C_isText σ v1) (fun r2 =>
    if r2 = 0 then
      some (0, σ)
    else
      C_by_j15 σ v1)
def C_isPerson (σ : CS) (v1 : Int32) : Option (Int32) :=
  ob1 (C_in v1 0 ((cA σ 0 0) - 1)) (fun r1 =>
  if isZ r1 = true then some r1 else none)
def S_keeps_j52 (σ : CS) (w : Nat) : Option (CS) :=
  if inb (cA σ (100 * w + 0) 3) 30 = true then
  ob1 (S_copy σ (100 * w + 1) 148 ((100 * w + 50) + (cA σ (100 * w + 0) 3).toNatClampNeg) 148) (fun σ3 =>
  nm (eA σ3 (100 * w + 0) 3 ((cA σ3 (100 * w + 0) 3) + 1)) (fun σ4 =>
  some σ4))
  else none
def S_keeps_l13 (w : Nat) : Nat → CS → Int32 → Option (CS)
  | 0, _, _ => none
  | n + 1, σ, v1 =>
    if v1 < 30 then
      if inb v1 30 = true then
      if inb (v1 - 1) 30 = true then
      ob1 (S_copy σ ((100 * w + 50) + v1.toNatClampNeg) 148 ((100 * w + 50) + (v1 - 1).toNatClampNeg) 148) (fun σ9 =>
      nm (v1 + 1) (fun x10 =>
      (S_keeps_l13 w n) σ9 x10))
      else none
      else none
    else
      nm (eA σ (100 * w + 0) 3 ((cA σ (100 * w + 0) 3) - 1)) (fun σ5 =>
      S_keeps_j52 σ5 w)
def S_keeps (σ : CS) (w : Nat) : Option (CS) :=
  if (cA σ (100 * w + 0) 3) = 30 then
    S_keeps_l13 w FU σ 1
  else
    S_keeps_j52 σ w
def C_draws (σ : CS) (k0 : Nat) : Option (CS) :=
  nm (eA σ k0 2 (i_rem (((cA σ k0 2) * 457) + 347) 30631)) (fun σ1 =>
  some σ1)
def C_isScarred_j15 (σ : CS) (k1 : Nat) (v2 : Int32) (s0 : Int32) : Option (Int32 × CS) :=
  ob1 (C_draws σ k1) (fun σ2 =>
  if s0 = 0 then
    some (0, σ2)
  else
    if inb v2 8 = true then
    nm (19 + (cA σ2 2 v2.toNatClampNeg)) (fun x3 =>
    if inb x3 148 = true then
    if inb x3 148 = true then nm (eA σ2 k1 x3.toNatClampNeg (i_min 99 ((cA σ2 k1 x3.toNatClampNeg) + 1))) (fun σ4 =>
    if inb (11 + v2) 148 = true then
    if inb (11 + v2) 148 = true then nm (eA σ4 k1 (11 + v2).toNatClampNeg (i_min 9 ((cA σ4 k1 (11 + v2).toNatClampNeg) + 1))) (fun σ5 =>
    some (1, σ5))
    else none
    else none)
    else none
    else none)
    else none)
def C_isScarred (σ : CS) (k1 : Nat) (v2 : Int32) (v3 : Int32) : Option (Int32 × CS) :=
  if (i_rem (cA σ k1 2) 10) < v3 then
    C_isScarred_j15 σ k1 v2 1
  else
    C_isScarred_j15 σ k1 v2 0
def C_powered_l26 (v0 : Int64) : Nat → Int64 → Int64 → Option (Int64)
  | 0, _, _ => none
  | n + 1, v4, v6 =>
    if 0 < v6 then
      nm (l_max (-1000000) (l_min 1000000 (v4 * v0))) (fun x1 =>
      nm (v6 - 1) (fun x2 =>
      (C_powered_l26 v0 n) x1 x2))
    else
      some v4
def C_powered_j24 (v0 : Int64) (v4 : Int64) (s0 : Int64) : Option (Int64) :=
  C_powered_l26 v0 FU v4 s0
def C_powered (v0 : Int64) (v2 : Int64) : Option (Int64) :=
  if 40 < v2 then
    C_powered_j24 v0 1 (40 + (l_rem v2 2))
  else
    C_powered_j24 v0 1 v2
def C_shortOf (v0 : Int64) : Option (Int64) :=
  if 8 < v0 then
    some (8 + (l_rem (v0 - 8) 840))
  else
    some v0
def C_held (v0 : Int64) (v2 : Int32) (v3 : Int32) : Option (Int32) :=
  some (Int64.toInt32 (l_max (Int32.toInt64 v2) (l_min (Int32.toInt64 v3) v0)))
def C_canCalm (σ : CS) (v1 : Int32) : Option (Int32) :=
  ob1 (C_isPerson σ v1) (fun r1 =>
  if r1 = 0 then
    some 0
  else
    if inb (11 + v1) 148 = true then
    if 0 < (cA σ 1 (11 + v1).toNatClampNeg) then
      some 1
    else
      some 0
    else none)
def C_calm (σ : CS) (v1 : Int32) : Option (Int32 × CS) :=
  ob1 (C_canCalm σ v1) (fun r1 =>
  if r1 = 0 then
    some (0, σ)
  else
    ob1 (S_keeps σ 0) (fun σ4 =>
    if inb (11 + v1) 148 = true then
    if inb (11 + v1) 148 = true then nm (eA σ4 1 (11 + v1).toNatClampNeg ((cA σ4 1 (11 + v1).toNatClampNeg) - 1)) (fun σ5 =>
    some (1, σ5))
    else none
    else none))
def C_passes_l2 (k1 : Nat) : Nat → CS → Int32 → Option (CS)
  | 0, _, _ => none
  | n + 1, σ, v2 =>
    if v2 < (cA σ 0 0) then
      if inb (3 + v2) 148 = true then
      if inb (3 + v2) 148 = true then nm (eA σ k1 (3 + v2).toNatClampNeg (i_min 99 ((cA σ k1 (3 + v2).toNatClampNeg) + 1))) (fun σ2 =>
      nm (v2 + 1) (fun x3 =>
      (C_passes_l2 k1 n) σ2 x3))
      else none
      else none
    else
      nm (eA σ k1 0 ((cA σ k1 0) + 1)) (fun σ1 =>
      some σ1)
def C_passes (σ : CS) (k1 : Nat) : Option (CS) :=
  C_passes_l2 k1 FU σ 0
def C_sumOf_l5 (σ : CS) (k1 : Nat) (v2 : Int32) : Nat → Int32 → Int32 → Option (Int32)
  | 0, _, _ => none
  | n + 1, v3, v4 =>
    if v4 < (cA σ 0 0) then
      if inb (v2 + v4) 148 = true then
      nm (v3 + (cA σ k1 (v2 + v4).toNatClampNeg)) (fun x1 =>
      nm (v4 + 1) (fun x2 =>
      (C_sumOf_l5 σ k1 v2 n) x1 x2))
      else none
    else
      some v3
def C_sumOf (σ : CS) (k1 : Nat) (v2 : Int32) : Option (Int32) :=
  C_sumOf_l5 σ k1 v2 FU 0 0
def C_day_l31 (v1 : Int32) : Nat → CS → Int32 → Option (Int32 × CS)
  | 0, _, _ => none
  | n + 1, σ, v2 =>
    if v2 < v1 then
      ob1 (S_keeps σ 0) (fun σ6 =>
      ob1 (C_passes σ6 1) (fun σ8 =>
      nm (v2 + 1) (fun x9 =>
      (C_day_l31 v1 n) σ8 x9)))
    else
      ob1 (C_sumOf σ 1 3) (fun r3 =>
      some (r3, σ))
def C_day (σ : CS) (v1 : Int32) : Option (Int32 × CS) :=
  ob1 (C_in v1 1 60) (fun r1 =>
  if r1 = 0 then
    some ((-1), σ)
  else
    if 9999 < ((cA σ 1 0) + v1) then
      some ((-1), σ)
    else
      C_day_l31 v1 FU σ 0)
def C_passesAll_l2 (v1 : Int32) : Nat → CS → Int32 → Option (Int32 × CS)
  | 0, _, _ => none
  | n + 1, σ, v2 =>
    if v2 < v1 then
      ob2 (C_day σ 1) (fun r1 σ3 =>
      if r1 = (-1) then
        some (0, σ3)
      else
        nm (v2 + 1) (fun x4 =>
        (C_passesAll_l2 v1 n) σ3 x4))
    else
      some (1, σ)
def C_passesAll (σ : CS) (v1 : Int32) : Option (Int32 × CS) :=
  C_passesAll_l2 v1 FU σ 0
def C_undo (σ : CS) : Option (Int32 × CS) :=
  if (cA σ 0 3) = 0 then
    some ((-1), σ)
  else
    nm (eA σ 0 3 ((cA σ 0 3) - 1)) (fun σ1 =>
    if inb (cA σ1 0 3) 30 = true then
    ob1 (S_copy σ1 (50 + (cA σ1 0 3).toNatClampNeg) 148 1 148) (fun σ4 =>
    some ((cA σ4 0 3), σ4))
    else none)
def C_told (σ : CS) (v1 : Int32) : Option (Int32) :=
  ob1 (C_isChair v1) (fun r1 =>
  if r1 = 0 then
    some (-1)
  else
    if inb v1 8 = true then
    some (cA σ 2 v1.toNatClampNeg)
    else none)
def C_is (σ : CS) (v1 : Int32) : Option (Int32) :=
  ob1 (C_in v1 0 2) (fun r1 =>
  if r1 = 0 then
    some (-2)
  else
    if inb v1 148 = true then
    some (cA σ 1 v1.toNatClampNeg)
    else none)
def C_book (σ : CS) (v1 : Int32) (v2 : Int32) : Option (Int32) :=
  if v1 = (-1) then
    some (cA σ 1 27)
  else
    ob1 (C_in v1 0 ((cA σ 1 27) - 1)) (fun r1 =>
    if r1 = 0 then
      some (-2)
    else
      ob1 (C_in v2 0 3) (fun r3 =>
      if r3 = 0 then
        some (-2)
      else
        if inb ((28 + (4 * v1)) + v2) 148 = true then
        some (cA σ 1 ((28 + (4 * v1)) + v2).toNatClampNeg)
        else none))
def C_has (v0 : Int32) (v1 : Int32) : Option (Int32) :=
  if ((i_shr v0 v1) &&& 1) = 1 then
    some 1
  else
    some 0
def C_afterOthers_l9 (σ : CS) : Nat → Int32 → Int64 → Option (Int32)
  | 0, _, _ => none
  | n + 1, v4, v5 =>
    if 0 < v5 then
      if inb v4 8 = true then
      nm (cA σ 2 v4.toNatClampNeg) (fun x3 =>
      nm (v5 - 1) (fun x4 =>
      (C_afterOthers_l9 σ n) x3 x4))
      else none
    else
      some v4
def C_afterOthers (σ : CS) (v1 : Int32) (v2 : Int64) : Option (Int32) :=
  ob1 (C_shortOf v2) (fun r1 =>
  C_afterOthers_l9 σ FU v1 r1)
def C_after (σ : CS) (v1 : Int32) (v2 : Int64) : Option (Int32) :=
  ob1 (C_isChair v1) (fun r1 =>
  if r1 = 0 then
    some (-1)
  else
    if v2 < 0 then
      some (-1)
    else
      ob1 (C_afterOthers σ v1 v2) (fun r3 =>
      some r3))
def C_ringOf_l14 (σ : CS) : Nat → Int32 → Int32 → Int32 → Option (Int32)
  | 0, _, _, _ => none
  | n + 1, v2, v3, v4 =>
    if v4 < 8 then
      nm (v3 ||| (i_shl 1 v2)) (fun x3 =>
      if inb v2 8 = true then
      nm (cA σ 2 v2.toNatClampNeg) (fun x4 =>
      nm (v4 + 1) (fun x5 =>
      (C_ringOf_l14 σ n) x4 x3 x5))
      else none)
    else
      some v3
def C_ringOf (σ : CS) (v1 : Int32) : Option (Int32) :=
  ob1 (C_afterOthers σ v1 8) (fun r1 =>
  C_ringOf_l14 σ FU r1 0 0)
def I_bitCount (v0 : Int32) : Option (Int32) :=
  nm (v0 - ((i_ushr v0 1) &&& 1431655765)) (fun x1 =>
  nm ((x1 &&& 858993459) + ((i_ushr x1 2) &&& 858993459)) (fun x2 =>
  nm ((x2 + (i_ushr x2 4)) &&& 252645135) (fun x3 =>
  nm (x3 + (i_ushr x3 8)) (fun x4 =>
  nm (x4 + (i_ushr x4 16)) (fun x5 =>
  some (x5 &&& 63))))))
def C_tailOf_l2 (σ : CS) (v1 : Int32) : Nat → Int32 → Option (Int32)
  | 0, _ => none
  | n + 1, v2 =>
    ob1 (C_ringOf σ v1) (fun r1 =>
    ob1 (C_afterOthers σ v1 (Int32.toInt64 v2)) (fun r3 =>
    ob1 (C_has r1 r3) (fun r5 =>
    if r5 = 0 then
      nm (v2 + 1) (fun x7 =>
      (C_tailOf_l2 σ v1 n) x7)
    else
      some v2)))
def C_tailOf (σ : CS) (v1 : Int32) : Option (Int32) :=
  C_tailOf_l2 σ v1 FU 0
def C_ring (σ : CS) (v1 : Int32) (v2 : Int32) : Option (Int32) :=
  ob1 (C_isChair v1) (fun r1 =>
  if r1 = 0 then
    some (-1)
  else
    ob1 (C_in v2 0 2) (fun r3 =>
    if r3 = 0 then
      some (-1)
    else
      ob1 (C_ringOf σ v1) (fun r5 =>
      if v2 = 0 then
        ob1 (I_bitCount r5) (fun r9 =>
        some r9)
      else
        if v2 = 1 then
          ob1 (C_tailOf σ v1) (fun r7 =>
          some r7)
        else
          some r5)))
def C_meet_l18 (σ : CS) (v1 : Int32) (v2 : Int32) : Nat → Int32 → Option (Int32)
  | 0, _ => none
  | n + 1, v3 =>
    if 8 < v3 then
      some (-1)
    else
      ob1 (C_afterOthers σ v1 (Int32.toInt64 v3)) (fun r5 =>
      ob1 (C_afterOthers σ v2 (Int32.toInt64 v3)) (fun r7 =>
      if r5 = r7 then
        some v3
      else
        nm (v3 + 1) (fun x9 =>
        (C_meet_l18 σ v1 v2 n) x9)))
def C_meet (σ : CS) (v1 : Int32) (v2 : Int32) : Option (Int32) :=
  ob1 (C_isChair v1) (fun r1 =>
  if r1 = 0 then
    some (-1)
  else
    ob1 (C_isChair v2) (fun r3 =>
    if r3 = 0 then
      some (-1)
    else
      C_meet_l18 σ v1 v2 FU 0))
def C_outermost_j25 (k4 : Int32 → Int32 → Option (Int32)) (σ : CS) (v1 : Int32) (v2 : Int32) : Option (Int32) :=
  nm (v2 + 1) (fun x5 =>
  k4 v1 x5)
def C_outermost_l4 (σ : CS) : Nat → Int32 → Int32 → Option (Int32)
  | 0, _, _ => none
  | n + 1, v1, v2 =>
    if v2 < 8 then
      ob1 (C_tailOf σ v2) (fun r1 =>
      ob1 (C_tailOf σ v1) (fun r3 =>
      if r3 < r1 then
        C_outermost_j25 (C_outermost_l4 σ n) σ v2 v2
      else
        C_outermost_j25 (C_outermost_l4 σ n) σ v1 v2))
    else
      some v1
def C_outermost (σ : CS) : Option (Int32) :=
  C_outermost_l4 σ FU 0 1
def C_common_b (rec : Int64 → Int64 → Option (Int64)) (v0 : Int64) (v2 : Int64) : Option (Int64) :=
  if v2 = 0 then
    some v0
  else
    if v2 = 0 then none else
    ob1 (rec v2 (l_rem v0 v2)) (fun r1 =>
    some r1)
def C_common  : Nat → Int64 → Int64 → Option (Int64)
  | 0, _, _ => none
  | d + 1, v0, v2 => C_common_b (C_common  d)  v0 v2
def C_rounds_l4 (σ : CS) : Nat → Int64 → Int32 → Option (Int64)
  | 0, _, _ => none
  | n + 1, v1, v3 =>
    if v3 < 8 then
      ob1 (C_ringOf σ v3) (fun r1 =>
      ob1 (I_bitCount r1) (fun r3 =>
      nm (Int32.toInt64 r3) (fun x5 =>
      ob1 (C_common 64 v1 x5) (fun r6 =>
      if r6 = 0 then none else
      nm ((v1 / r6) * x5) (fun x8 =>
      nm (v3 + 1) (fun x9 =>
      (C_rounds_l4 σ n) x8 x9))))))
    else
      some v1
def C_rounds (σ : CS) : Option (Int64) :=
  C_rounds_l4 σ FU 1 0
def C_done_j40 (k13 : Int32 → Int32 → Option (Int32)) (σ : CS) (v1 : Int32) (v3 : Int32) (s0 : Int32) (s1 : Int32) : Option (Int32) :=
  nm (s0 ||| s1) (fun x3 =>
  nm (v3 + 1) (fun x4 =>
  k13 x3 x4))
def C_done_l13 (σ : CS) (v1 : Int32) : Nat → Int32 → Int32 → Option (Int32)
  | 0, _, _ => none
  | n + 1, v2, v3 =>
    if v3 < 8 then
      if inb v3 8 = true then
      if (cA σ 2 v3.toNatClampNeg) = v1 then
        C_done_j40 (C_done_l13 σ v1 n) σ v1 v3 v2 (i_shl 1 v3)
      else
        C_done_j40 (C_done_l13 σ v1 n) σ v1 v3 v2 0
      else none
    else
      some v2
def C_done (σ : CS) (v1 : Int32) : Option (Int32) :=
  ob1 (C_isChair v1) (fun r1 =>
  if r1 = 0 then
    some (-1)
  else
    C_done_l13 σ v1 FU 0 0)
def C_isMirrored (σ : CS) (v1 : Int32) : Option (Int32) :=
  if inb v1 8 = true then
  if inb (cA σ 2 v1.toNatClampNeg) 8 = true then
  if inb v1 8 = true then
  if inb (cA σ 203 v1.toNatClampNeg) 8 = true then
  if (cA σ 203 (cA σ 2 v1.toNatClampNeg).toNatClampNeg) = (cA σ 2 (cA σ 203 v1.toNatClampNeg).toNatClampNeg) then
    some 1
  else
    some 0
  else none
  else none
  else none
  else none
def C_mayGo_j36 (k2 : Int32 → Option (Int32)) (σ : CS) (v1 : Int32) (v2 : Int32) : Option (Int32) :=
  nm (v2 + 1) (fun x2 =>
  k2 x2)
def C_mayGo_l2 (σ : CS) (v1 : Int32) : Nat → Int32 → Option (Int32)
  | 0, _ => none
  | n + 1, v2 =>
    if v1 < v2 then
      some 1
    else
      if inb v2 8 = true then
      nm (i_max v2 (cA σ 2 v2.toNatClampNeg)) (fun x1 =>
      if x1 = v1 then
        ob1 (C_isMirrored σ v2) (fun r3 =>
        if r3 = 0 then
          some 0
        else
          C_mayGo_j36 (C_mayGo_l2 σ v1 n) σ v1 v2)
      else
        C_mayGo_j36 (C_mayGo_l2 σ v1 n) σ v1 v2)
      else none
def C_mayGo (σ : CS) (v1 : Int32) : Option (Int32) :=
  C_mayGo_l2 σ v1 FU 0
def C_mirrorsFrom_j64 (rec : CS → Int32 → Int32 → Option (Int32 × CS)) (k13 : CS → Int32 → Int32 → Option (Int32 × CS)) (σ : CS) (v1 : Int32) (v2 : Int32) (v3 : Int32) (v4 : Int32) : Option (Int32 × CS) :=
  nm (v4 + 1) (fun x6 =>
  k13 σ v3 x6)
def C_mirrorsFrom_l13 (rec : CS → Int32 → Int32 → Option (Int32 × CS)) (v1 : Int32) (v2 : Int32) : Nat → CS → Int32 → Int32 → Option (Int32 × CS)
  | 0, _, _, _ => none
  | n + 1, σ, v3, v4 =>
    if v4 < 8 then
      ob1 (C_has v2 v4) (fun r1 =>
      if r1 = 0 then
        if inb v1 8 = true then nm (eA σ 203 v1.toNatClampNeg v4) (fun σ3 =>
        ob1 (C_mayGo σ3 v1) (fun r4 =>
        if r4 = 0 then
          C_mirrorsFrom_j64 rec (C_mirrorsFrom_l13 rec v1 v2 n) σ3 v1 v2 v3 v4
        else
          ob2 (rec σ3 (v1 + 1) (v2 ||| (i_shl 1 v4))) (fun r7 σ9 =>
          nm (v3 + r7) (fun x10 =>
          C_mirrorsFrom_j64 rec (C_mirrorsFrom_l13 rec v1 v2 n) σ9 v1 v2 x10 v4))))
        else none
      else
        C_mirrorsFrom_j64 rec (C_mirrorsFrom_l13 rec v1 v2 n) σ v1 v2 v3 v4)
    else
      some (v3, σ)
def C_mirrorsFrom_b (rec : CS → Int32 → Int32 → Option (Int32 × CS)) (σ : CS) (v1 : Int32) (v2 : Int32) : Option (Int32 × CS) :=
  if v1 = 8 then
    some (1, σ)
  else
    C_mirrorsFrom_l13 rec v1 v2 FU σ 0 0
def C_mirrorsFrom  : Nat → CS → Int32 → Int32 → Option (Int32 × CS)
  | 0, _, _, _ => none
  | d + 1, σ, v1, v2 => C_mirrorsFrom_b (C_mirrorsFrom d) σ v1 v2
def C_mirrors (σ : CS) : Option (Int32 × CS) :=
  ob2 (C_mirrorsFrom 16 σ 0 0) (fun r1 σ3 =>
  some (r1, σ3))
def C_till (σ : CS) (v1 : Int32) (v2 : Int32) : Option (Int32) :=
  ob1 (C_isPerson σ v1) (fun r1 =>
  if r1 = 0 then
    some (-1)
  else
    ob1 (C_in v2 0 99) (fun r3 =>
    if r3 = 0 then
      some (-1)
    else
      if inb (3 + v1) 148 = true then
      some (i_max 0 (v2 - (cA σ 1 (3 + v1).toNatClampNeg)))
      else none))
def C_need (σ : CS) (v1 : Int32) (v2 : Int32) : Option (Int32 × CS) :=
  ob1 (C_isChair v1) (fun r1 =>
  if r1 = 0 then
    some (0, σ)
  else
    ob1 (C_in v2 0 3) (fun r3 =>
    if r3 = 0 then
      some (0, σ)
    else
      if inb v1 8 = true then nm (eA σ 3 v1.toNatClampNeg v2) (fun σ5 =>
      some (1, σ5))
      else none))
def C_lessened (v0 : Int32) (v1 : Int32) : Option (Int32) :=
  nm (i_shl 1 (2 * v1)) (fun x1 =>
  if x1 = 0 then none else
  if (i_rem (v0 / x1) 4) = 0 then
    some v0
  else
    some (v0 - x1))
def C_satIn (σ : CS) (v1 : Int32) (v2 : Int32) : Option (Int32) :=
  if inb v2 8 = true then
  nm (cA σ 2 v2.toNatClampNeg) (fun x1 =>
  if inb x1 8 = true then
  nm (cA σ 2 x1.toNatClampNeg) (fun x2 =>
  ob1 (C_lessened v1 x1) (fun r3 =>
  if x2 = x1 then
    some r3
  else
    ob1 (C_lessened r3 x2) (fun r5 =>
    some r5)))
  else none)
  else none
def C_laysBooking_l198 (v1 : Int32) (v3 : Int32) : Nat → CS → Int32 → Int32 → Option (Int32 × CS)
  | 0, _, _, _ => none
  | n + 1, σ, v4, v5 =>
    if v5 = v1 then
      some (v3, σ)
    else
      nm (v4 + (-1)) (fun x5 =>
      if inb v5 65536 = true then
      if inb x5 24 = true then nm (eA σ 206 x5.toNatClampNeg (cA σ 207 v5.toNatClampNeg)) (fun σ6 =>
      if inb v5 65536 = true then
      nm (cA σ6 204 v5.toNatClampNeg) (fun x7 =>
      (C_laysBooking_l198 v1 v3 n) σ6 x5 x7)
      else none)
      else none
      else none)
def C_laysBooking_l171 (σ : CS) (v1 : Int32) : Nat → Int32 → Int32 → Option (Int32 × CS)
  | 0, _, _ => none
  | n + 1, v3, v4 =>
    if v4 = v1 then
      C_laysBooking_l198 v1 v3 FU σ v3 0
    else
      nm (v3 + 1) (fun x8 =>
      if inb v4 65536 = true then
      nm (cA σ 204 v4.toNatClampNeg) (fun x9 =>
      (C_laysBooking_l171 σ v1 n) x8 x9)
      else none)
def C_laysBooking_j154 (σ : CS) (v1 : Int32) : Option (Int32 × CS) :=
  if (cA σ 204 0) = (-1) then
    some ((-1), σ)
  else
    C_laysBooking_l171 σ v1 FU 0 0
def C_laysBooking_j142 (k55 : CS → Int32 → Int32 → Option (Int32 × CS)) (k73 : CS → Int32 → Int32 → Option (Int32 × CS)) (σ : CS) (v1 : Int32) (v2 : Int32) (v3 : Int32) (v4 : Int32) : Option (Int32 × CS) :=
  nm (v4 + 1) (fun x17 =>
  k73 σ v2 x17)
def C_laysBooking_l73 (k55 : CS → Int32 → Int32 → Option (Int32 × CS)) (v1 : Int32) (v3 : Int32) : Nat → CS → Int32 → Int32 → Option (Int32 × CS)
  | 0, _, _, _ => none
  | n + 1, σ, v2, v4 =>
    if v4 < 8 then
      if inb v3 65536 = true then
      ob1 (C_satIn σ (cA σ 205 v3.toNatClampNeg) v4) (fun r11 =>
      if inb r11 65536 = true then
      if (cA σ 204 r11.toNatClampNeg) = (-1) then
        if inb v3 65536 = true then
        if inb r11 65536 = true then nm (eA σ 204 r11.toNatClampNeg (cA σ 205 v3.toNatClampNeg)) (fun σ13 =>
        if inb r11 65536 = true then nm (eA σ13 207 r11.toNatClampNeg (vp_nar .byte (v4.toInt8.toInt32))) (fun σ14 =>
        if inb v2 65536 = true then nm (eA σ14 205 v2.toNatClampNeg r11) (fun σ15 =>
        nm (v2 + 1) (fun x16 =>
        C_laysBooking_j142 k55 (C_laysBooking_l73 k55 v1 v3 n) σ15 v1 x16 v3 v4))
        else none)
        else none)
        else none
        else none
      else
        C_laysBooking_j142 k55 (C_laysBooking_l73 k55 v1 v3 n) σ v1 v2 v3 v4
      else none)
      else none
    else
      nm (v3 + 1) (fun x10 =>
      k55 σ v2 x10)
def C_laysBooking_l55 (v1 : Int32) : Nat → CS → Int32 → Int32 → Option (Int32 × CS)
  | 0, _, _, _ => none
  | n + 1, σ, v2, v3 =>
    if v3 < v2 then
      if (cA σ 204 0) = (-1) then
        C_laysBooking_l73 (C_laysBooking_l55 v1 n) v1 v3 FU σ v2 0
      else
        C_laysBooking_j154 σ v1
    else
      C_laysBooking_j154 σ v1
def C_laysBooking_l13 (σ : CS) : Nat → Int32 → Int32 → Option (Int32 × CS)
  | 0, _, _ => none
  | n + 1, v1, v2 =>
    if v2 < 0 then
      if inb v1 65536 = true then nm (eA σ 204 v1.toNatClampNeg v1) (fun σ3 =>
      nm (eA σ3 205 0 v1) (fun σ4 =>
      C_laysBooking_l55 v1 FU σ4 1 0))
      else none
    else
      if inb v2 8 = true then
      nm ((4 * v1) + (cA σ 3 v2.toNatClampNeg)) (fun x18 =>
      nm (v2 + (-1)) (fun x19 =>
      (C_laysBooking_l13 σ n) x18 x19))
      else none
def C_laysBooking (σ : CS) : Option (Int32 × CS) :=
  ob1 (F_fill σ 204 65536 (-1)) (fun σ2 =>
  C_laysBooking_l13 σ2 FU 0 7)
def C_booking (σ : CS) (v1 : Int32) : Option (Int32 × CS) :=
  ob2 (C_laysBooking σ) (fun r1 σ3 =>
  if r1 = (-1) then
    some ((-2), σ3)
  else
    ob1 (C_in v1 (-1) (r1 - 1)) (fun r4 =>
    if r4 = 0 then
      some ((-2), σ3)
    else
      if v1 = (-1) then
        some (r1, σ3)
      else
        if inb v1 24 = true then
        some ((cA σ3 206 v1.toNatClampNeg), σ3)
        else none))
def S_clears (σ : CS) (w : Nat) (v1 : Int32) : Option (Int32 × CS) :=
  if inb v1 6 = true then nm (eA σ (100 * w + 0) v1.toNatClampNeg 0) (fun σ1 =>
  some (0, σ1))
  else none
def S_adds (σ : CS) (w : Nat) (g1 : Nat) (v2 : Int32) (v3 : Int32) (v4 : Int32) : Option (Int32 × CS) :=
  if inb v2 6 = true then
  if inb (cA σ (100 * w + 0) v2.toNatClampNeg) (cgn g1) = true then
  nm (eA σ (cgb w g1 + (cA σ (100 * w + 0) v2.toNatClampNeg).toNatClampNeg) 0 v3) (fun σ2 =>
  if inb v2 6 = true then
  if inb (cA σ2 (100 * w + 0) v2.toNatClampNeg) (cgn g1) = true then
  nm (eA σ2 (cgb w g1 + (cA σ2 (100 * w + 0) v2.toNatClampNeg).toNatClampNeg) 1 v4) (fun σ4 =>
  if inb v2 6 = true then
  if inb v2 6 = true then nm (eA σ4 (100 * w + 0) v2.toNatClampNeg ((cA σ4 (100 * w + 0) v2.toNatClampNeg) + 1)) (fun σ5 =>
  if inb v2 6 = true then
  some ((cA σ5 (100 * w + 0) v2.toNatClampNeg), σ5)
  else none)
  else none
  else none)
  else none
  else none)
  else none
  else none
def C_seen (σ : CS) (v1 : Int32) (v2 : Int32) : Option (Int32 × CS) :=
  if v1 = (-1) then
    ob2 (S_clears σ 0 4) (fun r8 σ10 =>
    some (r8, σ10))
  else
    ob1 (C_in v1 1 255) (fun r1 =>
    if r1 = 0 then
      some ((-2), σ)
    else
      ob1 (C_in v2 0 255) (fun r3 =>
      if r3 = 0 then
        some ((-2), σ)
      else
        if (cA σ 0 4) < 6 then
          ob2 (S_adds σ 0 7 4 v1 v2) (fun r5 σ7 =>
          some (r5, σ7))
        else
          some ((-2), σ)))
def C_isSeen_j63 (k2 : Int32 → Option (Int32)) (k31 : Int32 → Int32 → Option (Int32)) (σ : CS) (v1 : Int32) (v2 : Int32) (a3 : Nat) (v5 : Int32) (s0 : Int32) (s1 : Int32) : Option (Int32) :=
  nm (s0 ||| s1) (fun x5 =>
  nm (v5 + 1) (fun x6 =>
  k31 x5 x6))
def C_isSeen_l31 (k2 : Int32 → Option (Int32)) (σ : CS) (v1 : Int32) (v2 : Int32) (a3 : Nat) : Nat → Int32 → Int32 → Option (Int32)
  | 0, _, _ => none
  | n + 1, v4, v5 =>
    if v5 < v1 then
      ob1 (C_has (cA σ a3 0) v5) (fun r3 =>
      if r3 = 0 then
        C_isSeen_j63 k2 (C_isSeen_l31 k2 σ v1 v2 a3 n) σ v1 v2 a3 v5 v4 0
      else
        if inb v5 5 = true then
        C_isSeen_j63 k2 (C_isSeen_l31 k2 σ v1 v2 a3 n) σ v1 v2 a3 v5 v4 (i_shl 1 (cA σ 209 v5.toNatClampNeg))
        else none)
    else
      if v4 = (cA σ a3 1) then
        if (i_shr (cA σ a3 0) v1) = 0 then
          nm (v2 + 1) (fun x2 =>
          k2 x2)
        else
          some 0
      else
        some 0
def C_isSeen_l2 (σ : CS) (v1 : Int32) : Nat → Int32 → Option (Int32)
  | 0, _ => none
  | n + 1, v2 =>
    if v2 < (cA σ 0 4) then
      if inb v2 6 = true then
      C_isSeen_l31 (C_isSeen_l2 σ v1 n) σ v1 v2 (30 + v2.toNatClampNeg) FU 0 0
      else none
    else
      some 1
def C_isSeen (σ : CS) (v1 : Int32) : Option (Int32) :=
  C_isSeen_l2 σ v1 FU 0
def C_fitsFrom_l57 (rec : CS → Int32 → Int32 → Option (CS)) (v1 : Int32) (v2 : Int32) : Nat → CS → Int32 → Option (CS)
  | 0, _, _ => none
  | n + 1, σ, v3 =>
    if v3 < v2 then
      if inb v1 5 = true then nm (eA σ 209 v1.toNatClampNeg v3) (fun σ1 =>
      ob1 (rec σ1 (v1 + 1) v2) (fun σ3 =>
      nm (v3 + 1) (fun x4 =>
      (C_fitsFrom_l57 rec v1 v2 n) σ3 x4)))
      else none
    else
      some σ
def C_fitsFrom_l26 (rec : CS → Int32 → Int32 → Option (CS)) (v2 : Int32) : Nat → CS → Int32 → Option (CS)
  | 0, _, _ => none
  | n + 1, σ, v3 =>
    if v3 < v2 then
      if inb v3 5 = true then
      if inb v3 5 = true then
      if inb v3 5 = true then nm (eA σ 208 v3.toNatClampNeg ((cA σ 208 v3.toNatClampNeg) ||| (i_shl 1 (cA σ 209 v3.toNatClampNeg)))) (fun σ8 =>
      nm (v3 + 1) (fun x9 =>
      (C_fitsFrom_l26 rec v2 n) σ8 x9))
      else none
      else none
      else none
    else
      some σ
def C_fitsFrom_b (rec : CS → Int32 → Int32 → Option (CS)) (σ : CS) (v1 : Int32) (v2 : Int32) : Option (CS) :=
  if v1 = v2 then
    ob1 (C_isSeen σ v2) (fun r5 =>
    if r5 = 0 then
      some σ
    else
      nm (dI σ 15 ((cI σ 15) + 1)) (fun σ7 =>
      C_fitsFrom_l26 rec v2 FU σ7 0))
  else
    C_fitsFrom_l57 rec v1 v2 FU σ 0
def C_fitsFrom  : Nat → CS → Int32 → Int32 → Option (CS)
  | 0, _, _, _ => none
  | d + 1, σ, v1, v2 => C_fitsFrom_b (C_fitsFrom d) σ v1 v2
def C_laysFits (σ : CS) (v1 : Int32) : Option (CS) :=
  nm (dI σ 15 0) (fun σ1 =>
  ob1 (F_fill σ1 208 5 0) (fun σ3 =>
  ob1 (C_fitsFrom 16 σ3 0 v1) (fun σ5 =>
  some σ5)))
def C_fits (σ : CS) (v1 : Int32) : Option (Int32 × CS) :=
  ob1 (C_in v1 1 5) (fun r1 =>
  if r1 = 0 then
    some ((-1), σ)
  else
    ob1 (C_laysFits σ v1) (fun σ4 =>
    some ((cI σ4 15), σ4)))
def C_whose (σ : CS) (v1 : Int32) (v2 : Int32) : Option (Int32 × CS) :=
  ob1 (C_in v1 1 5) (fun r1 =>
  if r1 = 0 then
    some ((-1), σ)
  else
    ob1 (C_in v2 0 (v1 - 1)) (fun r3 =>
    if r3 = 0 then
      some ((-1), σ)
    else
      ob1 (C_laysFits σ v1) (fun σ6 =>
      if inb v2 5 = true then
      some ((cA σ6 208 v2.toNatClampNeg), σ6)
      else none)))
def C_next_j66 (k31 : Int32 → Int32 → Option (Int32 × CS)) (σ : CS) (v1 : Int32) (v2 : Int32) (v3 : Int32) : Option (Int32 × CS) :=
  nm (v3 + 1) (fun x9 =>
  k31 v2 x9)
def C_next_l31 (σ : CS) (v1 : Int32) : Nat → Int32 → Int32 → Option (Int32 × CS)
  | 0, _, _ => none
  | n + 1, v2, v3 =>
    if v3 < v1 then
      if 0 < (cI σ 15) then
        if inb v3 5 = true then
        ob1 (I_bitCount (cA σ 208 v3.toNatClampNeg)) (fun r5 =>
        if inb v2 5 = true then
        ob1 (I_bitCount (cA σ 208 v2.toNatClampNeg)) (fun r7 =>
        if r7 < r5 then
          C_next_j66 (C_next_l31 σ v1 n) σ v1 v3 v3
        else
          C_next_j66 (C_next_l31 σ v1 n) σ v1 v2 v3)
        else none)
        else none
      else
        some (v2, σ)
    else
      some (v2, σ)
def C_next_j28 (σ : CS) (v1 : Int32) (s0 : Int32) : Option (Int32 × CS) :=
  C_next_l31 σ v1 FU s0 1
def C_next (σ : CS) (v1 : Int32) : Option (Int32 × CS) :=
  ob1 (C_in v1 1 5) (fun r1 =>
  if r1 = 0 then
    some ((-1), σ)
  else
    ob1 (C_laysFits σ v1) (fun σ4 =>
    if (cI σ4 15) = 0 then
      C_next_j28 σ4 v1 (-1)
    else
      C_next_j28 σ4 v1 0))
def C_cut (σ : CS) (v1 : Int32) (v2 : Int32) (v3 : Int32) : Option (Int32 × CS) :=
  ob1 (C_isChair v1) (fun r1 =>
  if r1 = 0 then
    some (0, σ)
  else
    ob1 (C_isChair v2) (fun r3 =>
    if r3 = 0 then
      some (0, σ)
    else
      if v1 = v2 then
        some (0, σ)
      else
        ob1 (C_in v3 0 99) (fun r5 =>
        if r5 = 0 then
          some (0, σ)
        else
          if inb v1 8 = true then
          if inb v2 8 = true then nm (eA σ (10 + v1.toNatClampNeg) v2.toNatClampNeg v3) (fun σ8 =>
          if inb v2 8 = true then
          if inb v1 8 = true then nm (eA σ8 (10 + v2.toNatClampNeg) v1.toNatClampNeg v3) (fun σ10 =>
          some (1, σ10))
          else none
          else none)
          else none
          else none)))
def I_numberOfTrailingZeros_j74 (v0 : Int32) (v1 : Int32) : Option (Int32) :=
  some (v1 + (i_ushr v0 1))
def I_numberOfTrailingZeros_j62 (v0 : Int32) (v1 : Int32) : Option (Int32) :=
  if 4 < v0 then
    nm (v1 + 2) (fun x2 =>
    nm (i_ushr v0 2) (fun x3 =>
    I_numberOfTrailingZeros_j74 x3 x2))
  else
    I_numberOfTrailingZeros_j74 v0 v1
def I_numberOfTrailingZeros_j49 (v0 : Int32) (v1 : Int32) : Option (Int32) :=
  if 16 < v0 then
    nm (v1 + 4) (fun x4 =>
    nm (i_ushr v0 4) (fun x5 =>
    I_numberOfTrailingZeros_j62 x5 x4))
  else
    I_numberOfTrailingZeros_j62 v0 v1
def I_numberOfTrailingZeros_j34 (v0 : Int32) (v1 : Int32) : Option (Int32) :=
  if 256 < v0 then
    nm (v1 + 8) (fun x6 =>
    nm (i_ushr v0 8) (fun x7 =>
    I_numberOfTrailingZeros_j49 x7 x6))
  else
    I_numberOfTrailingZeros_j49 v0 v1
def I_numberOfTrailingZeros (v0 : Int32) : Option (Int32) :=
  nm ((v0 ^^^ (-1)) &&& (v0 - 1)) (fun x1 =>
  if 0 < x1 then
    if 65536 < x1 then
      nm ((1 : Int32) + 16) (fun x8 =>
      nm (i_ushr x1 16) (fun x9 =>
      I_numberOfTrailingZeros_j34 x9 x8))
    else
      I_numberOfTrailingZeros_j34 x1 1
  else
    some (x1 &&& 32))
def C_leastWith (rec : Int32 → Option (Int32)) (σ : CS) (v1 : Int32) (v2 : Int32) (v3 : Int32) : Option (Int32) :=
  if inb v2 8 = true then
  if inb v3 8 = true then
  ob1 (rec ((v1 &&& ((i_shl 1 v2) ^^^ (-1))) &&& ((i_shl 1 v3) ^^^ (-1)))) (fun r2 =>
  some ((cA σ (10 + v2.toNatClampNeg) v3.toNatClampNeg) + r2))
  else none
  else none
def C_leastOf_j49 (rec : Int32 → Option (Int32)) (k20 : Int32 → Int32 → Option (Int32)) (σ : CS) (v1 : Int32) (v2 : Int32) (v3 : Int32) (v4 : Int32) : Option (Int32) :=
  nm (v4 + 1) (fun x6 =>
  k20 v3 x6)
def C_leastOf_l20 (rec : Int32 → Option (Int32)) (σ : CS) (v1 : Int32) (v2 : Int32) : Nat → Int32 → Int32 → Option (Int32)
  | 0, _, _ => none
  | n + 1, v3, v4 =>
    if v4 < 8 then
      ob1 (C_has v1 v4) (fun r4 =>
      if r4 = 0 then
        C_leastOf_j49 rec (C_leastOf_l20 rec σ v1 v2 n) σ v1 v2 v3 v4
      else
        ob1 (C_leastWith rec σ v1 v2 v4) (fun r7 =>
        nm (i_min v3 r7) (fun x9 =>
        C_leastOf_j49 rec (C_leastOf_l20 rec σ v1 v2 n) σ v1 v2 x9 v4)))
    else
      some v3
def C_leastOf_b (rec : Int32 → Option (Int32)) (σ : CS) (v1 : Int32) : Option (Int32) :=
  if v1 = 0 then
    some 0
  else
    ob1 (I_numberOfTrailingZeros v1) (fun r1 =>
    nm (r1 + 1) (fun x3 =>
    C_leastOf_l20 rec σ v1 r1 FU 9999 x3))
def C_leastOf (σ : CS) : Nat → Int32 → Option (Int32)
  | 0, _ => none
  | d + 1, v1 => C_leastOf_b (C_leastOf σ d) σ v1
def C_pairs_j84 (k46 : Int32 → Option (Int32)) (k58 : Int32 → Option (Int32)) (σ : CS) (v2 : Int32) (v3 : Int32) (v4 : Int32) (v5 : Int32) : Option (Int32) :=
  nm (v5 + 1) (fun x11 =>
  k58 x11)
def C_pairs_j102 (σ : CS) (v2 : Int32) (v4 : Int32) (v5 : Int32) : Option (Int32) :=
  if v4 = v2 then
    some v5
  else
    some v4
def C_pairs_l58 (k46 : Int32 → Option (Int32)) (σ : CS) (v2 : Int32) (v3 : Int32) (v4 : Int32) : Nat → Int32 → Option (Int32)
  | 0, _ => none
  | n + 1, v5 =>
    ob1 (C_has v3 v5) (fun r9 =>
    if r9 = 0 then
      C_pairs_j84 k46 (C_pairs_l58 k46 σ v2 v3 v4 n) σ v2 v3 v4 v5
    else
      ob1 (C_leastWith (C_leastOf σ 16) σ v3 v4 v5) (fun r12 =>
      ob1 (C_leastOf σ 16 v3) (fun r14 =>
      if r12 = r14 then
        if v4 = v2 then
          C_pairs_j102 σ v2 v4 v5
        else
          if v5 = v2 then
            C_pairs_j102 σ v2 v4 v5
          else
            nm (v3 &&& (((i_shl 1 v4) ^^^ (-1)) &&& ((i_shl 1 v5) ^^^ (-1)))) (fun x16 =>
            k46 x16)
      else
        C_pairs_j84 k46 (C_pairs_l58 k46 σ v2 v3 v4 n) σ v2 v3 v4 v5)))
def C_pairs_l46 (σ : CS) (v2 : Int32) : Nat → Int32 → Option (Int32)
  | 0, _ => none
  | n + 1, v3 =>
    ob1 (I_numberOfTrailingZeros v3) (fun r6 =>
    nm (r6 + 1) (fun x8 =>
    C_pairs_l58 (C_pairs_l46 σ v2 n) σ v2 v3 r6 FU x8))
def C_pairs (σ : CS) (v1 : Int32) (v2 : Int32) : Option (Int32) :=
  ob1 (C_in v1 2 8) (fun r1 =>
  if r1 = 0 then
    some (-1)
  else
    if (i_rem v1 2) = 0 then
      ob1 (C_in v2 (-1) (v1 - 1)) (fun r3 =>
      if r3 = 0 then
        some (-1)
      else
        nm ((i_shl 1 v1) - 1) (fun x5 =>
        if v2 = (-1) then
          ob1 (C_leastOf σ 16 x5) (fun r17 =>
          some r17)
        else
          C_pairs_l46 σ v2 FU x5))
    else
      some (-1))
def C_likes (σ : CS) (v1 : Int32) (v2 : Int32) (v3 : Int32) : Option (Int32 × CS) :=
  ob1 (C_isChair v1) (fun r1 =>
  if r1 = 0 then
    some (0, σ)
  else
    ob1 (C_isChair v2) (fun r3 =>
    if r3 = 0 then
      some (0, σ)
    else
      ob1 (C_in v3 0 9) (fun r5 =>
      if r5 = 0 then
        some (0, σ)
      else
        if inb v1 8 = true then
        if inb v2 8 = true then nm (eA σ (20 + v1.toNatClampNeg) v2.toNatClampNeg v3) (fun σ8 =>
        some (1, σ8))
        else none
        else none)))
def C_isBetter (σ : CS) (v1 : Int32) (v2 : Int32) (v3 : Int32) : Option (Int32) :=
  if inb v1 8 = true then
  if inb v2 8 = true then
  if inb v3 8 = true then
  if (cA σ (20 + v1.toNatClampNeg) v2.toNatClampNeg) < (cA σ (20 + v1.toNatClampNeg) v3.toNatClampNeg) then
    some 1
  else
    if inb v2 8 = true then
    if inb v3 8 = true then
    if (cA σ (20 + v1.toNatClampNeg) v2.toNatClampNeg) = (cA σ (20 + v1.toNatClampNeg) v3.toNatClampNeg) then
      if v2 < v3 then
        some 1
      else
        some 0
    else
      some 0
    else none
    else none
  else none
  else none
  else none
def C_pointsAt_j40 (k5 : Int32 → Int32 → Option (Int32)) (σ : CS) (v1 : Int32) (v2 : Int32) (v3 : Int32) (v4 : Int32) : Option (Int32) :=
  nm (v4 + 1) (fun x3 =>
  k5 v3 x3)
def C_pointsAt_j37 (k5 : Int32 → Int32 → Option (Int32)) (σ : CS) (v1 : Int32) (v2 : Int32) (v4 : Int32) : Option (Int32) :=
  C_pointsAt_j40 k5 σ v1 v2 v4 v4
def C_pointsAt_l5 (σ : CS) (v1 : Int32) (v2 : Int32) : Nat → Int32 → Int32 → Option (Int32)
  | 0, _, _ => none
  | n + 1, v3, v4 =>
    if v4 < 8 then
      ob1 (C_has v2 v4) (fun r1 =>
      if r1 = 0 then
        C_pointsAt_j40 (C_pointsAt_l5 σ v1 v2 n) σ v1 v2 v3 v4
      else
        if v3 = (-1) then
          C_pointsAt_j37 (C_pointsAt_l5 σ v1 v2 n) σ v1 v2 v4
        else
          ob1 (C_isBetter σ v1 v4 v3) (fun r4 =>
          if r4 = 0 then
            C_pointsAt_j40 (C_pointsAt_l5 σ v1 v2 n) σ v1 v2 v3 v4
          else
            C_pointsAt_j37 (C_pointsAt_l5 σ v1 v2 n) σ v1 v2 v4))
    else
      some v3
def C_pointsAt (σ : CS) (v1 : Int32) (v2 : Int32) : Option (Int32) :=
  C_pointsAt_l5 σ v1 v2 FU (-1) 0
def C_trades_l44 (k6 : CS → Int32 → Option (CS)) (v3 : Int32) (v4 : Int32) : Nat → CS → Int32 → Int32 → Option (CS)
  | 0, _, _, _ => none
  | n + 1, σ, v2, v5 =>
    ob1 (C_pointsAt σ v5 v4) (fun r4 =>
    if inb v5 8 = true then nm (eA σ 210 v5.toNatClampNeg r4) (fun σ6 =>
    nm (v2 &&& ((i_shl 1 v5) ^^^ (-1))) (fun x7 =>
    if inb v5 8 = true then
    nm (cA σ6 210 v5.toNatClampNeg) (fun x8 =>
    if x8 = v3 then
      k6 σ6 x7
    else
      (C_trades_l44 k6 v3 v4 n) σ6 x7 x8)
    else none))
    else none)
def C_trades_l18 (k6 : CS → Int32 → Option (CS)) (σ : CS) (v2 : Int32) : Nat → Int32 → Int32 → Option (CS)
  | 0, _, _ => none
  | n + 1, v3, v4 =>
    if v4 < 8 then
      ob1 (C_pointsAt σ v3 v2) (fun r9 =>
      nm (v4 + 1) (fun x11 =>
      (C_trades_l18 k6 σ v2 n) r9 x11))
    else
      C_trades_l44 k6 v3 v2 FU σ v2 v3
def C_trades_l6  : Nat → CS → Int32 → Option (CS)
  | 0, _, _ => none
  | n + 1, σ, v2 =>
    if v2 = 0 then
      some σ
    else
      ob1 (I_numberOfTrailingZeros v2) (fun r2 =>
      C_trades_l18 (C_trades_l6 n) σ v2 FU r2 0)
def C_trades (σ : CS) (v1 : Int32) : Option (CS) :=
  nm ((i_shl 1 v1) - 1) (fun x1 =>
  C_trades_l6 FU σ x1)
def C_traded (σ : CS) (v1 : Int32) (v2 : Int32) : Option (Int32 × CS) :=
  ob1 (C_in v1 1 8) (fun r1 =>
  if r1 = 0 then
    some ((-1), σ)
  else
    ob1 (C_in v2 0 (v1 - 1)) (fun r3 =>
    if r3 = 0 then
      some ((-1), σ)
    else
      ob1 (C_trades σ v1) (fun σ6 =>
      if inb v2 8 = true then
      some ((cA σ6 210 v2.toNatClampNeg), σ6)
      else none)))
def C_rather_j49 (k21 : Int32 → Int32 → Option (Int32 × CS)) (σ : CS) (v1 : Int32) (v3 : Int32) (s0 : Int32) (s1 : Int32) : Option (Int32 × CS) :=
  nm (s0 ||| s1) (fun x7 =>
  nm (v3 + 1) (fun x8 =>
  k21 x7 x8))
def C_rather_l21 (σ : CS) (v1 : Int32) : Nat → Int32 → Int32 → Option (Int32 × CS)
  | 0, _, _ => none
  | n + 1, v2, v3 =>
    if v3 < v1 then
      if inb v3 8 = true then
      ob1 (C_isBetter σ v3 (cA σ 210 v3.toNatClampNeg) v3) (fun r5 =>
      if r5 = 0 then
        C_rather_j49 (C_rather_l21 σ v1 n) σ v1 v3 v2 0
      else
        C_rather_j49 (C_rather_l21 σ v1 n) σ v1 v3 v2 (i_shl 1 v3))
      else none
    else
      some (v2, σ)
def C_rather (σ : CS) (v1 : Int32) : Option (Int32 × CS) :=
  ob1 (C_in v1 1 8) (fun r1 =>
  if r1 = 0 then
    some ((-1), σ)
  else
    ob1 (C_trades σ v1) (fun σ4 =>
    C_rather_l21 σ4 v1 FU 0 0))
def C_slip (σ : CS) (v1 : Int32) (v2 : Int32) : Option (Int32 × CS) :=
  ob1 (C_isChair v1) (fun r1 =>
  if r1 = 0 then
    some (0, σ)
  else
    ob1 (C_in v2 0 10) (fun r3 =>
    if r3 = 0 then
      some (0, σ)
    else
      if inb v1 8 = true then nm (eA σ 4 v1.toNatClampNeg v2) (fun σ5 =>
      some (1, σ5))
      else none))
def C_slipsOf_b (rec : Int32 → Int32 → Option (Int64)) (σ : CS) (v1 : Int32) (v2 : Int32) : Option (Int64) :=
  if v2 < 0 then
    some 0
  else
    if v1 = 0 then
      if v2 = 0 then
        some 1
      else
        some 0
    else
      ob1 (I_numberOfTrailingZeros v1) (fun r1 =>
      nm (v1 &&& (v1 - 1)) (fun x3 =>
      if inb r1 8 = true then
      ob1 (rec x3 (v2 - 1)) (fun r4 =>
      if inb r1 8 = true then
      ob1 (rec x3 v2) (fun r6 =>
      some (((Int32.toInt64 (cA σ 4 r1.toNatClampNeg)) * r4) + ((Int32.toInt64 (10 - (cA σ 4 r1.toNatClampNeg))) * r6)))
      else none)
      else none))
def C_slipsOf (σ : CS) : Nat → Int32 → Int32 → Option (Int64)
  | 0, _, _ => none
  | d + 1, v1, v2 => C_slipsOf_b (C_slipsOf σ d) σ v1 v2
def C_power_b (rec : Int64 → Int32 → Option (Int64)) (v0 : Int64) (v2 : Int32) : Option (Int64) :=
  if v2 = 0 then
    some 1
  else
    ob1 (rec v0 (v2 - 1)) (fun r1 =>
    some (v0 * r1))
def C_power  : Nat → Int64 → Int32 → Option (Int64)
  | 0, _, _ => none
  | d + 1, v0, v2 => C_power_b (C_power  d)  v0 v2
def C_scars_j21 (σ : CS) : Option (Int64) :=
  some (-1)
def C_scars (σ : CS) (v1 : Int32) (v2 : Int32) (v3 : Int32) : Option (Int64) :=
  ob1 (C_in v1 1 255) (fun r1 =>
  if r1 = 0 then
    C_scars_j21 σ
  else
    ob1 (C_in v2 0 8) (fun r3 =>
    if r3 = 0 then
      C_scars_j21 σ
    else
      ob1 (C_slipsOf σ 16 v1 v2) (fun r5 =>
      ob1 (I_bitCount v1) (fun r7 =>
      ob1 (C_power 16 10 r7) (fun r9 =>
      ob1 (C_common 64 r9 r5) (fun r11 =>
      if v3 = 0 then
        if r11 = 0 then none else
        some (r5 / r11)
      else
        if r11 = 0 then none else
        some (r9 / r11)))))))
def C_rate (σ : CS) (v1 : Int32) (v2 : Int32) : Option (Int32 × CS) :=
  if v1 = (-1) then
    ob2 (S_clears σ 0 5) (fun r8 σ10 =>
    some (r8, σ10))
  else
    ob1 (C_isPerson σ v1) (fun r1 =>
    if r1 = 0 then
      some ((-2), σ)
    else
      ob1 (C_in v2 0 99) (fun r3 =>
      if r3 = 0 then
        some ((-2), σ)
      else
        if (cA σ 0 5) < 8 then
          ob2 (S_adds σ 0 8 5 v1 v2) (fun r5 σ7 =>
          some (r5, σ7))
        else
          some ((-2), σ)))
def C_hairiest_j49 (k4 : Int32 → Int32 → Option (Int32)) (σ : CS) (v1 : Int32) (v2 : Int32) : Option (Int32) :=
  nm (v2 + 1) (fun x1 =>
  k4 v1 x1)
def C_hairiest_j47 (k4 : Int32 → Int32 → Option (Int32)) (σ : CS) (v2 : Int32) : Option (Int32) :=
  C_hairiest_j49 k4 σ v2 v2
def C_hairiest_l4 (σ : CS) : Nat → Int32 → Int32 → Option (Int32)
  | 0, _, _ => none
  | n + 1, v1, v2 =>
    if v2 < (cA σ 0 0) then
      if v1 = (-1) then
        C_hairiest_j47 (C_hairiest_l4 σ n) σ v2
      else
        if inb (3 + v2) 148 = true then
        if inb (3 + v1) 148 = true then
        if (cA σ 1 (3 + v1).toNatClampNeg) < (cA σ 1 (3 + v2).toNatClampNeg) then
          C_hairiest_j47 (C_hairiest_l4 σ n) σ v2
        else
          C_hairiest_j49 (C_hairiest_l4 σ n) σ v1 v2
        else none
        else none
    else
      some v1
def C_hairiest (σ : CS) : Option (Int32) :=
  C_hairiest_l4 σ FU (-1) 0
def C_calmest_j51 (k4 : Int32 → Int32 → Option (Int32)) (σ : CS) (v1 : Int32) (v2 : Int32) : Option (Int32) :=
  nm (v2 + 1) (fun x1 =>
  k4 v1 x1)
def C_calmest_j49 (k4 : Int32 → Int32 → Option (Int32)) (σ : CS) (v2 : Int32) : Option (Int32) :=
  C_calmest_j51 k4 σ v2 v2
def C_calmest_l4 (σ : CS) : Nat → Int32 → Int32 → Option (Int32)
  | 0, _, _ => none
  | n + 1, v1, v2 =>
    if v2 < (cA σ 0 0) then
      if v1 = (-1) then
        C_calmest_j49 (C_calmest_l4 σ n) σ v2
      else
        if inb (11 + v2) 148 = true then
        if inb (11 + v1) 148 = true then
        if (cA σ 1 (11 + v2).toNatClampNeg) < (cA σ 1 (11 + v1).toNatClampNeg) then
          C_calmest_j49 (C_calmest_l4 σ n) σ v2
        else
          C_calmest_j51 (C_calmest_l4 σ n) σ v1 v2
        else none
        else none
    else
      some v1
def C_calmest (σ : CS) : Option (Int32) :=
  C_calmest_l4 σ FU (-1) 0
def C_smooth_j39 (k4 : Int32 → Int32 → Option (Int32)) (σ : CS) (v2 : Int32) (s0 : Int32) (s1 : Int32) : Option (Int32) :=
  nm (s0 ||| s1) (fun x1 =>
  nm (v2 + 1) (fun x2 =>
  k4 x1 x2))
def C_smooth_l4 (σ : CS) : Nat → Int32 → Int32 → Option (Int32)
  | 0, _, _ => none
  | n + 1, v1, v2 =>
    if v2 < (cA σ 0 0) then
      if inb (3 + v2) 148 = true then
      if (cA σ 1 (3 + v2).toNatClampNeg) = 0 then
        C_smooth_j39 (C_smooth_l4 σ n) σ v2 v1 (i_shl 1 v2)
      else
        C_smooth_j39 (C_smooth_l4 σ n) σ v2 v1 0
      else none
    else
      some v1
def C_smooth (σ : CS) : Option (Int32) :=
  C_smooth_l4 σ FU 0 0
def C_unscarred_j40 (k4 : Int32 → Int32 → Option (Int32)) (σ : CS) (v2 : Int32) (s0 : Int32) (s1 : Int32) : Option (Int32) :=
  nm (s0 ||| s1) (fun x1 =>
  nm (v2 + 1) (fun x2 =>
  k4 x1 x2))
def C_unscarred_l4 (σ : CS) : Nat → Int32 → Int32 → Option (Int32)
  | 0, _, _ => none
  | n + 1, v1, v2 =>
    if v2 < (cA σ 0 0) then
      if inb (19 + v2) 148 = true then
      if (cA σ 1 (19 + v2).toNatClampNeg) = 0 then
        C_unscarred_j40 (C_unscarred_l4 σ n) σ v2 v1 (i_shl 1 v2)
      else
        C_unscarred_j40 (C_unscarred_l4 σ n) σ v2 v1 0
      else none
    else
      some v1
def C_unscarred (σ : CS) : Option (Int32) :=
  C_unscarred_l4 σ FU 0 0
def C_alone_j41 (k4 : Int32 → Int32 → Option (Int32)) (σ : CS) (v2 : Int32) (s0 : Int32) (s1 : Int32) : Option (Int32) :=
  nm (s0 ||| s1) (fun x3 =>
  nm (v2 + 1) (fun x4 =>
  k4 x3 x4))
def C_alone_l4 (σ : CS) : Nat → Int32 → Int32 → Option (Int32)
  | 0, _, _ => none
  | n + 1, v1, v2 =>
    if v2 < (cA σ 0 0) then
      if inb v2 8 = true then
      ob1 (C_isPerson σ (cA σ 2 v2.toNatClampNeg)) (fun r1 =>
      if r1 = 0 then
        C_alone_j41 (C_alone_l4 σ n) σ v2 v1 (i_shl 1 v2)
      else
        C_alone_j41 (C_alone_l4 σ n) σ v2 v1 0)
      else none
    else
      some v1
def C_alone (σ : CS) : Option (Int32) :=
  C_alone_l4 σ FU 0 0
def C_ledger_j68 (k13 : Int32 → Int32 → Option (Int32)) (σ : CS) (v1 : Int32) (v3 : Int32) (s0 : Int32) (s1 : Int32) : Option (Int32) :=
  nm (s0 + s1) (fun x3 =>
  nm (v3 + 1) (fun x4 =>
  k13 x3 x4))
def C_ledger_l13 (σ : CS) (v1 : Int32) : Nat → Int32 → Int32 → Option (Int32)
  | 0, _, _ => none
  | n + 1, v2, v3 =>
    if v3 < (cA σ 1 27) then
      if inb ((28 + (4 * v3)) + 1) 148 = true then
      if (cA σ 1 ((28 + (4 * v3)) + 1).toNatClampNeg) = v1 then
        if inb ((28 + (4 * v3)) + 2) 148 = true then
        C_ledger_j68 (C_ledger_l13 σ v1 n) σ v1 v3 v2 (cA σ 1 ((28 + (4 * v3)) + 2).toNatClampNeg)
        else none
      else
        C_ledger_j68 (C_ledger_l13 σ v1 n) σ v1 v3 v2 0
      else none
    else
      some v2
def C_ledger (σ : CS) (v1 : Int32) : Option (Int32) :=
  ob1 (C_isChair v1) (fun r1 =>
  if r1 = 0 then
    some (-1)
  else
    C_ledger_l13 σ v1 FU 0 0)
def C_image (σ : CS) : Option (Int32 × CS) :=
  ob1 (S_be σ 1 0) (fun σ2 =>
  some ((cA σ2 1 0), σ2))
def C_back (σ : CS) : Option (Int32 × CS) :=
  ob1 (S_be σ 0 1) (fun σ2 =>
  some ((cA σ2 1 0), σ2))
def C_about (σ : CS) (v1 : Int32) : Option (Int32) :=
  if v1 = 0 then
    some (cA σ 0 0)
  else
  if v1 = 1 then
    some (cA σ 0 1)
  else
  if v1 = 2 then
    some (cA σ 0 2)
  else
  if v1 = 3 then
    some (cA σ 0 3)
  else
  if v1 = 4 then
    some (cA σ 0 4)
  else
  if v1 = 5 then
    some (cA σ 0 5)
  else
  if v1 = 6 then
    some (cI σ 3)
  else
  some (-2)
