/-! WHAT RESTS ON TEXTS: pure functions, walks, by program (wip: gen_c.py) -/
set_option maxRecDepth 100000
def C_says_j83 (σ : CS) (k2 : Nat) (q1 : Nat) (v4 : Int32) (s1 : Int32) (s2 : Int32) : Option (Int32 × CS) :=
  if inb s1 15 = true then nm (eA σ 201 s1.toNatClampNeg s2) (fun σ9 =>
  nm (eA σ9 201 6 (cA σ9 k2 1)) (fun σ10 =>
  if cpOK 0 7 8 8 15 = true then nm (dCp σ10 2 201 0 7 8) (fun σ11 =>
  if v4 = 0 then
    C_says_j148 σ11 k2 q1 v4 5
  else
    if v4 = 1 then
      C_says_j148 σ11 k2 q1 v4 ((cA σ11 201 2) / 2)
    else
      C_says_j148 σ11 k2 q1 v4 (10 - (cA σ11 201 2)))
  else none))
  else none
def C_says (σ : CS) (q1 : Nat) (k2 : Nat) (v3 : Int32) (v4 : Int32) : Option (Int32 × CS) :=
  if inb v3 8 = true then
  nm (cA σ 2 v3.toNatClampNeg) (fun x1 =>
  nm (eA σ 201 0 (cA σ k2 0)) (fun σ2 =>
  nm (eA σ2 201 1 v3) (fun σ3 =>
  if inb (11 + v3) 148 = true then
  nm (eA σ3 201 2 (cA σ3 k2 (11 + v3).toNatClampNeg)) (fun σ4 =>
  nm (eA σ4 201 3 x1) (fun σ5 =>
  if inb (19 + v3) 148 = true then
  nm (eA σ5 201 4 (cA σ5 k2 (19 + v3).toNatClampNeg)) (fun σ6 =>
  ob1 (C_isPerson σ6 x1) (fun r7 =>
  if r7 = 0 then
    C_says_j83 σ6 k2 q1 v4 5 0
  else
    if inb (3 + x1) 148 = true then
    C_says_j83 σ6 k2 q1 v4 5 (cA σ6 k2 (3 + x1).toNatClampNeg)
    else none))
  else none))
  else none)))
  else none
def C_writes (σ : CS) (k0 : Nat) (v1 : Int32) (v2 : Int32) (v3 : Int32) : Option (CS) :=
  if (cA σ k0 27) = 30 then
    if cpOK 32 28 116 148 148 = true then nm (dCp σ k0 k0 32 28 116) (fun σ1 =>
    nm (eA σ1 k0 27 ((cA σ1 k0 27) - 1)) (fun σ3 =>
    C_writes_j28 σ3 k0 v1 v2 v3))
    else none
  else
    C_writes_j28 σ k0 v1 v2 v3
def C_lathers_j117 (σ : CS) (k1 : Nat) (v5 : Int32) (s1 : Int32) (s2 : Int32) (s3 : Int32) : Option (Int32 × CS) :=
  ob1 (C_writes σ k1 s1 s2 s3) (fun σ16 =>
  some (v5, σ16))
def C_lathers_j103 (σ : CS) (k1 : Nat) (v2 : Int32) (v5 : Int32) (v6 : Int32) : Option (Int32 × CS) :=
  if v6 = 0 then
    C_lathers_j117 σ k1 v5 v2 v5 0
  else
    C_lathers_j117 σ k1 v5 v2 v5 1
def C_lathers (σ : CS) (k1 : Nat) (v2 : Int32) : Option (Int32 × CS) :=
  ob1 (C_rules σ) (fun r1 =>
  ob2 (C_says σ r1 k1 v2 1) (fun r3 σ5 =>
  ob1 (C_rules σ5) (fun r6 =>
  ob2 (C_says σ5 r6 k1 v2 2) (fun r8 σ10 =>
  nm (eA σ10 k1 1 (i_min 99999 ((cA σ5 k1 1) + r8))) (fun σ11 =>
  if inb v2 8 = true then
  nm (cA σ11 2 v2.toNatClampNeg) (fun x12 =>
  ob1 (C_isPerson σ11 x12) (fun r13 =>
  if r13 = 0 then
    C_lathers_j103 σ11 k1 v2 0 0
  else
    if inb (3 + x12) 148 = true then
    ob1 (C_rules σ11) (fun r17 =>
    ob2 (C_says σ11 r17 k1 v2 0) (fun r19 σ21 =>
    nm (i_min (cA σ11 k1 (3 + x12).toNatClampNeg) r19) (fun x22 =>
    if inb (3 + x12) 148 = true then
    if inb (3 + x12) 148 = true then nm (eA σ21 k1 (3 + x12).toNatClampNeg ((cA σ21 k1 (3 + x12).toNatClampNeg) - x22)) (fun σ23 =>
    ob2 (C_isScarred σ23 k1 v2 r3) (fun r24 σ26 =>
    C_lathers_j103 σ26 k1 v2 x22 r24))
    else none
    else none)))
    else none))
  else none)))))
def C_shave (σ : CS) (v1 : Int32) : Option (Int32 × CS) :=
  ob1 (C_isPerson σ v1) (fun r1 =>
  if r1 = 0 then
    some ((-1), σ)
  else
    ob1 (S_keeps σ 0) (fun σ4 =>
    ob2 (C_lathers σ4 1 v1) (fun r5 σ7 =>
    some (r5, σ7))))
def C_years_j191 (k54 : CS → Int32 → Int32 → Option (Int32 × CS)) (σ : CS) (v2 : Int32) (v4 : Int32) (v5 : Int32) : Option (Int32 × CS) :=
  nm (v5 + 1) (fun x11 =>
  k54 σ v4 x11)
def C_years_j169 (k54 : CS → Int32 → Int32 → Option (Int32 × CS)) (σ : CS) (v2 : Int32) (v4 : Int32) (v5 : Int32) (v6 : Int32) : Option (Int32 × CS) :=
  if 2 < (i_rem v6 5) then
    if (cA σ 1 0) < 9999 then
      ob1 (C_passes σ 1) (fun σ13 =>
      C_years_j191 k54 σ13 v2 v4 v5)
    else
      C_years_j191 k54 σ v2 v4 v5
  else
    C_years_j191 k54 σ v2 v4 v5
def C_years_j131 (k54 : CS → Int32 → Int32 → Option (Int32 × CS)) (σ : CS) (v2 : Int32) (v4 : Int32) (v5 : Int32) (v6 : Int32) (v7 : Int32) : Option (Int32 × CS) :=
  if (i_rem v6 5) = 2 then
    if (i_rem v6 4) = 0 then
      ob1 (C_canCalm σ v7) (fun r14 =>
      if r14 = 0 then
        C_years_j169 k54 σ v2 v4 v5 v6
      else
        if inb (11 + v7) 148 = true then
        if inb (11 + v7) 148 = true then nm (eA σ 1 (11 + v7).toNatClampNeg ((cA σ 1 (11 + v7).toNatClampNeg) - 1)) (fun σ16 =>
        C_years_j191 k54 σ16 v2 v4 v5)
        else none
        else none)
    else
      C_years_j169 k54 σ v2 v4 v5 v6
  else
    C_years_j169 k54 σ v2 v4 v5 v6
def C_years_j97 (k54 : CS → Int32 → Int32 → Option (Int32 × CS)) (σ : CS) (v2 : Int32) (v4 : Int32) (v5 : Int32) (v6 : Int32) (s0 : Int32) : Option (Int32 × CS) :=
  if (i_rem v6 5) < 2 then
    ob1 (C_isPerson σ s0) (fun r17 =>
    if r17 = 0 then
      C_years_j131 k54 σ v2 v4 v5 v6 s0
    else
      ob2 (C_lathers σ 1 s0) (fun r19 σ21 =>
      nm (v4 + r19) (fun x22 =>
      C_years_j191 k54 σ21 v2 x22 v5)))
  else
    C_years_j131 k54 σ v2 v4 v5 v6 s0
def C_years_l54 (v2 : Int32) : Nat → CS → Int32 → Int32 → Option (Int32 × CS)
  | 0, _, _, _ => none
  | n + 1, σ, v4, v5 =>
    if v5 < v2 then
      nm (cA σ 1 2) (fun x8 =>
      ob1 (C_draws σ 1) (fun σ10 =>
      if (cA σ10 0 0) = 0 then
        C_years_j97 (C_years_l54 v2 n) σ10 v2 v4 v5 x8 (-1)
      else
        if (cA σ10 0 0) = 0 then none else
        C_years_j97 (C_years_l54 v2 n) σ10 v2 v4 v5 x8 (i_rem x8 (cA σ10 0 0))))
    else
      some ((cA σ 1 0), σ)
def C_years (σ : CS) (v1 : Int32) (v2 : Int32) : Option (Int32 × CS) :=
  ob1 (C_in v1 0 9999) (fun r1 =>
  if r1 = 0 then
    some ((-1), σ)
  else
    ob1 (C_in v2 1 40) (fun r3 =>
    if r3 = 0 then
      some ((-1), σ)
    else
      ob1 (S_keeps σ 0) (fun σ6 =>
      nm (eA σ6 1 2 ((v1 * 2) + 223)) (fun σ7 =>
      C_years_l54 v2 41 σ7 0 0))))
def C_of (σ : CS) (v1 : Int32) (v2 : Int32) : Option (Int32 × CS) :=
  ob1 (C_isPerson σ v1) (fun r1 =>
  if r1 = 0 then
    some ((-1), σ)
  else
    if v2 = 0 then
      if inb (3 + v1) 148 = true then
      some ((cA σ 1 (3 + v1).toNatClampNeg), σ)
      else none
    else
    if v2 = 1 then
      if inb (11 + v1) 148 = true then
      some ((cA σ 1 (11 + v1).toNatClampNeg), σ)
      else none
    else
    if v2 = 2 then
      if inb (19 + v1) 148 = true then
      some ((cA σ 1 (19 + v1).toNatClampNeg), σ)
      else none
    else
    ob1 (C_in v2 3 5) (fun r9 =>
    if r9 = 0 then
      some ((-1), σ)
    else
      ob1 (C_rules σ) (fun r11 =>
      ob2 (C_says σ r11 1 v1 (v2 - 3)) (fun r13 σ15 =>
      some (r13, σ15)))))
def C_foretold_j115 (σ : CS) (s2 : Int32) : Option (Int32 × CS) :=
  ob1 (C_sumOf σ 202 s2) (fun r7 =>
  some (r7, σ))
def C_foretold_j80 (k51 : CS → Int32 → Int32 → Option (Int32 × CS)) (σ : CS) (v1 : Int32) (v2 : Int32) (v3 : Int32) (v4 : Int32) : Option (Int32 × CS) :=
  nm (v4 + 1) (fun x11 =>
  k51 σ v3 x11)
def C_foretold_l51 (v1 : Int32) (v2 : Int32) : Nat → CS → Int32 → Int32 → Option (Int32 × CS)
  | 0, _, _, _ => none
  | n + 1, σ, v3, v4 =>
    if v4 < 8 then
      ob1 (C_has v1 v4) (fun r9 =>
      if r9 = 0 then
        C_foretold_j80 (C_foretold_l51 v1 v2 n) σ v1 v2 v3 v4
      else
        ob2 (C_lathers σ 202 v4) (fun r12 σ14 =>
        nm (v3 + r12) (fun x15 =>
        C_foretold_j80 (C_foretold_l51 v1 v2 n) σ14 v1 v2 x15 v4)))
    else
      if v2 = 0 then
        some ((cA σ 202 1), σ)
      else
        if v2 = 1 then
          C_foretold_j115 σ 19
        else
          C_foretold_j115 σ 3
def C_foretold (σ : CS) (v1 : Int32) (v2 : Int32) : Option (Int32 × CS) :=
  ob1 (C_in v1 1 ((i_shl 1 (cA σ 0 0)) - 1)) (fun r1 =>
  if r1 = 0 then
    some ((-1), σ)
  else
    ob1 (C_in v2 0 2) (fun r3 =>
    if r3 = 0 then
      some ((-1), σ)
    else
      ob1 (S_copy σ 1 148 202 148) (fun σ6 =>
      C_foretold_l51 v1 v2 9 σ6 0 0)))
def C_ratesBy (σ : CS) (v1 : Int32) (v2 : Int32) : Option (Int32 × CS) :=
  ob1 (S_copy σ 1 148 202 148) (fun σ2 =>
  if inb (11 + v1) 148 = true then nm (eA σ2 202 (11 + v1).toNatClampNeg v2) (fun σ3 =>
  ob1 (C_rules σ3) (fun r4 =>
  ob2 (C_says σ3 r4 202 v1 2) (fun r6 σ8 =>
  some (r6, σ8))))
  else none)
def C_shamOf_j27 (k4 : CS → Int32 → Int32 → Option (Int32 × CS)) (σ : CS) (v1 : Int32) (v2 : Int32) (v3 : Int32) : Option (Int32 × CS) :=
  nm (v3 + 1) (fun x7 =>
  k4 σ v2 x7)
def C_shamOf_l4 (v1 : Int32) : Nat → CS → Int32 → Int32 → Option (Int32 × CS)
  | 0, _, _, _ => none
  | n + 1, σ, v2, v3 =>
    if 9 < v3 then
      some (v2, σ)
    else
      ob2 (C_ratesBy σ v1 v3) (fun r1 σ3 =>
      ob2 (C_ratesBy σ3 v1 v2) (fun r4 σ6 =>
      if r1 < r4 then
        C_shamOf_j27 (C_shamOf_l4 v1 n) σ6 v1 v3 v3
      else
        C_shamOf_j27 (C_shamOf_l4 v1 n) σ6 v1 v2 v3))
def C_shamOf (σ : CS) (v1 : Int32) : Option (Int32 × CS) :=
  C_shamOf_l4 v1 FU σ 0 1
def C_sham (σ : CS) (v1 : Int32) : Option (Int32 × CS) :=
  ob1 (C_isPerson σ v1) (fun r1 =>
  if r1 = 0 then
    some ((-1), σ)
  else
    ob2 (C_shamOf σ v1) (fun r3 σ5 =>
    some (r3, σ5)))
def C_shams_j55 (k4 : CS → Int32 → Int32 → Option (Int32 × CS)) (σ : CS) (v2 : Int32) (s0 : Int32) (s1 : Int32) : Option (Int32 × CS) :=
  nm (s0 ||| s1) (fun x10 =>
  nm (v2 + 1) (fun x11 =>
  k4 σ x10 x11))
def C_shams_l4  : Nat → CS → Int32 → Int32 → Option (Int32 × CS)
  | 0, _, _, _ => none
  | n + 1, σ, v1, v2 =>
    if v2 < (cA σ 0 0) then
      ob2 (C_shamOf σ v2) (fun r1 σ3 =>
      ob2 (C_ratesBy σ3 v2 r1) (fun r4 σ6 =>
      if inb (11 + v2) 148 = true then
      ob2 (C_ratesBy σ6 v2 (cA σ6 1 (11 + v2).toNatClampNeg)) (fun r7 σ9 =>
      if r4 < r7 then
        C_shams_j55 (C_shams_l4 n) σ9 v2 v1 (i_shl 1 v2)
      else
        C_shams_j55 (C_shams_l4 n) σ9 v2 v1 0)
      else none))
    else
      some (v1, σ)
def C_shams (σ : CS) : Option (Int32 × CS) :=
  C_shams_l4 FU σ 0 0
def C_isLaw_l2 (q1 : Nat) : Nat → CS → Int32 → Option (Int32 × CS)
  | 0, _, _ => none
  | n + 1, σ, v2 =>
    if v2 < (cA σ 0 5) then
      if inb v2 8 = true then
      ob2 (C_says σ q1 1 (cA σ (40 + v2.toNatClampNeg) 0) 2) (fun r2 σ4 =>
      if inb v2 8 = true then
      if r2 = (cA σ4 (40 + v2.toNatClampNeg) 1) then
        nm (v2 + 1) (fun x6 =>
        (C_isLaw_l2 q1 n) σ4 x6)
      else
        some (0, σ4)
      else none)
      else none
    else
      some (1, σ)
def C_isLaw (σ : CS) (q1 : Nat) : Option (Int32 × CS) :=
  C_isLaw_l2 q1 FU σ 0
def C_law_j41 (k4 : CS → Int32 → Int32 → Option (Int32 × CS)) (σ : CS) (v2 : Int32) (s0 : Int32) (s1 : Int32) : Option (Int32 × CS) :=
  nm (s0 ||| s1) (fun x7 =>
  nm (v2 + 1) (fun x8 =>
  k4 σ x7 x8))
def C_law_l4  : Nat → CS → Int32 → Int32 → Option (Int32 × CS)
  | 0, _, _, _ => none
  | n + 1, σ, v1, v2 =>
    if v2 < (cA σ 0 1) then
      if inb v2 4 = true then ob1 (cT σ 0 v2.toNatClampNeg) (fun q1 =>
      ob2 (C_isLaw σ q1) (fun r4 σ6 =>
      if r4 = 0 then
        C_law_j41 (C_law_l4 n) σ6 v2 v1 0
      else
        C_law_j41 (C_law_l4 n) σ6 v2 v1 (i_shl 1 v2)))
      else none
    else
      some (v1, σ)
def C_law (σ : CS) : Option (Int32 × CS) :=
  C_law_l4 FU σ 0 0
theorem hv_c_says : yX0_says.cls = RX0 ∧ yX0_says.cls ≠ "java/lang/invoke/MethodHandle" ∧ yX0_says.cls ≠ "java/lang/invoke/VarHandle" ∧ (parseMethodDescriptor yX0_says.desc).map (fun d => d.parameters.length) = some 4 := by decide +kernel
theorem cm_says_j83 {K : KT} {Γ : CG} (hk : KOK K cX0_says 7 RX0 rm_c_says (some .int)) (hK : CK Γ (kS K)) (hΓ : DTX Γ) (σ : CS) (k2 : Nat) (q1 : Nat) (v4 : Int32) (s1 : Int32) (s2 : Int32) (hk2 : cAv k2 148) : GGo K (cQ K Γ rm_c_says (fun r : Int32 × CS => (some (Value.int r.1), r.2))) (C_says_j83 σ k2 q1 v4 s1 s2) 7 (CI Γ (kS K) σ) 0 0 83 [(0, .ref (gA Γ 300)), (1, .ref q1), (2, .ref (gA Γ k2)), (4, .int v4)] [.int s2, .int s1, .ref (gA Γ 201)] := by
  unfold C_says_j83
  refine c_iast (pc := 83) (k := 201) hk hK cav_201 dX0_says_83 (fun σ9 => ?_)
  refine g_aload_n (pc := 84) hk dX0_says_84 rfl ?_
  refine c_getR (pc := 85) hk hK cr_6 cf_6 dX0_says_85 ?_
  refine g_bipush (pc := 88) (v := 6) hk dX0_says_88 rfl ?_
  refine g_aload_n (pc := 90) hk dX0_says_90 rfl ?_
  refine g_iconst (pc := 91) (v := 1) hk dX0_says_91 rfl ?_
  refine c_ialdC (pc := 92) (k := k2) (j := 1) hk hK hk2 rfl rfl dX0_says_92 ?_
  refine c_iastC (pc := 93) (k := 201) (j := 6) hk hK cav_201 rfl rfl dX0_says_93 (fun σ10 => ?_)
  refine g_aload_n (pc := 94) hk dX0_says_94 rfl ?_
  refine c_getR (pc := 95) hk hK cr_0 cf_0 dX0_says_95 ?_
  refine c_getS (pc := 98) (w := 0) hk hK (by decide) sr_2 sn_2 dX0_says_98 ?_
  refine g_iconst (pc := 101) (v := 0) hk dX0_says_101 rfl ?_
  refine g_aload_n (pc := 102) hk dX0_says_102 rfl ?_
  refine c_getR (pc := 103) hk hK cr_6 cf_6 dX0_says_103 ?_
  refine g_bipush (pc := 106) (v := 7) hk dX0_says_106 rfl ?_
  refine g_bipush (pc := 108) (v := 8) hk dX0_says_108 rfl ?_
  refine c_copyi (pc := 110) (k0 := 2) (k1 := 201) hk hK cav_2 cav_201 q902 rfl rfl rfl dX0_says_110 (fun σ11 => ?_)
  refine g_iload (pc := 113) hk dX0_says_113 rfl ?_
  refine g_if_ne (pc := 115) (tgt := 122) hk dX0_says_115 rfl ?_ ?_
  · refine g_iload (pc := 122) hk dX0_says_122 rfl ?_
    refine g_iconst (pc := 124) (v := 1) hk dX0_says_124 rfl ?_
    refine g_icmp_ne (pc := 125) (tgt := 139) hk dX0_says_125 rfl ?_ ?_
    · refine g_bipush (pc := 139) (v := 10) hk dX0_says_139 rfl ?_
      refine g_aload_n (pc := 141) hk dX0_says_141 rfl ?_
      refine c_getR (pc := 142) hk hK cr_6 cf_6 dX0_says_142 ?_
      refine g_iconst (pc := 145) (v := 2) hk dX0_says_145 rfl ?_
      refine c_ialdC (pc := 146) (k := 201) (j := 2) hk hK cav_201 rfl rfl dX0_says_146 ?_
      refine g_isub (pc := 147) hk dX0_says_147 ?_
      refine g_sub (ls' := [(0, .ref (gA Γ 300)), (1, .ref q1), (4, .int v4)]) [0, 1, 3] rfl ?_
      exact cm_says_j148 hk hK hΓ σ11 k2 q1 v4 (10 - (cA σ11 201 2)) hk2
    · refine g_aload_n (pc := 128) hk dX0_says_128 rfl ?_
      refine c_getR (pc := 129) hk hK cr_6 cf_6 dX0_says_129 ?_
      refine g_iconst (pc := 132) (v := 2) hk dX0_says_132 rfl ?_
      refine c_ialdC (pc := 133) (k := 201) (j := 2) hk hK cav_201 rfl rfl dX0_says_133 ?_
      refine g_iconst (pc := 134) (v := 2) hk dX0_says_134 rfl ?_
      refine g_idiv (pc := 135) hk dX0_says_135 (by decide) ?_
      refine g_goto (pc := 136) (tgt := 148) hk dX0_says_136 rfl ?_
      refine g_sub (ls' := [(0, .ref (gA Γ 300)), (1, .ref q1), (4, .int v4)]) [0, 1, 3] rfl ?_
      exact cm_says_j148 hk hK hΓ σ11 k2 q1 v4 ((cA σ11 201 2) / 2) hk2
  · refine g_iconst (pc := 118) (v := 5) hk dX0_says_118 rfl ?_
    refine g_goto (pc := 119) (tgt := 148) hk dX0_says_119 rfl ?_
    refine g_sub (ls' := [(0, .ref (gA Γ 300)), (1, .ref q1), (4, .int v4)]) [0, 1, 3] rfl ?_
    exact cm_says_j148 hk hK hΓ σ11 k2 q1 v4 5 hk2
theorem cm_says (Γ : CG) (hΓ : DTX Γ) (σ : CS) (q1 : Nat) (k2 : Nat) (v3 : Int32) (v4 : Int32) (hk2 : cAv k2 148) (r : Int32 × CS) (h : C_says σ q1 k2 v3 v4 = some r) : CMet Γ yX0_says cX0_says 7 (some .int) rm_c_says [.ref (gA Γ 300), .ref q1, .ref (gA Γ k2), .int v3, .int v4] σ (some (.int r.1)) r.2 := by
  refine c_met (view := (fun r : Int32 × CS => (some (Value.int r.1), r.2))) (own := RX0) rfl (by decide) rfl (ls0 := [(0, .ref (gA Γ 300)), (1, .ref q1), (2, .ref (gA Γ k2)), (3, .int v3), (4, .int v4)]) rfl (fun K hk hK => ?_) r h
  unfold C_says
  refine g_aload_n (pc := 0) hk dX0_says_0 rfl ?_
  refine c_getR (pc := 1) hk hK cr_0 cf_0 dX0_says_1 ?_
  refine c_getS (pc := 4) (w := 0) hk hK (by decide) sr_2 sn_2 dX0_says_4 ?_
  refine g_iload_n (pc := 7) hk dX0_says_7 rfl ?_
  refine c_iald (pc := 8) (k := 2) hk hK cav_2 dX0_says_8 ?_
  refine g_istoreN (pc := 9) (i := 5) (ls' := fun x1 => [(5, .int x1), (0, .ref (gA Γ 300)), (1, .ref q1), (2, .ref (gA Γ k2)), (3, .int v3), (4, .int v4)]) hk dX0_says_9 (by decide) (fun _ => rfl) (fun x1 => ?_)
  refine g_aload_n (pc := 11) hk dX0_says_11 rfl ?_
  refine c_getR (pc := 12) hk hK cr_6 cf_6 dX0_says_12 ?_
  refine g_iconst (pc := 15) (v := 0) hk dX0_says_15 rfl ?_
  refine g_aload_n (pc := 16) hk dX0_says_16 rfl ?_
  refine g_iconst (pc := 17) (v := 0) hk dX0_says_17 rfl ?_
  refine c_ialdC (pc := 18) (k := k2) (j := 0) hk hK hk2 rfl rfl dX0_says_18 ?_
  refine c_iastC (pc := 19) (k := 201) (j := 0) hk hK cav_201 rfl rfl dX0_says_19 (fun σ2 => ?_)
  refine g_aload_n (pc := 20) hk dX0_says_20 rfl ?_
  refine c_getR (pc := 21) hk hK cr_6 cf_6 dX0_says_21 ?_
  refine g_iconst (pc := 24) (v := 1) hk dX0_says_24 rfl ?_
  refine g_iload_n (pc := 25) hk dX0_says_25 rfl ?_
  refine c_iastC (pc := 26) (k := 201) (j := 1) hk hK cav_201 rfl rfl dX0_says_26 (fun σ3 => ?_)
  refine g_aload_n (pc := 27) hk dX0_says_27 rfl ?_
  refine c_getR (pc := 28) hk hK cr_6 cf_6 dX0_says_28 ?_
  refine g_iconst (pc := 31) (v := 2) hk dX0_says_31 rfl ?_
  refine g_aload_n (pc := 32) hk dX0_says_32 rfl ?_
  refine g_bipush (pc := 33) (v := 11) hk dX0_says_33 rfl ?_
  refine g_iload_n (pc := 35) hk dX0_says_35 rfl ?_
  refine g_iadd (pc := 36) hk dX0_says_36 ?_
  refine c_iald (pc := 37) (k := k2) hk hK hk2 dX0_says_37 ?_
  refine c_iastC (pc := 38) (k := 201) (j := 2) hk hK cav_201 rfl rfl dX0_says_38 (fun σ4 => ?_)
  refine g_aload_n (pc := 39) hk dX0_says_39 rfl ?_
  refine c_getR (pc := 40) hk hK cr_6 cf_6 dX0_says_40 ?_
  refine g_iconst (pc := 43) (v := 3) hk dX0_says_43 rfl ?_
  refine g_iload (pc := 44) hk dX0_says_44 rfl ?_
  refine c_iastC (pc := 46) (k := 201) (j := 3) hk hK cav_201 rfl rfl dX0_says_46 (fun σ5 => ?_)
  refine g_aload_n (pc := 47) hk dX0_says_47 rfl ?_
  refine c_getR (pc := 48) hk hK cr_6 cf_6 dX0_says_48 ?_
  refine g_iconst (pc := 51) (v := 4) hk dX0_says_51 rfl ?_
  refine g_aload_n (pc := 52) hk dX0_says_52 rfl ?_
  refine g_bipush (pc := 53) (v := 19) hk dX0_says_53 rfl ?_
  refine g_iload_n (pc := 55) hk dX0_says_55 rfl ?_
  refine g_iadd (pc := 56) hk dX0_says_56 ?_
  refine c_iald (pc := 57) (k := k2) hk hK hk2 dX0_says_57 ?_
  refine c_iastC (pc := 58) (k := 201) (j := 4) hk hK cav_201 rfl rfl dX0_says_58 (fun σ6 => ?_)
  refine g_aload_n (pc := 59) hk dX0_says_59 rfl ?_
  refine c_getR (pc := 60) hk hK cr_6 cf_6 dX0_says_60 ?_
  refine g_iconst (pc := 63) (v := 5) hk dX0_says_63 rfl ?_
  refine g_aload_n (pc := 64) hk dX0_says_64 rfl ?_
  refine g_iload (pc := 65) hk dX0_says_65 rfl ?_
  refine g_ob1 (fun r7 h8 => ?_)
  refine c_callV (pc := 67) hk hK (rec_X hK) [.int x1] [.int 5, .ref (gA Γ 201)] (cm_isPerson Γ σ6 x1 r7 h8) (lw_V q880 q882 qs25 q124 q883) hv_c_isPerson rfl rfl rfl dX0_says_67 rfl rfl ⟨rfl, rfl⟩ ?_
  refine g_if_eq (pc := 70) (tgt := 82) hk dX0_says_70 rfl ?_ ?_
  · refine g_iconst (pc := 82) (v := 0) hk dX0_says_82 rfl ?_
    refine g_sub (ls' := [(0, .ref (gA Γ 300)), (1, .ref q1), (2, .ref (gA Γ k2)), (4, .int v4)]) [1, 2, 3, 5] rfl ?_
    exact cm_says_j83 hk hK hΓ σ6 k2 q1 v4 5 0 hk2
  · refine g_aload_n (pc := 73) hk dX0_says_73 rfl ?_
    refine g_iconst (pc := 74) (v := 3) hk dX0_says_74 rfl ?_
    refine g_iload (pc := 75) hk dX0_says_75 rfl ?_
    refine g_iadd (pc := 77) hk dX0_says_77 ?_
    refine c_iald (pc := 78) (k := k2) hk hK hk2 dX0_says_78 ?_
    refine g_goto (pc := 79) (tgt := 83) hk dX0_says_79 rfl ?_
    refine g_sub (ls' := [(0, .ref (gA Γ 300)), (1, .ref q1), (2, .ref (gA Γ k2)), (4, .int v4)]) [1, 2, 3, 5] rfl ?_
    exact cm_says_j83 hk hK hΓ σ6 k2 q1 v4 5 (cA σ6 k2 (3 + x1).toNatClampNeg) hk2
theorem hs_c_writes : yX0_writes.cls ≠ "java/lang/invoke/MethodHandle" ∧ yX0_writes.cls ≠ "java/lang/invoke/VarHandle" ∧ (parseMethodDescriptor yX0_writes.desc).map (fun d => d.parameters.length) = some 4 := by decide +kernel
theorem cm_writes (Γ : CG) (σ : CS) (k0 : Nat) (v1 : Int32) (v2 : Int32) (v3 : Int32) (hk0 : cAv k0 148) (r : CS) (h : C_writes σ k0 v1 v2 v3 = some r) : CMet Γ yX0_writes cX0_writes 5 none rm_c_writes [.ref (gA Γ k0), .int v1, .int v2, .int v3] σ none r := by
  refine c_met (view := (fun r : CS => ((none : Option Value), r))) (own := RX0) rfl (by decide) rfl (ls0 := [(0, .ref (gA Γ k0)), (1, .int v1), (2, .int v2), (3, .int v3)]) rfl (fun K hk hK => ?_) r h
  unfold C_writes
  refine g_aload_n (pc := 0) hk dX0_writes_0 rfl ?_
  refine g_bipush (pc := 1) (v := 27) hk dX0_writes_1 rfl ?_
  refine c_ialdC (pc := 3) (k := k0) (j := 27) hk hK hk0 rfl rfl dX0_writes_3 ?_
  refine g_bipush (pc := 4) (v := 30) hk dX0_writes_4 rfl ?_
  refine g_icmp_ne (pc := 6) (tgt := 28) hk dX0_writes_6 rfl ?_ ?_
  · exact cm_writes_j28 hk hK σ k0 v1 v2 v3 hk0
  · refine g_aload_n (pc := 9) hk dX0_writes_9 rfl ?_
    refine g_bipush (pc := 10) (v := 32) hk dX0_writes_10 rfl ?_
    refine g_aload_n (pc := 12) hk dX0_writes_12 rfl ?_
    refine g_bipush (pc := 13) (v := 28) hk dX0_writes_13 rfl ?_
    refine g_bipush (pc := 15) (v := 116) hk dX0_writes_15 rfl ?_
    refine c_copyi (pc := 17) (k0 := k0) (k1 := k0) hk hK hk0 hk0 q902 rfl rfl rfl dX0_writes_17 (fun σ1 => ?_)
    refine g_aload_n (pc := 20) hk dX0_writes_20 rfl ?_
    refine g_bipush (pc := 21) (v := 27) hk dX0_writes_21 rfl ?_
    refine g_dup2 (pc := 23) hk dX0_writes_23 rfl rfl ?_
    refine c_ialdC (pc := 24) (k := k0) (j := 27) hk hK hk0 rfl rfl dX0_writes_24 ?_
    refine g_iconst (pc := 25) (v := 1) hk dX0_writes_25 rfl ?_
    refine g_isub (pc := 26) hk dX0_writes_26 ?_
    refine c_iastC (pc := 27) (k := k0) (j := 27) hk hK hk0 rfl rfl dX0_writes_27 (fun σ3 => ?_)
    exact cm_writes_j28 hk hK σ3 k0 v1 v2 v3 hk0
def rm_c_lathers : Room := { frames := 331, cells := 1, slots := 4, locals := 20026 }
theorem hv_c_lathers : yX0_lathers.cls = RX0 ∧ yX0_lathers.cls ≠ "java/lang/invoke/MethodHandle" ∧ yX0_lathers.cls ≠ "java/lang/invoke/VarHandle" ∧ (parseMethodDescriptor yX0_lathers.desc).map (fun d => d.parameters.length) = some 2 := by decide +kernel
theorem cm_lathers_j117 {K : KT} {Γ : CG} (hk : KOK K cX0_lathers 7 RX0 rm_c_lathers (some .int)) (hK : CK Γ (kS K)) (hΓ : DTX Γ) (σ : CS) (k1 : Nat) (v5 : Int32) (s1 : Int32) (s2 : Int32) (s3 : Int32) (hk1 : cAv k1 148) : GGo K (cQ K Γ rm_c_lathers (fun r : Int32 × CS => (some (Value.int r.1), r.2))) (C_lathers_j117 σ k1 v5 s1 s2 s3) 7 (CI Γ (kS K) σ) 0 0 117 [(5, .int v5)] [.int s3, .int s2, .int s1, .ref (gA Γ k1)] := by
  unfold C_lathers_j117
  refine g_ob1 (fun σ16 h15 => ?_)
  refine c_callS (pc := 117) hk hK [.ref (gA Γ k1), .int s1, .int s2, .int s3] [] (cm_writes Γ σ k1 s1 s2 s3 hk1 σ16 h15) (lw_S q1025 q1026 q124 q1027) hs_c_writes rfl rfl rfl dX0_lathers_117 rfl rfl ⟨rfl, rfl⟩ ?_
  refine g_iload (pc := 120) hk dX0_lathers_120 rfl ?_
  exact c_iret (pc := 122) hk hK rfl dX0_lathers_122 rfl rfl
theorem cm_lathers_j103 {K : KT} {Γ : CG} (hk : KOK K cX0_lathers 7 RX0 rm_c_lathers (some .int)) (hK : CK Γ (kS K)) (hΓ : DTX Γ) (σ : CS) (k1 : Nat) (v2 : Int32) (v5 : Int32) (v6 : Int32) (hk1 : cAv k1 148) : GGo K (cQ K Γ rm_c_lathers (fun r : Int32 × CS => (some (Value.int r.1), r.2))) (C_lathers_j103 σ k1 v2 v5 v6) 7 (CI Γ (kS K) σ) 0 0 103 [(1, .ref (gA Γ k1)), (2, .int v2), (5, .int v5), (6, .int v6)] [] := by
  unfold C_lathers_j103
  refine g_aload_n (pc := 103) hk dX0_lathers_103 rfl ?_
  refine g_iload_n (pc := 104) hk dX0_lathers_104 rfl ?_
  refine g_iload (pc := 105) hk dX0_lathers_105 rfl ?_
  refine g_iload (pc := 107) hk dX0_lathers_107 rfl ?_
  refine g_if_eq (pc := 109) (tgt := 116) hk dX0_lathers_109 rfl ?_ ?_
  · refine g_iconst (pc := 116) (v := 0) hk dX0_lathers_116 rfl ?_
    refine g_sub (ls' := [(5, .int v5)]) [2] rfl ?_
    exact cm_lathers_j117 hk hK hΓ σ k1 v5 v2 v5 0 hk1
  · refine g_iconst (pc := 112) (v := 1) hk dX0_lathers_112 rfl ?_
    refine g_goto (pc := 113) (tgt := 117) hk dX0_lathers_113 rfl ?_
    refine g_sub (ls' := [(5, .int v5)]) [2] rfl ?_
    exact cm_lathers_j117 hk hK hΓ σ k1 v5 v2 v5 1 hk1
theorem cm_lathers (Γ : CG) (hΓ : DTX Γ) (σ : CS) (k1 : Nat) (v2 : Int32) (hk1 : cAv k1 148) (r : Int32 × CS) (h : C_lathers σ k1 v2 = some r) : CMet Γ yX0_lathers cX0_lathers 7 (some .int) rm_c_lathers [.ref (gA Γ 300), .ref (gA Γ k1), .int v2] σ (some (.int r.1)) r.2 := by
  refine c_met (view := (fun r : Int32 × CS => (some (Value.int r.1), r.2))) (own := RX0) rfl (by decide) rfl (ls0 := [(0, .ref (gA Γ 300)), (1, .ref (gA Γ k1)), (2, .int v2)]) rfl (fun K hk hK => ?_) r h
  unfold C_lathers
  refine g_aload_n (pc := 0) hk dX0_lathers_0 rfl ?_
  refine g_aload_n (pc := 1) hk dX0_lathers_1 rfl ?_
  refine g_ob1 (fun r1 h2 => ?_)
  refine c_callV (pc := 2) hk hK (rec_X hK) [] [.ref (gA Γ 300)] (cm_rules Γ hΓ σ r1 h2) (lw_V q892 q894 qs27 q124 q895) hv_c_rules rfl rfl rfl dX0_lathers_2 rfl rfl ⟨rfl, rfl⟩ ?_
  refine g_aload_n (pc := 5) hk dX0_lathers_5 rfl ?_
  refine g_iload_n (pc := 6) hk dX0_lathers_6 rfl ?_
  refine g_iconst (pc := 7) (v := 1) hk dX0_lathers_7 rfl ?_
  refine g_ob2 (fun r3 σ5 h4 => ?_)
  refine c_callV (pc := 8) hk hK (rec_X hK) [.ref r1, .ref (gA Γ k1), .int v2, .int 1] [] (cm_says Γ hΓ σ r1 k1 v2 1 hk1 (r3, σ5) h4) (lw_V q898 q900 qs28 q124 q901) hv_c_says rfl rfl rfl dX0_lathers_8 rfl rfl ⟨rfl, rfl⟩ ?_
  refine g_istore_n (pc := 11) (i := 3) (ls' := [(3, .int r3), (0, .ref (gA Γ 300)), (1, .ref (gA Γ k1)), (2, .int v2)]) hk dX0_lathers_11 rfl (by decide) rfl ?_
  refine g_aload_n (pc := 12) hk dX0_lathers_12 rfl ?_
  refine g_iconst (pc := 13) (v := 1) hk dX0_lathers_13 rfl ?_
  refine g_ldc (pc := 14) (v := 99999) hk q1016 dX0_lathers_14 ?_
  refine g_aload_n (pc := 16) hk dX0_lathers_16 rfl ?_
  refine g_iconst (pc := 17) (v := 1) hk dX0_lathers_17 rfl ?_
  refine c_ialdC (pc := 18) (k := k1) (j := 1) hk hK hk1 rfl rfl dX0_lathers_18 ?_
  refine g_aload_n (pc := 19) hk dX0_lathers_19 rfl ?_
  refine g_aload_n (pc := 20) hk dX0_lathers_20 rfl ?_
  refine g_ob1 (fun r6 h7 => ?_)
  refine c_callV (pc := 21) hk hK (rec_X hK) [] [.ref (gA Γ 300), .int (cA σ5 k1 1), .int 99999, .int 1, .ref (gA Γ k1)] (cm_rules Γ hΓ σ5 r6 h7) (lw_V q892 q894 qs27 q124 q895) hv_c_rules rfl rfl rfl dX0_lathers_21 rfl rfl ⟨rfl, rfl⟩ ?_
  refine g_aload_n (pc := 24) hk dX0_lathers_24 rfl ?_
  refine g_iload_n (pc := 25) hk dX0_lathers_25 rfl ?_
  refine g_iconst (pc := 26) (v := 2) hk dX0_lathers_26 rfl ?_
  refine g_ob2 (fun r8 σ10 h9 => ?_)
  refine c_callV (pc := 27) hk hK (rec_X hK) [.ref r6, .ref (gA Γ k1), .int v2, .int 2] [.int (cA σ5 k1 1), .int 99999, .int 1, .ref (gA Γ k1)] (cm_says Γ hΓ σ5 r6 k1 v2 2 hk1 (r8, σ10) h9) (lw_V q898 q900 qs28 q124 q901) hv_c_says rfl rfl rfl dX0_lathers_27 rfl rfl ⟨rfl, rfl⟩ ?_
  refine g_iadd (pc := 30) hk dX0_lathers_30 ?_
  refine g_i_min (pc := 31) hk q1017 rfl rfl rfl dX0_lathers_31 ⟨rfl, rfl⟩ ?_
  refine c_iastC (pc := 34) (k := k1) (j := 1) hk hK hk1 rfl rfl dX0_lathers_34 (fun σ11 => ?_)
  refine g_aload_n (pc := 35) hk dX0_lathers_35 rfl ?_
  refine c_getR (pc := 36) hk hK cr_0 cf_0 dX0_lathers_36 ?_
  refine c_getS (pc := 39) (w := 0) hk hK (by decide) sr_2 sn_2 dX0_lathers_39 ?_
  refine g_iload_n (pc := 42) hk dX0_lathers_42 rfl ?_
  refine c_iald (pc := 43) (k := 2) hk hK cav_2 dX0_lathers_43 ?_
  refine g_istoreN (pc := 44) (i := 4) (ls' := fun x12 => [(4, .int x12), (3, .int r3), (0, .ref (gA Γ 300)), (1, .ref (gA Γ k1)), (2, .int v2)]) hk dX0_lathers_44 (by decide) (fun _ => rfl) (fun x12 => ?_)
  refine g_iconst (pc := 46) (v := 0) hk dX0_lathers_46 rfl ?_
  refine g_istore (pc := 47) (i := 5) (ls' := [(5, .int 0), (4, .int x12), (3, .int r3), (0, .ref (gA Γ 300)), (1, .ref (gA Γ k1)), (2, .int v2)]) hk dX0_lathers_47 (by decide) rfl ?_
  refine g_iconst (pc := 49) (v := 0) hk dX0_lathers_49 rfl ?_
  refine g_istore (pc := 50) (i := 6) (ls' := [(6, .int 0), (5, .int 0), (4, .int x12), (3, .int r3), (0, .ref (gA Γ 300)), (1, .ref (gA Γ k1)), (2, .int v2)]) hk dX0_lathers_50 (by decide) rfl ?_
  refine g_aload_n (pc := 52) hk dX0_lathers_52 rfl ?_
  refine g_iload (pc := 53) hk dX0_lathers_53 rfl ?_
  refine g_ob1 (fun r13 h14 => ?_)
  refine c_callV (pc := 55) hk hK (rec_X hK) [.int x12] [] (cm_isPerson Γ σ11 x12 r13 h14) (lw_V q880 q882 qs25 q124 q883) hv_c_isPerson rfl rfl rfl dX0_lathers_55 rfl rfl ⟨rfl, rfl⟩ ?_
  refine g_if_eq (pc := 58) (tgt := 103) hk dX0_lathers_58 rfl ?_ ?_
  · refine g_sub (ls' := [(1, .ref (gA Γ k1)), (2, .int v2), (5, .int 0), (6, .int 0)]) [5, 6, 1, 0] rfl ?_
    exact cm_lathers_j103 hk hK hΓ σ11 k1 v2 0 0 hk1
  · refine g_aload_n (pc := 61) hk dX0_lathers_61 rfl ?_
    refine g_iconst (pc := 62) (v := 3) hk dX0_lathers_62 rfl ?_
    refine g_iload (pc := 63) hk dX0_lathers_63 rfl ?_
    refine g_iadd (pc := 65) hk dX0_lathers_65 ?_
    refine c_iald (pc := 66) (k := k1) hk hK hk1 dX0_lathers_66 ?_
    refine g_aload_n (pc := 67) hk dX0_lathers_67 rfl ?_
    refine g_aload_n (pc := 68) hk dX0_lathers_68 rfl ?_
    refine g_ob1 (fun r17 h18 => ?_)
    refine c_callV (pc := 69) hk hK (rec_X hK) [] [.ref (gA Γ 300), .int (cA σ11 k1 (3 + x12).toNatClampNeg)] (cm_rules Γ hΓ σ11 r17 h18) (lw_V q892 q894 qs27 q124 q895) hv_c_rules rfl rfl rfl dX0_lathers_69 rfl rfl ⟨rfl, rfl⟩ ?_
    refine g_aload_n (pc := 72) hk dX0_lathers_72 rfl ?_
    refine g_iload_n (pc := 73) hk dX0_lathers_73 rfl ?_
    refine g_iconst (pc := 74) (v := 0) hk dX0_lathers_74 rfl ?_
    refine g_ob2 (fun r19 σ21 h20 => ?_)
    refine c_callV (pc := 75) hk hK (rec_X hK) [.ref r17, .ref (gA Γ k1), .int v2, .int 0] [.int (cA σ11 k1 (3 + x12).toNatClampNeg)] (cm_says Γ hΓ σ11 r17 k1 v2 0 hk1 (r19, σ21) h20) (lw_V q898 q900 qs28 q124 q901) hv_c_says rfl rfl rfl dX0_lathers_75 rfl rfl ⟨rfl, rfl⟩ ?_
    refine g_i_min (pc := 78) hk q1017 rfl rfl rfl dX0_lathers_78 ⟨rfl, rfl⟩ ?_
    refine g_istoreN (pc := 81) (i := 5) (ls' := fun x22 => [(5, .int x22), (6, .int 0), (4, .int x12), (3, .int r3), (0, .ref (gA Γ 300)), (1, .ref (gA Γ k1)), (2, .int v2)]) hk dX0_lathers_81 (by decide) (fun _ => rfl) (fun x22 => ?_)
    refine g_aload_n (pc := 83) hk dX0_lathers_83 rfl ?_
    refine g_iconst (pc := 84) (v := 3) hk dX0_lathers_84 rfl ?_
    refine g_iload (pc := 85) hk dX0_lathers_85 rfl ?_
    refine g_iadd (pc := 87) hk dX0_lathers_87 ?_
    refine g_dup2 (pc := 88) hk dX0_lathers_88 rfl rfl ?_
    refine c_iald (pc := 89) (k := k1) hk hK hk1 dX0_lathers_89 ?_
    refine g_iload (pc := 90) hk dX0_lathers_90 rfl ?_
    refine g_isub (pc := 92) hk dX0_lathers_92 ?_
    refine c_iast (pc := 93) (k := k1) hk hK hk1 dX0_lathers_93 (fun σ23 => ?_)
    refine g_aload_n (pc := 94) hk dX0_lathers_94 rfl ?_
    refine g_aload_n (pc := 95) hk dX0_lathers_95 rfl ?_
    refine g_iload_n (pc := 96) hk dX0_lathers_96 rfl ?_
    refine g_iload_n (pc := 97) hk dX0_lathers_97 rfl ?_
    refine g_ob2 (fun r24 σ26 h25 => ?_)
    refine c_callV (pc := 98) hk hK (rec_X hK) [.ref (gA Γ k1), .int v2, .int r3] [] (cm_isScarred Γ σ23 k1 v2 r3 hk1 (r24, σ26) h25) (lw_V q1018 q1020 qs29 q124 q1021) hv_c_isScarred rfl rfl rfl dX0_lathers_98 rfl rfl ⟨rfl, rfl⟩ ?_
    refine g_istore (pc := 101) (i := 6) (ls' := [(6, .int r24), (5, .int x22), (4, .int x12), (3, .int r3), (0, .ref (gA Γ 300)), (1, .ref (gA Γ k1)), (2, .int v2)]) hk dX0_lathers_101 (by decide) rfl ?_
    refine g_sub (ls' := [(1, .ref (gA Γ k1)), (2, .int v2), (5, .int x22), (6, .int r24)]) [5, 6, 1, 0] rfl ?_
    exact cm_lathers_j103 hk hK hΓ σ26 k1 v2 x22 r24 hk1
def rm_c_shave : Room := { frames := 332, cells := 1, slots := 4, locals := 20052 }
theorem hv_c_shave : yX0_shave.cls = RX0 ∧ yX0_shave.cls ≠ "java/lang/invoke/MethodHandle" ∧ yX0_shave.cls ≠ "java/lang/invoke/VarHandle" ∧ (parseMethodDescriptor yX0_shave.desc).map (fun d => d.parameters.length) = some 1 := by decide +kernel
theorem cm_shave (Γ : CG) (hΓ : DTX Γ) (σ : CS) (v1 : Int32)  (r : Int32 × CS) (h : C_shave σ v1 = some r) : CMet Γ yX0_shave cX0_shave 2 (some .int) rm_c_shave [.ref (gA Γ 300), .int v1] σ (some (.int r.1)) r.2 := by
  refine c_met (view := (fun r : Int32 × CS => (some (Value.int r.1), r.2))) (own := RX0) rfl (by decide) rfl (ls0 := [(0, .ref (gA Γ 300)), (1, .int v1)]) rfl (fun K hk hK => ?_) r h
  unfold C_shave
  refine g_aload_n (pc := 0) hk dX0_shave_0 rfl ?_
  refine g_iload_n (pc := 1) hk dX0_shave_1 rfl ?_
  refine g_ob1 (fun r1 h2 => ?_)
  refine c_callV (pc := 2) hk hK (rec_X hK) [.int v1] [] (cm_isPerson Γ σ v1 r1 h2) (lw_V q880 q882 qs25 q124 q883) hv_c_isPerson rfl rfl rfl dX0_shave_2 rfl rfl ⟨rfl, rfl⟩ ?_
  refine g_if_ne (pc := 5) (tgt := 10) hk dX0_shave_5 rfl ?_ ?_
  · refine g_aload_n (pc := 10) hk dX0_shave_10 rfl ?_
    refine c_getR (pc := 11) hk hK cr_0 cf_0 dX0_shave_11 ?_
    refine g_ob1 (fun σ4 h3 => ?_)
    refine c_callV (pc := 14) hk hK (rec_S (w := 0) hK (by decide)) [] [] (sm_keeps Γ σ 0 (by decide) σ4 h3) (lw_V q884 q885 q886 q125 q887) hv_s_keeps rfl rfl rfl dX0_shave_14 rfl rfl ⟨rfl, rfl⟩ ?_
    refine g_aload_n (pc := 17) hk dX0_shave_17 rfl ?_
    refine g_aload_n (pc := 18) hk dX0_shave_18 rfl ?_
    refine c_getR (pc := 19) hk hK cr_0 cf_0 dX0_shave_19 ?_
    refine c_getS (pc := 22) (w := 0) hk hK (by decide) sr_1 sn_1 dX0_shave_22 ?_
    refine g_iload_n (pc := 25) hk dX0_shave_25 rfl ?_
    refine g_ob2 (fun r5 σ7 h6 => ?_)
    refine c_callV (pc := 26) hk hK (rec_X hK) [.ref (gA Γ 1), .int v1] [] (cm_lathers Γ hΓ σ4 1 v1 cav_1 (r5, σ7) h6) (lw_V q888 q890 qs26 q124 q891) hv_c_lathers rfl rfl rfl dX0_shave_26 rfl rfl ⟨rfl, rfl⟩ ?_
    exact c_iret (pc := 29) hk hK rfl dX0_shave_29 rfl rfl
  · refine g_iconst (pc := 8) (v := (-1)) hk dX0_shave_8 rfl ?_
    exact c_iret (pc := 9) hk hK rfl dX0_shave_9 rfl rfl
def rm_c_years : Room := { frames := 332, cells := 41, slots := 164, locals := 20052 }
theorem hv_c_years : yX0_years.cls = RX0 ∧ yX0_years.cls ≠ "java/lang/invoke/MethodHandle" ∧ yX0_years.cls ≠ "java/lang/invoke/VarHandle" ∧ (parseMethodDescriptor yX0_years.desc).map (fun d => d.parameters.length) = some 2 := by decide +kernel
theorem cm_years_j191 {K : KT} {Γ : CG} (hk : KOK K cX0_years 8 RX0 rm_c_years (some .int)) (hK : CK Γ (kS K)) (hΓ : DTX Γ) (C S : Nat) (hC : C + 1 ≤ 41) (hS : S + 4 ≤ 164) (σ : CS) (v2 : Int32) (v4 : Int32) (v5 : Int32) (k54 : CS → Int32 → Int32 → Option (Int32 × CS)) (hk54 : ∀ (σ : CS) (v4 : Int32) (v5 : Int32), GGo K (cQ K Γ rm_c_years (fun r : Int32 × CS => (some (Value.int r.1), r.2))) (k54 σ v4 v5) 8 (CI Γ (kS K) σ) (C + 1) (S + 4) 54 [(0, .ref (gA Γ 300)), (2, .int v2), (3, .ref (gA Γ 1)), (4, .int v4), (5, .int v5)] []) : GGo K (cQ K Γ rm_c_years (fun r : Int32 × CS => (some (Value.int r.1), r.2))) (C_years_j191 k54 σ v2 v4 v5) 8 (CI Γ (kS K) σ) (C + 1) (S + 4) 191 [(0, .ref (gA Γ 300)), (2, .int v2), (3, .ref (gA Γ 1)), (4, .int v4), (5, .int v5)] [] := by
  unfold C_years_j191
  refine g_iincN (pc := 191) (v := 1) (ls' := fun x11 => [(5, .int x11), (0, .ref (gA Γ 300)), (2, .int v2), (3, .ref (gA Γ 1)), (4, .int v4)]) hk dX0_years_191 rfl rfl (by decide) (fun _ => rfl) (fun x11 => ?_)
  refine g_goto (pc := 194) (tgt := 54) hk dX0_years_194 rfl ?_
  refine g_sub (ls' := [(0, .ref (gA Γ 300)), (2, .int v2), (3, .ref (gA Γ 1)), (4, .int v4), (5, .int x11)]) [1, 2, 3, 4, 0] rfl ?_
  exact hk54 σ v4 x11
theorem cm_years_j169 {K : KT} {Γ : CG} (hk : KOK K cX0_years 8 RX0 rm_c_years (some .int)) (hK : CK Γ (kS K)) (hΓ : DTX Γ) (C S : Nat) (hC : C + 1 ≤ 41) (hS : S + 4 ≤ 164) (σ : CS) (v2 : Int32) (v4 : Int32) (v5 : Int32) (v6 : Int32) (k54 : CS → Int32 → Int32 → Option (Int32 × CS)) (hk54 : ∀ (σ : CS) (v4 : Int32) (v5 : Int32), GGo K (cQ K Γ rm_c_years (fun r : Int32 × CS => (some (Value.int r.1), r.2))) (k54 σ v4 v5) 8 (CI Γ (kS K) σ) (C + 1) (S + 4) 54 [(0, .ref (gA Γ 300)), (2, .int v2), (3, .ref (gA Γ 1)), (4, .int v4), (5, .int v5)] []) : GGo K (cQ K Γ rm_c_years (fun r : Int32 × CS => (some (Value.int r.1), r.2))) (C_years_j169 k54 σ v2 v4 v5 v6) 8 (CI Γ (kS K) σ) (C + 1) (S + 4) 169 [(0, .ref (gA Γ 300)), (2, .int v2), (3, .ref (gA Γ 1)), (4, .int v4), (5, .int v5), (6, .int v6)] [] := by
  unfold C_years_j169
  refine g_iload (pc := 169) hk dX0_years_169 rfl ?_
  refine g_iconst (pc := 171) (v := 5) hk dX0_years_171 rfl ?_
  refine g_irem (pc := 172) hk dX0_years_172 (by decide) ?_
  refine g_iconst (pc := 173) (v := 2) hk dX0_years_173 rfl ?_
  refine g_icmp_le (pc := 174) (tgt := 191) hk dX0_years_174 rfl ?_ ?_
  · refine g_sub (ls' := [(0, .ref (gA Γ 300)), (2, .int v2), (3, .ref (gA Γ 1)), (4, .int v4), (5, .int v5)]) [0, 1, 2, 3, 4] rfl ?_
    exact cm_years_j191 hk hK hΓ C S hC hS σ v2 v4 v5 k54 hk54
  · refine g_aload_n (pc := 177) hk dX0_years_177 rfl ?_
    refine g_iconst (pc := 178) (v := 0) hk dX0_years_178 rfl ?_
    refine c_ialdC (pc := 179) (k := 1) (j := 0) hk hK cav_1 rfl rfl dX0_years_179 ?_
    refine g_sipush (pc := 180) (v := 9999) hk dX0_years_180 rfl ?_
    refine g_icmp_ge (pc := 183) (tgt := 191) hk dX0_years_183 rfl ?_ ?_
    · refine g_sub (ls' := [(0, .ref (gA Γ 300)), (2, .int v2), (3, .ref (gA Γ 1)), (4, .int v4), (5, .int v5)]) [0, 1, 2, 3, 4] rfl ?_
      exact cm_years_j191 hk hK hΓ C S hC hS σ v2 v4 v5 k54 hk54
    · refine g_aload_n (pc := 186) hk dX0_years_186 rfl ?_
      refine g_aload_n (pc := 187) hk dX0_years_187 rfl ?_
      refine g_ob1 (fun σ13 h12 => ?_)
      refine c_callV (pc := 188) hk hK (rec_X hK) [.ref (gA Γ 1)] [] (cm_passes Γ σ 1 cav_1 σ13 h12) (lw_V q1040 q1042 qs31 q124 q1043) hv_c_passes rfl rfl rfl dX0_years_188 rfl rfl ⟨Nat.ble_eq.mpr (by show C + 1 + 0 ≤ 41; omega), Nat.ble_eq.mpr (by show S + 4 + 0 ≤ 164; omega)⟩ ?_
      refine g_sub (ls' := [(0, .ref (gA Γ 300)), (2, .int v2), (3, .ref (gA Γ 1)), (4, .int v4), (5, .int v5)]) [0, 1, 2, 3, 4] rfl ?_
      exact cm_years_j191 hk hK hΓ C S hC hS σ13 v2 v4 v5 k54 hk54
theorem cm_years_j131 {K : KT} {Γ : CG} (hk : KOK K cX0_years 8 RX0 rm_c_years (some .int)) (hK : CK Γ (kS K)) (hΓ : DTX Γ) (C S : Nat) (hC : C + 1 ≤ 41) (hS : S + 4 ≤ 164) (σ : CS) (v2 : Int32) (v4 : Int32) (v5 : Int32) (v6 : Int32) (v7 : Int32) (k54 : CS → Int32 → Int32 → Option (Int32 × CS)) (hk54 : ∀ (σ : CS) (v4 : Int32) (v5 : Int32), GGo K (cQ K Γ rm_c_years (fun r : Int32 × CS => (some (Value.int r.1), r.2))) (k54 σ v4 v5) 8 (CI Γ (kS K) σ) (C + 1) (S + 4) 54 [(0, .ref (gA Γ 300)), (2, .int v2), (3, .ref (gA Γ 1)), (4, .int v4), (5, .int v5)] []) : GGo K (cQ K Γ rm_c_years (fun r : Int32 × CS => (some (Value.int r.1), r.2))) (C_years_j131 k54 σ v2 v4 v5 v6 v7) 8 (CI Γ (kS K) σ) (C + 1) (S + 4) 131 [(0, .ref (gA Γ 300)), (2, .int v2), (3, .ref (gA Γ 1)), (4, .int v4), (5, .int v5), (6, .int v6), (7, .int v7)] [] := by
  unfold C_years_j131
  refine g_iload (pc := 131) hk dX0_years_131 rfl ?_
  refine g_iconst (pc := 133) (v := 5) hk dX0_years_133 rfl ?_
  refine g_irem (pc := 134) hk dX0_years_134 (by decide) ?_
  refine g_iconst (pc := 135) (v := 2) hk dX0_years_135 rfl ?_
  refine g_icmp_ne (pc := 136) (tgt := 169) hk dX0_years_136 rfl ?_ ?_
  · refine g_sub (ls' := [(0, .ref (gA Γ 300)), (2, .int v2), (3, .ref (gA Γ 1)), (4, .int v4), (5, .int v5), (6, .int v6)]) [0, 1, 2, 3, 4, 5] rfl ?_
    exact cm_years_j169 hk hK hΓ C S hC hS σ v2 v4 v5 v6 k54 hk54
  · refine g_iload (pc := 139) hk dX0_years_139 rfl ?_
    refine g_iconst (pc := 141) (v := 4) hk dX0_years_141 rfl ?_
    refine g_irem (pc := 142) hk dX0_years_142 (by decide) ?_
    refine g_if_ne (pc := 143) (tgt := 169) hk dX0_years_143 rfl ?_ ?_
    · refine g_sub (ls' := [(0, .ref (gA Γ 300)), (2, .int v2), (3, .ref (gA Γ 1)), (4, .int v4), (5, .int v5), (6, .int v6)]) [0, 1, 2, 3, 4, 5] rfl ?_
      exact cm_years_j169 hk hK hΓ C S hC hS σ v2 v4 v5 v6 k54 hk54
    · refine g_aload_n (pc := 146) hk dX0_years_146 rfl ?_
      refine g_iload (pc := 147) hk dX0_years_147 rfl ?_
      refine g_ob1 (fun r14 h15 => ?_)
      refine c_callV (pc := 149) hk hK (rec_X hK) [.int v7] [] (cm_canCalm Γ σ v7 r14 h15) (lw_V q1032 q1034 qs30 q124 q1035) hv_c_canCalm rfl rfl rfl dX0_years_149 rfl rfl ⟨Nat.ble_eq.mpr (by show C + 1 + 0 ≤ 41; omega), Nat.ble_eq.mpr (by show S + 4 + 0 ≤ 164; omega)⟩ ?_
      refine g_if_eq (pc := 152) (tgt := 169) hk dX0_years_152 rfl ?_ ?_
      · refine g_sub (ls' := [(0, .ref (gA Γ 300)), (2, .int v2), (3, .ref (gA Γ 1)), (4, .int v4), (5, .int v5), (6, .int v6)]) [0, 1, 2, 3, 4, 5] rfl ?_
        exact cm_years_j169 hk hK hΓ C S hC hS σ v2 v4 v5 v6 k54 hk54
      · refine g_aload_n (pc := 155) hk dX0_years_155 rfl ?_
        refine g_bipush (pc := 156) (v := 11) hk dX0_years_156 rfl ?_
        refine g_iload (pc := 158) hk dX0_years_158 rfl ?_
        refine g_iadd (pc := 160) hk dX0_years_160 ?_
        refine g_dup2 (pc := 161) hk dX0_years_161 rfl rfl ?_
        refine c_iald (pc := 162) (k := 1) hk hK cav_1 dX0_years_162 ?_
        refine g_iconst (pc := 163) (v := 1) hk dX0_years_163 rfl ?_
        refine g_isub (pc := 164) hk dX0_years_164 ?_
        refine c_iast (pc := 165) (k := 1) hk hK cav_1 dX0_years_165 (fun σ16 => ?_)
        refine g_goto (pc := 166) (tgt := 191) hk dX0_years_166 rfl ?_
        refine g_sub (ls' := [(0, .ref (gA Γ 300)), (2, .int v2), (3, .ref (gA Γ 1)), (4, .int v4), (5, .int v5)]) [0, 1, 2, 3, 4] rfl ?_
        exact cm_years_j191 hk hK hΓ C S hC hS σ16 v2 v4 v5 k54 hk54
theorem cm_years_j97 {K : KT} {Γ : CG} (hk : KOK K cX0_years 8 RX0 rm_c_years (some .int)) (hK : CK Γ (kS K)) (hΓ : DTX Γ) (C S : Nat) (hC : C + 1 ≤ 41) (hS : S + 4 ≤ 164) (σ : CS) (v2 : Int32) (v4 : Int32) (v5 : Int32) (v6 : Int32) (s0 : Int32) (k54 : CS → Int32 → Int32 → Option (Int32 × CS)) (hk54 : ∀ (σ : CS) (v4 : Int32) (v5 : Int32), GGo K (cQ K Γ rm_c_years (fun r : Int32 × CS => (some (Value.int r.1), r.2))) (k54 σ v4 v5) 8 (CI Γ (kS K) σ) (C + 1) (S + 4) 54 [(0, .ref (gA Γ 300)), (2, .int v2), (3, .ref (gA Γ 1)), (4, .int v4), (5, .int v5)] []) : GGo K (cQ K Γ rm_c_years (fun r : Int32 × CS => (some (Value.int r.1), r.2))) (C_years_j97 k54 σ v2 v4 v5 v6 s0) 8 (CI Γ (kS K) σ) C S 97 [(0, .ref (gA Γ 300)), (2, .int v2), (3, .ref (gA Γ 1)), (4, .int v4), (5, .int v5), (6, .int v6)] [.int s0] := by
  unfold C_years_j97
  refine g_istore (pc := 97) (i := 7) (ls' := [(7, .int s0), (0, .ref (gA Γ 300)), (2, .int v2), (3, .ref (gA Γ 1)), (4, .int v4), (5, .int v5), (6, .int v6)]) hk dX0_years_97 (by decide) rfl ?_
  refine g_iload (pc := 99) hk dX0_years_99 rfl ?_
  refine g_iconst (pc := 101) (v := 5) hk dX0_years_101 rfl ?_
  refine g_irem (pc := 102) hk dX0_years_102 (by decide) ?_
  refine g_iconst (pc := 103) (v := 2) hk dX0_years_103 rfl ?_
  refine g_icmp_ge (pc := 104) (tgt := 131) hk dX0_years_104 rfl ?_ ?_
  · refine g_sub (ls' := [(0, .ref (gA Γ 300)), (2, .int v2), (3, .ref (gA Γ 1)), (4, .int v4), (5, .int v5), (6, .int v6), (7, .int s0)]) [1, 2, 3, 4, 5, 6, 0] rfl ?_
    refine g_widen (cs' := C + 1) (sl' := S + 4) (by show C ≤ C + 1; omega) (by show S ≤ S + 4; omega) ?_
    exact cm_years_j131 hk hK hΓ C S hC hS σ v2 v4 v5 v6 s0 k54 hk54
  · refine g_aload_n (pc := 107) hk dX0_years_107 rfl ?_
    refine g_iload (pc := 108) hk dX0_years_108 rfl ?_
    refine g_ob1 (fun r17 h18 => ?_)
    refine c_callV (pc := 110) hk hK (rec_X hK) [.int s0] [] (cm_isPerson Γ σ s0 r17 h18) (lw_V q880 q882 qs25 q124 q883) hv_c_isPerson rfl rfl rfl dX0_years_110 rfl rfl ⟨Nat.ble_eq.mpr (by show C + 0 ≤ 41; omega), Nat.ble_eq.mpr (by show S + 0 ≤ 164; omega)⟩ ?_
    refine g_if_eq (pc := 113) (tgt := 131) hk dX0_years_113 rfl ?_ ?_
    · refine g_sub (ls' := [(0, .ref (gA Γ 300)), (2, .int v2), (3, .ref (gA Γ 1)), (4, .int v4), (5, .int v5), (6, .int v6), (7, .int s0)]) [1, 2, 3, 4, 5, 6, 0] rfl ?_
      refine g_widen (cs' := C + 1) (sl' := S + 4) (by show C ≤ C + 1; omega) (by show S ≤ S + 4; omega) ?_
      exact cm_years_j131 hk hK hΓ C S hC hS σ v2 v4 v5 v6 s0 k54 hk54
    · refine g_iload (pc := 116) hk dX0_years_116 rfl ?_
      refine g_aload_n (pc := 118) hk dX0_years_118 rfl ?_
      refine g_aload_n (pc := 119) hk dX0_years_119 rfl ?_
      refine g_iload (pc := 120) hk dX0_years_120 rfl ?_
      refine g_ob2 (fun r19 σ21 h20 => ?_)
      refine c_callV (pc := 122) hk hK (rec_X hK) [.ref (gA Γ 1), .int s0] [.int v4] (cm_lathers Γ hΓ σ 1 s0 cav_1 (r19, σ21) h20) (lw_V q888 q890 qs26 q124 q891) hv_c_lathers rfl rfl rfl dX0_years_122 rfl rfl ⟨Nat.ble_eq.mpr (by show C + 1 ≤ 41; omega), Nat.ble_eq.mpr (by show S + 4 ≤ 164; omega)⟩ ?_
      refine g_iadd (pc := 125) hk dX0_years_125 ?_
      refine g_istoreN (pc := 126) (i := 4) (ls' := fun x22 => [(4, .int x22), (7, .int s0), (0, .ref (gA Γ 300)), (2, .int v2), (3, .ref (gA Γ 1)), (5, .int v5), (6, .int v6)]) hk dX0_years_126 (by decide) (fun _ => rfl) (fun x22 => ?_)
      refine g_goto (pc := 128) (tgt := 191) hk dX0_years_128 rfl ?_
      refine g_sub (ls' := [(0, .ref (gA Γ 300)), (2, .int v2), (3, .ref (gA Γ 1)), (4, .int x22), (5, .int v5)]) [2, 3, 4, 0, 5] rfl ?_
      exact cm_years_j191 hk hK hΓ C S hC hS σ21 v2 x22 v5 k54 hk54
theorem cm_years_l54 {K : KT} {Γ : CG} (hk : KOK K cX0_years 8 RX0 rm_c_years (some .int)) (hK : CK Γ (kS K)) (hΓ : DTX Γ) (v2 : Int32) : ∀ (n C S : Nat) (_ : C + n ≤ 41) (_ : S + 4 * n ≤ 164) (σ : CS) (v4 : Int32) (v5 : Int32), GGo K (cQ K Γ rm_c_years (fun r : Int32 × CS => (some (Value.int r.1), r.2))) (C_years_l54 v2 n σ v4 v5) 8 (CI Γ (kS K) σ) C S 54 [(0, .ref (gA Γ 300)), (2, .int v2), (3, .ref (gA Γ 1)), (4, .int v4), (5, .int v5)] [] := by
  intro n
  induction n with
  | zero =>
    intro C S hC hS
    intro σ v4 v5
    unfold C_years_l54
    exact g_none
  | succ n ih =>
    intro C S hC0 hS0
    intro σ v4 v5
    have hC : C + 1 ≤ 41 := by omega
    have hS : S + 4 ≤ 164 := by omega
    have ih := ih (C + 1) (S + 4) (by omega) (by omega)
    unfold C_years_l54
    refine g_iload (pc := 54) hk dX0_years_54 rfl ?_
    refine g_iload_n (pc := 56) hk dX0_years_56 rfl ?_
    refine g_icmp_ge (pc := 57) (tgt := 197) hk dX0_years_57 rfl ?_ ?_
    · refine g_aload_n (pc := 197) hk dX0_years_197 rfl ?_
      refine g_iconst (pc := 198) (v := 0) hk dX0_years_198 rfl ?_
      refine c_ialdC (pc := 199) (k := 1) (j := 0) hk hK cav_1 rfl rfl dX0_years_199 ?_
      exact c_iret (pc := 200) hk hK rfl dX0_years_200 (Nat.ble_eq.mpr (by show C ≤ 41; omega)) (Nat.ble_eq.mpr (by show S ≤ 164; omega))
    · refine g_aload_n (pc := 60) hk dX0_years_60 rfl ?_
      refine g_iconst (pc := 61) (v := 2) hk dX0_years_61 rfl ?_
      refine c_ialdC (pc := 62) (k := 1) (j := 2) hk hK cav_1 rfl rfl dX0_years_62 ?_
      refine g_istoreN (pc := 63) (i := 6) (ls' := fun x8 => [(6, .int x8), (0, .ref (gA Γ 300)), (2, .int v2), (3, .ref (gA Γ 1)), (4, .int v4), (5, .int v5)]) hk dX0_years_63 (by decide) (fun _ => rfl) (fun x8 => ?_)
      refine g_aload_n (pc := 65) hk dX0_years_65 rfl ?_
      refine g_ob1 (fun σ10 h9 => ?_)
      refine c_callS (pc := 66) hk hK [.ref (gA Γ 1)] [] (cm_draws Γ σ 1 cav_1 σ10 h9) (lw_S q1022 q1023 q124 q1024) hs_c_draws rfl rfl rfl dX0_years_66 rfl rfl ⟨Nat.ble_eq.mpr (by show C + 0 ≤ 41; omega), Nat.ble_eq.mpr (by show S + 0 ≤ 164; omega)⟩ ?_
      refine g_aload_n (pc := 69) hk dX0_years_69 rfl ?_
      refine c_getR (pc := 70) hk hK cr_0 cf_0 dX0_years_70 ?_
      refine c_getS (pc := 73) (w := 0) hk hK (by decide) sr_0 sn_0 dX0_years_73 ?_
      refine g_iconst (pc := 76) (v := 0) hk dX0_years_76 rfl ?_
      refine c_ialdC (pc := 77) (k := 0) (j := 0) hk hK cav_0 rfl rfl dX0_years_77 ?_
      refine g_if_ne (pc := 78) (tgt := 85) hk dX0_years_78 rfl ?_ ?_
      · refine g_iload (pc := 85) hk dX0_years_85 rfl ?_
        refine g_aload_n (pc := 87) hk dX0_years_87 rfl ?_
        refine c_getR (pc := 88) hk hK cr_0 cf_0 dX0_years_88 ?_
        refine c_getS (pc := 91) (w := 0) hk hK (by decide) sr_0 sn_0 dX0_years_91 ?_
        refine g_iconst (pc := 94) (v := 0) hk dX0_years_94 rfl ?_
        refine c_ialdC (pc := 95) (k := 0) (j := 0) hk hK cav_0 rfl rfl dX0_years_95 ?_
        refine g_iremG (pc := 96) hk dX0_years_96 (fun _ => ?_)
        refine g_sub (ls' := [(0, .ref (gA Γ 300)), (2, .int v2), (3, .ref (gA Γ 1)), (4, .int v4), (5, .int v5), (6, .int x8)]) [1, 2, 3, 4, 5, 0] rfl ?_
        exact cm_years_j97 hk hK hΓ C S hC hS σ10 v2 v4 v5 x8 (i_rem x8 (cA σ10 0 0)) (C_years_l54 v2 n) ih
      · refine g_iconst (pc := 81) (v := (-1)) hk dX0_years_81 rfl ?_
        refine g_goto (pc := 82) (tgt := 97) hk dX0_years_82 rfl ?_
        refine g_sub (ls' := [(0, .ref (gA Γ 300)), (2, .int v2), (3, .ref (gA Γ 1)), (4, .int v4), (5, .int v5), (6, .int x8)]) [1, 2, 3, 4, 5, 0] rfl ?_
        exact cm_years_j97 hk hK hΓ C S hC hS σ10 v2 v4 v5 x8 (-1) (C_years_l54 v2 n) ih
theorem cm_years (Γ : CG) (hΓ : DTX Γ) (σ : CS) (v1 : Int32) (v2 : Int32)  (r : Int32 × CS) (h : C_years σ v1 v2 = some r) : CMet Γ yX0_years cX0_years 8 (some .int) rm_c_years [.ref (gA Γ 300), .int v1, .int v2] σ (some (.int r.1)) r.2 := by
  refine c_met (view := (fun r : Int32 × CS => (some (Value.int r.1), r.2))) (own := RX0) rfl (by decide) rfl (ls0 := [(0, .ref (gA Γ 300)), (1, .int v1), (2, .int v2)]) rfl (fun K hk hK => ?_) r h
  unfold C_years
  refine g_iload_n (pc := 0) hk dX0_years_0 rfl ?_
  refine g_iconst (pc := 1) (v := 0) hk dX0_years_1 rfl ?_
  refine g_sipush (pc := 2) (v := 9999) hk dX0_years_2 rfl ?_
  refine g_ob1 (fun r1 h2 => ?_)
  refine g_callP (pc := 5) hk [.int v1, .int 0, .int 9999] [] (cm_in v1 0 9999 r1 h2) (lw_S q296 q297 q124 q298) hs_c_in rfl ⟨rfl, rfl⟩ rfl rfl dX0_years_5 rfl rfl ⟨rfl, rfl⟩ ?_
  refine g_if_eq (pc := 8) (tgt := 21) hk dX0_years_8 rfl ?_ ?_
  · refine g_iconst (pc := 21) (v := (-1)) hk dX0_years_21 rfl ?_
    exact c_iret (pc := 22) hk hK rfl dX0_years_22 rfl rfl
  · refine g_iload_n (pc := 11) hk dX0_years_11 rfl ?_
    refine g_iconst (pc := 12) (v := 1) hk dX0_years_12 rfl ?_
    refine g_bipush (pc := 13) (v := 40) hk dX0_years_13 rfl ?_
    refine g_ob1 (fun r3 h4 => ?_)
    refine g_callP (pc := 15) hk [.int v2, .int 1, .int 40] [] (cm_in v2 1 40 r3 h4) (lw_S q296 q297 q124 q298) hs_c_in rfl ⟨rfl, rfl⟩ rfl rfl dX0_years_15 rfl rfl ⟨rfl, rfl⟩ ?_
    refine g_if_ne (pc := 18) (tgt := 23) hk dX0_years_18 rfl ?_ ?_
    · refine g_aload_n (pc := 23) hk dX0_years_23 rfl ?_
      refine c_getR (pc := 24) hk hK cr_0 cf_0 dX0_years_24 ?_
      refine g_ob1 (fun σ6 h5 => ?_)
      refine c_callV (pc := 27) hk hK (rec_S (w := 0) hK (by decide)) [] [] (sm_keeps Γ σ 0 (by decide) σ6 h5) (lw_V q884 q885 q886 q125 q887) hv_s_keeps rfl rfl rfl dX0_years_27 rfl rfl ⟨rfl, rfl⟩ ?_
      refine g_aload_n (pc := 30) hk dX0_years_30 rfl ?_
      refine c_getR (pc := 31) hk hK cr_0 cf_0 dX0_years_31 ?_
      refine c_getS (pc := 34) (w := 0) hk hK (by decide) sr_1 sn_1 dX0_years_34 ?_
      refine g_astore_n (pc := 37) (i := 3) (ls' := [(3, .ref (gA Γ 1)), (0, .ref (gA Γ 300)), (1, .int v1), (2, .int v2)]) hk dX0_years_37 rfl (by decide) rfl ?_
      refine g_aload_n (pc := 38) hk dX0_years_38 rfl ?_
      refine g_iconst (pc := 39) (v := 2) hk dX0_years_39 rfl ?_
      refine g_iload_n (pc := 40) hk dX0_years_40 rfl ?_
      refine g_iconst (pc := 41) (v := 2) hk dX0_years_41 rfl ?_
      refine g_imul (pc := 42) hk dX0_years_42 ?_
      refine g_sipush (pc := 43) (v := 223) hk dX0_years_43 rfl ?_
      refine g_iadd (pc := 46) hk dX0_years_46 ?_
      refine c_iastC (pc := 47) (k := 1) (j := 2) hk hK cav_1 rfl rfl dX0_years_47 (fun σ7 => ?_)
      refine g_iconst (pc := 48) (v := 0) hk dX0_years_48 rfl ?_
      refine g_istore (pc := 49) (i := 4) (ls' := [(4, .int 0), (3, .ref (gA Γ 1)), (0, .ref (gA Γ 300)), (1, .int v1), (2, .int v2)]) hk dX0_years_49 (by decide) rfl ?_
      refine g_iconst (pc := 51) (v := 0) hk dX0_years_51 rfl ?_
      refine g_istore (pc := 52) (i := 5) (ls' := [(5, .int 0), (4, .int 0), (3, .ref (gA Γ 1)), (0, .ref (gA Γ 300)), (1, .int v1), (2, .int v2)]) hk dX0_years_52 (by decide) rfl ?_
      refine g_sub (ls' := [(0, .ref (gA Γ 300)), (2, .int v2), (3, .ref (gA Γ 1)), (4, .int 0), (5, .int 0)]) [3, 5, 2, 1, 0] rfl ?_
      exact cm_years_l54 hk hK hΓ v2 41 0 0 (by decide) (by decide) σ7 0 0
    · refine g_iconst (pc := 21) (v := (-1)) hk dX0_years_21 rfl ?_
      exact c_iret (pc := 22) hk hK rfl dX0_years_22 rfl rfl
def rm_c_of : Room := { frames := 331, cells := 0, slots := 0, locals := 20026 }
theorem hv_c_of : yX0_of.cls = RX0 ∧ yX0_of.cls ≠ "java/lang/invoke/MethodHandle" ∧ yX0_of.cls ≠ "java/lang/invoke/VarHandle" ∧ (parseMethodDescriptor yX0_of.desc).map (fun d => d.parameters.length) = some 2 := by decide +kernel
theorem cm_of (Γ : CG) (hΓ : DTX Γ) (σ : CS) (v1 : Int32) (v2 : Int32)  (r : Int32 × CS) (h : C_of σ v1 v2 = some r) : CMet Γ yX0_of cX0_of 3 (some .int) rm_c_of [.ref (gA Γ 300), .int v1, .int v2] σ (some (.int r.1)) r.2 := by
  refine c_met (view := (fun r : Int32 × CS => (some (Value.int r.1), r.2))) (own := RX0) rfl (by decide) rfl (ls0 := [(0, .ref (gA Γ 300)), (1, .int v1), (2, .int v2)]) rfl (fun K hk hK => ?_) r h
  unfold C_of
  refine g_aload_n (pc := 0) hk dX0_of_0 rfl ?_
  refine g_iload_n (pc := 1) hk dX0_of_1 rfl ?_
  refine g_ob1 (fun r1 h2 => ?_)
  refine c_callV (pc := 2) hk hK (rec_X hK) [.int v1] [] (cm_isPerson Γ σ v1 r1 h2) (lw_V q880 q882 qs25 q124 q883) hv_c_isPerson rfl rfl rfl dX0_of_2 rfl rfl ⟨rfl, rfl⟩ ?_
  refine g_if_ne (pc := 5) (tgt := 10) hk dX0_of_5 rfl ?_ ?_
  · refine g_iload_n (pc := 10) hk dX0_of_10 rfl ?_
    refine g_if (fun h3 => ?_) (fun n4 => ?_)
    · refine g_tabIn (pc := 11) (tgt := 36) hk 0 h3 dX0_of_11 (by decide) (by decide) rfl rfl ?_
      refine g_aload_n (pc := 36) hk dX0_of_36 rfl ?_
      refine c_getR (pc := 37) hk hK cr_0 cf_0 dX0_of_37 ?_
      refine c_getS (pc := 40) (w := 0) hk hK (by decide) sr_1 sn_1 dX0_of_40 ?_
      refine g_iconst (pc := 43) (v := 3) hk dX0_of_43 rfl ?_
      refine g_iload_n (pc := 44) hk dX0_of_44 rfl ?_
      refine g_iadd (pc := 45) hk dX0_of_45 ?_
      refine c_iald (pc := 46) (k := 1) hk hK cav_1 dX0_of_46 ?_
      exact c_iret (pc := 47) hk hK rfl dX0_of_47 rfl rfl
    · refine g_if (fun h5 => ?_) (fun n6 => ?_)
      · refine g_tabIn (pc := 11) (tgt := 48) hk 1 h5 dX0_of_11 (by decide) (by decide) rfl rfl ?_
        refine g_aload_n (pc := 48) hk dX0_of_48 rfl ?_
        refine c_getR (pc := 49) hk hK cr_0 cf_0 dX0_of_49 ?_
        refine c_getS (pc := 52) (w := 0) hk hK (by decide) sr_1 sn_1 dX0_of_52 ?_
        refine g_bipush (pc := 55) (v := 11) hk dX0_of_55 rfl ?_
        refine g_iload_n (pc := 57) hk dX0_of_57 rfl ?_
        refine g_iadd (pc := 58) hk dX0_of_58 ?_
        refine c_iald (pc := 59) (k := 1) hk hK cav_1 dX0_of_59 ?_
        exact c_iret (pc := 60) hk hK rfl dX0_of_60 rfl rfl
      · refine g_if (fun h7 => ?_) (fun n8 => ?_)
        · refine g_tabIn (pc := 11) (tgt := 61) hk 2 h7 dX0_of_11 (by decide) (by decide) rfl rfl ?_
          refine g_aload_n (pc := 61) hk dX0_of_61 rfl ?_
          refine c_getR (pc := 62) hk hK cr_0 cf_0 dX0_of_62 ?_
          refine c_getS (pc := 65) (w := 0) hk hK (by decide) sr_1 sn_1 dX0_of_65 ?_
          refine g_bipush (pc := 68) (v := 19) hk dX0_of_68 rfl ?_
          refine g_iload_n (pc := 70) hk dX0_of_70 rfl ?_
          refine g_iadd (pc := 71) hk dX0_of_71 ?_
          refine c_iald (pc := 72) (k := 1) hk hK cav_1 dX0_of_72 ?_
          exact c_iret (pc := 73) hk hK rfl dX0_of_73 rfl rfl
        · refine g_tabOut (pc := 11) (tgt := 74) hk dX0_of_11 (by have z0 := ne_toInt n4 (z := 0) rfl; have z1 := ne_toInt n6 (z := 1) rfl; have z2 := ne_toInt n8 (z := 2) rfl; omega) rfl ?_
          refine g_iload_n (pc := 74) hk dX0_of_74 rfl ?_
          refine g_iconst (pc := 75) (v := 3) hk dX0_of_75 rfl ?_
          refine g_iconst (pc := 76) (v := 5) hk dX0_of_76 rfl ?_
          refine g_ob1 (fun r9 h10 => ?_)
          refine g_callP (pc := 77) hk [.int v2, .int 3, .int 5] [] (cm_in v2 3 5 r9 h10) (lw_S q296 q297 q124 q298) hs_c_in rfl ⟨rfl, rfl⟩ rfl rfl dX0_of_77 rfl rfl ⟨rfl, rfl⟩ ?_
          refine g_if_eq (pc := 80) (tgt := 105) hk dX0_of_80 rfl ?_ ?_
          · refine g_iconst (pc := 105) (v := (-1)) hk dX0_of_105 rfl ?_
            exact c_iret (pc := 106) hk hK rfl dX0_of_106 rfl rfl
          · refine g_aload_n (pc := 83) hk dX0_of_83 rfl ?_
            refine g_aload_n (pc := 84) hk dX0_of_84 rfl ?_
            refine g_ob1 (fun r11 h12 => ?_)
            refine c_callV (pc := 85) hk hK (rec_X hK) [] [.ref (gA Γ 300)] (cm_rules Γ hΓ σ r11 h12) (lw_V q892 q894 qs27 q124 q895) hv_c_rules rfl rfl rfl dX0_of_85 rfl rfl ⟨rfl, rfl⟩ ?_
            refine g_aload_n (pc := 88) hk dX0_of_88 rfl ?_
            refine c_getR (pc := 89) hk hK cr_0 cf_0 dX0_of_89 ?_
            refine c_getS (pc := 92) (w := 0) hk hK (by decide) sr_1 sn_1 dX0_of_92 ?_
            refine g_iload_n (pc := 95) hk dX0_of_95 rfl ?_
            refine g_iload_n (pc := 96) hk dX0_of_96 rfl ?_
            refine g_iconst (pc := 97) (v := 3) hk dX0_of_97 rfl ?_
            refine g_isub (pc := 98) hk dX0_of_98 ?_
            refine g_ob2 (fun r13 σ15 h14 => ?_)
            refine c_callV (pc := 99) hk hK (rec_X hK) [.ref r11, .ref (gA Γ 1), .int v1, .int (v2 - 3)] [] (cm_says Γ hΓ σ r11 1 v1 (v2 - 3) cav_1 (r13, σ15) h14) (lw_V q898 q900 qs28 q124 q901) hv_c_says rfl rfl rfl dX0_of_99 rfl rfl ⟨rfl, rfl⟩ ?_
            refine g_goto (pc := 102) (tgt := 106) hk dX0_of_102 rfl ?_
            exact c_iret (pc := 106) hk hK rfl dX0_of_106 rfl rfl
  · refine g_iconst (pc := 8) (v := (-1)) hk dX0_of_8 rfl ?_
    exact c_iret (pc := 9) hk hK rfl dX0_of_9 rfl rfl
def rm_c_foretold : Room := { frames := 332, cells := 9, slots := 36, locals := 20052 }
theorem hv_c_foretold : yX0_foretold.cls = RX0 ∧ yX0_foretold.cls ≠ "java/lang/invoke/MethodHandle" ∧ yX0_foretold.cls ≠ "java/lang/invoke/VarHandle" ∧ (parseMethodDescriptor yX0_foretold.desc).map (fun d => d.parameters.length) = some 2 := by decide +kernel
theorem cm_foretold_j115 {K : KT} {Γ : CG} (hk : KOK K cX0_foretold 5 RX0 rm_c_foretold (some .int)) (hK : CK Γ (kS K)) (hΓ : DTX Γ) (C S : Nat) (hC : C + 1 ≤ 9) (hS : S + 4 ≤ 36) (σ : CS) (s2 : Int32) : GGo K (cQ K Γ rm_c_foretold (fun r : Int32 × CS => (some (Value.int r.1), r.2))) (C_foretold_j115 σ s2) 5 (CI Γ (kS K) σ) C S 115 [] [.int s2, .ref (gA Γ 202), .ref (gA Γ 300)] := by
  unfold C_foretold_j115
  refine g_ob1 (fun r7 h8 => ?_)
  refine c_callV (pc := 115) hk hK (rec_X hK) [.ref (gA Γ 202), .int s2] [] (cm_sumOf Γ σ 202 s2 cav_202 r7 h8) (lw_V q1044 q1046 qs32 q124 q1047) hv_c_sumOf rfl rfl rfl dX0_foretold_115 rfl rfl ⟨Nat.ble_eq.mpr (by show C + 0 ≤ 9; omega), Nat.ble_eq.mpr (by show S + 0 ≤ 36; omega)⟩ ?_
  exact c_iret (pc := 118) hk hK rfl dX0_foretold_118 (Nat.ble_eq.mpr (by show C ≤ 9; omega)) (Nat.ble_eq.mpr (by show S ≤ 36; omega))
theorem cm_foretold_j80 {K : KT} {Γ : CG} (hk : KOK K cX0_foretold 5 RX0 rm_c_foretold (some .int)) (hK : CK Γ (kS K)) (hΓ : DTX Γ) (C S : Nat) (hC : C + 1 ≤ 9) (hS : S + 4 ≤ 36) (σ : CS) (v1 : Int32) (v2 : Int32) (v3 : Int32) (v4 : Int32) (k51 : CS → Int32 → Int32 → Option (Int32 × CS)) (hk51 : ∀ (σ : CS) (v3 : Int32) (v4 : Int32), GGo K (cQ K Γ rm_c_foretold (fun r : Int32 × CS => (some (Value.int r.1), r.2))) (k51 σ v3 v4) 5 (CI Γ (kS K) σ) (C + 1) (S + 4) 51 [(0, .ref (gA Γ 300)), (1, .int v1), (2, .int v2), (3, .int v3), (4, .int v4)] []) : GGo K (cQ K Γ rm_c_foretold (fun r : Int32 × CS => (some (Value.int r.1), r.2))) (C_foretold_j80 k51 σ v1 v2 v3 v4) 5 (CI Γ (kS K) σ) (C + 1) (S + 4) 80 [(0, .ref (gA Γ 300)), (1, .int v1), (2, .int v2), (3, .int v3), (4, .int v4)] [] := by
  unfold C_foretold_j80
  refine g_iincN (pc := 80) (v := 1) (ls' := fun x11 => [(4, .int x11), (0, .ref (gA Γ 300)), (1, .int v1), (2, .int v2), (3, .int v3)]) hk dX0_foretold_80 rfl rfl (by decide) (fun _ => rfl) (fun x11 => ?_)
  refine g_goto (pc := 83) (tgt := 51) hk dX0_foretold_83 rfl ?_
  refine g_sub (ls' := [(0, .ref (gA Γ 300)), (1, .int v1), (2, .int v2), (3, .int v3), (4, .int x11)]) [1, 2, 3, 4, 0] rfl ?_
  exact hk51 σ v3 x11
theorem cm_foretold_l51 {K : KT} {Γ : CG} (hk : KOK K cX0_foretold 5 RX0 rm_c_foretold (some .int)) (hK : CK Γ (kS K)) (hΓ : DTX Γ) (v1 : Int32) (v2 : Int32) : ∀ (n C S : Nat) (_ : C + n ≤ 9) (_ : S + 4 * n ≤ 36) (σ : CS) (v3 : Int32) (v4 : Int32), GGo K (cQ K Γ rm_c_foretold (fun r : Int32 × CS => (some (Value.int r.1), r.2))) (C_foretold_l51 v1 v2 n σ v3 v4) 5 (CI Γ (kS K) σ) C S 51 [(0, .ref (gA Γ 300)), (1, .int v1), (2, .int v2), (3, .int v3), (4, .int v4)] [] := by
  intro n
  induction n with
  | zero =>
    intro C S hC hS
    intro σ v3 v4
    unfold C_foretold_l51
    exact g_none
  | succ n ih =>
    intro C S hC0 hS0
    intro σ v3 v4
    have hC : C + 1 ≤ 9 := by omega
    have hS : S + 4 ≤ 36 := by omega
    have ih := ih (C + 1) (S + 4) (by omega) (by omega)
    unfold C_foretold_l51
    refine g_iload (pc := 51) hk dX0_foretold_51 rfl ?_
    refine g_bipush (pc := 53) (v := 8) hk dX0_foretold_53 rfl ?_
    refine g_icmp_ge (pc := 55) (tgt := 86) hk dX0_foretold_55 rfl ?_ ?_
    · refine g_iload_n (pc := 86) hk dX0_foretold_86 rfl ?_
      refine g_if_ne (pc := 87) (tgt := 99) hk dX0_foretold_87 rfl ?_ ?_
      · refine g_aload_n (pc := 99) hk dX0_foretold_99 rfl ?_
        refine g_aload_n (pc := 100) hk dX0_foretold_100 rfl ?_
        refine c_getR (pc := 101) hk hK cr_7 cf_7 dX0_foretold_101 ?_
        refine g_iload_n (pc := 104) hk dX0_foretold_104 rfl ?_
        refine g_iconst (pc := 105) (v := 1) hk dX0_foretold_105 rfl ?_
        refine g_icmp_ne (pc := 106) (tgt := 114) hk dX0_foretold_106 rfl ?_ ?_
        · refine g_iconst (pc := 114) (v := 3) hk dX0_foretold_114 rfl ?_
          refine g_sub (ls' := []) [] rfl ?_
          exact cm_foretold_j115 hk hK hΓ C S hC hS σ 3
        · refine g_bipush (pc := 109) (v := 19) hk dX0_foretold_109 rfl ?_
          refine g_goto (pc := 111) (tgt := 115) hk dX0_foretold_111 rfl ?_
          refine g_sub (ls' := []) [] rfl ?_
          exact cm_foretold_j115 hk hK hΓ C S hC hS σ 19
      · refine g_aload_n (pc := 90) hk dX0_foretold_90 rfl ?_
        refine c_getR (pc := 91) hk hK cr_7 cf_7 dX0_foretold_91 ?_
        refine g_iconst (pc := 94) (v := 1) hk dX0_foretold_94 rfl ?_
        refine c_ialdC (pc := 95) (k := 202) (j := 1) hk hK cav_202 rfl rfl dX0_foretold_95 ?_
        refine g_goto (pc := 96) (tgt := 118) hk dX0_foretold_96 rfl ?_
        exact c_iret (pc := 118) hk hK rfl dX0_foretold_118 (Nat.ble_eq.mpr (by show C ≤ 9; omega)) (Nat.ble_eq.mpr (by show S ≤ 36; omega))
    · refine g_iload_n (pc := 58) hk dX0_foretold_58 rfl ?_
      refine g_iload (pc := 59) hk dX0_foretold_59 rfl ?_
      refine g_ob1 (fun r9 h10 => ?_)
      refine g_callP (pc := 61) hk [.int v1, .int v4] [] (cm_has v1 v4 r9 h10) (lw_S q1113 q1114 q124 q1115) hs_c_has rfl ⟨rfl, rfl⟩ rfl rfl dX0_foretold_61 rfl rfl ⟨Nat.ble_eq.mpr (by show C ≤ 9; omega), Nat.ble_eq.mpr (by show S ≤ 36; omega)⟩ ?_
      refine g_if_eq (pc := 64) (tgt := 80) hk dX0_foretold_64 rfl ?_ ?_
      · refine g_widen (cs' := C + 1) (sl' := S + 4) (by show C ≤ C + 1; omega) (by show S ≤ S + 4; omega) ?_
        exact cm_foretold_j80 hk hK hΓ C S hC hS σ v1 v2 v3 v4 (C_foretold_l51 v1 v2 n) ih
      · refine g_iload_n (pc := 67) hk dX0_foretold_67 rfl ?_
        refine g_aload_n (pc := 68) hk dX0_foretold_68 rfl ?_
        refine g_aload_n (pc := 69) hk dX0_foretold_69 rfl ?_
        refine c_getR (pc := 70) hk hK cr_7 cf_7 dX0_foretold_70 ?_
        refine g_iload (pc := 73) hk dX0_foretold_73 rfl ?_
        refine g_ob2 (fun r12 σ14 h13 => ?_)
        refine c_callV (pc := 75) hk hK (rec_X hK) [.ref (gA Γ 202), .int v4] [.int v3] (cm_lathers Γ hΓ σ 202 v4 cav_202 (r12, σ14) h13) (lw_V q888 q890 qs26 q124 q891) hv_c_lathers rfl rfl rfl dX0_foretold_75 rfl rfl ⟨Nat.ble_eq.mpr (by show C + 1 ≤ 9; omega), Nat.ble_eq.mpr (by show S + 4 ≤ 36; omega)⟩ ?_
        refine g_iadd (pc := 78) hk dX0_foretold_78 ?_
        refine g_istore_nN (pc := 79) (i := 3) (ls' := fun x15 => [(3, .int x15), (0, .ref (gA Γ 300)), (1, .int v1), (2, .int v2), (4, .int v4)]) hk dX0_foretold_79 rfl (by decide) (fun _ => rfl) (fun x15 => ?_)
        refine g_sub (ls' := [(0, .ref (gA Γ 300)), (1, .int v1), (2, .int v2), (3, .int x15), (4, .int v4)]) [1, 2, 3, 0, 4] rfl ?_
        exact cm_foretold_j80 hk hK hΓ C S hC hS σ14 v1 v2 x15 v4 (C_foretold_l51 v1 v2 n) ih
theorem cm_foretold (Γ : CG) (hΓ : DTX Γ) (σ : CS) (v1 : Int32) (v2 : Int32)  (r : Int32 × CS) (h : C_foretold σ v1 v2 = some r) : CMet Γ yX0_foretold cX0_foretold 5 (some .int) rm_c_foretold [.ref (gA Γ 300), .int v1, .int v2] σ (some (.int r.1)) r.2 := by
  refine c_met (view := (fun r : Int32 × CS => (some (Value.int r.1), r.2))) (own := RX0) rfl (by decide) rfl (ls0 := [(0, .ref (gA Γ 300)), (1, .int v1), (2, .int v2)]) rfl (fun K hk hK => ?_) r h
  unfold C_foretold
  refine g_iload_n (pc := 0) hk dX0_foretold_0 rfl ?_
  refine g_iconst (pc := 1) (v := 1) hk dX0_foretold_1 rfl ?_
  refine g_iconst (pc := 2) (v := 1) hk dX0_foretold_2 rfl ?_
  refine g_aload_n (pc := 3) hk dX0_foretold_3 rfl ?_
  refine c_getR (pc := 4) hk hK cr_0 cf_0 dX0_foretold_4 ?_
  refine c_getS (pc := 7) (w := 0) hk hK (by decide) sr_0 sn_0 dX0_foretold_7 ?_
  refine g_iconst (pc := 10) (v := 0) hk dX0_foretold_10 rfl ?_
  refine c_ialdC (pc := 11) (k := 0) (j := 0) hk hK cav_0 rfl rfl dX0_foretold_11 ?_
  refine g_ishl (pc := 12) hk dX0_foretold_12 ?_
  refine g_iconst (pc := 13) (v := 1) hk dX0_foretold_13 rfl ?_
  refine g_isub (pc := 14) hk dX0_foretold_14 ?_
  refine g_ob1 (fun r1 h2 => ?_)
  refine g_callP (pc := 15) hk [.int v1, .int 1, .int ((i_shl 1 (cA σ 0 0)) - 1)] [] (cm_in v1 1 ((i_shl 1 (cA σ 0 0)) - 1) r1 h2) (lw_S q296 q297 q124 q298) hs_c_in rfl ⟨rfl, rfl⟩ rfl rfl dX0_foretold_15 rfl rfl ⟨rfl, rfl⟩ ?_
  refine g_if_eq (pc := 18) (tgt := 30) hk dX0_foretold_18 rfl ?_ ?_
  · refine g_iconst (pc := 30) (v := (-1)) hk dX0_foretold_30 rfl ?_
    exact c_iret (pc := 31) hk hK rfl dX0_foretold_31 rfl rfl
  · refine g_iload_n (pc := 21) hk dX0_foretold_21 rfl ?_
    refine g_iconst (pc := 22) (v := 0) hk dX0_foretold_22 rfl ?_
    refine g_iconst (pc := 23) (v := 2) hk dX0_foretold_23 rfl ?_
    refine g_ob1 (fun r3 h4 => ?_)
    refine g_callP (pc := 24) hk [.int v2, .int 0, .int 2] [] (cm_in v2 0 2 r3 h4) (lw_S q296 q297 q124 q298) hs_c_in rfl ⟨rfl, rfl⟩ rfl rfl dX0_foretold_24 rfl rfl ⟨rfl, rfl⟩ ?_
    refine g_if_ne (pc := 27) (tgt := 32) hk dX0_foretold_27 rfl ?_ ?_
    · refine g_aload_n (pc := 32) hk dX0_foretold_32 rfl ?_
      refine c_getR (pc := 33) hk hK cr_0 cf_0 dX0_foretold_33 ?_
      refine c_getS (pc := 36) (w := 0) hk hK (by decide) sr_1 sn_1 dX0_foretold_36 ?_
      refine g_aload_n (pc := 39) hk dX0_foretold_39 rfl ?_
      refine c_getR (pc := 40) hk hK cr_7 cf_7 dX0_foretold_40 ?_
      refine g_ob1 (fun σ6 h5 => ?_)
      refine c_callSN (pc := 43) hk hK [.ref (gA Γ 1), .ref (gA Γ 202)] [] (sm_copy Γ σ 1 148 202 148 cav_1 cav_202 σ6 h5) cn_1092 q231 q125 q232 hs_s_copy rfl rfl rfl dX0_foretold_43 rfl rfl ⟨rfl, rfl⟩ ?_
      refine g_iconst (pc := 46) (v := 0) hk dX0_foretold_46 rfl ?_
      refine g_istore_n (pc := 47) (i := 3) (ls' := [(3, .int 0), (0, .ref (gA Γ 300)), (1, .int v1), (2, .int v2)]) hk dX0_foretold_47 rfl (by decide) rfl ?_
      refine g_iconst (pc := 48) (v := 0) hk dX0_foretold_48 rfl ?_
      refine g_istore (pc := 49) (i := 4) (ls' := [(4, .int 0), (3, .int 0), (0, .ref (gA Γ 300)), (1, .int v1), (2, .int v2)]) hk dX0_foretold_49 (by decide) rfl ?_
      refine g_sub (ls' := [(0, .ref (gA Γ 300)), (1, .int v1), (2, .int v2), (3, .int 0), (4, .int 0)]) [2, 3, 4, 1, 0] rfl ?_
      exact cm_foretold_l51 hk hK hΓ v1 v2 9 0 0 (by decide) (by decide) σ6 0 0
    · refine g_iconst (pc := 30) (v := (-1)) hk dX0_foretold_30 rfl ?_
      exact c_iret (pc := 31) hk hK rfl dX0_foretold_31 rfl rfl
def rm_c_ratesBy : Room := { frames := 331, cells := 0, slots := 0, locals := 20026 }
theorem hv_c_ratesBy : yX0_ratesBy.cls = RX0 ∧ yX0_ratesBy.cls ≠ "java/lang/invoke/MethodHandle" ∧ yX0_ratesBy.cls ≠ "java/lang/invoke/VarHandle" ∧ (parseMethodDescriptor yX0_ratesBy.desc).map (fun d => d.parameters.length) = some 2 := by decide +kernel
theorem cm_ratesBy (Γ : CG) (hΓ : DTX Γ) (σ : CS) (v1 : Int32) (v2 : Int32)  (r : Int32 × CS) (h : C_ratesBy σ v1 v2 = some r) : CMet Γ yX0_ratesBy cX0_ratesBy 3 (some .int) rm_c_ratesBy [.ref (gA Γ 300), .int v1, .int v2] σ (some (.int r.1)) r.2 := by
  refine c_met (view := (fun r : Int32 × CS => (some (Value.int r.1), r.2))) (own := RX0) rfl (by decide) rfl (ls0 := [(0, .ref (gA Γ 300)), (1, .int v1), (2, .int v2)]) rfl (fun K hk hK => ?_) r h
  unfold C_ratesBy
  refine g_aload_n (pc := 0) hk dX0_ratesBy_0 rfl ?_
  refine c_getR (pc := 1) hk hK cr_0 cf_0 dX0_ratesBy_1 ?_
  refine c_getS (pc := 4) (w := 0) hk hK (by decide) sr_1 sn_1 dX0_ratesBy_4 ?_
  refine g_aload_n (pc := 7) hk dX0_ratesBy_7 rfl ?_
  refine c_getR (pc := 8) hk hK cr_7 cf_7 dX0_ratesBy_8 ?_
  refine g_ob1 (fun σ2 h1 => ?_)
  refine c_callSN (pc := 11) hk hK [.ref (gA Γ 1), .ref (gA Γ 202)] [] (sm_copy Γ σ 1 148 202 148 cav_1 cav_202 σ2 h1) cn_1092 q231 q125 q232 hs_s_copy rfl rfl rfl dX0_ratesBy_11 rfl rfl ⟨rfl, rfl⟩ ?_
  refine g_aload_n (pc := 14) hk dX0_ratesBy_14 rfl ?_
  refine c_getR (pc := 15) hk hK cr_7 cf_7 dX0_ratesBy_15 ?_
  refine g_bipush (pc := 18) (v := 11) hk dX0_ratesBy_18 rfl ?_
  refine g_iload_n (pc := 20) hk dX0_ratesBy_20 rfl ?_
  refine g_iadd (pc := 21) hk dX0_ratesBy_21 ?_
  refine g_iload_n (pc := 22) hk dX0_ratesBy_22 rfl ?_
  refine c_iast (pc := 23) (k := 202) hk hK cav_202 dX0_ratesBy_23 (fun σ3 => ?_)
  refine g_aload_n (pc := 24) hk dX0_ratesBy_24 rfl ?_
  refine g_aload_n (pc := 25) hk dX0_ratesBy_25 rfl ?_
  refine g_ob1 (fun r4 h5 => ?_)
  refine c_callV (pc := 26) hk hK (rec_X hK) [] [.ref (gA Γ 300)] (cm_rules Γ hΓ σ3 r4 h5) (lw_V q892 q894 qs27 q124 q895) hv_c_rules rfl rfl rfl dX0_ratesBy_26 rfl rfl ⟨rfl, rfl⟩ ?_
  refine g_aload_n (pc := 29) hk dX0_ratesBy_29 rfl ?_
  refine c_getR (pc := 30) hk hK cr_7 cf_7 dX0_ratesBy_30 ?_
  refine g_iload_n (pc := 33) hk dX0_ratesBy_33 rfl ?_
  refine g_iconst (pc := 34) (v := 2) hk dX0_ratesBy_34 rfl ?_
  refine g_ob2 (fun r6 σ8 h7 => ?_)
  refine c_callV (pc := 35) hk hK (rec_X hK) [.ref r4, .ref (gA Γ 202), .int v1, .int 2] [] (cm_says Γ hΓ σ3 r4 202 v1 2 cav_202 (r6, σ8) h7) (lw_V q898 q900 qs28 q124 q901) hv_c_says rfl rfl rfl dX0_ratesBy_35 rfl rfl ⟨rfl, rfl⟩ ?_
  exact c_iret (pc := 38) hk hK rfl dX0_ratesBy_38 rfl rfl
def rm_c_shamOf : Room := { frames := 332, cells := 0, slots := 0, locals := 20048 }
theorem hv_c_shamOf : yX0_shamOf.cls = RX0 ∧ yX0_shamOf.cls ≠ "java/lang/invoke/MethodHandle" ∧ yX0_shamOf.cls ≠ "java/lang/invoke/VarHandle" ∧ (parseMethodDescriptor yX0_shamOf.desc).map (fun d => d.parameters.length) = some 1 := by decide +kernel
theorem cm_shamOf_j27 {K : KT} {Γ : CG} (hk : KOK K cX0_shamOf 4 RX0 rm_c_shamOf (some .int)) (hK : CK Γ (kS K)) (hΓ : DTX Γ) (σ : CS) (v1 : Int32) (v2 : Int32) (v3 : Int32) (k4 : CS → Int32 → Int32 → Option (Int32 × CS)) (hk4 : ∀ (σ : CS) (v2 : Int32) (v3 : Int32), GGo K (cQ K Γ rm_c_shamOf (fun r : Int32 × CS => (some (Value.int r.1), r.2))) (k4 σ v2 v3) 4 (CI Γ (kS K) σ) 0 0 4 [(0, .ref (gA Γ 300)), (1, .int v1), (2, .int v2), (3, .int v3)] []) : GGo K (cQ K Γ rm_c_shamOf (fun r : Int32 × CS => (some (Value.int r.1), r.2))) (C_shamOf_j27 k4 σ v1 v2 v3) 4 (CI Γ (kS K) σ) 0 0 27 [(0, .ref (gA Γ 300)), (1, .int v1), (2, .int v2), (3, .int v3)] [] := by
  unfold C_shamOf_j27
  refine g_iincN (pc := 27) (v := 1) (ls' := fun x7 => [(3, .int x7), (0, .ref (gA Γ 300)), (1, .int v1), (2, .int v2)]) hk dX0_shamOf_27 rfl rfl (by decide) (fun _ => rfl) (fun x7 => ?_)
  refine g_goto (pc := 30) (tgt := 4) hk dX0_shamOf_30 rfl ?_
  refine g_sub (ls' := [(0, .ref (gA Γ 300)), (1, .int v1), (2, .int v2), (3, .int x7)]) [1, 2, 3, 0] rfl ?_
  exact hk4 σ v2 x7
theorem cm_shamOf_l4 {K : KT} {Γ : CG} (hk : KOK K cX0_shamOf 4 RX0 rm_c_shamOf (some .int)) (hK : CK Γ (kS K)) (hΓ : DTX Γ) (v1 : Int32) : ∀ (n : Nat) (σ : CS) (v2 : Int32) (v3 : Int32), GGo K (cQ K Γ rm_c_shamOf (fun r : Int32 × CS => (some (Value.int r.1), r.2))) (C_shamOf_l4 v1 n σ v2 v3) 4 (CI Γ (kS K) σ) 0 0 4 [(0, .ref (gA Γ 300)), (1, .int v1), (2, .int v2), (3, .int v3)] [] := by
  intro n
  induction n with
  | zero =>
    intro σ v2 v3
    unfold C_shamOf_l4
    exact g_none
  | succ n ih =>
    intro σ v2 v3
    unfold C_shamOf_l4
    refine g_iload_n (pc := 4) hk dX0_shamOf_4 rfl ?_
    refine g_bipush (pc := 5) (v := 9) hk dX0_shamOf_5 rfl ?_
    refine g_icmp_gt (pc := 7) (tgt := 33) hk dX0_shamOf_7 rfl ?_ ?_
    · refine g_iload_n (pc := 33) hk dX0_shamOf_33 rfl ?_
      exact c_iret (pc := 34) hk hK rfl dX0_shamOf_34 rfl rfl
    · refine g_aload_n (pc := 10) hk dX0_shamOf_10 rfl ?_
      refine g_iload_n (pc := 11) hk dX0_shamOf_11 rfl ?_
      refine g_iload_n (pc := 12) hk dX0_shamOf_12 rfl ?_
      refine g_ob2 (fun r1 σ3 h2 => ?_)
      refine c_callV (pc := 13) hk hK (rec_X hK) [.int v1, .int v3] [] (cm_ratesBy Γ hΓ σ v1 v3 (r1, σ3) h2) (lw_V q1187 q1189 qs42 q124 q1190) hv_c_ratesBy rfl rfl rfl dX0_shamOf_13 rfl rfl ⟨rfl, rfl⟩ ?_
      refine g_aload_n (pc := 16) hk dX0_shamOf_16 rfl ?_
      refine g_iload_n (pc := 17) hk dX0_shamOf_17 rfl ?_
      refine g_iload_n (pc := 18) hk dX0_shamOf_18 rfl ?_
      refine g_ob2 (fun r4 σ6 h5 => ?_)
      refine c_callV (pc := 19) hk hK (rec_X hK) [.int v1, .int v2] [.int r1] (cm_ratesBy Γ hΓ σ3 v1 v2 (r4, σ6) h5) (lw_V q1187 q1189 qs42 q124 q1190) hv_c_ratesBy rfl rfl rfl dX0_shamOf_19 rfl rfl ⟨rfl, rfl⟩ ?_
      refine g_icmp_ge (pc := 22) (tgt := 27) hk dX0_shamOf_22 rfl ?_ ?_
      · exact cm_shamOf_j27 hk hK hΓ σ6 v1 v2 v3 (C_shamOf_l4 v1 n) ih
      · refine g_iload_n (pc := 25) hk dX0_shamOf_25 rfl ?_
        refine g_istore_n (pc := 26) (i := 2) (ls' := [(2, .int v3), (0, .ref (gA Γ 300)), (1, .int v1), (3, .int v3)]) hk dX0_shamOf_26 rfl (by decide) rfl ?_
        refine g_sub (ls' := [(0, .ref (gA Γ 300)), (1, .int v1), (2, .int v3), (3, .int v3)]) [1, 2, 0, 3] rfl ?_
        exact cm_shamOf_j27 hk hK hΓ σ6 v1 v3 v3 (C_shamOf_l4 v1 n) ih
theorem cm_shamOf (Γ : CG) (hΓ : DTX Γ) (σ : CS) (v1 : Int32)  (r : Int32 × CS) (h : C_shamOf σ v1 = some r) : CMet Γ yX0_shamOf cX0_shamOf 4 (some .int) rm_c_shamOf [.ref (gA Γ 300), .int v1] σ (some (.int r.1)) r.2 := by
  refine c_met (view := (fun r : Int32 × CS => (some (Value.int r.1), r.2))) (own := RX0) rfl (by decide) rfl (ls0 := [(0, .ref (gA Γ 300)), (1, .int v1)]) rfl (fun K hk hK => ?_) r h
  unfold C_shamOf
  refine g_iconst (pc := 0) (v := 0) hk dX0_shamOf_0 rfl ?_
  refine g_istore_n (pc := 1) (i := 2) (ls' := [(2, .int 0), (0, .ref (gA Γ 300)), (1, .int v1)]) hk dX0_shamOf_1 rfl (by decide) rfl ?_
  refine g_iconst (pc := 2) (v := 1) hk dX0_shamOf_2 rfl ?_
  refine g_istore_n (pc := 3) (i := 3) (ls' := [(3, .int 1), (2, .int 0), (0, .ref (gA Γ 300)), (1, .int v1)]) hk dX0_shamOf_3 rfl (by decide) rfl ?_
  refine g_sub (ls' := [(0, .ref (gA Γ 300)), (1, .int v1), (2, .int 0), (3, .int 1)]) [2, 3, 1, 0] rfl ?_
  exact cm_shamOf_l4 hk hK hΓ v1 FU σ 0 1
def rm_c_sham : Room := { frames := 333, cells := 0, slots := 0, locals := 20071 }
theorem hv_c_sham : yX0_sham.cls = RX0 ∧ yX0_sham.cls ≠ "java/lang/invoke/MethodHandle" ∧ yX0_sham.cls ≠ "java/lang/invoke/VarHandle" ∧ (parseMethodDescriptor yX0_sham.desc).map (fun d => d.parameters.length) = some 1 := by decide +kernel
theorem cm_sham (Γ : CG) (hΓ : DTX Γ) (σ : CS) (v1 : Int32)  (r : Int32 × CS) (h : C_sham σ v1 = some r) : CMet Γ yX0_sham cX0_sham 2 (some .int) rm_c_sham [.ref (gA Γ 300), .int v1] σ (some (.int r.1)) r.2 := by
  refine c_met (view := (fun r : Int32 × CS => (some (Value.int r.1), r.2))) (own := RX0) rfl (by decide) rfl (ls0 := [(0, .ref (gA Γ 300)), (1, .int v1)]) rfl (fun K hk hK => ?_) r h
  unfold C_sham
  refine g_aload_n (pc := 0) hk dX0_sham_0 rfl ?_
  refine g_iload_n (pc := 1) hk dX0_sham_1 rfl ?_
  refine g_ob1 (fun r1 h2 => ?_)
  refine c_callV (pc := 2) hk hK (rec_X hK) [.int v1] [] (cm_isPerson Γ σ v1 r1 h2) (lw_V q880 q882 qs25 q124 q883) hv_c_isPerson rfl rfl rfl dX0_sham_2 rfl rfl ⟨rfl, rfl⟩ ?_
  refine g_if_eq (pc := 5) (tgt := 16) hk dX0_sham_5 rfl ?_ ?_
  · refine g_iconst (pc := 16) (v := (-1)) hk dX0_sham_16 rfl ?_
    exact c_iret (pc := 17) hk hK rfl dX0_sham_17 rfl rfl
  · refine g_aload_n (pc := 8) hk dX0_sham_8 rfl ?_
    refine g_iload_n (pc := 9) hk dX0_sham_9 rfl ?_
    refine g_ob2 (fun r3 σ5 h4 => ?_)
    refine c_callV (pc := 10) hk hK (rec_X hK) [.int v1] [] (cm_shamOf Γ hΓ σ v1 (r3, σ5) h4) (lw_V q1183 q1185 qs41 q124 q1186) hv_c_shamOf rfl rfl rfl dX0_sham_10 rfl rfl ⟨rfl, rfl⟩ ?_
    refine g_goto (pc := 13) (tgt := 17) hk dX0_sham_13 rfl ?_
    exact c_iret (pc := 17) hk hK rfl dX0_sham_17 rfl rfl
def rm_c_shams : Room := { frames := 333, cells := 0, slots := 0, locals := 20071 }
theorem hv_c_shams : yX0_shams.cls = RX0 ∧ yX0_shams.cls ≠ "java/lang/invoke/MethodHandle" ∧ yX0_shams.cls ≠ "java/lang/invoke/VarHandle" ∧ (parseMethodDescriptor yX0_shams.desc).map (fun d => d.parameters.length) = some 0 := by decide +kernel
theorem cm_shams_j55 {K : KT} {Γ : CG} (hk : KOK K cX0_shams 3 RX0 rm_c_shams (some .int)) (hK : CK Γ (kS K)) (hΓ : DTX Γ) (σ : CS) (v2 : Int32) (s0 : Int32) (s1 : Int32) (k4 : CS → Int32 → Int32 → Option (Int32 × CS)) (hk4 : ∀ (σ : CS) (v1 : Int32) (v2 : Int32), GGo K (cQ K Γ rm_c_shams (fun r : Int32 × CS => (some (Value.int r.1), r.2))) (k4 σ v1 v2) 3 (CI Γ (kS K) σ) 0 0 4 [(0, .ref (gA Γ 300)), (1, .int v1), (2, .int v2)] []) : GGo K (cQ K Γ rm_c_shams (fun r : Int32 × CS => (some (Value.int r.1), r.2))) (C_shams_j55 k4 σ v2 s0 s1) 3 (CI Γ (kS K) σ) 0 0 55 [(0, .ref (gA Γ 300)), (2, .int v2)] [.int s1, .int s0] := by
  unfold C_shams_j55
  refine g_ior (pc := 55) hk dX0_shams_55 ?_
  refine g_istore_nN (pc := 56) (i := 1) (ls' := fun x10 => [(1, .int x10), (0, .ref (gA Γ 300)), (2, .int v2)]) hk dX0_shams_56 rfl (by decide) (fun _ => rfl) (fun x10 => ?_)
  refine g_iincN (pc := 57) (v := 1) (ls' := fun x11 => [(2, .int x11), (1, .int x10), (0, .ref (gA Γ 300))]) hk dX0_shams_57 rfl rfl (by decide) (fun _ => rfl) (fun x11 => ?_)
  refine g_goto (pc := 60) (tgt := 4) hk dX0_shams_60 rfl ?_
  refine g_sub (ls' := [(0, .ref (gA Γ 300)), (1, .int x10), (2, .int x11)]) [2, 1, 0] rfl ?_
  exact hk4 σ x10 x11
theorem cm_shams_l4 {K : KT} {Γ : CG} (hk : KOK K cX0_shams 3 RX0 rm_c_shams (some .int)) (hK : CK Γ (kS K)) (hΓ : DTX Γ)  : ∀ (n : Nat) (σ : CS) (v1 : Int32) (v2 : Int32), GGo K (cQ K Γ rm_c_shams (fun r : Int32 × CS => (some (Value.int r.1), r.2))) (C_shams_l4 n σ v1 v2) 3 (CI Γ (kS K) σ) 0 0 4 [(0, .ref (gA Γ 300)), (1, .int v1), (2, .int v2)] [] := by
  intro n
  induction n with
  | zero =>
    intro σ v1 v2
    unfold C_shams_l4
    exact g_none
  | succ n ih =>
    intro σ v1 v2
    unfold C_shams_l4
    refine g_iload_n (pc := 4) hk dX0_shams_4 rfl ?_
    refine g_aload_n (pc := 5) hk dX0_shams_5 rfl ?_
    refine c_getR (pc := 6) hk hK cr_0 cf_0 dX0_shams_6 ?_
    refine c_getS (pc := 9) (w := 0) hk hK (by decide) sr_0 sn_0 dX0_shams_9 ?_
    refine g_iconst (pc := 12) (v := 0) hk dX0_shams_12 rfl ?_
    refine c_ialdC (pc := 13) (k := 0) (j := 0) hk hK cav_0 rfl rfl dX0_shams_13 ?_
    refine g_icmp_ge (pc := 14) (tgt := 63) hk dX0_shams_14 rfl ?_ ?_
    · refine g_iload_n (pc := 63) hk dX0_shams_63 rfl ?_
      exact c_iret (pc := 64) hk hK rfl dX0_shams_64 rfl rfl
    · refine g_iload_n (pc := 17) hk dX0_shams_17 rfl ?_
      refine g_aload_n (pc := 18) hk dX0_shams_18 rfl ?_
      refine g_iload_n (pc := 19) hk dX0_shams_19 rfl ?_
      refine g_aload_n (pc := 20) hk dX0_shams_20 rfl ?_
      refine g_iload_n (pc := 21) hk dX0_shams_21 rfl ?_
      refine g_ob2 (fun r1 σ3 h2 => ?_)
      refine c_callV (pc := 22) hk hK (rec_X hK) [.int v2] [.int v2, .ref (gA Γ 300), .int v1] (cm_shamOf Γ hΓ σ v2 (r1, σ3) h2) (lw_V q1183 q1185 qs41 q124 q1186) hv_c_shamOf rfl rfl rfl dX0_shams_22 rfl rfl ⟨rfl, rfl⟩ ?_
      refine g_ob2 (fun r4 σ6 h5 => ?_)
      refine c_callV (pc := 25) hk hK (rec_X hK) [.int v2, .int r1] [.int v1] (cm_ratesBy Γ hΓ σ3 v2 r1 (r4, σ6) h5) (lw_V q1187 q1189 qs42 q124 q1190) hv_c_ratesBy rfl rfl rfl dX0_shams_25 rfl rfl ⟨rfl, rfl⟩ ?_
      refine g_aload_n (pc := 28) hk dX0_shams_28 rfl ?_
      refine g_iload_n (pc := 29) hk dX0_shams_29 rfl ?_
      refine g_aload_n (pc := 30) hk dX0_shams_30 rfl ?_
      refine c_getR (pc := 31) hk hK cr_0 cf_0 dX0_shams_31 ?_
      refine c_getS (pc := 34) (w := 0) hk hK (by decide) sr_1 sn_1 dX0_shams_34 ?_
      refine g_bipush (pc := 37) (v := 11) hk dX0_shams_37 rfl ?_
      refine g_iload_n (pc := 39) hk dX0_shams_39 rfl ?_
      refine g_iadd (pc := 40) hk dX0_shams_40 ?_
      refine c_iald (pc := 41) (k := 1) hk hK cav_1 dX0_shams_41 ?_
      refine g_ob2 (fun r7 σ9 h8 => ?_)
      refine c_callV (pc := 42) hk hK (rec_X hK) [.int v2, .int (cA σ6 1 (11 + v2).toNatClampNeg)] [.int r4, .int v1] (cm_ratesBy Γ hΓ σ6 v2 (cA σ6 1 (11 + v2).toNatClampNeg) (r7, σ9) h8) (lw_V q1187 q1189 qs42 q124 q1190) hv_c_ratesBy rfl rfl rfl dX0_shams_42 rfl rfl ⟨rfl, rfl⟩ ?_
      refine g_icmp_ge (pc := 45) (tgt := 54) hk dX0_shams_45 rfl ?_ ?_
      · refine g_iconst (pc := 54) (v := 0) hk dX0_shams_54 rfl ?_
        refine g_sub (ls' := [(0, .ref (gA Γ 300)), (2, .int v2)]) [0, 2] rfl ?_
        exact cm_shams_j55 hk hK hΓ σ9 v2 v1 0 (C_shams_l4 n) ih
      · refine g_iconst (pc := 48) (v := 1) hk dX0_shams_48 rfl ?_
        refine g_iload_n (pc := 49) hk dX0_shams_49 rfl ?_
        refine g_ishl (pc := 50) hk dX0_shams_50 ?_
        refine g_goto (pc := 51) (tgt := 55) hk dX0_shams_51 rfl ?_
        refine g_sub (ls' := [(0, .ref (gA Γ 300)), (2, .int v2)]) [0, 2] rfl ?_
        exact cm_shams_j55 hk hK hΓ σ9 v2 v1 (i_shl 1 v2) (C_shams_l4 n) ih
theorem cm_shams (Γ : CG) (hΓ : DTX Γ) (σ : CS)   (r : Int32 × CS) (h : C_shams σ = some r) : CMet Γ yX0_shams cX0_shams 3 (some .int) rm_c_shams [.ref (gA Γ 300)] σ (some (.int r.1)) r.2 := by
  refine c_met (view := (fun r : Int32 × CS => (some (Value.int r.1), r.2))) (own := RX0) rfl (by decide) rfl (ls0 := [(0, .ref (gA Γ 300))]) rfl (fun K hk hK => ?_) r h
  unfold C_shams
  refine g_iconst (pc := 0) (v := 0) hk dX0_shams_0 rfl ?_
  refine g_istore_n (pc := 1) (i := 1) (ls' := [(1, .int 0), (0, .ref (gA Γ 300))]) hk dX0_shams_1 rfl (by decide) rfl ?_
  refine g_iconst (pc := 2) (v := 0) hk dX0_shams_2 rfl ?_
  refine g_istore_n (pc := 3) (i := 2) (ls' := [(2, .int 0), (1, .int 0), (0, .ref (gA Γ 300))]) hk dX0_shams_3 rfl (by decide) rfl ?_
  refine g_sub (ls' := [(0, .ref (gA Γ 300)), (1, .int 0), (2, .int 0)]) [2, 1, 0] rfl ?_
  exact cm_shams_l4 hk hK hΓ FU σ 0 0
def rm_c_isLaw : Room := { frames := 331, cells := 0, slots := 0, locals := 20026 }
theorem hv_c_isLaw : yX0_isLaw.cls = RX0 ∧ yX0_isLaw.cls ≠ "java/lang/invoke/MethodHandle" ∧ yX0_isLaw.cls ≠ "java/lang/invoke/VarHandle" ∧ (parseMethodDescriptor yX0_isLaw.desc).map (fun d => d.parameters.length) = some 1 := by decide +kernel
theorem cm_isLaw_l2 {K : KT} {Γ : CG} (hk : KOK K cX0_isLaw 3 RX0 rm_c_isLaw (some .boolean)) (hK : CK Γ (kS K)) (hΓ : DTX Γ) (q1 : Nat) : ∀ (n : Nat) (σ : CS) (v2 : Int32), GGo K (cQ K Γ rm_c_isLaw (fun r : Int32 × CS => (some (Value.int r.1), r.2))) (C_isLaw_l2 q1 n σ v2) 3 (CI Γ (kS K) σ) 0 0 2 [(0, .ref (gA Γ 300)), (1, .ref q1), (2, .int v2)] [] := by
  intro n
  induction n with
  | zero =>
    intro σ v2
    unfold C_isLaw_l2
    exact g_none
  | succ n ih =>
    intro σ v2
    unfold C_isLaw_l2
    refine g_iload_n (pc := 2) hk dX0_isLaw_2 rfl ?_
    refine g_aload_n (pc := 3) hk dX0_isLaw_3 rfl ?_
    refine c_getR (pc := 4) hk hK cr_0 cf_0 dX0_isLaw_4 ?_
    refine c_getS (pc := 7) (w := 0) hk hK (by decide) sr_0 sn_0 dX0_isLaw_7 ?_
    refine g_iconst (pc := 10) (v := 5) hk dX0_isLaw_10 rfl ?_
    refine c_ialdC (pc := 11) (k := 0) (j := 5) hk hK cav_0 rfl rfl dX0_isLaw_11 ?_
    refine g_icmp_ge (pc := 12) (tgt := 61) hk dX0_isLaw_12 rfl ?_ ?_
    · refine g_iconst (pc := 61) (v := 1) hk dX0_isLaw_61 rfl ?_
      exact c_zret (pc := 62) hk hK rfl rfl dX0_isLaw_62 rfl rfl
    · refine g_aload_n (pc := 15) hk dX0_isLaw_15 rfl ?_
      refine g_aload_n (pc := 16) hk dX0_isLaw_16 rfl ?_
      refine g_aload_n (pc := 17) hk dX0_isLaw_17 rfl ?_
      refine c_getR (pc := 18) hk hK cr_0 cf_0 dX0_isLaw_18 ?_
      refine c_getS (pc := 21) (w := 0) hk hK (by decide) sr_1 sn_1 dX0_isLaw_21 ?_
      refine g_aload_n (pc := 24) hk dX0_isLaw_24 rfl ?_
      refine c_getR (pc := 25) hk hK cr_0 cf_0 dX0_isLaw_25 ?_
      refine c_getS (pc := 28) (w := 0) hk hK (by decide) sr_8 sn_8 dX0_isLaw_28 ?_
      refine g_iload_n (pc := 31) hk dX0_isLaw_31 rfl ?_
      refine c_aald (pc := 32) (w := 0) (j := 8) hk hK (by decide) (by decide) (by decide) rfl dX0_isLaw_32 (fun h1 => ?_)
      refine g_iconst (pc := 33) (v := 0) hk dX0_isLaw_33 rfl ?_
      refine c_ialdC (pc := 34) (k := (40 + v2.toNatClampNeg)) (j := 0) hk hK (cav_row8 (w := 0) (by decide) h1) rfl rfl dX0_isLaw_34 ?_
      refine g_iconst (pc := 35) (v := 2) hk dX0_isLaw_35 rfl ?_
      refine g_ob2 (fun r2 σ4 h3 => ?_)
      refine c_callV (pc := 36) hk hK (rec_X hK) [.ref q1, .ref (gA Γ 1), .int (cA σ (40 + v2.toNatClampNeg) 0), .int 2] [] (cm_says Γ hΓ σ q1 1 (cA σ (40 + v2.toNatClampNeg) 0) 2 cav_1 (r2, σ4) h3) (lw_V q898 q900 qs28 q124 q901) hv_c_says rfl rfl rfl dX0_isLaw_36 rfl rfl ⟨rfl, rfl⟩ ?_
      refine g_aload_n (pc := 39) hk dX0_isLaw_39 rfl ?_
      refine c_getR (pc := 40) hk hK cr_0 cf_0 dX0_isLaw_40 ?_
      refine c_getS (pc := 43) (w := 0) hk hK (by decide) sr_8 sn_8 dX0_isLaw_43 ?_
      refine g_iload_n (pc := 46) hk dX0_isLaw_46 rfl ?_
      refine c_aald (pc := 47) (w := 0) (j := 8) hk hK (by decide) (by decide) (by decide) rfl dX0_isLaw_47 (fun h5 => ?_)
      refine g_iconst (pc := 48) (v := 1) hk dX0_isLaw_48 rfl ?_
      refine c_ialdC (pc := 49) (k := (40 + v2.toNatClampNeg)) (j := 1) hk hK (cav_row8 (w := 0) (by decide) h5) rfl rfl dX0_isLaw_49 ?_
      refine g_icmp_eq (pc := 50) (tgt := 55) hk dX0_isLaw_50 rfl ?_ ?_
      · refine g_iincN (pc := 55) (v := 1) (ls' := fun x6 => [(2, .int x6), (0, .ref (gA Γ 300)), (1, .ref q1)]) hk dX0_isLaw_55 rfl rfl (by decide) (fun _ => rfl) (fun x6 => ?_)
        refine g_goto (pc := 58) (tgt := 2) hk dX0_isLaw_58 rfl ?_
        refine g_sub (ls' := [(0, .ref (gA Γ 300)), (1, .ref q1), (2, .int x6)]) [1, 2, 0] rfl ?_
        exact ih σ4 x6
      · refine g_iconst (pc := 53) (v := 0) hk dX0_isLaw_53 rfl ?_
        exact c_zret (pc := 54) hk hK rfl rfl dX0_isLaw_54 rfl rfl
theorem cm_isLaw (Γ : CG) (hΓ : DTX Γ) (σ : CS) (q1 : Nat)  (r : Int32 × CS) (h : C_isLaw σ q1 = some r) : CMet Γ yX0_isLaw cX0_isLaw 3 (some .boolean) rm_c_isLaw [.ref (gA Γ 300), .ref q1] σ (some (.int r.1)) r.2 := by
  refine c_met (view := (fun r : Int32 × CS => (some (Value.int r.1), r.2))) (own := RX0) rfl (by decide) rfl (ls0 := [(0, .ref (gA Γ 300)), (1, .ref q1)]) rfl (fun K hk hK => ?_) r h
  unfold C_isLaw
  refine g_iconst (pc := 0) (v := 0) hk dX0_isLaw_0 rfl ?_
  refine g_istore_n (pc := 1) (i := 2) (ls' := [(2, .int 0), (0, .ref (gA Γ 300)), (1, .ref q1)]) hk dX0_isLaw_1 rfl (by decide) rfl ?_
  refine g_sub (ls' := [(0, .ref (gA Γ 300)), (1, .ref q1), (2, .int 0)]) [1, 2, 0] rfl ?_
  exact cm_isLaw_l2 hk hK hΓ q1 FU σ 0
def rm_c_law : Room := { frames := 332, cells := 0, slots := 0, locals := 20048 }
theorem hv_c_law : yX0_law.cls = RX0 ∧ yX0_law.cls ≠ "java/lang/invoke/MethodHandle" ∧ yX0_law.cls ≠ "java/lang/invoke/VarHandle" ∧ (parseMethodDescriptor yX0_law.desc).map (fun d => d.parameters.length) = some 0 := by decide +kernel
theorem cm_law_j41 {K : KT} {Γ : CG} (hk : KOK K cX0_law 3 RX0 rm_c_law (some .int)) (hK : CK Γ (kS K)) (hΓ : DTX Γ) (σ : CS) (v2 : Int32) (s0 : Int32) (s1 : Int32) (k4 : CS → Int32 → Int32 → Option (Int32 × CS)) (hk4 : ∀ (σ : CS) (v1 : Int32) (v2 : Int32), GGo K (cQ K Γ rm_c_law (fun r : Int32 × CS => (some (Value.int r.1), r.2))) (k4 σ v1 v2) 3 (CI Γ (kS K) σ) 0 0 4 [(0, .ref (gA Γ 300)), (1, .int v1), (2, .int v2)] []) : GGo K (cQ K Γ rm_c_law (fun r : Int32 × CS => (some (Value.int r.1), r.2))) (C_law_j41 k4 σ v2 s0 s1) 3 (CI Γ (kS K) σ) 0 0 41 [(0, .ref (gA Γ 300)), (2, .int v2)] [.int s1, .int s0] := by
  unfold C_law_j41
  refine g_ior (pc := 41) hk dX0_law_41 ?_
  refine g_istore_nN (pc := 42) (i := 1) (ls' := fun x7 => [(1, .int x7), (0, .ref (gA Γ 300)), (2, .int v2)]) hk dX0_law_42 rfl (by decide) (fun _ => rfl) (fun x7 => ?_)
  refine g_iincN (pc := 43) (v := 1) (ls' := fun x8 => [(2, .int x8), (1, .int x7), (0, .ref (gA Γ 300))]) hk dX0_law_43 rfl rfl (by decide) (fun _ => rfl) (fun x8 => ?_)
  refine g_goto (pc := 46) (tgt := 4) hk dX0_law_46 rfl ?_
  refine g_sub (ls' := [(0, .ref (gA Γ 300)), (1, .int x7), (2, .int x8)]) [2, 1, 0] rfl ?_
  exact hk4 σ x7 x8
theorem cm_law_l4 {K : KT} {Γ : CG} (hk : KOK K cX0_law 3 RX0 rm_c_law (some .int)) (hK : CK Γ (kS K)) (hΓ : DTX Γ)  : ∀ (n : Nat) (σ : CS) (v1 : Int32) (v2 : Int32), GGo K (cQ K Γ rm_c_law (fun r : Int32 × CS => (some (Value.int r.1), r.2))) (C_law_l4 n σ v1 v2) 3 (CI Γ (kS K) σ) 0 0 4 [(0, .ref (gA Γ 300)), (1, .int v1), (2, .int v2)] [] := by
  intro n
  induction n with
  | zero =>
    intro σ v1 v2
    unfold C_law_l4
    exact g_none
  | succ n ih =>
    intro σ v1 v2
    unfold C_law_l4
    refine g_iload_n (pc := 4) hk dX0_law_4 rfl ?_
    refine g_aload_n (pc := 5) hk dX0_law_5 rfl ?_
    refine c_getR (pc := 6) hk hK cr_0 cf_0 dX0_law_6 ?_
    refine c_getS (pc := 9) (w := 0) hk hK (by decide) sr_0 sn_0 dX0_law_9 ?_
    refine g_iconst (pc := 12) (v := 1) hk dX0_law_12 rfl ?_
    refine c_ialdC (pc := 13) (k := 0) (j := 1) hk hK cav_0 rfl rfl dX0_law_13 ?_
    refine g_icmp_ge (pc := 14) (tgt := 49) hk dX0_law_14 rfl ?_ ?_
    · refine g_iload_n (pc := 49) hk dX0_law_49 rfl ?_
      exact c_iret (pc := 50) hk hK rfl dX0_law_50 rfl rfl
    · refine g_iload_n (pc := 17) hk dX0_law_17 rfl ?_
      refine g_aload_n (pc := 18) hk dX0_law_18 rfl ?_
      refine g_aload_n (pc := 19) hk dX0_law_19 rfl ?_
      refine c_getR (pc := 20) hk hK cr_0 cf_0 dX0_law_20 ?_
      refine c_getS (pc := 23) (w := 0) hk hK (by decide) sr_10 sn_10 dX0_law_23 ?_
      refine g_iload_n (pc := 26) hk dX0_law_26 rfl ?_
      refine c_aaldT (pc := 27) (w := 0) hk hK (by decide) dX0_law_27 (fun q1 h2 h3 => ?_)
      refine g_ob2 (fun r4 σ6 h5 => ?_)
      refine c_callV (pc := 28) hk hK (rec_X hK) [.ref q1] [.int v1] (cm_isLaw Γ hΓ σ q1 (r4, σ6) h5) (lw_V q1324 q1326 qs54 q124 q1327) hv_c_isLaw rfl rfl rfl dX0_law_28 rfl rfl ⟨rfl, rfl⟩ ?_
      refine g_if_eq (pc := 31) (tgt := 40) hk dX0_law_31 rfl ?_ ?_
      · refine g_iconst (pc := 40) (v := 0) hk dX0_law_40 rfl ?_
        refine g_sub (ls' := [(0, .ref (gA Γ 300)), (2, .int v2)]) [0, 2] rfl ?_
        exact cm_law_j41 hk hK hΓ σ6 v2 v1 0 (C_law_l4 n) ih
      · refine g_iconst (pc := 34) (v := 1) hk dX0_law_34 rfl ?_
        refine g_iload_n (pc := 35) hk dX0_law_35 rfl ?_
        refine g_ishl (pc := 36) hk dX0_law_36 ?_
        refine g_goto (pc := 37) (tgt := 41) hk dX0_law_37 rfl ?_
        refine g_sub (ls' := [(0, .ref (gA Γ 300)), (2, .int v2)]) [0, 2] rfl ?_
        exact cm_law_j41 hk hK hΓ σ6 v2 v1 (i_shl 1 v2) (C_law_l4 n) ih
theorem cm_law (Γ : CG) (hΓ : DTX Γ) (σ : CS)   (r : Int32 × CS) (h : C_law σ = some r) : CMet Γ yX0_law cX0_law 3 (some .int) rm_c_law [.ref (gA Γ 300)] σ (some (.int r.1)) r.2 := by
  refine c_met (view := (fun r : Int32 × CS => (some (Value.int r.1), r.2))) (own := RX0) rfl (by decide) rfl (ls0 := [(0, .ref (gA Γ 300))]) rfl (fun K hk hK => ?_) r h
  unfold C_law
  refine g_iconst (pc := 0) (v := 0) hk dX0_law_0 rfl ?_
  refine g_istore_n (pc := 1) (i := 1) (ls' := [(1, .int 0), (0, .ref (gA Γ 300))]) hk dX0_law_1 rfl (by decide) rfl ?_
  refine g_iconst (pc := 2) (v := 0) hk dX0_law_2 rfl ?_
  refine g_istore_n (pc := 3) (i := 2) (ls' := [(2, .int 0), (1, .int 0), (0, .ref (gA Γ 300))]) hk dX0_law_3 rfl (by decide) rfl ?_
  refine g_sub (ls' := [(0, .ref (gA Γ 300)), (1, .int 0), (2, .int 0)]) [2, 1, 0] rfl ?_
  exact cm_law_l4 hk hK hΓ FU σ 0 0
