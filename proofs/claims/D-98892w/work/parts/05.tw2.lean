/-! WALKS of the twin's methods, by program (wip: gen.py) -/
set_option maxRecDepth 100000
def rm_summed : Room := { frames := 6, cells := 0, slots := 0, locals := 131 }
theorem hv_summed : yX2_summed.cls = RX2 ∧ yX2_summed.cls ≠ "java/lang/invoke/MethodHandle" ∧ yX2_summed.cls ≠ "java/lang/invoke/VarHandle" ∧ (parseMethodDescriptor yX2_summed.desc).map (fun d => d.parameters.length) = some 0 := by decide +kernel
theorem tm_summed_j33 {K : KT} {Γ : TG} (hk : KOK K cX2_summed 2 RX2 rm_summed (some .int)) (hK : va_K Γ.1 tcl (ttys Γ) (kS K)) (τ : TS) (s0 : Int32)  (k15 : TS → Option (Int32 × TS)) (hk15 : ∀ (τ : TS), GGo K (tQ K Γ (fun r : Int32 × TS => (some (Value.int r.1), r.2))) (k15 τ) 2 (TI Γ (kS K) τ) 0 0 15 [(0, .ref Γ.2.1)] []) : GGo K (tQ K Γ (fun r : Int32 × TS => (some (Value.int r.1), r.2))) (T_summed_j33 k15 τ s0) 2 (TI Γ (kS K) τ) 0 0 33 [(0, .ref Γ.2.1)] [.int s0] := by
  unfold T_summed_j33
  refine g_istore_n (pc := 33) (i := 1) (ls' := [(1, .int s0), (0, .ref Γ.2.1)]) hk dX2_summed_33 rfl (by decide) rfl ?_
  refine g_iload_n (pc := 34) hk dX2_summed_34 rfl ?_
  refine g_if_le (pc := 35) (tgt := 40) hk dX2_summed_35 rfl ?_ ?_
  · refine g_iload_n (pc := 40) hk dX2_summed_40 rfl ?_
    refine g_if_ne (pc := 41) (tgt := 47) hk dX2_summed_41 rfl ?_ ?_
    · refine g_aload_n (pc := 47) hk dX2_summed_47 rfl ?_
      refine g_ob1 (fun r7 h8 => ?_)
      refine t_callV (pc := 48) hk hK [] [] (tm_openNow Γ τ r7 h8) (lw_V q1596 q1598 qs72 q128 q1599) hv_openNow rfl rfl rfl dX2_summed_48 rfl rfl ?_
      refine g_if_lt (pc := 51) (tgt := 56) hk dX2_summed_51 rfl ?_ ?_
      · refine g_aload_n (pc := 56) hk dX2_summed_56 rfl ?_
        refine g_iconst (pc := 57) (v := 1) hk dX2_summed_57 rfl ?_
        refine g_ob1 (fun τ10 h9 => ?_)
        refine t_callV (pc := 58) hk hK [.int 1] [] (tm_settle Γ τ 1 τ10 h9) (lw_V q1615 q1617 qs76 q128 q1618) hv_settle rfl rfl rfl dX2_summed_58 rfl rfl ?_
        refine g_iconst (pc := 61) (v := 0) hk dX2_summed_61 rfl ?_
        exact t_iret (pc := 62) hk rfl dX2_summed_62
      · refine g_iconst (pc := 54) (v := 1) hk dX2_summed_54 rfl ?_
        exact t_iret (pc := 55) hk rfl dX2_summed_55
    · refine g_goto (pc := 44) (tgt := 15) hk dX2_summed_44 rfl ?_
      refine g_sub (ls' := [(0, .ref Γ.2.1)]) [1] rfl ?_
      exact hk15 τ
  · refine g_iload_n (pc := 38) hk dX2_summed_38 rfl ?_
    exact t_iret (pc := 39) hk rfl dX2_summed_39
theorem tm_summed_l15 {K : KT} {Γ : TG} (hk : KOK K cX2_summed 2 RX2 rm_summed (some .int)) (hK : va_K Γ.1 tcl (ttys Γ) (kS K))    : ∀ (n : Nat) (τ : TS), GGo K (tQ K Γ (fun r : Int32 × TS => (some (Value.int r.1), r.2))) (T_summed_l15 n τ) 2 (TI Γ (kS K) τ) 0 0 15 [(0, .ref Γ.2.1)] [] := by
  intro n
  induction n with
  | zero =>
    intro τ
    unfold T_summed_l15
    exact g_none
  | succ n ih =>
    intro τ
    unfold T_summed_l15
    refine g_aload_n (pc := 15) hk dX2_summed_15 rfl ?_
    refine t_getI (pc := 16) hk hK ti_18 tf_18 dX2_summed_16 ?_
    refine g_if_eq (pc := 19) (tgt := 29) hk dX2_summed_19 rfl ?_ ?_
    · refine g_aload_n (pc := 29) hk dX2_summed_29 rfl ?_
      refine g_ob2 (fun r4 τ6 h5 => ?_)
      refine t_callV (pc := 30) hk hK [] [] (tm_beginOne Γ τ (r4, τ6) h5) (lw_V q1631 q1633 qs80 q128 q1634) hv_beginOne rfl rfl rfl dX2_summed_30 rfl rfl ?_
      exact tm_summed_j33 hk hK τ6 r4 (T_summed_l15 n) ih
    · refine g_aload_n (pc := 22) hk dX2_summed_22 rfl ?_
      refine g_ob2 (fun r11 τ13 h12 => ?_)
      refine t_callV (pc := 23) hk hK [] [] (tm_behindOne Γ τ (r11, τ13) h12) (lw_V q1588 q1590 qs70 q128 q1591) hv_behindOne rfl rfl rfl dX2_summed_23 rfl rfl ?_
      refine g_goto (pc := 26) (tgt := 33) hk dX2_summed_26 rfl ?_
      exact tm_summed_j33 hk hK τ13 r11 (T_summed_l15 n) ih
theorem tm_summed (Γ : TG) (τ : TS)   (r : Int32 × TS) (h : T_summed τ = some r) : TMet Γ yX2_summed cX2_summed 2 (some .int) rm_summed [.ref Γ.2.1] τ (some (.int r.1)) r.2 := by
  refine t_met (view := (fun r : Int32 × TS => (some (Value.int r.1), r.2))) rfl rfl (ls0 := [(0, .ref Γ.2.1)]) rfl (fun K hk hK => ?_) r h
  unfold T_summed
  refine g_aload_n (pc := 0) hk dX2_summed_0 rfl ?_
  refine g_iconst (pc := 1) (v := 0) hk dX2_summed_1 rfl ?_
  refine t_putI (pc := 2) hk hK ti_16 tf_16 (Or.inl rfl) rfl dX2_summed_2 (fun τ1 => ?_)
  refine g_aload_n (pc := 5) hk dX2_summed_5 rfl ?_
  refine g_iconst (pc := 6) (v := 0) hk dX2_summed_6 rfl ?_
  refine t_putI (pc := 7) hk hK ti_17 tf_17 (Or.inl rfl) rfl dX2_summed_7 (fun τ2 => ?_)
  refine g_aload_n (pc := 10) hk dX2_summed_10 rfl ?_
  refine g_iconst (pc := 11) (v := 0) hk dX2_summed_11 rfl ?_
  refine t_putI (pc := 12) hk hK ti_18 tf_18 (Or.inr ⟨rfl, rfl⟩) rfl dX2_summed_12 (fun τ3 => ?_)
  exact tm_summed_l15 hk hK FU τ3
def rm_lawClause : Room := { frames := 7, cells := 0, slots := 0, locals := 152 }
theorem hv_lawClause : yX2_lawClause.cls = RX2 ∧ yX2_lawClause.cls ≠ "java/lang/invoke/MethodHandle" ∧ yX2_lawClause.cls ≠ "java/lang/invoke/VarHandle" ∧ (parseMethodDescriptor yX2_lawClause.desc).map (fun d => d.parameters.length) = some 1 := by decide +kernel
theorem tm_lawClause (Γ : TG) (τ : TS) (v1 : Int32)  (r : Int32 × TS) (h : T_lawClause τ v1 = some r) : TMet Γ yX2_lawClause cX2_lawClause 3 (some .int) rm_lawClause [.ref Γ.2.1, .int v1] τ (some (.int r.1)) r.2 := by
  refine t_met (view := (fun r : Int32 × TS => (some (Value.int r.1), r.2))) rfl rfl (ls0 := [(0, .ref Γ.2.1), (1, .int v1)]) rfl (fun K hk hK => ?_) r h
  unfold T_lawClause
  refine g_aload_n (pc := 0) hk dX2_lawClause_0 rfl ?_
  refine t_getR (pc := 1) hk hK tr_2 tf_2 dX2_lawClause_1 ?_
  refine g_iload_n (pc := 4) hk dX2_lawClause_4 rfl ?_
  refine g_iconst (pc := 5) (v := 1) hk dX2_lawClause_5 rfl ?_
  refine g_iadd (pc := 6) hk dX2_lawClause_6 ?_
  refine g_aload_n (pc := 7) hk dX2_lawClause_7 rfl ?_
  refine t_getI (pc := 8) hk hK ti_13 tf_13 dX2_lawClause_8 ?_
  refine t_iast (pc := 11) hk hK ta_2 dX2_lawClause_11 (fun τ1 => ?_)
  refine g_aload_n (pc := 12) hk dX2_lawClause_12 rfl ?_
  refine g_ob2 (fun r2 τ4 h3 => ?_)
  refine t_callV (pc := 13) hk hK [] [] (tm_summed Γ τ1 (r2, τ4) h3) (lw_V q1584 q1586 qs69 q128 q1587) hv_summed rfl rfl rfl dX2_lawClause_13 rfl rfl ?_
  refine g_istore_n (pc := 16) (i := 2) (ls' := [(2, .int r2), (0, .ref Γ.2.1), (1, .int v1)]) hk dX2_lawClause_16 rfl (by decide) rfl ?_
  refine g_aload_n (pc := 17) hk dX2_lawClause_17 rfl ?_
  refine t_getR (pc := 18) hk hK tr_2 tf_2 dX2_lawClause_18 ?_
  refine g_iload_n (pc := 21) hk dX2_lawClause_21 rfl ?_
  refine g_iconst (pc := 22) (v := 2) hk dX2_lawClause_22 rfl ?_
  refine g_iadd (pc := 23) hk dX2_lawClause_23 ?_
  refine g_aload_n (pc := 24) hk dX2_lawClause_24 rfl ?_
  refine t_getI (pc := 25) hk hK ti_13 tf_13 dX2_lawClause_25 ?_
  refine t_iast (pc := 28) hk hK ta_2 dX2_lawClause_28 (fun τ5 => ?_)
  refine g_iload_n (pc := 29) hk dX2_lawClause_29 rfl ?_
  exact t_iret (pc := 30) hk rfl dX2_lawClause_30
def rm_body : Room := { frames := 8, cells := 0, slots := 0, locals := 174 }
theorem hv_body : yX2_body.cls = RX2 ∧ yX2_body.cls ≠ "java/lang/invoke/MethodHandle" ∧ yX2_body.cls ≠ "java/lang/invoke/VarHandle" ∧ (parseMethodDescriptor yX2_body.desc).map (fun d => d.parameters.length) = some 2 := by decide +kernel
theorem tm_body (Γ : TG) (τ : TS) (v1 : Int32) (v2 : Int32)  (r : Int32 × TS) (h : T_body τ v1 v2 = some r) : TMet Γ yX2_body cX2_body 3 (some .int) rm_body [.ref Γ.2.1, .int v1, .int v2] τ (some (.int r.1)) r.2 := by
  refine t_met (view := (fun r : Int32 × TS => (some (Value.int r.1), r.2))) rfl rfl (ls0 := [(0, .ref Γ.2.1), (1, .int v1), (2, .int v2)]) rfl (fun K hk hK => ?_) r h
  unfold T_body
  refine g_iload_n (pc := 0) hk dX2_body_0 rfl ?_
  refine g_if (fun h1 => ?_) (fun n2 => ?_)
  · refine g_tabIn (pc := 1) (tgt := 36) hk 3 h1 dX2_body_1 (by decide) (by decide) rfl rfl ?_
    refine g_aload_n (pc := 36) hk dX2_body_36 rfl ?_
    refine g_iload_n (pc := 37) hk dX2_body_37 rfl ?_
    refine g_bipush (pc := 38) (v := 99) hk dX2_body_38 rfl ?_
    refine g_bipush (pc := 40) (v := 110) hk dX2_body_40 rfl ?_
    refine g_bipush (pc := 42) (v := 101) hk dX2_body_42 rfl ?_
    refine g_bipush (pc := 44) (v := 114) hk dX2_body_44 rfl ?_
    refine g_bipush (pc := 46) (v := 118) hk dX2_body_46 rfl ?_
    refine g_bipush (pc := 48) (v := 101) hk dX2_body_48 rfl ?_
    refine g_ob1 (fun r3 h4 => ?_)
    refine t_callS (pc := 50) hk hK [.int 110, .int 101, .int 114, .int 118, .int 101] [.int 99, .int v2, .ref Γ.2.1] (tm_w5 Γ τ 110 101 114 118 101 r3 h4) (lw_S q1546 q1547 q128 q1548) hs_w5 rfl rfl rfl dX2_body_50 rfl rfl ?_
    refine g_bipush (pc := 53) (v := 9) hk dX2_body_53 rfl ?_
    refine g_ob2 (fun r5 τ7 h6 => ?_)
    refine t_callV (pc := 55) hk hK [.int v2, .int 99, .long r3, .int 9] [] (tm_pair Γ τ v2 99 r3 9 (r5, τ7) h6) (lw_V q1572 q1574 qs66 q128 q1575) hv_pair rfl rfl rfl dX2_body_55 rfl rfl ?_
    exact t_iret (pc := 58) hk rfl dX2_body_58
  · refine g_if (fun h8 => ?_) (fun n9 => ?_)
    · refine g_tabIn (pc := 1) (tgt := 59) hk 4 h8 dX2_body_1 (by decide) (by decide) rfl rfl ?_
      refine g_aload_n (pc := 59) hk dX2_body_59 rfl ?_
      refine g_iload_n (pc := 60) hk dX2_body_60 rfl ?_
      refine g_bipush (pc := 61) (v := 7) hk dX2_body_61 rfl ?_
      refine g_bipush (pc := 63) (v := 116) hk dX2_body_63 rfl ?_
      refine g_bipush (pc := 65) (v := 111) hk dX2_body_65 rfl ?_
      refine g_ob1 (fun r10 h11 => ?_)
      refine t_callS (pc := 67) hk hK [.int 116, .int 111] [.int 7, .int v2, .ref Γ.2.1] (tm_w2 Γ τ 116 111 r10 h11) (lw_S q1555 q1556 q128 q1557) hs_w2 rfl rfl rfl dX2_body_67 rfl rfl ?_
      refine g_bipush (pc := 70) (v := 7) hk dX2_body_70 rfl ?_
      refine g_ob2 (fun r12 τ14 h13 => ?_)
      refine t_callV (pc := 72) hk hK [.int v2, .int 7, .long r10, .int 7] [] (tm_pair Γ τ v2 7 r10 7 (r12, τ14) h13) (lw_V q1572 q1574 qs66 q128 q1575) hv_pair rfl rfl rfl dX2_body_72 rfl rfl ?_
      exact t_iret (pc := 75) hk rfl dX2_body_75
    · refine g_if (fun h15 => ?_) (fun n16 => ?_)
      · refine g_tabIn (pc := 1) (tgt := 76) hk 5 h15 dX2_body_1 (by decide) (by decide) rfl rfl ?_
        refine g_aload_n (pc := 76) hk dX2_body_76 rfl ?_
        refine g_iload_n (pc := 77) hk dX2_body_77 rfl ?_
        refine g_iconst (pc := 78) (v := 1) hk dX2_body_78 rfl ?_
        refine g_iadd (pc := 79) hk dX2_body_79 ?_
        refine g_iconst (pc := 80) (v := 0) hk dX2_body_80 rfl ?_
        refine g_bipush (pc := 81) (v := 7) hk dX2_body_81 rfl ?_
        refine g_ob2 (fun r17 τ19 h18 => ?_)
        refine t_callV (pc := 83) hk hK [.int (v2 + 1), .int 0, .int 7] [] (tm_figure Γ τ (v2 + 1) 0 7 (r17, τ19) h18) (lw_V q1576 q1578 qs67 q128 q1579) hv_figure rfl rfl rfl dX2_body_83 rfl rfl ?_
        exact t_iret (pc := 86) hk rfl dX2_body_86
      · refine g_if (fun h20 => ?_) (fun n21 => ?_)
        · refine g_tabIn (pc := 1) (tgt := 87) hk 6 h20 dX2_body_1 (by decide) (by decide) rfl rfl ?_
          refine g_aload_n (pc := 87) hk dX2_body_87 rfl ?_
          refine g_iload_n (pc := 88) hk dX2_body_88 rfl ?_
          refine g_iconst (pc := 89) (v := 1) hk dX2_body_89 rfl ?_
          refine g_iadd (pc := 90) hk dX2_body_90 ?_
          refine g_iconst (pc := 91) (v := 0) hk dX2_body_91 rfl ?_
          refine g_bipush (pc := 92) (v := 7) hk dX2_body_92 rfl ?_
          refine g_ob2 (fun r22 τ24 h23 => ?_)
          refine t_callV (pc := 94) hk hK [.int (v2 + 1), .int 0, .int 7] [] (tm_figure Γ τ (v2 + 1) 0 7 (r22, τ24) h23) (lw_V q1576 q1578 qs67 q128 q1579) hv_figure rfl rfl rfl dX2_body_94 rfl rfl ?_
          exact t_iret (pc := 97) hk rfl dX2_body_97
        · refine g_if (fun h25 => ?_) (fun n26 => ?_)
          · refine g_tabIn (pc := 1) (tgt := 98) hk 7 h25 dX2_body_1 (by decide) (by decide) rfl rfl ?_
            refine g_aload_n (pc := 98) hk dX2_body_98 rfl ?_
            refine g_iload_n (pc := 99) hk dX2_body_99 rfl ?_
            refine g_iconst (pc := 100) (v := 1) hk dX2_body_100 rfl ?_
            refine g_iadd (pc := 101) hk dX2_body_101 ?_
            refine g_iconst (pc := 102) (v := 1) hk dX2_body_102 rfl ?_
            refine g_bipush (pc := 103) (v := 60) hk dX2_body_103 rfl ?_
            refine g_ob2 (fun r27 τ29 h28 => ?_)
            refine t_callV (pc := 105) hk hK [.int (v2 + 1), .int 1, .int 60] [] (tm_figure Γ τ (v2 + 1) 1 60 (r27, τ29) h28) (lw_V q1576 q1578 qs67 q128 q1579) hv_figure rfl rfl rfl dX2_body_105 rfl rfl ?_
            exact t_iret (pc := 108) hk rfl dX2_body_108
          · refine g_tabOut (pc := 1) (tgt := 109) hk dX2_body_1 (by have z3 := ne_toInt n2 (z := 3) rfl; have z4 := ne_toInt n9 (z := 4) rfl; have z5 := ne_toInt n16 (z := 5) rfl; have z6 := ne_toInt n21 (z := 6) rfl; have z7 := ne_toInt n26 (z := 7) rfl; omega) rfl ?_
            refine g_aload_n (pc := 109) hk dX2_body_109 rfl ?_
            refine g_iload_n (pc := 110) hk dX2_body_110 rfl ?_
            refine g_ob2 (fun r30 τ32 h31 => ?_)
            refine t_callV (pc := 111) hk hK [.int v2] [] (tm_lawClause Γ τ v2 (r30, τ32) h31) (lw_V q1580 q1582 qs68 q128 q1583) hv_lawClause rfl rfl rfl dX2_body_111 rfl rfl ?_
            exact t_iret (pc := 114) hk rfl dX2_body_114
def rm_clause : Room := { frames := 9, cells := 0, slots := 0, locals := 196 }
theorem hv_clause : yX2_clause.cls = RX2 ∧ yX2_clause.cls ≠ "java/lang/invoke/MethodHandle" ∧ yX2_clause.cls ≠ "java/lang/invoke/VarHandle" ∧ (parseMethodDescriptor yX2_clause.desc).map (fun d => d.parameters.length) = some 0 := by decide +kernel
theorem tm_clause_j65 {K : KT} {Γ : TG} (hk : KOK K cX2_clause 5 RX2 rm_clause (some .int)) (hK : va_K Γ.1 tcl (ttys Γ) (kS K)) (τ : TS) (v1 : Int32) (v2 : Int32)   : GGo K (tQ K Γ (fun r : Int32 × TS => (some (Value.int r.1), r.2))) (T_clause_j65 τ v1 v2) 5 (TI Γ (kS K) τ) 0 0 65 [(0, .ref Γ.2.1), (1, .int v1), (2, .int v2)] [] := by
  unfold T_clause_j65
  refine g_aload_n (pc := 65) hk dX2_clause_65 rfl ?_
  refine g_iload_n (pc := 66) hk dX2_clause_66 rfl ?_
  refine t_putI (pc := 67) hk hK ti_14 tf_14 (Or.inl rfl) rfl dX2_clause_67 (fun τ4 => ?_)
  refine g_aload_n (pc := 70) hk dX2_clause_70 rfl ?_
  refine g_ob1 (fun τ6 h5 => ?_)
  refine t_callV (pc := 71) hk hK [] [] (tm_nextToken Γ τ4 τ6 h5) (lw_V q1519 q1521 qs60 q128 q1522) hv_nextToken rfl rfl rfl dX2_clause_71 rfl rfl ?_
  refine g_aload_n (pc := 74) hk dX2_clause_74 rfl ?_
  refine t_getI (pc := 75) hk hK ti_12 tf_12 dX2_clause_75 ?_
  refine g_iconst (pc := 78) (v := 1) hk dX2_clause_78 rfl ?_
  refine g_iadd (pc := 79) hk dX2_clause_79 ?_
  refine g_iconst (pc := 80) (v := 3) hk dX2_clause_80 rfl ?_
  refine g_iload_n (pc := 81) hk dX2_clause_81 rfl ?_
  refine g_imul (pc := 82) hk dX2_clause_82 ?_
  refine g_iadd (pc := 83) hk dX2_clause_83 ?_
  refine g_istore_nN (pc := 84) (i := 3) (ls' := fun x7 => [(3, .int x7), (0, .ref Γ.2.1), (1, .int v1), (2, .int v2)]) hk dX2_clause_84 rfl (by decide) (fun _ => rfl) (fun x7 => ?_)
  refine g_aload_n (pc := 85) hk dX2_clause_85 rfl ?_
  refine t_getR (pc := 86) hk hK tr_2 tf_2 dX2_clause_86 ?_
  refine g_iload_n (pc := 89) hk dX2_clause_89 rfl ?_
  refine g_iload_n (pc := 90) hk dX2_clause_90 rfl ?_
  refine t_iast (pc := 91) hk hK ta_2 dX2_clause_91 (fun τ8 => ?_)
  refine g_aload_n (pc := 92) hk dX2_clause_92 rfl ?_
  refine g_iload_n (pc := 93) hk dX2_clause_93 rfl ?_
  refine g_iload_n (pc := 94) hk dX2_clause_94 rfl ?_
  refine g_ob2 (fun r9 τ11 h10 => ?_)
  refine t_callV (pc := 95) hk hK [.int v1, .int x7] [] (tm_body Γ τ8 v1 x7 (r9, τ11) h10) (lw_V q1568 q1570 qs65 q128 q1571) hv_body rfl rfl rfl dX2_clause_95 rfl rfl ?_
  refine g_istore (pc := 98) (i := 4) (ls' := [(4, .int r9), (3, .int x7), (0, .ref Γ.2.1), (1, .int v1), (2, .int v2)]) hk dX2_clause_98 (by decide) rfl ?_
  refine g_iload (pc := 100) hk dX2_clause_100 rfl ?_
  refine g_if_eq (pc := 102) (tgt := 108) hk dX2_clause_102 rfl ?_ ?_
  · refine g_aload_n (pc := 108) hk dX2_clause_108 rfl ?_
    refine t_getR (pc := 109) hk hK tr_2 tf_2 dX2_clause_109 ?_
    refine g_aload_n (pc := 112) hk dX2_clause_112 rfl ?_
    refine t_getI (pc := 113) hk hK ti_12 tf_12 dX2_clause_113 ?_
    refine g_dup2 (pc := 116) hk dX2_clause_116 rfl rfl ?_
    refine t_iald (pc := 117) hk hK ta_2 dX2_clause_117 ?_
    refine g_iconst (pc := 118) (v := 1) hk dX2_clause_118 rfl ?_
    refine g_iadd (pc := 119) hk dX2_clause_119 ?_
    refine t_iast (pc := 120) hk hK ta_2 dX2_clause_120 (fun τ12 => ?_)
    refine g_aload_n (pc := 121) hk dX2_clause_121 rfl ?_
    refine t_getI (pc := 122) hk hK ti_9 tf_9 dX2_clause_122 ?_
    refine g_bipush (pc := 125) (v := 59) hk dX2_clause_125 rfl ?_
    refine g_icmp_eq (pc := 127) (tgt := 132) hk dX2_clause_127 rfl ?_ ?_
    · refine g_aload_n (pc := 132) hk dX2_clause_132 rfl ?_
      refine g_ob1 (fun τ14 h13 => ?_)
      refine t_callV (pc := 133) hk hK [] [] (tm_nextToken Γ τ12 τ14 h13) (lw_V q1519 q1521 qs60 q128 q1522) hv_nextToken rfl rfl rfl dX2_clause_133 rfl rfl ?_
      refine g_iconst (pc := 136) (v := 0) hk dX2_clause_136 rfl ?_
      exact t_iret (pc := 137) hk rfl dX2_clause_137
    · refine g_iconst (pc := 130) (v := 1) hk dX2_clause_130 rfl ?_
      exact t_iret (pc := 131) hk rfl dX2_clause_131
  · refine g_iload (pc := 105) hk dX2_clause_105 rfl ?_
    exact t_iret (pc := 107) hk rfl dX2_clause_107
theorem tm_clause_j29 {K : KT} {Γ : TG} (hk : KOK K cX2_clause 5 RX2 rm_clause (some .int)) (hK : va_K Γ.1 tcl (ttys Γ) (kS K)) (τ : TS) (v1 : Int32)   : GGo K (tQ K Γ (fun r : Int32 × TS => (some (Value.int r.1), r.2))) (T_clause_j29 τ v1) 5 (TI Γ (kS K) τ) 0 0 29 [(0, .ref Γ.2.1), (1, .int v1)] [] := by
  unfold T_clause_j29
  refine g_aload_n (pc := 29) hk dX2_clause_29 rfl ?_
  refine t_getR (pc := 30) hk hK tr_2 tf_2 dX2_clause_30 ?_
  refine g_aload_n (pc := 33) hk dX2_clause_33 rfl ?_
  refine t_getI (pc := 34) hk hK ti_12 tf_12 dX2_clause_34 ?_
  refine t_iald (pc := 37) hk hK ta_2 dX2_clause_37 ?_
  refine g_istore_nN (pc := 38) (i := 2) (ls' := fun x3 => [(2, .int x3), (0, .ref Γ.2.1), (1, .int v1)]) hk dX2_clause_38 rfl (by decide) (fun _ => rfl) (fun x3 => ?_)
  refine g_iload_n (pc := 39) hk dX2_clause_39 rfl ?_
  refine g_bipush (pc := 40) (v := 24) hk dX2_clause_40 rfl ?_
  refine g_icmp_ne (pc := 42) (tgt := 48) hk dX2_clause_42 rfl ?_ ?_
  · refine g_iload_n (pc := 48) hk dX2_clause_48 rfl ?_
    refine g_iconst (pc := 49) (v := 2) hk dX2_clause_49 rfl ?_
    refine g_icmp_gt (pc := 50) (tgt := 65) hk dX2_clause_50 rfl ?_ ?_
    · refine g_sub (ls' := [(0, .ref Γ.2.1), (1, .int v1), (2, .int x3)]) [1, 2, 0] rfl ?_
      exact tm_clause_j65 hk hK τ v1 x3
    · refine g_aload_n (pc := 53) hk dX2_clause_53 rfl ?_
      refine g_dup (pc := 54) hk dX2_clause_54 rfl ?_
      refine t_getI (pc := 55) hk hK ti_19 tf_19 dX2_clause_55 ?_
      refine g_iconst (pc := 58) (v := 1) hk dX2_clause_58 rfl ?_
      refine g_iload_n (pc := 59) hk dX2_clause_59 rfl ?_
      refine g_ishl (pc := 60) hk dX2_clause_60 ?_
      refine g_ior (pc := 61) hk dX2_clause_61 ?_
      refine t_putI (pc := 62) hk hK ti_19 tf_19 (Or.inl rfl) rfl dX2_clause_62 (fun τ15 => ?_)
      refine g_sub (ls' := [(0, .ref Γ.2.1), (1, .int v1), (2, .int x3)]) [1, 2, 0] rfl ?_
      exact tm_clause_j65 hk hK τ15 v1 x3
  · refine g_bipush (pc := 45) (v := 6) hk dX2_clause_45 rfl ?_
    exact t_iret (pc := 47) hk rfl dX2_clause_47
theorem tm_clause (Γ : TG) (τ : TS)   (r : Int32 × TS) (h : T_clause τ = some r) : TMet Γ yX2_clause cX2_clause 5 (some .int) rm_clause [.ref Γ.2.1] τ (some (.int r.1)) r.2 := by
  refine t_met (view := (fun r : Int32 × TS => (some (Value.int r.1), r.2))) rfl rfl (ls0 := [(0, .ref Γ.2.1)]) rfl (fun K hk hK => ?_) r h
  unfold T_clause
  refine g_aload_n (pc := 0) hk dX2_clause_0 rfl ?_
  refine g_ob1 (fun r1 h2 => ?_)
  refine t_callV (pc := 1) hk hK [] [] (tm_sortOf Γ τ r1 h2) (lw_V q1542 q1544 qs63 q128 q1545) hv_sortOf rfl rfl rfl dX2_clause_1 rfl rfl ?_
  refine g_istore_n (pc := 4) (i := 1) (ls' := [(1, .int r1), (0, .ref Γ.2.1)]) hk dX2_clause_4 rfl (by decide) rfl ?_
  refine g_iload_n (pc := 5) hk dX2_clause_5 rfl ?_
  refine g_if_ge (pc := 6) (tgt := 11) hk dX2_clause_6 rfl ?_ ?_
  · refine g_iload_n (pc := 11) hk dX2_clause_11 rfl ?_
    refine g_iconst (pc := 12) (v := 2) hk dX2_clause_12 rfl ?_
    refine g_icmp_gt (pc := 13) (tgt := 29) hk dX2_clause_13 rfl ?_ ?_
    · refine g_sub (ls' := [(0, .ref Γ.2.1), (1, .int r1)]) [1, 0] rfl ?_
      exact tm_clause_j29 hk hK τ r1
    · refine g_aload_n (pc := 16) hk dX2_clause_16 rfl ?_
      refine t_getI (pc := 17) hk hK ti_19 tf_19 dX2_clause_17 ?_
      refine g_iload_n (pc := 20) hk dX2_clause_20 rfl ?_
      refine g_ob1 (fun r16 h17 => ?_)
      refine t_callS (pc := 21) hk hK [.int (tI τ 19), .int r1] [] (tm_has Γ τ (tI τ 19) r1 r16 h17) (lw_S q1565 q1566 q128 q1567) hs_has rfl rfl rfl dX2_clause_21 rfl rfl ?_
      refine g_if_eq (pc := 24) (tgt := 29) hk dX2_clause_24 rfl ?_ ?_
      · refine g_sub (ls' := [(0, .ref Γ.2.1), (1, .int r1)]) [1, 0] rfl ?_
        exact tm_clause_j29 hk hK τ r1
      · refine g_iconst (pc := 27) (v := 4) hk dX2_clause_27 rfl ?_
        exact t_iret (pc := 28) hk rfl dX2_clause_28
  · refine g_iconst (pc := 9) (v := 1) hk dX2_clause_9 rfl ?_
    exact t_iret (pc := 10) hk rfl dX2_clause_10
def rm_readText : Room := { frames := 10, cells := 0, slots := 0, locals := 220 }
theorem hv_readText : yX2_readText.cls = RX2 ∧ yX2_readText.cls ≠ "java/lang/invoke/MethodHandle" ∧ yX2_readText.cls ≠ "java/lang/invoke/VarHandle" ∧ (parseMethodDescriptor yX2_readText.desc).map (fun d => d.parameters.length) = some 0 := by decide +kernel
theorem tm_readText_l43 {K : KT} {Γ : TG} (hk : KOK K cX2_readText 2 RX2 rm_readText (some .int)) (hK : va_K Γ.1 tcl (ttys Γ) (kS K))    : ∀ (n : Nat) (τ : TS), GGo K (tQ K Γ (fun r : Int32 × TS => (some (Value.int r.1), r.2))) (T_readText_l43 n τ) 2 (TI Γ (kS K) τ) 0 0 43 [(0, .ref Γ.2.1)] [] := by
  intro n
  induction n with
  | zero =>
    intro τ
    unfold T_readText_l43
    exact g_none
  | succ n ih =>
    intro τ
    unfold T_readText_l43
    refine g_aload_n (pc := 43) hk dX2_readText_43 rfl ?_
    refine t_getI (pc := 44) hk hK ti_9 tf_9 dX2_readText_44 ?_
    refine g_if_eq (pc := 47) (tgt := 64) hk dX2_readText_47 rfl ?_ ?_
    · refine g_iconst (pc := 64) (v := 0) hk dX2_readText_64 rfl ?_
      exact t_iret (pc := 65) hk rfl dX2_readText_65
    · refine g_aload_n (pc := 50) hk dX2_readText_50 rfl ?_
      refine g_ob2 (fun r8 τ10 h9 => ?_)
      refine t_callV (pc := 51) hk hK [] [] (tm_clause Γ τ (r8, τ10) h9) (lw_V q1538 q1540 qs62 q128 q1541) hv_clause rfl rfl rfl dX2_readText_51 rfl rfl ?_
      refine g_istore_n (pc := 54) (i := 1) (ls' := [(1, .int r8), (0, .ref Γ.2.1)]) hk dX2_readText_54 rfl (by decide) rfl ?_
      refine g_iload_n (pc := 55) hk dX2_readText_55 rfl ?_
      refine g_if_eq (pc := 56) (tgt := 61) hk dX2_readText_56 rfl ?_ ?_
      · refine g_goto (pc := 61) (tgt := 43) hk dX2_readText_61 rfl ?_
        refine g_sub (ls' := [(0, .ref Γ.2.1)]) [1] rfl ?_
        exact ih τ10
      · refine g_iload_n (pc := 59) hk dX2_readText_59 rfl ?_
        exact t_iret (pc := 60) hk rfl dX2_readText_60
theorem tm_readText (Γ : TG) (τ : TS)   (r : Int32 × TS) (h : T_readText τ = some r) : TMet Γ yX2_readText cX2_readText 2 (some .int) rm_readText [.ref Γ.2.1] τ (some (.int r.1)) r.2 := by
  refine t_met (view := (fun r : Int32 × TS => (some (Value.int r.1), r.2))) rfl rfl (ls0 := [(0, .ref Γ.2.1)]) rfl (fun K hk hK => ?_) r h
  unfold T_readText
  refine g_aload_n (pc := 0) hk dX2_readText_0 rfl ?_
  refine g_sipush (pc := 1) (v := 681) hk dX2_readText_1 rfl ?_
  refine g_aload_n (pc := 4) hk dX2_readText_4 rfl ?_
  refine t_getR (pc := 5) hk hK tr_0 tf_0 dX2_readText_5 ?_
  refine g_iconst (pc := 8) (v := 1) hk dX2_readText_8 rfl ?_
  refine t_ialdC (pc := 9) (j := 1) hk hK ta_0 rfl rfl dX2_readText_9 ?_
  refine g_imul (pc := 10) hk dX2_readText_10 ?_
  refine t_putI (pc := 11) hk hK ti_12 tf_12 (Or.inl rfl) rfl dX2_readText_11 (fun τ1 => ?_)
  refine g_aload_n (pc := 14) hk dX2_readText_14 rfl ?_
  refine t_getR (pc := 15) hk hK tr_2 tf_2 dX2_readText_15 ?_
  refine g_aload_n (pc := 18) hk dX2_readText_18 rfl ?_
  refine t_getI (pc := 19) hk hK ti_12 tf_12 dX2_readText_19 ?_
  refine g_iconst (pc := 22) (v := 0) hk dX2_readText_22 rfl ?_
  refine t_iast (pc := 23) hk hK ta_2 dX2_readText_23 (fun τ2 => ?_)
  refine g_aload_n (pc := 24) hk dX2_readText_24 rfl ?_
  refine g_iconst (pc := 25) (v := 0) hk dX2_readText_25 rfl ?_
  refine t_putI (pc := 26) hk hK ti_13 tf_13 (Or.inl rfl) rfl dX2_readText_26 (fun τ3 => ?_)
  refine g_aload_n (pc := 29) hk dX2_readText_29 rfl ?_
  refine g_iconst (pc := 30) (v := 0) hk dX2_readText_30 rfl ?_
  refine t_putI (pc := 31) hk hK ti_19 tf_19 (Or.inl rfl) rfl dX2_readText_31 (fun τ4 => ?_)
  refine g_aload_n (pc := 34) hk dX2_readText_34 rfl ?_
  refine g_iconst (pc := 35) (v := 0) hk dX2_readText_35 rfl ?_
  refine t_putI (pc := 36) hk hK ti_7 tf_7 (Or.inl rfl) rfl dX2_readText_36 (fun τ5 => ?_)
  refine g_aload_n (pc := 39) hk dX2_readText_39 rfl ?_
  refine g_ob1 (fun τ7 h6 => ?_)
  refine t_callV (pc := 40) hk hK [] [] (tm_nextToken Γ τ5 τ7 h6) (lw_V q1519 q1521 qs60 q128 q1522) hv_nextToken rfl rfl rfl dX2_readText_40 rfl rfl ?_
  exact tm_readText_l43 hk hK FU τ7
def rm_text : Room := { frames := 11, cells := 0, slots := 0, locals := 241 }
theorem hv_text : yX2_text.cls = RX2 ∧ yX2_text.cls ≠ "java/lang/invoke/MethodHandle" ∧ yX2_text.cls ≠ "java/lang/invoke/VarHandle" ∧ (parseMethodDescriptor yX2_text.desc).map (fun d => d.parameters.length) = some 0 := by decide +kernel
theorem tm_text_j36 {K : KT} {Γ : TG} (hk : KOK K cX2_text 1 RX2 rm_text (some .int)) (hK : va_K Γ.1 tcl (ttys Γ) (kS K)) (τ : TS) (s1 : Int32)   : GGo K (tQ K Γ (fun r : Int32 × TS => (some (Value.int r.1), r.2))) (T_text_j36 τ s1) 1 (TI Γ (kS K) τ) 0 0 36 [(0, .ref Γ.2.1)] [.int s1, .ref Γ.2.1] := by
  unfold T_text_j36
  refine t_putI (pc := 36) hk hK ti_6 tf_6 (Or.inl rfl) rfl dX2_text_36 (fun τ5 => ?_)
  refine g_aload_n (pc := 39) hk dX2_text_39 rfl ?_
  refine g_iconst (pc := 40) (v := 0) hk dX2_text_40 rfl ?_
  refine t_putI (pc := 41) hk hK ti_4 tf_4 (Or.inl rfl) rfl dX2_text_41 (fun τ6 => ?_)
  refine g_aload_n (pc := 44) hk dX2_text_44 rfl ?_
  refine t_getI (pc := 45) hk hK ti_5 tf_5 dX2_text_45 ?_
  refine g_if_eq (pc := 48) (tgt := 53) hk dX2_text_48 rfl ?_ ?_
  · refine g_aload_n (pc := 53) hk dX2_text_53 rfl ?_
    refine t_getR (pc := 54) hk hK tr_0 tf_0 dX2_text_54 ?_
    refine g_iconst (pc := 57) (v := 1) hk dX2_text_57 rfl ?_
    refine g_dup2 (pc := 58) hk dX2_text_58 rfl rfl ?_
    refine t_ialdC (pc := 59) (j := 1) hk hK ta_0 rfl rfl dX2_text_59 ?_
    refine g_iconst (pc := 60) (v := 1) hk dX2_text_60 rfl ?_
    refine g_iadd (pc := 61) hk dX2_text_61 ?_
    refine t_iastC (pc := 62) (j := 1) hk hK ta_0 rfl rfl dX2_text_62 (fun τ7 => ?_)
    refine g_aload_n (pc := 63) hk dX2_text_63 rfl ?_
    refine t_getR (pc := 64) hk hK tr_0 tf_0 dX2_text_64 ?_
    refine g_iconst (pc := 67) (v := 1) hk dX2_text_67 rfl ?_
    refine t_ialdC (pc := 68) (j := 1) hk hK ta_0 rfl rfl dX2_text_68 ?_
    refine g_iconst (pc := 69) (v := 1) hk dX2_text_69 rfl ?_
    refine g_isub (pc := 70) hk dX2_text_70 ?_
    exact t_iret (pc := 71) hk rfl dX2_text_71
  · refine g_iconst (pc := 51) (v := (-1)) hk dX2_text_51 rfl ?_
    exact t_iret (pc := 52) hk rfl dX2_text_52
theorem tm_text (Γ : TG) (τ : TS)   (r : Int32 × TS) (h : T_text τ = some r) : TMet Γ yX2_text cX2_text 1 (some .int) rm_text [.ref Γ.2.1] τ (some (.int r.1)) r.2 := by
  refine t_met (view := (fun r : Int32 × TS => (some (Value.int r.1), r.2))) rfl rfl (ls0 := [(0, .ref Γ.2.1)]) rfl (fun K hk hK => ?_) r h
  unfold T_text
  refine g_aload_n (pc := 0) hk dX2_text_0 rfl ?_
  refine t_getR (pc := 1) hk hK tr_0 tf_0 dX2_text_1 ?_
  refine g_iconst (pc := 4) (v := 1) hk dX2_text_4 rfl ?_
  refine t_ialdC (pc := 5) (j := 1) hk hK ta_0 rfl rfl dX2_text_5 ?_
  refine g_iconst (pc := 6) (v := 4) hk dX2_text_6 rfl ?_
  refine g_icmp_ne (pc := 7) (tgt := 12) hk dX2_text_7 rfl ?_ ?_
  · refine g_aload_n (pc := 12) hk dX2_text_12 rfl ?_
    refine g_aload_n (pc := 13) hk dX2_text_13 rfl ?_
    refine g_ob2 (fun r1 τ3 h2 => ?_)
    refine t_callV (pc := 14) hk hK [] [.ref Γ.2.1] (tm_readText Γ τ (r1, τ3) h2) (lw_V q1515 q1517 qs59 q128 q1518) hv_readText rfl rfl rfl dX2_text_14 rfl rfl ?_
    refine t_putI (pc := 17) hk hK ti_5 tf_5 (Or.inl rfl) rfl dX2_text_17 (fun τ4 => ?_)
    refine g_aload_n (pc := 20) hk dX2_text_20 rfl ?_
    refine g_aload_n (pc := 21) hk dX2_text_21 rfl ?_
    refine t_getI (pc := 22) hk hK ti_5 tf_5 dX2_text_22 ?_
    refine g_if_ne (pc := 25) (tgt := 32) hk dX2_text_25 rfl ?_ ?_
    · refine g_aload_n (pc := 32) hk dX2_text_32 rfl ?_
      refine t_getI (pc := 33) hk hK ti_8 tf_8 dX2_text_33 ?_
      exact tm_text_j36 hk hK τ4 (tI τ4 8)
    · refine g_iconst (pc := 28) (v := (-1)) hk dX2_text_28 rfl ?_
      refine g_goto (pc := 29) (tgt := 36) hk dX2_text_29 rfl ?_
      exact tm_text_j36 hk hK τ4 (-1)
  · refine g_iconst (pc := 10) (v := (-1)) hk dX2_text_10 rfl ?_
    exact t_iret (pc := 11) hk rfl dX2_text_11
def rm_fault : Room := { frames := 0, cells := 0, slots := 0, locals := 0 }
theorem hv_fault : yX2_fault.cls = RX2 ∧ yX2_fault.cls ≠ "java/lang/invoke/MethodHandle" ∧ yX2_fault.cls ≠ "java/lang/invoke/VarHandle" ∧ (parseMethodDescriptor yX2_fault.desc).map (fun d => d.parameters.length) = some 1 := by decide +kernel
theorem tm_fault (Γ : TG) (τ : TS) (v1 : Int32)  (r : Int32) (h : T_fault τ v1 = some r) : TMet Γ yX2_fault cX2_fault 2 (some .int) rm_fault [.ref Γ.2.1, .int v1] τ (some (.int r)) τ := by
  refine t_met (view := (fun r : Int32 => (some (Value.int r), τ))) rfl rfl (ls0 := [(0, .ref Γ.2.1), (1, .int v1)]) rfl (fun K hk hK => ?_) r h
  unfold T_fault
  refine g_iload_n (pc := 0) hk dX2_fault_0 rfl ?_
  refine g_if_ne (pc := 1) (tgt := 11) hk dX2_fault_1 rfl ?_ ?_
  · refine g_iload_n (pc := 11) hk dX2_fault_11 rfl ?_
    refine g_iconst (pc := 12) (v := 1) hk dX2_fault_12 rfl ?_
    refine g_icmp_ne (pc := 13) (tgt := 23) hk dX2_fault_13 rfl ?_ ?_
    · refine g_iconst (pc := 23) (v := (-1)) hk dX2_fault_23 rfl ?_
      exact t_iret (pc := 24) hk rfl dX2_fault_24
    · refine g_aload_n (pc := 16) hk dX2_fault_16 rfl ?_
      refine t_getI (pc := 17) hk hK ti_6 tf_6 dX2_fault_17 ?_
      refine g_goto (pc := 20) (tgt := 24) hk dX2_fault_20 rfl ?_
      exact t_iret (pc := 24) hk rfl dX2_fault_24
  · refine g_aload_n (pc := 4) hk dX2_fault_4 rfl ?_
    refine t_getI (pc := 5) hk hK ti_5 tf_5 dX2_fault_5 ?_
    refine g_goto (pc := 8) (tgt := 24) hk dX2_fault_8 rfl ?_
    exact t_iret (pc := 24) hk rfl dX2_fault_24
def rm_by : Room := { frames := 1, cells := 0, slots := 0, locals := 22 }
theorem hv_by : yX2_by.cls = RX2 ∧ yX2_by.cls ≠ "java/lang/invoke/MethodHandle" ∧ yX2_by.cls ≠ "java/lang/invoke/VarHandle" ∧ (parseMethodDescriptor yX2_by.desc).map (fun d => d.parameters.length) = some 1 := by decide +kernel
theorem tm_by (Γ : TG) (τ : TS) (v1 : Int32)  (r : Int32 × TS) (h : T_by τ v1 = some r) : TMet Γ yX2_by cX2_by 2 (some .boolean) rm_by [.ref Γ.2.1, .int v1] τ (some (.int r.1)) r.2 := by
  refine t_met (view := (fun r : Int32 × TS => (some (Value.int r.1), r.2))) rfl rfl (ls0 := [(0, .ref Γ.2.1), (1, .int v1)]) rfl (fun K hk hK => ?_) r h
  unfold T_by
  refine g_iload_n (pc := 0) hk dX2_by_0 rfl ?_
  refine g_iconst (pc := 1) (v := (-1)) hk dX2_by_1 rfl ?_
  refine g_aload_n (pc := 2) hk dX2_by_2 rfl ?_
  refine t_getR (pc := 3) hk hK tr_0 tf_0 dX2_by_3 ?_
  refine g_iconst (pc := 6) (v := 1) hk dX2_by_6 rfl ?_
  refine t_ialdC (pc := 7) (j := 1) hk hK ta_0 rfl rfl dX2_by_7 ?_
  refine g_iconst (pc := 8) (v := 1) hk dX2_by_8 rfl ?_
  refine g_isub (pc := 9) hk dX2_by_9 ?_
  refine g_ob1 (fun r1 h2 => ?_)
  refine t_callS (pc := 10) hk hK [.int v1, .int (-1), .int ((tA τ 0 1) - 1)] [] (tm_isIn Γ τ v1 (-1) ((tA τ 0 1) - 1) r1 h2) (lw_S q1477 q1478 q128 q1479) hs_isIn rfl rfl rfl dX2_by_10 rfl rfl ?_
  refine g_if_ne (pc := 13) (tgt := 18) hk dX2_by_13 rfl ?_ ?_
  · refine g_aload_n (pc := 18) hk dX2_by_18 rfl ?_
    refine t_getR (pc := 19) hk hK tr_0 tf_0 dX2_by_19 ?_
    refine g_iconst (pc := 22) (v := 2) hk dX2_by_22 rfl ?_
    refine g_iload_n (pc := 23) hk dX2_by_23 rfl ?_
    refine t_iastC (pc := 24) (j := 2) hk hK ta_0 rfl rfl dX2_by_24 (fun τ3 => ?_)
    refine g_iconst (pc := 25) (v := 1) hk dX2_by_25 rfl ?_
    exact t_zret (pc := 26) hk rfl rfl dX2_by_26
  · refine g_iconst (pc := 16) (v := 0) hk dX2_by_16 rfl ?_
    exact t_zret (pc := 17) hk rfl rfl dX2_by_17
def rm_undo : Room := { frames := 2, cells := 0, slots := 0, locals := 44 }
theorem hv_undo : yX2_undo.cls = RX2 ∧ yX2_undo.cls ≠ "java/lang/invoke/MethodHandle" ∧ yX2_undo.cls ≠ "java/lang/invoke/VarHandle" ∧ (parseMethodDescriptor yX2_undo.desc).map (fun d => d.parameters.length) = some 0 := by decide +kernel
theorem tm_undo_l145 {K : KT} {Γ : TG} (hk : KOK K cX2_undo 4 RX2 rm_undo (some .int)) (hK : va_K Γ.1 tcl (ttys Γ) (kS K)) (v1 : Int32)   : ∀ (n : Nat) (τ : TS) (v2 : Int32), GGo K (tQ K Γ (fun r : Int32 × TS => (some (Value.int r.1), r.2))) (T_undo_l145 v1 n τ v2) 4 (TI Γ (kS K) τ) 0 0 145 [(0, .ref Γ.2.1), (1, .int v1), (2, .int v2)] [] := by
  intro n
  induction n with
  | zero =>
    intro τ v2
    unfold T_undo_l145
    exact g_none
  | succ n ih =>
    intro τ v2
    unfold T_undo_l145
    refine g_iload_n (pc := 145) hk dX2_undo_145 rfl ?_
    refine g_bipush (pc := 146) (v := 30) hk dX2_undo_146 rfl ?_
    refine g_icmp_ge (pc := 148) (tgt := 178) hk dX2_undo_148 rfl ?_ ?_
    · refine g_aload_n (pc := 178) hk dX2_undo_178 rfl ?_
      refine t_getR (pc := 179) hk hK tr_0 tf_0 dX2_undo_179 ?_
      refine g_iconst (pc := 182) (v := 3) hk dX2_undo_182 rfl ?_
      refine t_ialdC (pc := 183) (j := 3) hk hK ta_0 rfl rfl dX2_undo_183 ?_
      exact t_iret (pc := 184) hk rfl dX2_undo_184
    · refine g_aload_n (pc := 151) hk dX2_undo_151 rfl ?_
      refine t_getR (pc := 152) hk hK tr_0 tf_0 dX2_undo_152 ?_
      refine g_sipush (pc := 155) (v := 2000) hk dX2_undo_155 rfl ?_
      refine g_iload_n (pc := 158) hk dX2_undo_158 rfl ?_
      refine g_iadd (pc := 159) hk dX2_undo_159 ?_
      refine g_aload_n (pc := 160) hk dX2_undo_160 rfl ?_
      refine t_getR (pc := 161) hk hK tr_0 tf_0 dX2_undo_161 ?_
      refine g_iload_n (pc := 164) hk dX2_undo_164 rfl ?_
      refine g_bipush (pc := 165) (v := 29) hk dX2_undo_165 rfl ?_
      refine g_iadd (pc := 167) hk dX2_undo_167 ?_
      refine g_iload_n (pc := 168) hk dX2_undo_168 rfl ?_
      refine g_iadd (pc := 169) hk dX2_undo_169 ?_
      refine t_iald (pc := 170) hk hK ta_0 dX2_undo_170 ?_
      refine t_iast (pc := 171) hk hK ta_0 dX2_undo_171 (fun τ3 => ?_)
      refine g_iincN (pc := 172) (v := 1) (ls' := fun x4 => [(2, .int x4), (0, .ref Γ.2.1), (1, .int v1)]) hk dX2_undo_172 rfl rfl (by decide) (fun _ => rfl) (fun x4 => ?_)
      refine g_goto (pc := 175) (tgt := 145) hk dX2_undo_175 rfl ?_
      refine g_sub (ls' := [(0, .ref Γ.2.1), (1, .int v1), (2, .int x4)]) [1, 2, 0] rfl ?_
      exact ih τ3 x4
theorem tm_undo_j137 {K : KT} {Γ : TG} (hk : KOK K cX2_undo 4 RX2 rm_undo (some .int)) (hK : va_K Γ.1 tcl (ttys Γ) (kS K)) (τ : TS) (v1 : Int32) (v2 : Int32)  (k69 : TS → Int32 → Option (Int32 × TS)) (hk69 : ∀ (τ : TS) (v2 : Int32), GGo K (tQ K Γ (fun r : Int32 × TS => (some (Value.int r.1), r.2))) (k69 τ v2) 4 (TI Γ (kS K) τ) 0 0 69 [(0, .ref Γ.2.1), (1, .int v1), (2, .int v2)] []) : GGo K (tQ K Γ (fun r : Int32 × TS => (some (Value.int r.1), r.2))) (T_undo_j137 k69 τ v1 v2) 4 (TI Γ (kS K) τ) 0 0 137 [(0, .ref Γ.2.1), (1, .int v1), (2, .int v2)] [] := by
  unfold T_undo_j137
  refine g_iincN (pc := 137) (v := 1) (ls' := fun x5 => [(2, .int x5), (0, .ref Γ.2.1), (1, .int v1)]) hk dX2_undo_137 rfl rfl (by decide) (fun _ => rfl) (fun x5 => ?_)
  refine g_goto (pc := 140) (tgt := 69) hk dX2_undo_140 rfl ?_
  refine g_sub (ls' := [(0, .ref Γ.2.1), (1, .int v1), (2, .int x5)]) [1, 2, 0] rfl ?_
  exact hk69 τ x5
theorem tm_undo_l96 {K : KT} {Γ : TG} (hk : KOK K cX2_undo 4 RX2 rm_undo (some .int)) (hK : va_K Γ.1 tcl (ttys Γ) (kS K)) (v1 : Int32) (v2 : Int32)  (k69 : TS → Int32 → Option (Int32 × TS)) (hk69 : ∀ (τ : TS) (v2 : Int32), GGo K (tQ K Γ (fun r : Int32 × TS => (some (Value.int r.1), r.2))) (k69 τ v2) 4 (TI Γ (kS K) τ) 0 0 69 [(0, .ref Γ.2.1), (1, .int v1), (2, .int v2)] []) : ∀ (n : Nat) (τ : TS) (v3 : Int32), GGo K (tQ K Γ (fun r : Int32 × TS => (some (Value.int r.1), r.2))) (T_undo_l96 k69 v1 v2 n τ v3) 4 (TI Γ (kS K) τ) 0 0 96 [(0, .ref Γ.2.1), (1, .int v1), (2, .int v2), (3, .int v3)] [] := by
  intro n
  induction n with
  | zero =>
    intro τ v3
    unfold T_undo_l96
    exact g_none
  | succ n ih =>
    intro τ v3
    unfold T_undo_l96
    refine g_iload_n (pc := 96) hk dX2_undo_96 rfl ?_
    refine g_iconst (pc := 97) (v := 3) hk dX2_undo_97 rfl ?_
    refine g_icmp_ge (pc := 98) (tgt := 137) hk dX2_undo_98 rfl ?_ ?_
    · refine g_sub (ls' := [(0, .ref Γ.2.1), (1, .int v1), (2, .int v2)]) [0, 1, 2] rfl ?_
      exact tm_undo_j137 hk hK τ v1 v2 k69 hk69
    · refine g_iload_n (pc := 101) hk dX2_undo_101 rfl ?_
      refine g_aload_n (pc := 102) hk dX2_undo_102 rfl ?_
      refine t_getR (pc := 103) hk hK tr_0 tf_0 dX2_undo_103 ?_
      refine g_iload_n (pc := 106) hk dX2_undo_106 rfl ?_
      refine t_iald (pc := 107) hk hK ta_0 dX2_undo_107 ?_
      refine g_icmp_ge (pc := 108) (tgt := 137) hk dX2_undo_108 rfl ?_ ?_
      · refine g_sub (ls' := [(0, .ref Γ.2.1), (1, .int v1), (2, .int v2)]) [0, 1, 2] rfl ?_
        exact tm_undo_j137 hk hK τ v1 v2 k69 hk69
      · refine g_aload_n (pc := 111) hk dX2_undo_111 rfl ?_
        refine g_iload_n (pc := 112) hk dX2_undo_112 rfl ?_
        refine g_iload_n (pc := 113) hk dX2_undo_113 rfl ?_
        refine g_aload_n (pc := 114) hk dX2_undo_114 rfl ?_
        refine t_getR (pc := 115) hk hK tr_0 tf_0 dX2_undo_115 ?_
        refine g_iload_n (pc := 118) hk dX2_undo_118 rfl ?_
        refine g_iconst (pc := 119) (v := 5) hk dX2_undo_119 rfl ?_
        refine g_iadd (pc := 120) hk dX2_undo_120 ?_
        refine g_iconst (pc := 121) (v := 3) hk dX2_undo_121 rfl ?_
        refine g_iload_n (pc := 122) hk dX2_undo_122 rfl ?_
        refine g_imul (pc := 123) hk dX2_undo_123 ?_
        refine g_iadd (pc := 124) hk dX2_undo_124 ?_
        refine g_iload_n (pc := 125) hk dX2_undo_125 rfl ?_
        refine g_iadd (pc := 126) hk dX2_undo_126 ?_
        refine t_iald (pc := 127) hk hK ta_0 dX2_undo_127 ?_
        refine g_ob1 (fun τ7 h6 => ?_)
        refine t_callV (pc := 128) hk hK [.int v2, .int v3, .int (tA τ 0 (((v1 + 5) + (3 * v2)) + v3).toNatClampNeg)] [] (tm_put Γ τ v2 v3 (tA τ 0 (((v1 + 5) + (3 * v2)) + v3).toNatClampNeg) τ7 h6) (lw_V q1480 q1482 qs55 q128 q1483) hv_put rfl rfl rfl dX2_undo_128 rfl rfl ?_
        refine g_iincN (pc := 131) (v := 1) (ls' := fun x8 => [(3, .int x8), (0, .ref Γ.2.1), (1, .int v1), (2, .int v2)]) hk dX2_undo_131 rfl rfl (by decide) (fun _ => rfl) (fun x8 => ?_)
        refine g_goto (pc := 134) (tgt := 96) hk dX2_undo_134 rfl ?_
        refine g_sub (ls' := [(0, .ref Γ.2.1), (1, .int v1), (2, .int v2), (3, .int x8)]) [1, 2, 3, 0] rfl ?_
        exact ih τ7 x8
theorem tm_undo_j94 {K : KT} {Γ : TG} (hk : KOK K cX2_undo 4 RX2 rm_undo (some .int)) (hK : va_K Γ.1 tcl (ttys Γ) (kS K)) (τ : TS) (v1 : Int32) (v2 : Int32)  (k69 : TS → Int32 → Option (Int32 × TS)) (hk69 : ∀ (τ : TS) (v2 : Int32), GGo K (tQ K Γ (fun r : Int32 × TS => (some (Value.int r.1), r.2))) (k69 τ v2) 4 (TI Γ (kS K) τ) 0 0 69 [(0, .ref Γ.2.1), (1, .int v1), (2, .int v2)] []) : GGo K (tQ K Γ (fun r : Int32 × TS => (some (Value.int r.1), r.2))) (T_undo_j94 k69 τ v1 v2) 4 (TI Γ (kS K) τ) 0 0 94 [(0, .ref Γ.2.1), (1, .int v1), (2, .int v2)] [] := by
  unfold T_undo_j94
  refine g_iconst (pc := 94) (v := 0) hk dX2_undo_94 rfl ?_
  refine g_istore_n (pc := 95) (i := 3) (ls' := [(3, .int 0), (0, .ref Γ.2.1), (1, .int v1), (2, .int v2)]) hk dX2_undo_95 rfl (by decide) rfl ?_
  refine g_sub (ls' := [(0, .ref Γ.2.1), (1, .int v1), (2, .int v2), (3, .int 0)]) [1, 2, 3, 0] rfl ?_
  exact tm_undo_l96 hk hK v1 v2 k69 hk69 FU τ 0
theorem tm_undo_l69 {K : KT} {Γ : TG} (hk : KOK K cX2_undo 4 RX2 rm_undo (some .int)) (hK : va_K Γ.1 tcl (ttys Γ) (kS K)) (v1 : Int32)   : ∀ (n : Nat) (τ : TS) (v2 : Int32), GGo K (tQ K Γ (fun r : Int32 × TS => (some (Value.int r.1), r.2))) (T_undo_l69 v1 n τ v2) 4 (TI Γ (kS K) τ) 0 0 69 [(0, .ref Γ.2.1), (1, .int v1), (2, .int v2)] [] := by
  intro n
  induction n with
  | zero =>
    intro τ v2
    unfold T_undo_l69
    exact g_none
  | succ n ih =>
    intro τ v2
    unfold T_undo_l69
    refine g_iload_n (pc := 69) hk dX2_undo_69 rfl ?_
    refine g_aload_n (pc := 70) hk dX2_undo_70 rfl ?_
    refine t_getR (pc := 71) hk hK tr_0 tf_0 dX2_undo_71 ?_
    refine g_iconst (pc := 74) (v := 0) hk dX2_undo_74 rfl ?_
    refine t_ialdC (pc := 75) (j := 0) hk hK ta_0 rfl rfl dX2_undo_75 ?_
    refine g_icmp_ge (pc := 76) (tgt := 143) hk dX2_undo_76 rfl ?_ ?_
    · refine g_iconst (pc := 143) (v := 0) hk dX2_undo_143 rfl ?_
      refine g_istore_n (pc := 144) (i := 2) (ls' := [(2, .int 0), (0, .ref Γ.2.1), (1, .int v1)]) hk dX2_undo_144 rfl (by decide) rfl ?_
      refine g_sub (ls' := [(0, .ref Γ.2.1), (1, .int v1), (2, .int 0)]) [1, 2, 0] rfl ?_
      exact tm_undo_l145 hk hK v1 FU τ 0
    · refine g_iload_n (pc := 79) hk dX2_undo_79 rfl ?_
      refine g_aload_n (pc := 80) hk dX2_undo_80 rfl ?_
      refine t_getR (pc := 81) hk hK tr_0 tf_0 dX2_undo_81 ?_
      refine g_iload_n (pc := 84) hk dX2_undo_84 rfl ?_
      refine t_iald (pc := 85) hk hK ta_0 dX2_undo_85 ?_
      refine g_icmp_lt (pc := 86) (tgt := 94) hk dX2_undo_86 rfl ?_ ?_
      · exact tm_undo_j94 hk hK τ v1 v2 (T_undo_l69 v1 n) ih
      · refine g_aload_n (pc := 89) hk dX2_undo_89 rfl ?_
        refine g_iload_n (pc := 90) hk dX2_undo_90 rfl ?_
        refine g_ob1 (fun τ10 h9 => ?_)
        refine t_callV (pc := 91) hk hK [.int v2] [] (tm_begin Γ τ v2 τ10 h9) (lw_V q1484 q1486 qs56 q128 q1487) hv_begin rfl rfl rfl dX2_undo_91 rfl rfl ?_
        exact tm_undo_j94 hk hK τ10 v1 v2 (T_undo_l69 v1 n) ih
theorem tm_undo_l37 {K : KT} {Γ : TG} (hk : KOK K cX2_undo 4 RX2 rm_undo (some .int)) (hK : va_K Γ.1 tcl (ttys Γ) (kS K)) (v1 : Int32)   : ∀ (n : Nat) (τ : TS) (v2 : Int32), GGo K (tQ K Γ (fun r : Int32 × TS => (some (Value.int r.1), r.2))) (T_undo_l37 v1 n τ v2) 4 (TI Γ (kS K) τ) 0 0 37 [(0, .ref Γ.2.1), (1, .int v1), (2, .int v2)] [] := by
  intro n
  induction n with
  | zero =>
    intro τ v2
    unfold T_undo_l37
    exact g_none
  | succ n ih =>
    intro τ v2
    unfold T_undo_l37
    refine g_iload_n (pc := 37) hk dX2_undo_37 rfl ?_
    refine g_iconst (pc := 38) (v := 4) hk dX2_undo_38 rfl ?_
    refine g_icmp_ge (pc := 39) (tgt := 67) hk dX2_undo_39 rfl ?_ ?_
    · refine g_iconst (pc := 67) (v := 0) hk dX2_undo_67 rfl ?_
      refine g_istore_n (pc := 68) (i := 2) (ls' := [(2, .int 0), (0, .ref Γ.2.1), (1, .int v1)]) hk dX2_undo_68 rfl (by decide) rfl ?_
      refine g_sub (ls' := [(0, .ref Γ.2.1), (1, .int v1), (2, .int 0)]) [1, 2, 0] rfl ?_
      exact tm_undo_l69 hk hK v1 FU τ 0
    · refine g_aload_n (pc := 42) hk dX2_undo_42 rfl ?_
      refine t_getR (pc := 43) hk hK tr_0 tf_0 dX2_undo_43 ?_
      refine g_bipush (pc := 46) (v := 6) hk dX2_undo_46 rfl ?_
      refine g_iload_n (pc := 48) hk dX2_undo_48 rfl ?_
      refine g_iadd (pc := 49) hk dX2_undo_49 ?_
      refine g_aload_n (pc := 50) hk dX2_undo_50 rfl ?_
      refine t_getR (pc := 51) hk hK tr_0 tf_0 dX2_undo_51 ?_
      refine g_iload_n (pc := 54) hk dX2_undo_54 rfl ?_
      refine g_iconst (pc := 55) (v := 1) hk dX2_undo_55 rfl ?_
      refine g_iadd (pc := 56) hk dX2_undo_56 ?_
      refine g_iload_n (pc := 57) hk dX2_undo_57 rfl ?_
      refine g_iadd (pc := 58) hk dX2_undo_58 ?_
      refine t_iald (pc := 59) hk hK ta_0 dX2_undo_59 ?_
      refine t_iast (pc := 60) hk hK ta_0 dX2_undo_60 (fun τ11 => ?_)
      refine g_iincN (pc := 61) (v := 1) (ls' := fun x12 => [(2, .int x12), (0, .ref Γ.2.1), (1, .int v1)]) hk dX2_undo_61 rfl rfl (by decide) (fun _ => rfl) (fun x12 => ?_)
      refine g_goto (pc := 64) (tgt := 37) hk dX2_undo_64 rfl ?_
      refine g_sub (ls' := [(0, .ref Γ.2.1), (1, .int v1), (2, .int x12)]) [1, 2, 0] rfl ?_
      exact ih τ11 x12
theorem tm_undo (Γ : TG) (τ : TS)   (r : Int32 × TS) (h : T_undo τ = some r) : TMet Γ yX2_undo cX2_undo 4 (some .int) rm_undo [.ref Γ.2.1] τ (some (.int r.1)) r.2 := by
  refine t_met (view := (fun r : Int32 × TS => (some (Value.int r.1), r.2))) rfl rfl (ls0 := [(0, .ref Γ.2.1)]) rfl (fun K hk hK => ?_) r h
  unfold T_undo
  refine g_aload_n (pc := 0) hk dX2_undo_0 rfl ?_
  refine t_getR (pc := 1) hk hK tr_0 tf_0 dX2_undo_1 ?_
  refine g_iconst (pc := 4) (v := 3) hk dX2_undo_4 rfl ?_
  refine t_ialdC (pc := 5) (j := 3) hk hK ta_0 rfl rfl dX2_undo_5 ?_
  refine g_if_ne (pc := 6) (tgt := 11) hk dX2_undo_6 rfl ?_ ?_
  · refine g_aload_n (pc := 11) hk dX2_undo_11 rfl ?_
    refine t_getR (pc := 12) hk hK tr_0 tf_0 dX2_undo_12 ?_
    refine g_iconst (pc := 15) (v := 3) hk dX2_undo_15 rfl ?_
    refine g_dup2 (pc := 16) hk dX2_undo_16 rfl rfl ?_
    refine t_ialdC (pc := 17) (j := 3) hk hK ta_0 rfl rfl dX2_undo_17 ?_
    refine g_iconst (pc := 18) (v := 1) hk dX2_undo_18 rfl ?_
    refine g_isub (pc := 19) hk dX2_undo_19 ?_
    refine t_iastC (pc := 20) (j := 3) hk hK ta_0 rfl rfl dX2_undo_20 (fun τ1 => ?_)
    refine g_sipush (pc := 21) (v := 230) hk dX2_undo_21 rfl ?_
    refine g_bipush (pc := 24) (v := 59) hk dX2_undo_24 rfl ?_
    refine g_aload_n (pc := 26) hk dX2_undo_26 rfl ?_
    refine t_getR (pc := 27) hk hK tr_0 tf_0 dX2_undo_27 ?_
    refine g_iconst (pc := 30) (v := 3) hk dX2_undo_30 rfl ?_
    refine t_ialdC (pc := 31) (j := 3) hk hK ta_0 rfl rfl dX2_undo_31 ?_
    refine g_imul (pc := 32) hk dX2_undo_32 ?_
    refine g_iadd (pc := 33) hk dX2_undo_33 ?_
    refine g_istore_nN (pc := 34) (i := 1) (ls' := fun x2 => [(1, .int x2), (0, .ref Γ.2.1)]) hk dX2_undo_34 rfl (by decide) (fun _ => rfl) (fun x2 => ?_)
    refine g_iconst (pc := 35) (v := 0) hk dX2_undo_35 rfl ?_
    refine g_istore_n (pc := 36) (i := 2) (ls' := [(2, .int 0), (1, .int x2), (0, .ref Γ.2.1)]) hk dX2_undo_36 rfl (by decide) rfl ?_
    refine g_sub (ls' := [(0, .ref Γ.2.1), (1, .int x2), (2, .int 0)]) [2, 1, 0] rfl ?_
    exact tm_undo_l37 hk hK x2 FU τ1 0
  · refine g_iconst (pc := 9) (v := (-1)) hk dX2_undo_9 rfl ?_
    exact t_iret (pc := 10) hk rfl dX2_undo_10
def rm_isPerson : Room := { frames := 1, cells := 0, slots := 0, locals := 22 }
theorem hv_isPerson : yX2_isPerson.cls = RX2 ∧ yX2_isPerson.cls ≠ "java/lang/invoke/MethodHandle" ∧ yX2_isPerson.cls ≠ "java/lang/invoke/VarHandle" ∧ (parseMethodDescriptor yX2_isPerson.desc).map (fun d => d.parameters.length) = some 1 := by decide +kernel
theorem tm_isPerson (Γ : TG) (τ : TS) (v1 : Int32)  (r : Int32) (h : T_isPerson τ v1 = some r) : TMet Γ yX2_isPerson cX2_isPerson 2 (some .boolean) rm_isPerson [.ref Γ.2.1, .int v1] τ (some (.int r)) τ := by
  refine t_met (view := (fun r : Int32 => (some (Value.int r), τ))) rfl rfl (ls0 := [(0, .ref Γ.2.1), (1, .int v1)]) rfl (fun K hk hK => ?_) r h
  unfold T_isPerson
  refine g_iload_n (pc := 0) hk dX2_isPerson_0 rfl ?_
  refine g_iconst (pc := 1) (v := 0) hk dX2_isPerson_1 rfl ?_
  refine g_aload_n (pc := 2) hk dX2_isPerson_2 rfl ?_
  refine t_getR (pc := 3) hk hK tr_0 tf_0 dX2_isPerson_3 ?_
  refine g_iconst (pc := 6) (v := 0) hk dX2_isPerson_6 rfl ?_
  refine t_ialdC (pc := 7) (j := 0) hk hK ta_0 rfl rfl dX2_isPerson_7 ?_
  refine g_iconst (pc := 8) (v := 1) hk dX2_isPerson_8 rfl ?_
  refine g_isub (pc := 9) hk dX2_isPerson_9 ?_
  refine g_ob1 (fun r1 h2 => ?_)
  refine t_callS (pc := 10) hk hK [.int v1, .int 0, .int ((tA τ 0 0) - 1)] [] (tm_isIn Γ τ v1 0 ((tA τ 0 0) - 1) r1 h2) (lw_S q1477 q1478 q128 q1479) hs_isIn rfl rfl rfl dX2_isPerson_10 rfl rfl ?_
  exact g_gd (fun h3 => t_zret (pc := 13) hk h3 rfl dX2_isPerson_13)
def rm_keep : Room := { frames := 1, cells := 0, slots := 0, locals := 22 }
theorem hv_keep : yX2_keep.cls = RX2 ∧ yX2_keep.cls ≠ "java/lang/invoke/MethodHandle" ∧ yX2_keep.cls ≠ "java/lang/invoke/VarHandle" ∧ (parseMethodDescriptor yX2_keep.desc).map (fun d => d.parameters.length) = some 0 := by decide +kernel
theorem tm_keep_l163 {K : KT} {Γ : TG} (hk : KOK K cX2_keep 4 RX2 rm_keep none) (hK : va_K Γ.1 tcl (ttys Γ) (kS K)) (v1 : Int32)   : ∀ (n : Nat) (τ : TS) (v2 : Int32), GGo K (tQ K Γ (fun r : TS => ((none : Option Value), r))) (T_keep_l163 v1 n τ v2) 4 (TI Γ (kS K) τ) 0 0 163 [(0, .ref Γ.2.1), (1, .int v1), (2, .int v2)] [] := by
  intro n
  induction n with
  | zero =>
    intro τ v2
    unfold T_keep_l163
    exact g_none
  | succ n ih =>
    intro τ v2
    unfold T_keep_l163
    refine g_iload_n (pc := 163) hk dX2_keep_163 rfl ?_
    refine g_bipush (pc := 164) (v := 30) hk dX2_keep_164 rfl ?_
    refine g_icmp_ge (pc := 166) (tgt := 196) hk dX2_keep_166 rfl ?_ ?_
    · refine g_aload_n (pc := 196) hk dX2_keep_196 rfl ?_
      refine t_getR (pc := 197) hk hK tr_0 tf_0 dX2_keep_197 ?_
      refine g_iconst (pc := 200) (v := 3) hk dX2_keep_200 rfl ?_
      refine g_dup2 (pc := 201) hk dX2_keep_201 rfl rfl ?_
      refine t_ialdC (pc := 202) (j := 3) hk hK ta_0 rfl rfl dX2_keep_202 ?_
      refine g_iconst (pc := 203) (v := 1) hk dX2_keep_203 rfl ?_
      refine g_iadd (pc := 204) hk dX2_keep_204 ?_
      refine t_iastC (pc := 205) (j := 3) hk hK ta_0 rfl rfl dX2_keep_205 (fun τ3 => ?_)
      exact t_vret (pc := 206) hk rfl dX2_keep_206
    · refine g_aload_n (pc := 169) hk dX2_keep_169 rfl ?_
      refine t_getR (pc := 170) hk hK tr_0 tf_0 dX2_keep_170 ?_
      refine g_iload_n (pc := 173) hk dX2_keep_173 rfl ?_
      refine g_bipush (pc := 174) (v := 29) hk dX2_keep_174 rfl ?_
      refine g_iadd (pc := 176) hk dX2_keep_176 ?_
      refine g_iload_n (pc := 177) hk dX2_keep_177 rfl ?_
      refine g_iadd (pc := 178) hk dX2_keep_178 ?_
      refine g_aload_n (pc := 179) hk dX2_keep_179 rfl ?_
      refine t_getR (pc := 180) hk hK tr_0 tf_0 dX2_keep_180 ?_
      refine g_sipush (pc := 183) (v := 2000) hk dX2_keep_183 rfl ?_
      refine g_iload_n (pc := 186) hk dX2_keep_186 rfl ?_
      refine g_iadd (pc := 187) hk dX2_keep_187 ?_
      refine t_iald (pc := 188) hk hK ta_0 dX2_keep_188 ?_
      refine t_iast (pc := 189) hk hK ta_0 dX2_keep_189 (fun τ4 => ?_)
      refine g_iincN (pc := 190) (v := 1) (ls' := fun x5 => [(2, .int x5), (0, .ref Γ.2.1), (1, .int v1)]) hk dX2_keep_190 rfl rfl (by decide) (fun _ => rfl) (fun x5 => ?_)
      refine g_goto (pc := 193) (tgt := 163) hk dX2_keep_193 rfl ?_
      refine g_sub (ls' := [(0, .ref Γ.2.1), (1, .int v1), (2, .int x5)]) [1, 2, 0] rfl ?_
      exact ih τ4 x5
theorem tm_keep_l124 {K : KT} {Γ : TG} (hk : KOK K cX2_keep 4 RX2 rm_keep none) (hK : va_K Γ.1 tcl (ttys Γ) (kS K)) (v1 : Int32) (v2 : Int32)  (k116 : TS → Int32 → Option (TS)) (hk116 : ∀ (τ : TS) (v2 : Int32), GGo K (tQ K Γ (fun r : TS => ((none : Option Value), r))) (k116 τ v2) 4 (TI Γ (kS K) τ) 0 0 116 [(0, .ref Γ.2.1), (1, .int v1), (2, .int v2)] []) : ∀ (n : Nat) (τ : TS) (v3 : Int32), GGo K (tQ K Γ (fun r : TS => ((none : Option Value), r))) (T_keep_l124 k116 v1 v2 n τ v3) 4 (TI Γ (kS K) τ) 0 0 124 [(0, .ref Γ.2.1), (1, .int v1), (2, .int v2), (3, .int v3)] [] := by
  intro n
  induction n with
  | zero =>
    intro τ v3
    unfold T_keep_l124
    exact g_none
  | succ n ih =>
    intro τ v3
    unfold T_keep_l124
    refine g_iload_n (pc := 124) hk dX2_keep_124 rfl ?_
    refine g_iconst (pc := 125) (v := 3) hk dX2_keep_125 rfl ?_
    refine g_icmp_ge (pc := 126) (tgt := 155) hk dX2_keep_126 rfl ?_ ?_
    · refine g_iincN (pc := 155) (v := 1) (ls' := fun x6 => [(2, .int x6), (0, .ref Γ.2.1), (1, .int v1), (3, .int v3)]) hk dX2_keep_155 rfl rfl (by decide) (fun _ => rfl) (fun x6 => ?_)
      refine g_goto (pc := 158) (tgt := 116) hk dX2_keep_158 rfl ?_
      refine g_sub (ls' := [(0, .ref Γ.2.1), (1, .int v1), (2, .int x6)]) [1, 2, 0] rfl ?_
      exact hk116 τ x6
    · refine g_aload_n (pc := 129) hk dX2_keep_129 rfl ?_
      refine t_getR (pc := 130) hk hK tr_0 tf_0 dX2_keep_130 ?_
      refine g_iload_n (pc := 133) hk dX2_keep_133 rfl ?_
      refine g_iconst (pc := 134) (v := 5) hk dX2_keep_134 rfl ?_
      refine g_iadd (pc := 135) hk dX2_keep_135 ?_
      refine g_iconst (pc := 136) (v := 3) hk dX2_keep_136 rfl ?_
      refine g_iload_n (pc := 137) hk dX2_keep_137 rfl ?_
      refine g_imul (pc := 138) hk dX2_keep_138 ?_
      refine g_iadd (pc := 139) hk dX2_keep_139 ?_
      refine g_iload_n (pc := 140) hk dX2_keep_140 rfl ?_
      refine g_iadd (pc := 141) hk dX2_keep_141 ?_
      refine g_aload_n (pc := 142) hk dX2_keep_142 rfl ?_
      refine g_iload_n (pc := 143) hk dX2_keep_143 rfl ?_
      refine g_iload_n (pc := 144) hk dX2_keep_144 rfl ?_
      refine g_ob1 (fun r7 h8 => ?_)
      refine t_callV (pc := 145) hk hK [.int v2, .int v3] [.int (((v1 + 5) + (3 * v2)) + v3), .ref (Γ.2.2.1 0)] (tm_get Γ τ v2 v3 r7 h8) (lw_V q1488 q1490 qs57 q128 q1491) hv_get rfl rfl rfl dX2_keep_145 rfl rfl ?_
      refine t_iast (pc := 148) hk hK ta_0 dX2_keep_148 (fun τ9 => ?_)
      refine g_iincN (pc := 149) (v := 1) (ls' := fun x10 => [(3, .int x10), (0, .ref Γ.2.1), (1, .int v1), (2, .int v2)]) hk dX2_keep_149 rfl rfl (by decide) (fun _ => rfl) (fun x10 => ?_)
      refine g_goto (pc := 152) (tgt := 124) hk dX2_keep_152 rfl ?_
      refine g_sub (ls' := [(0, .ref Γ.2.1), (1, .int v1), (2, .int v2), (3, .int x10)]) [1, 2, 3, 0] rfl ?_
      exact ih τ9 x10
theorem tm_keep_l116 {K : KT} {Γ : TG} (hk : KOK K cX2_keep 4 RX2 rm_keep none) (hK : va_K Γ.1 tcl (ttys Γ) (kS K)) (v1 : Int32)   : ∀ (n : Nat) (τ : TS) (v2 : Int32), GGo K (tQ K Γ (fun r : TS => ((none : Option Value), r))) (T_keep_l116 v1 n τ v2) 4 (TI Γ (kS K) τ) 0 0 116 [(0, .ref Γ.2.1), (1, .int v1), (2, .int v2)] [] := by
  intro n
  induction n with
  | zero =>
    intro τ v2
    unfold T_keep_l116
    exact g_none
  | succ n ih =>
    intro τ v2
    unfold T_keep_l116
    refine g_iload_n (pc := 116) hk dX2_keep_116 rfl ?_
    refine g_bipush (pc := 117) (v := 8) hk dX2_keep_117 rfl ?_
    refine g_icmp_ge (pc := 119) (tgt := 161) hk dX2_keep_119 rfl ?_ ?_
    · refine g_iconst (pc := 161) (v := 0) hk dX2_keep_161 rfl ?_
      refine g_istore_n (pc := 162) (i := 2) (ls' := [(2, .int 0), (0, .ref Γ.2.1), (1, .int v1)]) hk dX2_keep_162 rfl (by decide) rfl ?_
      refine g_sub (ls' := [(0, .ref Γ.2.1), (1, .int v1), (2, .int 0)]) [1, 2, 0] rfl ?_
      exact tm_keep_l163 hk hK v1 FU τ 0
    · refine g_iconst (pc := 122) (v := 0) hk dX2_keep_122 rfl ?_
      refine g_istore_n (pc := 123) (i := 3) (ls' := [(3, .int 0), (0, .ref Γ.2.1), (1, .int v1), (2, .int v2)]) hk dX2_keep_123 rfl (by decide) rfl ?_
      refine g_sub (ls' := [(0, .ref Γ.2.1), (1, .int v1), (2, .int v2), (3, .int 0)]) [1, 2, 3, 0] rfl ?_
      exact tm_keep_l124 hk hK v1 v2 (T_keep_l116 v1 n) ih FU τ 0
theorem tm_keep_l84 {K : KT} {Γ : TG} (hk : KOK K cX2_keep 4 RX2 rm_keep none) (hK : va_K Γ.1 tcl (ttys Γ) (kS K)) (v1 : Int32)   : ∀ (n : Nat) (τ : TS) (v2 : Int32), GGo K (tQ K Γ (fun r : TS => ((none : Option Value), r))) (T_keep_l84 v1 n τ v2) 4 (TI Γ (kS K) τ) 0 0 84 [(0, .ref Γ.2.1), (1, .int v1), (2, .int v2)] [] := by
  intro n
  induction n with
  | zero =>
    intro τ v2
    unfold T_keep_l84
    exact g_none
  | succ n ih =>
    intro τ v2
    unfold T_keep_l84
    refine g_iload_n (pc := 84) hk dX2_keep_84 rfl ?_
    refine g_iconst (pc := 85) (v := 4) hk dX2_keep_85 rfl ?_
    refine g_icmp_ge (pc := 86) (tgt := 114) hk dX2_keep_86 rfl ?_ ?_
    · refine g_iconst (pc := 114) (v := 0) hk dX2_keep_114 rfl ?_
      refine g_istore_n (pc := 115) (i := 2) (ls' := [(2, .int 0), (0, .ref Γ.2.1), (1, .int v1)]) hk dX2_keep_115 rfl (by decide) rfl ?_
      refine g_sub (ls' := [(0, .ref Γ.2.1), (1, .int v1), (2, .int 0)]) [1, 2, 0] rfl ?_
      exact tm_keep_l116 hk hK v1 FU τ 0
    · refine g_aload_n (pc := 89) hk dX2_keep_89 rfl ?_
      refine t_getR (pc := 90) hk hK tr_0 tf_0 dX2_keep_90 ?_
      refine g_iload_n (pc := 93) hk dX2_keep_93 rfl ?_
      refine g_iconst (pc := 94) (v := 1) hk dX2_keep_94 rfl ?_
      refine g_iadd (pc := 95) hk dX2_keep_95 ?_
      refine g_iload_n (pc := 96) hk dX2_keep_96 rfl ?_
      refine g_iadd (pc := 97) hk dX2_keep_97 ?_
      refine g_aload_n (pc := 98) hk dX2_keep_98 rfl ?_
      refine t_getR (pc := 99) hk hK tr_0 tf_0 dX2_keep_99 ?_
      refine g_bipush (pc := 102) (v := 6) hk dX2_keep_102 rfl ?_
      refine g_iload_n (pc := 104) hk dX2_keep_104 rfl ?_
      refine g_iadd (pc := 105) hk dX2_keep_105 ?_
      refine t_iald (pc := 106) hk hK ta_0 dX2_keep_106 ?_
      refine t_iast (pc := 107) hk hK ta_0 dX2_keep_107 (fun τ11 => ?_)
      refine g_iincN (pc := 108) (v := 1) (ls' := fun x12 => [(2, .int x12), (0, .ref Γ.2.1), (1, .int v1)]) hk dX2_keep_108 rfl rfl (by decide) (fun _ => rfl) (fun x12 => ?_)
      refine g_goto (pc := 111) (tgt := 84) hk dX2_keep_111 rfl ?_
      refine g_sub (ls' := [(0, .ref Γ.2.1), (1, .int v1), (2, .int x12)]) [1, 2, 0] rfl ?_
      exact ih τ11 x12
theorem tm_keep_j56 {K : KT} {Γ : TG} (hk : KOK K cX2_keep 4 RX2 rm_keep none) (hK : va_K Γ.1 tcl (ttys Γ) (kS K)) (τ : TS)   : GGo K (tQ K Γ (fun r : TS => ((none : Option Value), r))) (T_keep_j56 τ) 4 (TI Γ (kS K) τ) 0 0 56 [(0, .ref Γ.2.1)] [] := by
  unfold T_keep_j56
  refine g_sipush (pc := 56) (v := 230) hk dX2_keep_56 rfl ?_
  refine g_bipush (pc := 59) (v := 59) hk dX2_keep_59 rfl ?_
  refine g_aload_n (pc := 61) hk dX2_keep_61 rfl ?_
  refine t_getR (pc := 62) hk hK tr_0 tf_0 dX2_keep_62 ?_
  refine g_iconst (pc := 65) (v := 3) hk dX2_keep_65 rfl ?_
  refine t_ialdC (pc := 66) (j := 3) hk hK ta_0 rfl rfl dX2_keep_66 ?_
  refine g_imul (pc := 67) hk dX2_keep_67 ?_
  refine g_iadd (pc := 68) hk dX2_keep_68 ?_
  refine g_istore_nN (pc := 69) (i := 1) (ls' := fun x1 => [(1, .int x1), (0, .ref Γ.2.1)]) hk dX2_keep_69 rfl (by decide) (fun _ => rfl) (fun x1 => ?_)
  refine g_aload_n (pc := 70) hk dX2_keep_70 rfl ?_
  refine t_getR (pc := 71) hk hK tr_0 tf_0 dX2_keep_71 ?_
  refine g_iload_n (pc := 74) hk dX2_keep_74 rfl ?_
  refine g_aload_n (pc := 75) hk dX2_keep_75 rfl ?_
  refine t_getR (pc := 76) hk hK tr_0 tf_0 dX2_keep_76 ?_
  refine g_iconst (pc := 79) (v := 0) hk dX2_keep_79 rfl ?_
  refine t_ialdC (pc := 80) (j := 0) hk hK ta_0 rfl rfl dX2_keep_80 ?_
  refine t_iast (pc := 81) hk hK ta_0 dX2_keep_81 (fun τ2 => ?_)
  refine g_iconst (pc := 82) (v := 0) hk dX2_keep_82 rfl ?_
  refine g_istore_n (pc := 83) (i := 2) (ls' := [(2, .int 0), (1, .int x1), (0, .ref Γ.2.1)]) hk dX2_keep_83 rfl (by decide) rfl ?_
  refine g_sub (ls' := [(0, .ref Γ.2.1), (1, .int x1), (2, .int 0)]) [2, 1, 0] rfl ?_
  exact tm_keep_l84 hk hK x1 FU τ2 0
theorem tm_keep_l13 {K : KT} {Γ : TG} (hk : KOK K cX2_keep 4 RX2 rm_keep none) (hK : va_K Γ.1 tcl (ttys Γ) (kS K))    : ∀ (n : Nat) (τ : TS) (v1 : Int32), GGo K (tQ K Γ (fun r : TS => ((none : Option Value), r))) (T_keep_l13 n τ v1) 4 (TI Γ (kS K) τ) 0 0 13 [(0, .ref Γ.2.1), (1, .int v1)] [] := by
  intro n
  induction n with
  | zero =>
    intro τ v1
    unfold T_keep_l13
    exact g_none
  | succ n ih =>
    intro τ v1
    unfold T_keep_l13
    refine g_iload_n (pc := 13) hk dX2_keep_13 rfl ?_
    refine g_sipush (pc := 14) (v := 1711) hk dX2_keep_14 rfl ?_
    refine g_icmp_ge (pc := 17) (tgt := 46) hk dX2_keep_17 rfl ?_ ?_
    · refine g_aload_n (pc := 46) hk dX2_keep_46 rfl ?_
      refine t_getR (pc := 47) hk hK tr_0 tf_0 dX2_keep_47 ?_
      refine g_iconst (pc := 50) (v := 3) hk dX2_keep_50 rfl ?_
      refine g_dup2 (pc := 51) hk dX2_keep_51 rfl rfl ?_
      refine t_ialdC (pc := 52) (j := 3) hk hK ta_0 rfl rfl dX2_keep_52 ?_
      refine g_iconst (pc := 53) (v := 1) hk dX2_keep_53 rfl ?_
      refine g_isub (pc := 54) hk dX2_keep_54 ?_
      refine t_iastC (pc := 55) (j := 3) hk hK ta_0 rfl rfl dX2_keep_55 (fun τ13 => ?_)
      refine g_sub (ls' := [(0, .ref Γ.2.1)]) [0] rfl ?_
      exact tm_keep_j56 hk hK τ13
    · refine g_aload_n (pc := 20) hk dX2_keep_20 rfl ?_
      refine t_getR (pc := 21) hk hK tr_0 tf_0 dX2_keep_21 ?_
      refine g_sipush (pc := 24) (v := 230) hk dX2_keep_24 rfl ?_
      refine g_iload_n (pc := 27) hk dX2_keep_27 rfl ?_
      refine g_iadd (pc := 28) hk dX2_keep_28 ?_
      refine g_aload_n (pc := 29) hk dX2_keep_29 rfl ?_
      refine t_getR (pc := 30) hk hK tr_0 tf_0 dX2_keep_30 ?_
      refine g_sipush (pc := 33) (v := 289) hk dX2_keep_33 rfl ?_
      refine g_iload_n (pc := 36) hk dX2_keep_36 rfl ?_
      refine g_iadd (pc := 37) hk dX2_keep_37 ?_
      refine t_iald (pc := 38) hk hK ta_0 dX2_keep_38 ?_
      refine t_iast (pc := 39) hk hK ta_0 dX2_keep_39 (fun τ14 => ?_)
      refine g_iincN (pc := 40) (v := 1) (ls' := fun x15 => [(1, .int x15), (0, .ref Γ.2.1)]) hk dX2_keep_40 rfl rfl (by decide) (fun _ => rfl) (fun x15 => ?_)
      refine g_goto (pc := 43) (tgt := 13) hk dX2_keep_43 rfl ?_
      refine g_sub (ls' := [(0, .ref Γ.2.1), (1, .int x15)]) [1, 0] rfl ?_
      exact ih τ14 x15
theorem tm_keep (Γ : TG) (τ : TS)   (r : TS) (h : T_keep τ = some r) : TMet Γ yX2_keep cX2_keep 4 none rm_keep [.ref Γ.2.1] τ none r := by
  refine t_met (view := (fun r : TS => ((none : Option Value), r))) rfl rfl (ls0 := [(0, .ref Γ.2.1)]) rfl (fun K hk hK => ?_) r h
  unfold T_keep
  refine g_aload_n (pc := 0) hk dX2_keep_0 rfl ?_
  refine t_getR (pc := 1) hk hK tr_0 tf_0 dX2_keep_1 ?_
  refine g_iconst (pc := 4) (v := 3) hk dX2_keep_4 rfl ?_
  refine t_ialdC (pc := 5) (j := 3) hk hK ta_0 rfl rfl dX2_keep_5 ?_
  refine g_bipush (pc := 6) (v := 30) hk dX2_keep_6 rfl ?_
  refine g_icmp_ne (pc := 8) (tgt := 56) hk dX2_keep_8 rfl ?_ ?_
  · exact tm_keep_j56 hk hK τ
  · refine g_iconst (pc := 11) (v := 0) hk dX2_keep_11 rfl ?_
    refine g_istore_n (pc := 12) (i := 1) (ls' := [(1, .int 0), (0, .ref Γ.2.1)]) hk dX2_keep_12 rfl (by decide) rfl ?_
    refine g_sub (ls' := [(0, .ref Γ.2.1), (1, .int 0)]) [1, 0] rfl ?_
    exact tm_keep_l13 hk hK FU τ 0
def rm_otherOf : Room := { frames := 0, cells := 0, slots := 0, locals := 0 }
theorem hv_otherOf : yX2_otherOf.cls = RX2 ∧ yX2_otherOf.cls ≠ "java/lang/invoke/MethodHandle" ∧ yX2_otherOf.cls ≠ "java/lang/invoke/VarHandle" ∧ (parseMethodDescriptor yX2_otherOf.desc).map (fun d => d.parameters.length) = some 1 := by decide +kernel
theorem tm_otherOf (Γ : TG) (τ : TS) (v1 : Int32)  (r : Int32) (h : T_otherOf τ v1 = some r) : TMet Γ yX2_otherOf cX2_otherOf 2 (some .int) rm_otherOf [.ref Γ.2.1, .int v1] τ (some (.int r)) τ := by
  refine t_met (view := (fun r : Int32 => (some (Value.int r), τ))) rfl rfl (ls0 := [(0, .ref Γ.2.1), (1, .int v1)]) rfl (fun K hk hK => ?_) r h
  unfold T_otherOf
  refine g_aload_n (pc := 0) hk dX2_otherOf_0 rfl ?_
  refine t_getR (pc := 1) hk hK tr_0 tf_0 dX2_otherOf_1 ?_
  refine g_bipush (pc := 4) (v := 50) hk dX2_otherOf_4 rfl ?_
  refine g_iload_n (pc := 6) hk dX2_otherOf_6 rfl ?_
  refine g_iadd (pc := 7) hk dX2_otherOf_7 ?_
  refine t_iald (pc := 8) hk hK ta_0 dX2_otherOf_8 ?_
  exact t_iret (pc := 9) hk rfl dX2_otherOf_9
def rm_name : Room := { frames := 2, cells := 0, slots := 0, locals := 43 }
theorem hv_name : yX2_name.cls = RX2 ∧ yX2_name.cls ≠ "java/lang/invoke/MethodHandle" ∧ yX2_name.cls ≠ "java/lang/invoke/VarHandle" ∧ (parseMethodDescriptor yX2_name.desc).map (fun d => d.parameters.length) = some 1 := by decide +kernel
theorem tm_name_j86 {K : KT} {Γ : TG} (hk : KOK K cX2_name 2 RX2 rm_name none) (hK : va_K Γ.1 tcl (ttys Γ) (kS K)) (τ : TS) (s1 : Int32) (s2 : Int32)   : GGo K (tQ K Γ (fun r : TS => ((none : Option Value), r))) (T_name_j86 τ s1 s2) 2 (TI Γ (kS K) τ) 0 0 86 [(0, .ref Γ.2.1)] [.int s2, .int s1, .ref (Γ.2.2.1 20)] := by
  unfold T_name_j86
  refine t_iast (pc := 86) hk hK ta_20 dX2_name_86 (fun τ16 => ?_)
  refine g_aload_n (pc := 87) hk dX2_name_87 rfl ?_
  refine t_getR (pc := 88) hk hK tr_20 tf_20 dX2_name_88 ?_
  refine g_bipush (pc := 91) (v := 6) hk dX2_name_91 rfl ?_
  refine g_aload_n (pc := 93) hk dX2_name_93 rfl ?_
  refine t_getR (pc := 94) hk hK tr_0 tf_0 dX2_name_94 ?_
  refine g_bipush (pc := 97) (v := 7) hk dX2_name_97 rfl ?_
  refine t_ialdC (pc := 99) (j := 7) hk hK ta_0 rfl rfl dX2_name_99 ?_
  refine t_iastC (pc := 100) (j := 6) hk hK ta_20 rfl rfl dX2_name_100 (fun τ17 => ?_)
  exact t_vret (pc := 101) hk rfl dX2_name_101
theorem tm_name (Γ : TG) (τ : TS) (v1 : Int32)  (r : TS) (h : T_name τ v1 = some r) : TMet Γ yX2_name cX2_name 2 none rm_name [.ref Γ.2.1, .int v1] τ none r := by
  refine t_met (view := (fun r : TS => ((none : Option Value), r))) rfl rfl (ls0 := [(0, .ref Γ.2.1), (1, .int v1)]) rfl (fun K hk hK => ?_) r h
  unfold T_name
  refine g_aload_n (pc := 0) hk dX2_name_0 rfl ?_
  refine t_getR (pc := 1) hk hK tr_20 tf_20 dX2_name_1 ?_
  refine g_iconst (pc := 4) (v := 0) hk dX2_name_4 rfl ?_
  refine g_aload_n (pc := 5) hk dX2_name_5 rfl ?_
  refine t_getR (pc := 6) hk hK tr_0 tf_0 dX2_name_6 ?_
  refine g_bipush (pc := 9) (v := 6) hk dX2_name_9 rfl ?_
  refine t_ialdC (pc := 11) (j := 6) hk hK ta_0 rfl rfl dX2_name_11 ?_
  refine t_iastC (pc := 12) (j := 0) hk hK ta_20 rfl rfl dX2_name_12 (fun τ1 => ?_)
  refine g_aload_n (pc := 13) hk dX2_name_13 rfl ?_
  refine t_getR (pc := 14) hk hK tr_20 tf_20 dX2_name_14 ?_
  refine g_iconst (pc := 17) (v := 1) hk dX2_name_17 rfl ?_
  refine g_iload_n (pc := 18) hk dX2_name_18 rfl ?_
  refine t_iastC (pc := 19) (j := 1) hk hK ta_20 rfl rfl dX2_name_19 (fun τ2 => ?_)
  refine g_aload_n (pc := 20) hk dX2_name_20 rfl ?_
  refine t_getR (pc := 21) hk hK tr_20 tf_20 dX2_name_21 ?_
  refine g_iconst (pc := 24) (v := 2) hk dX2_name_24 rfl ?_
  refine g_aload_n (pc := 25) hk dX2_name_25 rfl ?_
  refine g_iload_n (pc := 26) hk dX2_name_26 rfl ?_
  refine g_iconst (pc := 27) (v := 1) hk dX2_name_27 rfl ?_
  refine g_ob1 (fun r3 h4 => ?_)
  refine t_callV (pc := 28) hk hK [.int v1, .int 1] [.int 2, .ref (Γ.2.2.1 20)] (tm_get Γ τ2 v1 1 r3 h4) (lw_V q1488 q1490 qs57 q128 q1491) hv_get rfl rfl rfl dX2_name_28 rfl rfl ?_
  refine t_iastC (pc := 31) (j := 2) hk hK ta_20 rfl rfl dX2_name_31 (fun τ5 => ?_)
  refine g_aload_n (pc := 32) hk dX2_name_32 rfl ?_
  refine t_getR (pc := 33) hk hK tr_20 tf_20 dX2_name_33 ?_
  refine g_iconst (pc := 36) (v := 3) hk dX2_name_36 rfl ?_
  refine g_aload_n (pc := 37) hk dX2_name_37 rfl ?_
  refine g_iload_n (pc := 38) hk dX2_name_38 rfl ?_
  refine g_ob1 (fun r6 h7 => ?_)
  refine t_callV (pc := 39) hk hK [.int v1] [.int 3, .ref (Γ.2.2.1 20)] (tm_otherOf Γ τ5 v1 r6 h7) (lw_V q1691 q1693 qs91 q128 q1694) hv_otherOf rfl rfl rfl dX2_name_39 rfl rfl ?_
  refine t_iastC (pc := 42) (j := 3) hk hK ta_20 rfl rfl dX2_name_42 (fun τ8 => ?_)
  refine g_aload_n (pc := 43) hk dX2_name_43 rfl ?_
  refine t_getR (pc := 44) hk hK tr_20 tf_20 dX2_name_44 ?_
  refine g_iconst (pc := 47) (v := 4) hk dX2_name_47 rfl ?_
  refine g_aload_n (pc := 48) hk dX2_name_48 rfl ?_
  refine g_iload_n (pc := 49) hk dX2_name_49 rfl ?_
  refine g_iconst (pc := 50) (v := 2) hk dX2_name_50 rfl ?_
  refine g_ob1 (fun r9 h10 => ?_)
  refine t_callV (pc := 51) hk hK [.int v1, .int 2] [.int 4, .ref (Γ.2.2.1 20)] (tm_get Γ τ8 v1 2 r9 h10) (lw_V q1488 q1490 qs57 q128 q1491) hv_get rfl rfl rfl dX2_name_51 rfl rfl ?_
  refine t_iastC (pc := 54) (j := 4) hk hK ta_20 rfl rfl dX2_name_54 (fun τ11 => ?_)
  refine g_aload_n (pc := 55) hk dX2_name_55 rfl ?_
  refine t_getR (pc := 56) hk hK tr_20 tf_20 dX2_name_56 ?_
  refine g_iconst (pc := 59) (v := 5) hk dX2_name_59 rfl ?_
  refine g_aload_n (pc := 60) hk dX2_name_60 rfl ?_
  refine g_aload_n (pc := 61) hk dX2_name_61 rfl ?_
  refine g_iload_n (pc := 62) hk dX2_name_62 rfl ?_
  refine g_ob1 (fun r12 h13 => ?_)
  refine t_callV (pc := 63) hk hK [.int v1] [.ref Γ.2.1, .int 5, .ref (Γ.2.2.1 20)] (tm_otherOf Γ τ11 v1 r12 h13) (lw_V q1691 q1693 qs91 q128 q1694) hv_otherOf rfl rfl rfl dX2_name_63 rfl rfl ?_
  refine g_ob1 (fun r14 h15 => ?_)
  refine t_callV (pc := 66) hk hK [.int r12] [.int 5, .ref (Γ.2.2.1 20)] (tm_isPerson Γ τ11 r12 r14 h15) (lw_V q1671 q1673 qs86 q128 q1674) hv_isPerson rfl rfl rfl dX2_name_66 rfl rfl ?_
  refine g_if_eq (pc := 69) (tgt := 85) hk dX2_name_69 rfl ?_ ?_
  · refine g_iconst (pc := 85) (v := 0) hk dX2_name_85 rfl ?_
    refine g_sub (ls' := [(0, .ref Γ.2.1)]) [0] rfl ?_
    exact tm_name_j86 hk hK τ11 5 0
  · refine g_aload_n (pc := 72) hk dX2_name_72 rfl ?_
    refine g_aload_n (pc := 73) hk dX2_name_73 rfl ?_
    refine g_iload_n (pc := 74) hk dX2_name_74 rfl ?_
    refine g_ob1 (fun r18 h19 => ?_)
    refine t_callV (pc := 75) hk hK [.int v1] [.ref Γ.2.1, .int 5, .ref (Γ.2.2.1 20)] (tm_otherOf Γ τ11 v1 r18 h19) (lw_V q1691 q1693 qs91 q128 q1694) hv_otherOf rfl rfl rfl dX2_name_75 rfl rfl ?_
    refine g_iconst (pc := 78) (v := 0) hk dX2_name_78 rfl ?_
    refine g_ob1 (fun r20 h21 => ?_)
    refine t_callV (pc := 79) hk hK [.int r18, .int 0] [.int 5, .ref (Γ.2.2.1 20)] (tm_get Γ τ11 r18 0 r20 h21) (lw_V q1488 q1490 qs57 q128 q1491) hv_get rfl rfl rfl dX2_name_79 rfl rfl ?_
    refine g_goto (pc := 82) (tgt := 86) hk dX2_name_82 rfl ?_
    refine g_sub (ls' := [(0, .ref Γ.2.1)]) [0] rfl ?_
    exact tm_name_j86 hk hK τ11 5 r20
def rm_roundOf : Room := { frames := 1, cells := 0, slots := 0, locals := 21 }
theorem hv_roundOf : yX2_roundOf.cls = RX2 ∧ yX2_roundOf.cls ≠ "java/lang/invoke/MethodHandle" ∧ yX2_roundOf.cls ≠ "java/lang/invoke/VarHandle" ∧ (parseMethodDescriptor yX2_roundOf.desc).map (fun d => d.parameters.length) = some 1 := by decide +kernel
theorem tm_roundOf_l8 {K : KT} {Γ : TG} (hk : KOK K cX2_roundOf 4 RX2 rm_roundOf (some .int)) (hK : va_K Γ.1 tcl (ttys Γ) (kS K)) (τ : TS) (v1 : Int32)   : ∀ (n : Nat) (v2 : Int32) (v3 : Int32), GGo K (tQ K Γ (fun r : Int32 => (some (Value.int r), τ))) (T_roundOf_l8 τ v1 n v2 v3) 4 (TI Γ (kS K) τ) 0 0 8 [(0, .ref Γ.2.1), (1, .int v1), (2, .int v2), (3, .int v3)] [] := by
  intro n
  induction n with
  | zero =>
    intro v2 v3
    unfold T_roundOf_l8
    exact g_none
  | succ n ih =>
    intro v2 v3
    unfold T_roundOf_l8
    refine g_iload_n (pc := 8) hk dX2_roundOf_8 rfl ?_
    refine g_iload_n (pc := 9) hk dX2_roundOf_9 rfl ?_
    refine g_icmp_eq (pc := 10) (tgt := 25) hk dX2_roundOf_10 rfl ?_ ?_
    · refine g_iload_n (pc := 25) hk dX2_roundOf_25 rfl ?_
      exact t_iret (pc := 26) hk rfl dX2_roundOf_26
    · refine g_iincN (pc := 13) (v := 1) (ls' := fun x3 => [(2, .int x3), (0, .ref Γ.2.1), (1, .int v1), (3, .int v3)]) hk dX2_roundOf_13 rfl rfl (by decide) (fun _ => rfl) (fun x3 => ?_)
      refine g_aload_n (pc := 16) hk dX2_roundOf_16 rfl ?_
      refine g_iload_n (pc := 17) hk dX2_roundOf_17 rfl ?_
      refine g_ob1 (fun r4 h5 => ?_)
      refine t_callV (pc := 18) hk hK [.int v3] [] (tm_otherOf Γ τ v3 r4 h5) (lw_V q1691 q1693 qs91 q128 q1694) hv_otherOf rfl rfl rfl dX2_roundOf_18 rfl rfl ?_
      refine g_istore_n (pc := 21) (i := 3) (ls' := [(3, .int r4), (2, .int x3), (0, .ref Γ.2.1), (1, .int v1)]) hk dX2_roundOf_21 rfl (by decide) rfl ?_
      refine g_goto (pc := 22) (tgt := 8) hk dX2_roundOf_22 rfl ?_
      refine g_sub (ls' := [(0, .ref Γ.2.1), (1, .int v1), (2, .int x3), (3, .int r4)]) [2, 3, 1, 0] rfl ?_
      exact ih x3 r4
theorem tm_roundOf (Γ : TG) (τ : TS) (v1 : Int32)  (r : Int32) (h : T_roundOf τ v1 = some r) : TMet Γ yX2_roundOf cX2_roundOf 4 (some .int) rm_roundOf [.ref Γ.2.1, .int v1] τ (some (.int r)) τ := by
  refine t_met (view := (fun r : Int32 => (some (Value.int r), τ))) rfl rfl (ls0 := [(0, .ref Γ.2.1), (1, .int v1)]) rfl (fun K hk hK => ?_) r h
  unfold T_roundOf
  refine g_iconst (pc := 0) (v := 1) hk dX2_roundOf_0 rfl ?_
  refine g_istore_n (pc := 1) (i := 2) (ls' := [(2, .int 1), (0, .ref Γ.2.1), (1, .int v1)]) hk dX2_roundOf_1 rfl (by decide) rfl ?_
  refine g_aload_n (pc := 2) hk dX2_roundOf_2 rfl ?_
  refine g_iload_n (pc := 3) hk dX2_roundOf_3 rfl ?_
  refine g_ob1 (fun r1 h2 => ?_)
  refine t_callV (pc := 4) hk hK [.int v1] [] (tm_otherOf Γ τ v1 r1 h2) (lw_V q1691 q1693 qs91 q128 q1694) hv_otherOf rfl rfl rfl dX2_roundOf_4 rfl rfl ?_
  refine g_istore_n (pc := 7) (i := 3) (ls' := [(3, .int r1), (2, .int 1), (0, .ref Γ.2.1), (1, .int v1)]) hk dX2_roundOf_7 rfl (by decide) rfl ?_
  refine g_sub (ls' := [(0, .ref Γ.2.1), (1, .int v1), (2, .int 1), (3, .int r1)]) [2, 3, 1, 0] rfl ?_
  exact tm_roundOf_l8 hk hK τ v1 FU 1 r1
def rm_goneFrom : Room := { frames := 2, cells := 0, slots := 0, locals := 44 }
theorem hv_goneFrom : yX2_goneFrom.cls = RX2 ∧ yX2_goneFrom.cls ≠ "java/lang/invoke/MethodHandle" ∧ yX2_goneFrom.cls ≠ "java/lang/invoke/VarHandle" ∧ (parseMethodDescriptor yX2_goneFrom.desc).map (fun d => d.parameters.length) = some 2 := by decide +kernel
theorem tm_goneFrom_l65 {K : KT} {Γ : TG} (hk : KOK K cX2_goneFrom 8 RX2 rm_goneFrom (some .int)) (hK : va_K Γ.1 tcl (ttys Γ) (kS K)) (τ : TS)   : ∀ (n : Nat) (v4 : Int32) (v5 : Int64), GGo K (tQ K Γ (fun r : Int32 => (some (Value.int r), τ))) (T_goneFrom_l65 τ n v4 v5) 8 (TI Γ (kS K) τ) 0 0 65 [(0, .ref Γ.2.1), (4, .int v4), (5, .long v5)] [] := by
  intro n
  induction n with
  | zero =>
    intro v4 v5
    unfold T_goneFrom_l65
    exact g_none
  | succ n ih =>
    intro v4 v5
    unfold T_goneFrom_l65
    refine g_lload (pc := 65) hk dX2_goneFrom_65 rfl ?_
    refine g_lconst (pc := 67) (v := 0) hk dX2_goneFrom_67 rfl ?_
    refine g_lcmp_le (pc := 68) (tgt := 89) hk dX2_goneFrom_68 dX2_goneFrom_69 rfl ?_ ?_
    · refine g_iload (pc := 89) hk dX2_goneFrom_89 rfl ?_
      exact t_iret (pc := 91) hk rfl dX2_goneFrom_91
    · refine g_aload_n (pc := 72) hk dX2_goneFrom_72 rfl ?_
      refine g_iload (pc := 73) hk dX2_goneFrom_73 rfl ?_
      refine g_ob1 (fun r4 h5 => ?_)
      refine t_callV (pc := 75) hk hK [.int v4] [] (tm_otherOf Γ τ v4 r4 h5) (lw_V q1691 q1693 qs91 q128 q1694) hv_otherOf rfl rfl rfl dX2_goneFrom_75 rfl rfl ?_
      refine g_istore (pc := 78) (i := 4) (ls' := [(4, .int r4), (0, .ref Γ.2.1), (5, .long v5)]) hk dX2_goneFrom_78 (by decide) rfl ?_
      refine g_lload (pc := 80) hk dX2_goneFrom_80 rfl ?_
      refine g_lconst (pc := 82) (v := 1) hk dX2_goneFrom_82 rfl ?_
      refine g_lsub (pc := 83) hk dX2_goneFrom_83 ?_
      refine g_lstoreN (pc := 84) (i := 5) (ls' := fun x6 => [(5, .long x6), (4, .int r4), (0, .ref Γ.2.1)]) hk dX2_goneFrom_84 (by decide) (fun _ => rfl) (fun x6 => ?_)
      refine g_goto (pc := 86) (tgt := 65) hk dX2_goneFrom_86 rfl ?_
      refine g_sub (ls' := [(0, .ref Γ.2.1), (4, .int r4), (5, .long x6)]) [2, 1, 0] rfl ?_
      exact ih r4 x6
theorem tm_goneFrom_j43 {K : KT} {Γ : TG} (hk : KOK K cX2_goneFrom 8 RX2 rm_goneFrom (some .int)) (hK : va_K Γ.1 tcl (ttys Γ) (kS K)) (τ : TS) (v4 : Int32) (v5 : Int64)   : GGo K (tQ K Γ (fun r : Int32 => (some (Value.int r), τ))) (T_goneFrom_j43 τ v4 v5) 8 (TI Γ (kS K) τ) 0 0 43 [(0, .ref Γ.2.1), (4, .int v4), (5, .long v5)] [] := by
  unfold T_goneFrom_j43
  refine g_lload (pc := 43) hk dX2_goneFrom_43 rfl ?_
  refine g_lconst (pc := 45) (v := 0) hk dX2_goneFrom_45 rfl ?_
  refine g_lcmp_gt (pc := 46) (tgt := 53) hk dX2_goneFrom_46 dX2_goneFrom_47 rfl ?_ ?_
  · refine g_lload (pc := 53) hk dX2_goneFrom_53 rfl ?_
    refine g_aload_n (pc := 55) hk dX2_goneFrom_55 rfl ?_
    refine g_iload (pc := 56) hk dX2_goneFrom_56 rfl ?_
    refine g_ob1 (fun r1 h2 => ?_)
    refine t_callV (pc := 58) hk hK [.int v4] [.long v5] (tm_roundOf Γ τ v4 r1 h2) (lw_V q1712 q1714 qs96 q128 q1715) hv_roundOf rfl rfl rfl dX2_goneFrom_58 rfl rfl ?_
    refine g_i2l (pc := 61) hk dX2_goneFrom_61 ?_
    refine g_lremG (pc := 62) hk dX2_goneFrom_62 (fun _ => ?_)
    refine g_lstoreN (pc := 63) (i := 5) (ls' := fun x3 => [(5, .long x3), (0, .ref Γ.2.1), (4, .int v4)]) hk dX2_goneFrom_63 (by decide) (fun _ => rfl) (fun x3 => ?_)
    refine g_sub (ls' := [(0, .ref Γ.2.1), (4, .int v4), (5, .long x3)]) [1, 2, 0] rfl ?_
    exact tm_goneFrom_l65 hk hK τ FU v4 x3
  · refine g_iload (pc := 50) hk dX2_goneFrom_50 rfl ?_
    exact t_iret (pc := 52) hk rfl dX2_goneFrom_52
theorem tm_goneFrom_l9 {K : KT} {Γ : TG} (hk : KOK K cX2_goneFrom 8 RX2 rm_goneFrom (some .int)) (hK : va_K Γ.1 tcl (ttys Γ) (kS K)) (τ : TS)   : ∀ (n : Nat) (v4 : Int32) (v5 : Int64) (v7 : Int32), GGo K (tQ K Γ (fun r : Int32 => (some (Value.int r), τ))) (T_goneFrom_l9 τ n v4 v5 v7) 8 (TI Γ (kS K) τ) 0 0 9 [(0, .ref Γ.2.1), (4, .int v4), (5, .long v5), (7, .int v7)] [] := by
  intro n
  induction n with
  | zero =>
    intro v4 v5 v7
    unfold T_goneFrom_l9
    exact g_none
  | succ n ih =>
    intro v4 v5 v7
    unfold T_goneFrom_l9
    refine g_iload (pc := 9) hk dX2_goneFrom_9 rfl ?_
    refine g_bipush (pc := 11) (v := 8) hk dX2_goneFrom_11 rfl ?_
    refine g_icmp_ge (pc := 13) (tgt := 43) hk dX2_goneFrom_13 rfl ?_ ?_
    · refine g_sub (ls' := [(0, .ref Γ.2.1), (4, .int v4), (5, .long v5)]) [0, 1, 2] rfl ?_
      exact tm_goneFrom_j43 hk hK τ v4 v5
    · refine g_lload (pc := 16) hk dX2_goneFrom_16 rfl ?_
      refine g_lconst (pc := 18) (v := 0) hk dX2_goneFrom_18 rfl ?_
      refine g_lcmp_le (pc := 19) (tgt := 43) hk dX2_goneFrom_19 dX2_goneFrom_20 rfl ?_ ?_
      · refine g_sub (ls' := [(0, .ref Γ.2.1), (4, .int v4), (5, .long v5)]) [0, 1, 2] rfl ?_
        exact tm_goneFrom_j43 hk hK τ v4 v5
      · refine g_aload_n (pc := 23) hk dX2_goneFrom_23 rfl ?_
        refine g_iload (pc := 24) hk dX2_goneFrom_24 rfl ?_
        refine g_ob1 (fun r7 h8 => ?_)
        refine t_callV (pc := 26) hk hK [.int v4] [] (tm_otherOf Γ τ v4 r7 h8) (lw_V q1691 q1693 qs91 q128 q1694) hv_otherOf rfl rfl rfl dX2_goneFrom_26 rfl rfl ?_
        refine g_istore (pc := 29) (i := 4) (ls' := [(4, .int r7), (0, .ref Γ.2.1), (5, .long v5), (7, .int v7)]) hk dX2_goneFrom_29 (by decide) rfl ?_
        refine g_lload (pc := 31) hk dX2_goneFrom_31 rfl ?_
        refine g_lconst (pc := 33) (v := 1) hk dX2_goneFrom_33 rfl ?_
        refine g_lsub (pc := 34) hk dX2_goneFrom_34 ?_
        refine g_lstoreN (pc := 35) (i := 5) (ls' := fun x9 => [(5, .long x9), (4, .int r7), (0, .ref Γ.2.1), (7, .int v7)]) hk dX2_goneFrom_35 (by decide) (fun _ => rfl) (fun x9 => ?_)
        refine g_iincN (pc := 37) (v := 1) (ls' := fun x10 => [(7, .int x10), (5, .long x9), (4, .int r7), (0, .ref Γ.2.1)]) hk dX2_goneFrom_37 rfl rfl (by decide) (fun _ => rfl) (fun x10 => ?_)
        refine g_goto (pc := 40) (tgt := 9) hk dX2_goneFrom_40 rfl ?_
        refine g_sub (ls' := [(0, .ref Γ.2.1), (4, .int r7), (5, .long x9), (7, .int x10)]) [3, 2, 1, 0] rfl ?_
        exact ih r7 x9 x10
theorem tm_goneFrom (Γ : TG) (τ : TS) (v1 : Int32) (v2 : Int64)  (r : Int32) (h : T_goneFrom τ v1 v2 = some r) : TMet Γ yX2_goneFrom cX2_goneFrom 8 (some .int) rm_goneFrom [.ref Γ.2.1, .int v1, .long v2] τ (some (.int r)) τ := by
  refine t_met (view := (fun r : Int32 => (some (Value.int r), τ))) rfl rfl (ls0 := [(0, .ref Γ.2.1), (1, .int v1), (2, .long v2)]) rfl (fun K hk hK => ?_) r h
  unfold T_goneFrom
  refine g_iload_n (pc := 0) hk dX2_goneFrom_0 rfl ?_
  refine g_istore (pc := 1) (i := 4) (ls' := [(4, .int v1), (0, .ref Γ.2.1), (1, .int v1), (2, .long v2)]) hk dX2_goneFrom_1 (by decide) rfl ?_
  refine g_lload_n (pc := 3) hk dX2_goneFrom_3 rfl ?_
  refine g_lstore (pc := 4) (i := 5) (ls' := [(5, .long v2), (4, .int v1), (0, .ref Γ.2.1), (1, .int v1), (2, .long v2)]) hk dX2_goneFrom_4 (by decide) rfl ?_
  refine g_iconst (pc := 6) (v := 0) hk dX2_goneFrom_6 rfl ?_
  refine g_istore (pc := 7) (i := 7) (ls' := [(7, .int 0), (5, .long v2), (4, .int v1), (0, .ref Γ.2.1), (1, .int v1), (2, .long v2)]) hk dX2_goneFrom_7 (by decide) rfl ?_
  refine g_sub (ls' := [(0, .ref Γ.2.1), (4, .int v1), (5, .long v2), (7, .int 0)]) [3, 2, 1, 0] rfl ?_
  exact tm_goneFrom_l9 hk hK τ FU v1 v2 0
def rm_behindBy : Room := { frames := 3, cells := 0, slots := 0, locals := 71 }
theorem hv_behindBy : yX2_behindBy.cls = RX2 ∧ yX2_behindBy.cls ≠ "java/lang/invoke/MethodHandle" ∧ yX2_behindBy.cls ≠ "java/lang/invoke/VarHandle" ∧ (parseMethodDescriptor yX2_behindBy.desc).map (fun d => d.parameters.length) = some 2 := by decide +kernel
theorem tm_behindBy (Γ : TG) (τ : TS) (v1 : Int64) (v3 : Int64)  (r : Int64) (h : T_behindBy τ v1 v3 = some r) : TMet Γ yX2_behindBy cX2_behindBy 5 (some .long) rm_behindBy [.ref Γ.2.1, .long v1, .long v3] τ (some (.long r)) τ := by
  refine t_met (view := (fun r : Int64 => (some (Value.long r), τ))) rfl rfl (ls0 := [(0, .ref Γ.2.1), (1, .long v1), (3, .long v3)]) rfl (fun K hk hK => ?_) r h
  unfold T_behindBy
  refine g_lload_n (pc := 0) hk dX2_behindBy_0 rfl ?_
  refine g_lconst (pc := 1) (v := 0) hk dX2_behindBy_1 rfl ?_
  refine g_lcmp_lt (pc := 2) (tgt := 14) hk dX2_behindBy_2 dX2_behindBy_3 rfl ?_ ?_
  · refine g_lconst (pc := 14) (v := 0) hk dX2_behindBy_14 rfl ?_
    refine g_goto (pc := 15) (tgt := 26) hk dX2_behindBy_15 rfl ?_
    exact t_lret (pc := 26) hk rfl dX2_behindBy_26
  · refine g_lload_n (pc := 6) hk dX2_behindBy_6 rfl ?_
    refine g_ldc2 (pc := 7) (v := 8) hk q1707 dX2_behindBy_7 ?_
    refine g_lcmp_lt (pc := 10) (tgt := 18) hk dX2_behindBy_10 dX2_behindBy_11 rfl ?_ ?_
    · refine g_aload_n (pc := 18) hk dX2_behindBy_18 rfl ?_
      refine g_lload_n (pc := 19) hk dX2_behindBy_19 rfl ?_
      refine g_l2i (pc := 20) hk dX2_behindBy_20 ?_
      refine g_lload_n (pc := 21) hk dX2_behindBy_21 rfl ?_
      refine g_ob1 (fun r1 h2 => ?_)
      refine t_callV (pc := 22) hk hK [.int (Int64.toInt32 v1), .long v3] [] (tm_goneFrom Γ τ (Int64.toInt32 v1) v3 r1 h2) (lw_V q1708 q1710 qs95 q128 q1711) hv_goneFrom rfl rfl rfl dX2_behindBy_22 rfl rfl ?_
      refine g_i2l (pc := 25) hk dX2_behindBy_25 ?_
      exact t_lret (pc := 26) hk rfl dX2_behindBy_26
    · refine g_lconst (pc := 14) (v := 0) hk dX2_behindBy_14 rfl ?_
      refine g_goto (pc := 15) (tgt := 26) hk dX2_behindBy_15 rfl ?_
      exact t_lret (pc := 26) hk rfl dX2_behindBy_26
def rm_power : Room := { frames := 0, cells := 0, slots := 0, locals := 0 }
theorem hs_power : yX2_power.cls ≠ "java/lang/invoke/MethodHandle" ∧ yX2_power.cls ≠ "java/lang/invoke/VarHandle" ∧ (parseMethodDescriptor yX2_power.desc).map (fun d => d.parameters.length) = some 2 := by decide +kernel
theorem tm_power_j75 {K : KT} {Γ : TG} (hk : KOK K cX2_power 10 RX2 rm_power (some .long)) (hK : va_K Γ.1 tcl (ttys Γ) (kS K)) (v0 : Int64) (v6 : Int64) (v8 : Int64) (s0 : Int64)  (τ : TS) (k29 : Int64 → Int64 → Option (Int64)) (hk29 : ∀ (v4 : Int64) (v8 : Int64), GGo K (tQ K Γ (fun r : Int64 => (some (Value.long r), τ))) (k29 v4 v8) 10 (TI Γ (kS K) τ) 0 0 29 [(0, .long v0), (4, .long v4), (6, .long v6), (8, .long v8)] []) : GGo K (tQ K Γ (fun r : Int64 => (some (Value.long r), τ))) (T_power_j75 k29 v0 v6 v8 s0) 10 (TI Γ (kS K) τ) 0 0 75 [(0, .long v0), (6, .long v6), (8, .long v8)] [.long s0] := by
  unfold T_power_j75
  refine g_lstore (pc := 75) (i := 4) (ls' := [(4, .long s0), (0, .long v0), (6, .long v6), (8, .long v8)]) hk dX2_power_75 (by decide) rfl ?_
  refine g_lload (pc := 77) hk dX2_power_77 rfl ?_
  refine g_lconst (pc := 79) (v := 1) hk dX2_power_79 rfl ?_
  refine g_ladd (pc := 80) hk dX2_power_80 ?_
  refine g_lstoreN (pc := 81) (i := 8) (ls' := fun x2 => [(8, .long x2), (4, .long s0), (0, .long v0), (6, .long v6)]) hk dX2_power_81 (by decide) (fun _ => rfl) (fun x2 => ?_)
  refine g_goto (pc := 83) (tgt := 29) hk dX2_power_83 rfl ?_
  refine g_sub (ls' := [(0, .long v0), (4, .long s0), (6, .long v6), (8, .long x2)]) [2, 1, 3, 0] rfl ?_
  exact hk29 s0 x2
theorem tm_power_l29 {K : KT} {Γ : TG} (hk : KOK K cX2_power 10 RX2 rm_power (some .long)) (hK : va_K Γ.1 tcl (ttys Γ) (kS K)) (v0 : Int64) (v6 : Int64)  (τ : TS) : ∀ (n : Nat) (v4 : Int64) (v8 : Int64), GGo K (tQ K Γ (fun r : Int64 => (some (Value.long r), τ))) (T_power_l29 v0 v6 n v4 v8) 10 (TI Γ (kS K) τ) 0 0 29 [(0, .long v0), (4, .long v4), (6, .long v6), (8, .long v8)] [] := by
  intro n
  induction n with
  | zero =>
    intro v4 v8
    unfold T_power_l29
    exact g_none
  | succ n ih =>
    intro v4 v8
    unfold T_power_l29
    refine g_lload (pc := 29) hk dX2_power_29 rfl ?_
    refine g_lload (pc := 31) hk dX2_power_31 rfl ?_
    refine g_lcmp_ge (pc := 33) (tgt := 86) hk dX2_power_33 dX2_power_34 rfl ?_ ?_
    · refine g_lload (pc := 86) hk dX2_power_86 rfl ?_
      exact t_lret (pc := 88) hk rfl dX2_power_88
    · refine g_lload (pc := 37) hk dX2_power_37 rfl ?_
      refine g_lload_n (pc := 39) hk dX2_power_39 rfl ?_
      refine g_lmul (pc := 40) hk dX2_power_40 ?_
      refine g_lstoreN (pc := 41) (i := 4) (ls' := fun x1 => [(4, .long x1), (0, .long v0), (6, .long v6), (8, .long v8)]) hk dX2_power_41 (by decide) (fun _ => rfl) (fun x1 => ?_)
      refine g_lload (pc := 43) hk dX2_power_43 rfl ?_
      refine g_ldc2 (pc := 45) (v := 1000000) hk q1721 dX2_power_45 ?_
      refine g_lcmp_le (pc := 48) (tgt := 58) hk dX2_power_48 dX2_power_49 rfl ?_ ?_
      · refine g_lload (pc := 58) hk dX2_power_58 rfl ?_
        refine g_ldc2 (pc := 60) (v := (-1000000)) hk q1722 dX2_power_60 ?_
        refine g_lcmp_ge (pc := 63) (tgt := 73) hk dX2_power_63 dX2_power_64 rfl ?_ ?_
        · refine g_lload (pc := 73) hk dX2_power_73 rfl ?_
          refine g_sub (ls' := [(0, .long v0), (6, .long v6), (8, .long v8)]) [1, 2, 3] rfl ?_
          exact tm_power_j75 hk hK v0 v6 v8 x1 τ (T_power_l29 v0 v6 n) ih
        · refine g_ldc2 (pc := 67) (v := (-1000000)) hk q1722 dX2_power_67 ?_
          refine g_goto (pc := 70) (tgt := 75) hk dX2_power_70 rfl ?_
          refine g_sub (ls' := [(0, .long v0), (6, .long v6), (8, .long v8)]) [1, 2, 3] rfl ?_
          exact tm_power_j75 hk hK v0 v6 v8 (-1000000) τ (T_power_l29 v0 v6 n) ih
      · refine g_ldc2 (pc := 52) (v := 1000000) hk q1721 dX2_power_52 ?_
        refine g_goto (pc := 55) (tgt := 75) hk dX2_power_55 rfl ?_
        refine g_sub (ls' := [(0, .long v0), (6, .long v6), (8, .long v8)]) [1, 2, 3] rfl ?_
        exact tm_power_j75 hk hK v0 v6 v8 1000000 τ (T_power_l29 v0 v6 n) ih
theorem tm_power_j24 {K : KT} {Γ : TG} (hk : KOK K cX2_power 10 RX2 rm_power (some .long)) (hK : va_K Γ.1 tcl (ttys Γ) (kS K)) (v0 : Int64) (v4 : Int64) (s0 : Int64)  (τ : TS) : GGo K (tQ K Γ (fun r : Int64 => (some (Value.long r), τ))) (T_power_j24 v0 v4 s0) 10 (TI Γ (kS K) τ) 0 0 24 [(0, .long v0), (4, .long v4)] [.long s0] := by
  unfold T_power_j24
  refine g_lstore (pc := 24) (i := 6) (ls' := [(6, .long s0), (0, .long v0), (4, .long v4)]) hk dX2_power_24 (by decide) rfl ?_
  refine g_lconst (pc := 26) (v := 0) hk dX2_power_26 rfl ?_
  refine g_lstore (pc := 27) (i := 8) (ls' := [(8, .long 0), (6, .long s0), (0, .long v0), (4, .long v4)]) hk dX2_power_27 (by decide) rfl ?_
  refine g_sub (ls' := [(0, .long v0), (4, .long v4), (6, .long s0), (8, .long 0)]) [2, 3, 1, 0] rfl ?_
  exact tm_power_l29 hk hK v0 s0 τ FU v4 0
theorem tm_power (Γ : TG) (τ : TS) (v0 : Int64) (v2 : Int64)  (r : Int64) (h : T_power v0 v2 = some r) : TMet Γ yX2_power cX2_power 10 (some .long) rm_power [.long v0, .long v2] τ (some (.long r)) τ := by
  refine t_met (view := (fun r : Int64 => (some (Value.long r), τ))) rfl rfl (ls0 := [(0, .long v0), (2, .long v2)]) rfl (fun K hk hK => ?_) r h
  unfold T_power
  refine g_lconst (pc := 0) (v := 1) hk dX2_power_0 rfl ?_
  refine g_lstore (pc := 1) (i := 4) (ls' := [(4, .long 1), (0, .long v0), (2, .long v2)]) hk dX2_power_1 (by decide) rfl ?_
  refine g_lload_n (pc := 3) hk dX2_power_3 rfl ?_
  refine g_ldc2 (pc := 4) (v := 40) hk q1719 dX2_power_4 ?_
  refine g_lcmp_le (pc := 7) (tgt := 23) hk dX2_power_7 dX2_power_8 rfl ?_ ?_
  · refine g_lload_n (pc := 23) hk dX2_power_23 rfl ?_
    refine g_sub (ls' := [(0, .long v0), (4, .long 1)]) [1, 0] rfl ?_
    exact tm_power_j24 hk hK v0 1 v2 τ
  · refine g_ldc2 (pc := 11) (v := 40) hk q1719 dX2_power_11 ?_
    refine g_lload_n (pc := 14) hk dX2_power_14 rfl ?_
    refine g_ldc2 (pc := 15) (v := 2) hk q1720 dX2_power_15 ?_
    refine g_lrem (pc := 18) hk dX2_power_18 (by decide) ?_
    refine g_ladd (pc := 19) hk dX2_power_19 ?_
    refine g_goto (pc := 20) (tgt := 24) hk dX2_power_20 rfl ?_
    refine g_sub (ls' := [(0, .long v0), (4, .long 1)]) [1, 0] rfl ?_
    exact tm_power_j24 hk hK v0 1 (40 + (l_rem v2 2)) τ
def rm_clip : Room := { frames := 0, cells := 0, slots := 0, locals := 0 }
theorem hs_clip : yX2_clip.cls ≠ "java/lang/invoke/MethodHandle" ∧ yX2_clip.cls ≠ "java/lang/invoke/VarHandle" ∧ (parseMethodDescriptor yX2_clip.desc).map (fun d => d.parameters.length) = some 1 := by decide +kernel
theorem tm_clip (Γ : TG) (τ : TS) (v0 : Int64)  (r : Int64) (h : T_clip v0 = some r) : TMet Γ yX2_clip cX2_clip 2 (some .long) rm_clip [.long v0] τ (some (.long r)) τ := by
  refine t_met (view := (fun r : Int64 => (some (Value.long r), τ))) rfl rfl (ls0 := [(0, .long v0)]) rfl (fun K hk hK => ?_) r h
  unfold T_clip
  refine g_lload_n (pc := 0) hk dX2_clip_0 rfl ?_
  refine g_ldc2 (pc := 1) (v := 1000000) hk q1721 dX2_clip_1 ?_
  refine g_lcmp_le (pc := 4) (tgt := 14) hk dX2_clip_4 dX2_clip_5 rfl ?_ ?_
  · refine g_lload_n (pc := 14) hk dX2_clip_14 rfl ?_
    refine g_ldc2 (pc := 15) (v := (-1000000)) hk q1722 dX2_clip_15 ?_
    refine g_lcmp_ge (pc := 18) (tgt := 28) hk dX2_clip_18 dX2_clip_19 rfl ?_ ?_
    · refine g_lload_n (pc := 28) hk dX2_clip_28 rfl ?_
      exact t_lret (pc := 29) hk rfl dX2_clip_29
    · refine g_ldc2 (pc := 22) (v := (-1000000)) hk q1722 dX2_clip_22 ?_
      refine g_goto (pc := 25) (tgt := 29) hk dX2_clip_25 rfl ?_
      exact t_lret (pc := 29) hk rfl dX2_clip_29
  · refine g_ldc2 (pc := 8) (v := 1000000) hk q1721 dX2_clip_8 ?_
    refine g_goto (pc := 11) (tgt := 29) hk dX2_clip_11 rfl ?_
    exact t_lret (pc := 29) hk rfl dX2_clip_29
def rm_two : Room := { frames := 1, cells := 0, slots := 0, locals := 21 }
theorem hs_two : yX2_two.cls ≠ "java/lang/invoke/MethodHandle" ∧ yX2_two.cls ≠ "java/lang/invoke/VarHandle" ∧ (parseMethodDescriptor yX2_two.desc).map (fun d => d.parameters.length) = some 3 := by decide +kernel
theorem tm_two (Γ : TG) (τ : TS) (v0 : Int32) (v1 : Int64) (v3 : Int64)  (r : Int64) (h : T_two v0 v1 v3 = some r) : TMet Γ yX2_two cX2_two 5 (some .long) rm_two [.int v0, .long v1, .long v3] τ (some (.long r)) τ := by
  refine t_met (view := (fun r : Int64 => (some (Value.long r), τ))) rfl rfl (ls0 := [(0, .int v0), (1, .long v1), (3, .long v3)]) rfl (fun K hk hK => ?_) r h
  unfold T_two
  refine g_iload_n (pc := 0) hk dX2_two_0 rfl ?_
  refine g_if (fun h1 => ?_) (fun n2 => ?_)
  · refine g_tabIn (pc := 1) (tgt := 28) hk 5 h1 dX2_two_1 (by decide) (by decide) rfl rfl ?_
    refine g_lload_n (pc := 28) hk dX2_two_28 rfl ?_
    refine g_lload_n (pc := 29) hk dX2_two_29 rfl ?_
    refine g_ladd (pc := 30) hk dX2_two_30 ?_
    refine g_ob1 (fun r3 h4 => ?_)
    refine t_callS (pc := 31) hk hK [.long (v1 + v3)] [] (tm_clip Γ τ (v1 + v3) r3 h4) (lw_S q1726 q1727 q128 q1728) hs_clip rfl rfl rfl dX2_two_31 rfl rfl ?_
    exact t_lret (pc := 34) hk rfl dX2_two_34
  · refine g_if (fun h5 => ?_) (fun n6 => ?_)
    · refine g_tabIn (pc := 1) (tgt := 35) hk 6 h5 dX2_two_1 (by decide) (by decide) rfl rfl ?_
      refine g_lload_n (pc := 35) hk dX2_two_35 rfl ?_
      refine g_lload_n (pc := 36) hk dX2_two_36 rfl ?_
      refine g_lsub (pc := 37) hk dX2_two_37 ?_
      refine g_ob1 (fun r7 h8 => ?_)
      refine t_callS (pc := 38) hk hK [.long (v1 - v3)] [] (tm_clip Γ τ (v1 - v3) r7 h8) (lw_S q1726 q1727 q128 q1728) hs_clip rfl rfl rfl dX2_two_38 rfl rfl ?_
      exact t_lret (pc := 41) hk rfl dX2_two_41
    · refine g_if (fun h9 => ?_) (fun n10 => ?_)
      · refine g_tabIn (pc := 1) (tgt := 42) hk 7 h9 dX2_two_1 (by decide) (by decide) rfl rfl ?_
        refine g_lload_n (pc := 42) hk dX2_two_42 rfl ?_
        refine g_lload_n (pc := 43) hk dX2_two_43 rfl ?_
        refine g_lmul (pc := 44) hk dX2_two_44 ?_
        refine g_ob1 (fun r11 h12 => ?_)
        refine t_callS (pc := 45) hk hK [.long (v1 * v3)] [] (tm_clip Γ τ (v1 * v3) r11 h12) (lw_S q1726 q1727 q128 q1728) hs_clip rfl rfl rfl dX2_two_45 rfl rfl ?_
        exact t_lret (pc := 48) hk rfl dX2_two_48
      · refine g_tabOut (pc := 1) (tgt := 49) hk dX2_two_1 (by have z5 := ne_toInt n2 (z := 5) rfl; have z6 := ne_toInt n6 (z := 6) rfl; have z7 := ne_toInt n10 (z := 7) rfl; omega) rfl ?_
        refine g_lload_n (pc := 49) hk dX2_two_49 rfl ?_
        refine g_lconst (pc := 50) (v := 0) hk dX2_two_50 rfl ?_
        refine g_lcmp_ne (pc := 51) (tgt := 59) hk dX2_two_51 dX2_two_52 rfl ?_ ?_
        · refine g_lload_n (pc := 59) hk dX2_two_59 rfl ?_
          refine g_lload_n (pc := 60) hk dX2_two_60 rfl ?_
          refine g_ldivG (pc := 61) hk dX2_two_61 (fun _ => ?_)
          refine g_ob1 (fun r13 h14 => ?_)
          refine t_callS (pc := 62) hk hK [.long (v1 / v3)] [] (tm_clip Γ τ (v1 / v3) r13 h14) (lw_S q1726 q1727 q128 q1728) hs_clip rfl rfl rfl dX2_two_62 rfl rfl ?_
          exact t_lret (pc := 65) hk rfl dX2_two_65
        · refine g_lconst (pc := 55) (v := 0) hk dX2_two_55 rfl ?_
          refine g_goto (pc := 56) (tgt := 65) hk dX2_two_56 rfl ?_
          exact t_lret (pc := 65) hk rfl dX2_two_65
def rm_isAsked : Room := { frames := 0, cells := 0, slots := 0, locals := 0 }
theorem hs_isAsked : yX2_isAsked.cls ≠ "java/lang/invoke/MethodHandle" ∧ yX2_isAsked.cls ≠ "java/lang/invoke/VarHandle" ∧ (parseMethodDescriptor yX2_isAsked.desc).map (fun d => d.parameters.length) = some 3 := by decide +kernel
theorem tm_isAsked (Γ : TG) (τ : TS) (v0 : Int32) (v1 : Int64) (v3 : Int64)  (r : Int32) (h : T_isAsked v0 v1 v3 = some r) : TMet Γ yX2_isAsked cX2_isAsked 5 (some .boolean) rm_isAsked [.int v0, .long v1, .long v3] τ (some (.int r)) τ := by
  refine t_met (view := (fun r : Int32 => (some (Value.int r), τ))) rfl rfl (ls0 := [(0, .int v0), (1, .long v1), (3, .long v3)]) rfl (fun K hk hK => ?_) r h
  unfold T_isAsked
  refine g_iload_n (pc := 0) hk dX2_isAsked_0 rfl ?_
  refine g_bipush (pc := 1) (v := 10) hk dX2_isAsked_1 rfl ?_
  refine g_icmp_ne (pc := 3) (tgt := 20) hk dX2_isAsked_3 rfl ?_ ?_
  · refine g_iload_n (pc := 20) hk dX2_isAsked_20 rfl ?_
    refine g_bipush (pc := 21) (v := 11) hk dX2_isAsked_21 rfl ?_
    refine g_icmp_ne (pc := 23) (tgt := 40) hk dX2_isAsked_23 rfl ?_ ?_
    · refine g_iload_n (pc := 40) hk dX2_isAsked_40 rfl ?_
      refine g_bipush (pc := 41) (v := 12) hk dX2_isAsked_41 rfl ?_
      refine g_icmp_ne (pc := 43) (tgt := 60) hk dX2_isAsked_43 rfl ?_ ?_
      · refine g_iload_n (pc := 60) hk dX2_isAsked_60 rfl ?_
        refine g_bipush (pc := 61) (v := 13) hk dX2_isAsked_61 rfl ?_
        refine g_icmp_ne (pc := 63) (tgt := 80) hk dX2_isAsked_63 rfl ?_ ?_
        · refine g_iload_n (pc := 80) hk dX2_isAsked_80 rfl ?_
          refine g_bipush (pc := 81) (v := 14) hk dX2_isAsked_81 rfl ?_
          refine g_icmp_ne (pc := 83) (tgt := 100) hk dX2_isAsked_83 rfl ?_ ?_
          · refine g_lload_n (pc := 100) hk dX2_isAsked_100 rfl ?_
            refine g_lload_n (pc := 101) hk dX2_isAsked_101 rfl ?_
            refine g_lcmp_eq (pc := 102) (tgt := 110) hk dX2_isAsked_102 dX2_isAsked_103 rfl ?_ ?_
            · refine g_iconst (pc := 110) (v := 0) hk dX2_isAsked_110 rfl ?_
              exact t_zret (pc := 111) hk rfl rfl dX2_isAsked_111
            · refine g_iconst (pc := 106) (v := 1) hk dX2_isAsked_106 rfl ?_
              refine g_goto (pc := 107) (tgt := 111) hk dX2_isAsked_107 rfl ?_
              exact t_zret (pc := 111) hk rfl rfl dX2_isAsked_111
          · refine g_lload_n (pc := 86) hk dX2_isAsked_86 rfl ?_
            refine g_lload_n (pc := 87) hk dX2_isAsked_87 rfl ?_
            refine g_lcmp_ne (pc := 88) (tgt := 96) hk dX2_isAsked_88 dX2_isAsked_89 rfl ?_ ?_
            · refine g_iconst (pc := 96) (v := 0) hk dX2_isAsked_96 rfl ?_
              refine g_goto (pc := 97) (tgt := 111) hk dX2_isAsked_97 rfl ?_
              exact t_zret (pc := 111) hk rfl rfl dX2_isAsked_111
            · refine g_iconst (pc := 92) (v := 1) hk dX2_isAsked_92 rfl ?_
              refine g_goto (pc := 93) (tgt := 111) hk dX2_isAsked_93 rfl ?_
              exact t_zret (pc := 111) hk rfl rfl dX2_isAsked_111
        · refine g_lload_n (pc := 66) hk dX2_isAsked_66 rfl ?_
          refine g_lload_n (pc := 67) hk dX2_isAsked_67 rfl ?_
          refine g_lcmp_lt (pc := 68) (tgt := 76) hk dX2_isAsked_68 dX2_isAsked_69 rfl ?_ ?_
          · refine g_iconst (pc := 76) (v := 0) hk dX2_isAsked_76 rfl ?_
            refine g_goto (pc := 77) (tgt := 111) hk dX2_isAsked_77 rfl ?_
            exact t_zret (pc := 111) hk rfl rfl dX2_isAsked_111
          · refine g_iconst (pc := 72) (v := 1) hk dX2_isAsked_72 rfl ?_
            refine g_goto (pc := 73) (tgt := 111) hk dX2_isAsked_73 rfl ?_
            exact t_zret (pc := 111) hk rfl rfl dX2_isAsked_111
      · refine g_lload_n (pc := 46) hk dX2_isAsked_46 rfl ?_
        refine g_lload_n (pc := 47) hk dX2_isAsked_47 rfl ?_
        refine g_lcmp_le (pc := 48) (tgt := 56) hk dX2_isAsked_48 dX2_isAsked_49 rfl ?_ ?_
        · refine g_iconst (pc := 56) (v := 0) hk dX2_isAsked_56 rfl ?_
          refine g_goto (pc := 57) (tgt := 111) hk dX2_isAsked_57 rfl ?_
          exact t_zret (pc := 111) hk rfl rfl dX2_isAsked_111
        · refine g_iconst (pc := 52) (v := 1) hk dX2_isAsked_52 rfl ?_
          refine g_goto (pc := 53) (tgt := 111) hk dX2_isAsked_53 rfl ?_
          exact t_zret (pc := 111) hk rfl rfl dX2_isAsked_111
    · refine g_lload_n (pc := 26) hk dX2_isAsked_26 rfl ?_
      refine g_lload_n (pc := 27) hk dX2_isAsked_27 rfl ?_
      refine g_lcmp_gt (pc := 28) (tgt := 36) hk dX2_isAsked_28 dX2_isAsked_29 rfl ?_ ?_
      · refine g_iconst (pc := 36) (v := 0) hk dX2_isAsked_36 rfl ?_
        refine g_goto (pc := 37) (tgt := 111) hk dX2_isAsked_37 rfl ?_
        exact t_zret (pc := 111) hk rfl rfl dX2_isAsked_111
      · refine g_iconst (pc := 32) (v := 1) hk dX2_isAsked_32 rfl ?_
        refine g_goto (pc := 33) (tgt := 111) hk dX2_isAsked_33 rfl ?_
        exact t_zret (pc := 111) hk rfl rfl dX2_isAsked_111
  · refine g_lload_n (pc := 6) hk dX2_isAsked_6 rfl ?_
    refine g_lload_n (pc := 7) hk dX2_isAsked_7 rfl ?_
    refine g_lcmp_ge (pc := 8) (tgt := 16) hk dX2_isAsked_8 dX2_isAsked_9 rfl ?_ ?_
    · refine g_iconst (pc := 16) (v := 0) hk dX2_isAsked_16 rfl ?_
      refine g_goto (pc := 17) (tgt := 111) hk dX2_isAsked_17 rfl ?_
      exact t_zret (pc := 111) hk rfl rfl dX2_isAsked_111
    · refine g_iconst (pc := 12) (v := 1) hk dX2_isAsked_12 rfl ?_
      refine g_goto (pc := 13) (tgt := 111) hk dX2_isAsked_13 rfl ?_
      exact t_zret (pc := 111) hk rfl rfl dX2_isAsked_111
def rm_joined : Room := { frames := 0, cells := 0, slots := 0, locals := 0 }
theorem hs_joined : yX2_joined.cls ≠ "java/lang/invoke/MethodHandle" ∧ yX2_joined.cls ≠ "java/lang/invoke/VarHandle" ∧ (parseMethodDescriptor yX2_joined.desc).map (fun d => d.parameters.length) = some 3 := by decide +kernel
theorem tm_joined (Γ : TG) (τ : TS) (v0 : Int32) (v1 : Int32) (v2 : Int32)  (r : Int32) (h : T_joined v0 v1 v2 = some r) : TMet Γ yX2_joined cX2_joined 3 (some .boolean) rm_joined [.int v0, .int v1, .int v2] τ (some (.int r)) τ := by
  refine t_met (view := (fun r : Int32 => (some (Value.int r), τ))) rfl rfl (ls0 := [(0, .int v0), (1, .int v1), (2, .int v2)]) rfl (fun K hk hK => ?_) r h
  unfold T_joined
  refine g_iload_n (pc := 0) hk dX2_joined_0 rfl ?_
  refine g_bipush (pc := 1) (v := 21) hk dX2_joined_1 rfl ?_
  refine g_icmp_ne (pc := 3) (tgt := 22) hk dX2_joined_3 rfl ?_ ?_
  · refine g_iload_n (pc := 22) hk dX2_joined_22 rfl ?_
    refine g_if_ne (pc := 23) (tgt := 30) hk dX2_joined_23 rfl ?_ ?_
    · refine g_iconst (pc := 30) (v := 1) hk dX2_joined_30 rfl ?_
      refine g_goto (pc := 31) (tgt := 35) hk dX2_joined_31 rfl ?_
      exact t_zret (pc := 35) hk rfl rfl dX2_joined_35
    · refine g_iload_n (pc := 26) hk dX2_joined_26 rfl ?_
      refine g_if_eq (pc := 27) (tgt := 34) hk dX2_joined_27 rfl ?_ ?_
      · refine g_iconst (pc := 34) (v := 0) hk dX2_joined_34 rfl ?_
        exact t_zret (pc := 35) hk rfl rfl dX2_joined_35
      · refine g_iconst (pc := 30) (v := 1) hk dX2_joined_30 rfl ?_
        refine g_goto (pc := 31) (tgt := 35) hk dX2_joined_31 rfl ?_
        exact t_zret (pc := 35) hk rfl rfl dX2_joined_35
  · refine g_iload_n (pc := 6) hk dX2_joined_6 rfl ?_
    refine g_if_eq (pc := 7) (tgt := 18) hk dX2_joined_7 rfl ?_ ?_
    · refine g_iconst (pc := 18) (v := 0) hk dX2_joined_18 rfl ?_
      refine g_goto (pc := 19) (tgt := 35) hk dX2_joined_19 rfl ?_
      exact t_zret (pc := 35) hk rfl rfl dX2_joined_35
    · refine g_iload_n (pc := 10) hk dX2_joined_10 rfl ?_
      refine g_if_eq (pc := 11) (tgt := 18) hk dX2_joined_11 rfl ?_ ?_
      · refine g_iconst (pc := 18) (v := 0) hk dX2_joined_18 rfl ?_
        refine g_goto (pc := 19) (tgt := 35) hk dX2_joined_19 rfl ?_
        exact t_zret (pc := 35) hk rfl rfl dX2_joined_35
      · refine g_iconst (pc := 14) (v := 1) hk dX2_joined_14 rfl ?_
        refine g_goto (pc := 15) (tgt := 35) hk dX2_joined_15 rfl ?_
        exact t_zret (pc := 35) hk rfl rfl dX2_joined_35
def rm_summedUp : Room := { frames := 4, cells := 0, slots := 0, locals := 95 }
theorem hv_summedUp : yX2_summedUp.cls = RX2 ∧ yX2_summedUp.cls ≠ "java/lang/invoke/MethodHandle" ∧ yX2_summedUp.cls ≠ "java/lang/invoke/VarHandle" ∧ (parseMethodDescriptor yX2_summedUp.desc).map (fun d => d.parameters.length) = some 2 := by decide +kernel
theorem tm_summedUp_j402 {K : KT} {Γ : TG} (hk : KOK K cX2_summedUp 10 RX2 rm_summedUp (some .long)) (hK : va_K Γ.1 tcl (ttys Γ) (kS K)) (τ : TS) (v3 : Int32) (v4 : Int32) (v5 : Int32) (v6 : Int32) (v7 : Int32)  (k38 : TS → Int32 → Int32 → Int32 → Option (Int64 × TS)) (hk38 : ∀ (τ : TS) (v5 : Int32) (v6 : Int32) (v7 : Int32), GGo K (tQ K Γ (fun r : Int64 × TS => (some (Value.long r.1), r.2))) (k38 τ v5 v6 v7) 10 (TI Γ (kS K) τ) 0 0 38 [(0, .ref Γ.2.1), (3, .int v3), (4, .int v4), (5, .int v5), (6, .int v6), (7, .int v7)] []) : GGo K (tQ K Γ (fun r : Int64 × TS => (some (Value.long r.1), r.2))) (T_summedUp_j402 k38 τ v3 v4 v5 v6 v7) 10 (TI Γ (kS K) τ) 0 0 402 [(0, .ref Γ.2.1), (3, .int v3), (4, .int v4), (5, .int v5), (6, .int v6), (7, .int v7)] [] := by
  unfold T_summedUp_j402
  refine g_iincN (pc := 402) (v := 1) (ls' := fun x10 => [(7, .int x10), (0, .ref Γ.2.1), (3, .int v3), (4, .int v4), (5, .int v5), (6, .int v6)]) hk dX2_summedUp_402 rfl rfl (by decide) (fun _ => rfl) (fun x10 => ?_)
  refine g_goto (pc := 405) (tgt := 38) hk dX2_summedUp_405 rfl ?_
  refine g_sub (ls' := [(0, .ref Γ.2.1), (3, .int v3), (4, .int v4), (5, .int v5), (6, .int v6), (7, .int x10)]) [1, 2, 3, 4, 5, 0] rfl ?_
  exact hk38 τ v5 v6 x10
theorem tm_summedUp_j365 {K : KT} {Γ : TG} (hk : KOK K cX2_summedUp 10 RX2 rm_summedUp (some .long)) (hK : va_K Γ.1 tcl (ttys Γ) (kS K)) (τ : TS) (v3 : Int32) (v4 : Int32) (v5 : Int32) (v6 : Int32) (v7 : Int32) (s1 : Int32) (s2 : Int32)  (k38 : TS → Int32 → Int32 → Int32 → Option (Int64 × TS)) (hk38 : ∀ (τ : TS) (v5 : Int32) (v6 : Int32) (v7 : Int32), GGo K (tQ K Γ (fun r : Int64 × TS => (some (Value.long r.1), r.2))) (k38 τ v5 v6 v7) 10 (TI Γ (kS K) τ) 0 0 38 [(0, .ref Γ.2.1), (3, .int v3), (4, .int v4), (5, .int v5), (6, .int v6), (7, .int v7)] []) : GGo K (tQ K Γ (fun r : Int64 × TS => (some (Value.long r.1), r.2))) (T_summedUp_j365 k38 τ v3 v4 v5 v6 v7 s1 s2) 10 (TI Γ (kS K) τ) 0 0 365 [(0, .ref Γ.2.1), (3, .int v3), (4, .int v4), (5, .int v5), (6, .int v6), (7, .int v7)] [.int s2, .int s1, .ref (Γ.2.2.1 22)] := by
  unfold T_summedUp_j365
  refine t_zast (pc := 365) hk hK ta_22 dX2_summedUp_365 (fun τ11 => ?_)
  refine g_goto (pc := 366) (tgt := 402) hk dX2_summedUp_366 rfl ?_
  exact tm_summedUp_j402 hk hK τ11 v3 v4 v5 v6 v7 k38 hk38
theorem tm_summedUp_j285 {K : KT} {Γ : TG} (hk : KOK K cX2_summedUp 10 RX2 rm_summedUp (some .long)) (hK : va_K Γ.1 tcl (ttys Γ) (kS K)) (τ : TS) (v3 : Int32) (v4 : Int32) (v5 : Int32) (v6 : Int32) (v7 : Int32) (s1 : Int32) (s2 : Int64)  (k38 : TS → Int32 → Int32 → Int32 → Option (Int64 × TS)) (hk38 : ∀ (τ : TS) (v5 : Int32) (v6 : Int32) (v7 : Int32), GGo K (tQ K Γ (fun r : Int64 × TS => (some (Value.long r.1), r.2))) (k38 τ v5 v6 v7) 10 (TI Γ (kS K) τ) 0 0 38 [(0, .ref Γ.2.1), (3, .int v3), (4, .int v4), (5, .int v5), (6, .int v6), (7, .int v7)] []) : GGo K (tQ K Γ (fun r : Int64 × TS => (some (Value.long r.1), r.2))) (T_summedUp_j285 k38 τ v3 v4 v5 v6 v7 s1 s2) 10 (TI Γ (kS K) τ) 0 0 285 [(0, .ref Γ.2.1), (3, .int v3), (4, .int v4), (5, .int v5), (6, .int v6), (7, .int v7)] [.long s2, .int s1, .ref (Γ.2.2.1 21)] := by
  unfold T_summedUp_j285
  refine t_last (pc := 285) hk hK ta_21 dX2_summedUp_285 (fun τ20 => ?_)
  refine g_goto (pc := 286) (tgt := 402) hk dX2_summedUp_286 rfl ?_
  exact tm_summedUp_j402 hk hK τ20 v3 v4 v5 v6 v7 k38 hk38
theorem tm_summedUp_j112 {K : KT} {Γ : TG} (hk : KOK K cX2_summedUp 10 RX2 rm_summedUp (some .long)) (hK : va_K Γ.1 tcl (ttys Γ) (kS K)) (τ : TS) (v3 : Int32) (v4 : Int32) (v5 : Int32) (v6 : Int32) (v7 : Int32) (s1 : Int32) (s2 : Int64)  (k38 : TS → Int32 → Int32 → Int32 → Option (Int64 × TS)) (hk38 : ∀ (τ : TS) (v5 : Int32) (v6 : Int32) (v7 : Int32), GGo K (tQ K Γ (fun r : Int64 × TS => (some (Value.long r.1), r.2))) (k38 τ v5 v6 v7) 10 (TI Γ (kS K) τ) 0 0 38 [(0, .ref Γ.2.1), (3, .int v3), (4, .int v4), (5, .int v5), (6, .int v6), (7, .int v7)] []) : GGo K (tQ K Γ (fun r : Int64 × TS => (some (Value.long r.1), r.2))) (T_summedUp_j112 k38 τ v3 v4 v5 v6 v7 s1 s2) 10 (TI Γ (kS K) τ) 0 0 112 [(0, .ref Γ.2.1), (3, .int v3), (4, .int v4), (5, .int v5), (6, .int v6), (7, .int v7)] [.long s2, .int s1, .ref (Γ.2.2.1 21)] := by
  unfold T_summedUp_j112
  refine t_last (pc := 112) hk hK ta_21 dX2_summedUp_112 (fun τ29 => ?_)
  refine g_iincN (pc := 113) (v := 1) (ls' := fun x30 => [(5, .int x30), (0, .ref Γ.2.1), (3, .int v3), (4, .int v4), (6, .int v6), (7, .int v7)]) hk dX2_summedUp_113 rfl rfl (by decide) (fun _ => rfl) (fun x30 => ?_)
  refine g_goto (pc := 116) (tgt := 402) hk dX2_summedUp_116 rfl ?_
  refine g_sub (ls' := [(0, .ref Γ.2.1), (3, .int v3), (4, .int v4), (5, .int x30), (6, .int v6), (7, .int v7)]) [1, 2, 3, 0, 4, 5] rfl ?_
  exact tm_summedUp_j402 hk hK τ29 v3 v4 x30 v6 v7 k38 hk38
theorem tm_summedUp_l38 {K : KT} {Γ : TG} (hk : KOK K cX2_summedUp 10 RX2 rm_summedUp (some .long)) (hK : va_K Γ.1 tcl (ttys Γ) (kS K)) (v3 : Int32) (v4 : Int32)   : ∀ (n : Nat) (τ : TS) (v5 : Int32) (v6 : Int32) (v7 : Int32), GGo K (tQ K Γ (fun r : Int64 × TS => (some (Value.long r.1), r.2))) (T_summedUp_l38 v3 v4 n τ v5 v6 v7) 10 (TI Γ (kS K) τ) 0 0 38 [(0, .ref Γ.2.1), (3, .int v3), (4, .int v4), (5, .int v5), (6, .int v6), (7, .int v7)] [] := by
  intro n
  induction n with
  | zero =>
    intro τ v5 v6 v7
    unfold T_summedUp_l38
    exact g_none
  | succ n ih =>
    intro τ v5 v6 v7
    unfold T_summedUp_l38
    refine g_iload (pc := 38) hk dX2_summedUp_38 rfl ?_
    refine g_aload_n (pc := 40) hk dX2_summedUp_40 rfl ?_
    refine t_getR (pc := 41) hk hK tr_2 tf_2 dX2_summedUp_41 ?_
    refine g_iload_n (pc := 44) hk dX2_summedUp_44 rfl ?_
    refine g_iconst (pc := 45) (v := 2) hk dX2_summedUp_45 rfl ?_
    refine g_iadd (pc := 46) hk dX2_summedUp_46 ?_
    refine t_iald (pc := 47) hk hK ta_2 dX2_summedUp_47 ?_
    refine g_icmp_ge (pc := 48) (tgt := 408) hk dX2_summedUp_48 rfl ?_ ?_
    · refine g_aload_n (pc := 408) hk dX2_summedUp_408 rfl ?_
      refine t_getR (pc := 409) hk hK tr_21 tf_21 dX2_summedUp_409 ?_
      refine g_iconst (pc := 412) (v := 0) hk dX2_summedUp_412 rfl ?_
      refine t_laldC (pc := 413) (j := 0) hk hK ta_21 rfl rfl dX2_summedUp_413 ?_
      exact t_lret (pc := 414) hk rfl dX2_summedUp_414
    · refine g_aload_n (pc := 51) hk dX2_summedUp_51 rfl ?_
      refine t_getR (pc := 52) hk hK tr_2 tf_2 dX2_summedUp_52 ?_
      refine g_iload (pc := 55) hk dX2_summedUp_55 rfl ?_
      refine g_iconst (pc := 57) (v := 2) hk dX2_summedUp_57 rfl ?_
      refine g_iload (pc := 58) hk dX2_summedUp_58 rfl ?_
      refine g_imul (pc := 60) hk dX2_summedUp_60 ?_
      refine g_iadd (pc := 61) hk dX2_summedUp_61 ?_
      refine t_iald (pc := 62) hk hK ta_2 dX2_summedUp_62 ?_
      refine g_istoreN (pc := 63) (i := 8) (ls' := fun x4 => [(8, .int x4), (0, .ref Γ.2.1), (3, .int v3), (4, .int v4), (5, .int v5), (6, .int v6), (7, .int v7)]) hk dX2_summedUp_63 (by decide) (fun _ => rfl) (fun x4 => ?_)
      refine g_aload_n (pc := 65) hk dX2_summedUp_65 rfl ?_
      refine t_getR (pc := 66) hk hK tr_2 tf_2 dX2_summedUp_66 ?_
      refine g_iload (pc := 69) hk dX2_summedUp_69 rfl ?_
      refine g_iconst (pc := 71) (v := 2) hk dX2_summedUp_71 rfl ?_
      refine g_iload (pc := 72) hk dX2_summedUp_72 rfl ?_
      refine g_imul (pc := 74) hk dX2_summedUp_74 ?_
      refine g_iadd (pc := 75) hk dX2_summedUp_75 ?_
      refine g_iconst (pc := 76) (v := 1) hk dX2_summedUp_76 rfl ?_
      refine g_iadd (pc := 77) hk dX2_summedUp_77 ?_
      refine t_iald (pc := 78) hk hK ta_2 dX2_summedUp_78 ?_
      refine g_istoreN (pc := 79) (i := 9) (ls' := fun x5 => [(9, .int x5), (8, .int x4), (0, .ref Γ.2.1), (3, .int v3), (4, .int v4), (5, .int v5), (6, .int v6), (7, .int v7)]) hk dX2_summedUp_79 (by decide) (fun _ => rfl) (fun x5 => ?_)
      refine g_iload (pc := 81) hk dX2_summedUp_81 rfl ?_
      refine g_iconst (pc := 83) (v := 1) hk dX2_summedUp_83 rfl ?_
      refine g_icmp_gt (pc := 84) (tgt := 119) hk dX2_summedUp_84 rfl ?_ ?_
      · refine g_iload (pc := 119) hk dX2_summedUp_119 rfl ?_
        refine g_iconst (pc := 121) (v := 2) hk dX2_summedUp_121 rfl ?_
        refine g_icmp_ne (pc := 122) (tgt := 160) hk dX2_summedUp_122 rfl ?_ ?_
        · refine g_iload (pc := 160) hk dX2_summedUp_160 rfl ?_
          refine g_iconst (pc := 162) (v := 3) hk dX2_summedUp_162 rfl ?_
          refine g_icmp_ne (pc := 163) (tgt := 188) hk dX2_summedUp_163 rfl ?_ ?_
          · refine g_iload (pc := 188) hk dX2_summedUp_188 rfl ?_
            refine g_bipush (pc := 190) (v := 10) hk dX2_summedUp_190 rfl ?_
            refine g_icmp_ge (pc := 192) (tgt := 289) hk dX2_summedUp_192 rfl ?_ ?_
            · refine g_iload (pc := 289) hk dX2_summedUp_289 rfl ?_
              refine g_bipush (pc := 291) (v := 20) hk dX2_summedUp_291 rfl ?_
              refine g_icmp_ge (pc := 293) (tgt := 333) hk dX2_summedUp_293 rfl ?_ ?_
              · refine g_iload (pc := 333) hk dX2_summedUp_333 rfl ?_
                refine g_bipush (pc := 335) (v := 20) hk dX2_summedUp_335 rfl ?_
                refine g_icmp_ne (pc := 337) (tgt := 369) hk dX2_summedUp_337 rfl ?_ ?_
                · refine g_iincN (pc := 369) (v := (-1)) (ls' := fun x6 => [(6, .int x6), (9, .int x5), (8, .int x4), (0, .ref Γ.2.1), (3, .int v3), (4, .int v4), (5, .int v5), (7, .int v7)]) hk dX2_summedUp_369 rfl rfl (by decide) (fun _ => rfl) (fun x6 => ?_)
                  refine g_aload_n (pc := 372) hk dX2_summedUp_372 rfl ?_
                  refine t_getR (pc := 373) hk hK tr_22 tf_22 dX2_summedUp_373 ?_
                  refine g_iload (pc := 376) hk dX2_summedUp_376 rfl ?_
                  refine g_iconst (pc := 378) (v := 1) hk dX2_summedUp_378 rfl ?_
                  refine g_isub (pc := 379) hk dX2_summedUp_379 ?_
                  refine g_iload (pc := 380) hk dX2_summedUp_380 rfl ?_
                  refine g_aload_n (pc := 382) hk dX2_summedUp_382 rfl ?_
                  refine t_getR (pc := 383) hk hK tr_22 tf_22 dX2_summedUp_383 ?_
                  refine g_iload (pc := 386) hk dX2_summedUp_386 rfl ?_
                  refine g_iconst (pc := 388) (v := 1) hk dX2_summedUp_388 rfl ?_
                  refine g_isub (pc := 389) hk dX2_summedUp_389 ?_
                  refine t_zald (pc := 390) hk hK ta_22 dX2_summedUp_390 ?_
                  refine g_aload_n (pc := 391) hk dX2_summedUp_391 rfl ?_
                  refine t_getR (pc := 392) hk hK tr_22 tf_22 dX2_summedUp_392 ?_
                  refine g_iload (pc := 395) hk dX2_summedUp_395 rfl ?_
                  refine t_zald (pc := 397) hk hK ta_22 dX2_summedUp_397 ?_
                  refine g_ob1 (fun r7 h8 => ?_)
                  refine t_callS (pc := 398) hk hK [.int x4, .int (tA τ 22 (x6 - 1).toNatClampNeg), .int (tA τ 22 x6.toNatClampNeg)] [.int (x6 - 1), .ref (Γ.2.2.1 22)] (tm_joined Γ τ x4 (tA τ 22 (x6 - 1).toNatClampNeg) (tA τ 22 x6.toNatClampNeg) r7 h8) (lw_S q1732 q1733 q128 q1734) hs_joined rfl rfl rfl dX2_summedUp_398 rfl rfl ?_
                  refine t_zast (pc := 401) hk hK ta_22 dX2_summedUp_401 (fun τ9 => ?_)
                  refine g_sub (ls' := [(0, .ref Γ.2.1), (3, .int v3), (4, .int v4), (5, .int v5), (6, .int x6), (7, .int v7)]) [3, 4, 5, 6, 0, 7] rfl ?_
                  exact tm_summedUp_j402 hk hK τ9 v3 v4 v5 x6 v7 (T_summedUp_l38 v3 v4 n) ih
                · refine g_aload_n (pc := 340) hk dX2_summedUp_340 rfl ?_
                  refine t_getR (pc := 341) hk hK tr_22 tf_22 dX2_summedUp_341 ?_
                  refine g_iload (pc := 344) hk dX2_summedUp_344 rfl ?_
                  refine g_iconst (pc := 346) (v := 1) hk dX2_summedUp_346 rfl ?_
                  refine g_isub (pc := 347) hk dX2_summedUp_347 ?_
                  refine g_aload_n (pc := 348) hk dX2_summedUp_348 rfl ?_
                  refine t_getR (pc := 349) hk hK tr_22 tf_22 dX2_summedUp_349 ?_
                  refine g_iload (pc := 352) hk dX2_summedUp_352 rfl ?_
                  refine g_iconst (pc := 354) (v := 1) hk dX2_summedUp_354 rfl ?_
                  refine g_isub (pc := 355) hk dX2_summedUp_355 ?_
                  refine t_zald (pc := 356) hk hK ta_22 dX2_summedUp_356 ?_
                  refine g_if_ne (pc := 357) (tgt := 364) hk dX2_summedUp_357 rfl ?_ ?_
                  · refine g_iconst (pc := 364) (v := 0) hk dX2_summedUp_364 rfl ?_
                    refine g_sub (ls' := [(0, .ref Γ.2.1), (3, .int v3), (4, .int v4), (5, .int v5), (6, .int v6), (7, .int v7)]) [2, 3, 4, 5, 6, 7] rfl ?_
                    exact tm_summedUp_j365 hk hK τ v3 v4 v5 v6 v7 (v6 - 1) 0 (T_summedUp_l38 v3 v4 n) ih
                  · refine g_iconst (pc := 360) (v := 1) hk dX2_summedUp_360 rfl ?_
                    refine g_goto (pc := 361) (tgt := 365) hk dX2_summedUp_361 rfl ?_
                    refine g_sub (ls' := [(0, .ref Γ.2.1), (3, .int v3), (4, .int v4), (5, .int v5), (6, .int v6), (7, .int v7)]) [2, 3, 4, 5, 6, 7] rfl ?_
                    exact tm_summedUp_j365 hk hK τ v3 v4 v5 v6 v7 (v6 - 1) 1 (T_summedUp_l38 v3 v4 n) ih
              · refine g_iincN (pc := 296) (v := (-2)) (ls' := fun x12 => [(5, .int x12), (9, .int x5), (8, .int x4), (0, .ref Γ.2.1), (3, .int v3), (4, .int v4), (6, .int v6), (7, .int v7)]) hk dX2_summedUp_296 rfl rfl (by decide) (fun _ => rfl) (fun x12 => ?_)
                refine g_aload_n (pc := 299) hk dX2_summedUp_299 rfl ?_
                refine t_getR (pc := 300) hk hK tr_22 tf_22 dX2_summedUp_300 ?_
                refine g_iload (pc := 303) hk dX2_summedUp_303 rfl ?_
                refine g_iload (pc := 305) hk dX2_summedUp_305 rfl ?_
                refine g_aload_n (pc := 307) hk dX2_summedUp_307 rfl ?_
                refine t_getR (pc := 308) hk hK tr_21 tf_21 dX2_summedUp_308 ?_
                refine g_iload (pc := 311) hk dX2_summedUp_311 rfl ?_
                refine t_lald (pc := 313) hk hK ta_21 dX2_summedUp_313 ?_
                refine g_aload_n (pc := 314) hk dX2_summedUp_314 rfl ?_
                refine t_getR (pc := 315) hk hK tr_21 tf_21 dX2_summedUp_315 ?_
                refine g_iload (pc := 318) hk dX2_summedUp_318 rfl ?_
                refine g_iconst (pc := 320) (v := 1) hk dX2_summedUp_320 rfl ?_
                refine g_iadd (pc := 321) hk dX2_summedUp_321 ?_
                refine t_lald (pc := 322) hk hK ta_21 dX2_summedUp_322 ?_
                refine g_ob1 (fun r13 h14 => ?_)
                refine t_callS (pc := 323) hk hK [.int x4, .long (tL τ 21 x12.toNatClampNeg), .long (tL τ 21 (x12 + 1).toNatClampNeg)] [.int v6, .ref (Γ.2.2.1 22)] (tm_isAsked Γ τ x4 (tL τ 21 x12.toNatClampNeg) (tL τ 21 (x12 + 1).toNatClampNeg) r13 h14) (lw_S q1729 q1730 q128 q1731) hs_isAsked rfl rfl rfl dX2_summedUp_323 rfl rfl ?_
                refine t_zast (pc := 326) hk hK ta_22 dX2_summedUp_326 (fun τ15 => ?_)
                refine g_iincN (pc := 327) (v := 1) (ls' := fun x16 => [(6, .int x16), (5, .int x12), (9, .int x5), (8, .int x4), (0, .ref Γ.2.1), (3, .int v3), (4, .int v4), (7, .int v7)]) hk dX2_summedUp_327 rfl rfl (by decide) (fun _ => rfl) (fun x16 => ?_)
                refine g_goto (pc := 330) (tgt := 402) hk dX2_summedUp_330 rfl ?_
                refine g_sub (ls' := [(0, .ref Γ.2.1), (3, .int v3), (4, .int v4), (5, .int x12), (6, .int x16), (7, .int v7)]) [4, 5, 6, 1, 0, 7] rfl ?_
                exact tm_summedUp_j402 hk hK τ15 v3 v4 x12 x16 v7 (T_summedUp_l38 v3 v4 n) ih
            · refine g_iincN (pc := 195) (v := (-1)) (ls' := fun x17 => [(5, .int x17), (9, .int x5), (8, .int x4), (0, .ref Γ.2.1), (3, .int v3), (4, .int v4), (6, .int v6), (7, .int v7)]) hk dX2_summedUp_195 rfl rfl (by decide) (fun _ => rfl) (fun x17 => ?_)
              refine g_aload_n (pc := 198) hk dX2_summedUp_198 rfl ?_
              refine t_getR (pc := 199) hk hK tr_21 tf_21 dX2_summedUp_199 ?_
              refine g_iload (pc := 202) hk dX2_summedUp_202 rfl ?_
              refine g_iconst (pc := 204) (v := 1) hk dX2_summedUp_204 rfl ?_
              refine g_isub (pc := 205) hk dX2_summedUp_205 ?_
              refine g_iload (pc := 206) hk dX2_summedUp_206 rfl ?_
              refine g_iconst (pc := 208) (v := 4) hk dX2_summedUp_208 rfl ?_
              refine g_icmp_ne (pc := 209) (tgt := 235) hk dX2_summedUp_209 rfl ?_ ?_
              · refine g_iload (pc := 235) hk dX2_summedUp_235 rfl ?_
                refine g_bipush (pc := 237) (v := 9) hk dX2_summedUp_237 rfl ?_
                refine g_icmp_ne (pc := 239) (tgt := 264) hk dX2_summedUp_239 rfl ?_ ?_
                · refine g_iload (pc := 264) hk dX2_summedUp_264 rfl ?_
                  refine g_aload_n (pc := 266) hk dX2_summedUp_266 rfl ?_
                  refine t_getR (pc := 267) hk hK tr_21 tf_21 dX2_summedUp_267 ?_
                  refine g_iload (pc := 270) hk dX2_summedUp_270 rfl ?_
                  refine g_iconst (pc := 272) (v := 1) hk dX2_summedUp_272 rfl ?_
                  refine g_isub (pc := 273) hk dX2_summedUp_273 ?_
                  refine t_lald (pc := 274) hk hK ta_21 dX2_summedUp_274 ?_
                  refine g_aload_n (pc := 275) hk dX2_summedUp_275 rfl ?_
                  refine t_getR (pc := 276) hk hK tr_21 tf_21 dX2_summedUp_276 ?_
                  refine g_iload (pc := 279) hk dX2_summedUp_279 rfl ?_
                  refine t_lald (pc := 281) hk hK ta_21 dX2_summedUp_281 ?_
                  refine g_ob1 (fun r18 h19 => ?_)
                  refine t_callS (pc := 282) hk hK [.int x4, .long (tL τ 21 (x17 - 1).toNatClampNeg), .long (tL τ 21 x17.toNatClampNeg)] [.int (x17 - 1), .ref (Γ.2.2.1 21)] (tm_two Γ τ x4 (tL τ 21 (x17 - 1).toNatClampNeg) (tL τ 21 x17.toNatClampNeg) r18 h19) (lw_S q1723 q1724 q128 q1725) hs_two rfl rfl rfl dX2_summedUp_282 rfl rfl ?_
                  refine g_sub (ls' := [(0, .ref Γ.2.1), (3, .int v3), (4, .int v4), (5, .int x17), (6, .int v6), (7, .int v7)]) [3, 4, 5, 0, 6, 7] rfl ?_
                  exact tm_summedUp_j285 hk hK τ v3 v4 x17 v6 v7 (x17 - 1) r18 (T_summedUp_l38 v3 v4 n) ih
                · refine g_aload_n (pc := 242) hk dX2_summedUp_242 rfl ?_
                  refine t_getR (pc := 243) hk hK tr_21 tf_21 dX2_summedUp_243 ?_
                  refine g_iload (pc := 246) hk dX2_summedUp_246 rfl ?_
                  refine g_iconst (pc := 248) (v := 1) hk dX2_summedUp_248 rfl ?_
                  refine g_isub (pc := 249) hk dX2_summedUp_249 ?_
                  refine t_lald (pc := 250) hk hK ta_21 dX2_summedUp_250 ?_
                  refine g_aload_n (pc := 251) hk dX2_summedUp_251 rfl ?_
                  refine t_getR (pc := 252) hk hK tr_21 tf_21 dX2_summedUp_252 ?_
                  refine g_iload (pc := 255) hk dX2_summedUp_255 rfl ?_
                  refine t_lald (pc := 257) hk hK ta_21 dX2_summedUp_257 ?_
                  refine g_ob1 (fun r21 h22 => ?_)
                  refine t_callS (pc := 258) hk hK [.long (tL τ 21 (x17 - 1).toNatClampNeg), .long (tL τ 21 x17.toNatClampNeg)] [.int (x17 - 1), .ref (Γ.2.2.1 21)] (tm_power Γ τ (tL τ 21 (x17 - 1).toNatClampNeg) (tL τ 21 x17.toNatClampNeg) r21 h22) (lw_S q1716 q1717 q128 q1718) hs_power rfl rfl rfl dX2_summedUp_258 rfl rfl ?_
                  refine g_goto (pc := 261) (tgt := 285) hk dX2_summedUp_261 rfl ?_
                  refine g_sub (ls' := [(0, .ref Γ.2.1), (3, .int v3), (4, .int v4), (5, .int x17), (6, .int v6), (7, .int v7)]) [3, 4, 5, 0, 6, 7] rfl ?_
                  exact tm_summedUp_j285 hk hK τ v3 v4 x17 v6 v7 (x17 - 1) r21 (T_summedUp_l38 v3 v4 n) ih
              · refine g_aload_n (pc := 212) hk dX2_summedUp_212 rfl ?_
                refine g_aload_n (pc := 213) hk dX2_summedUp_213 rfl ?_
                refine t_getR (pc := 214) hk hK tr_21 tf_21 dX2_summedUp_214 ?_
                refine g_iload (pc := 217) hk dX2_summedUp_217 rfl ?_
                refine g_iconst (pc := 219) (v := 1) hk dX2_summedUp_219 rfl ?_
                refine g_isub (pc := 220) hk dX2_summedUp_220 ?_
                refine t_lald (pc := 221) hk hK ta_21 dX2_summedUp_221 ?_
                refine g_aload_n (pc := 222) hk dX2_summedUp_222 rfl ?_
                refine t_getR (pc := 223) hk hK tr_21 tf_21 dX2_summedUp_223 ?_
                refine g_iload (pc := 226) hk dX2_summedUp_226 rfl ?_
                refine t_lald (pc := 228) hk hK ta_21 dX2_summedUp_228 ?_
                refine g_ob1 (fun r23 h24 => ?_)
                refine t_callV (pc := 229) hk hK [.long (tL τ 21 (x17 - 1).toNatClampNeg), .long (tL τ 21 x17.toNatClampNeg)] [.int (x17 - 1), .ref (Γ.2.2.1 21)] (tm_behindBy Γ τ (tL τ 21 (x17 - 1).toNatClampNeg) (tL τ 21 x17.toNatClampNeg) r23 h24) (lw_V q1703 q1705 qs94 q128 q1706) hv_behindBy rfl rfl rfl dX2_summedUp_229 rfl rfl ?_
                refine g_goto (pc := 232) (tgt := 285) hk dX2_summedUp_232 rfl ?_
                refine g_sub (ls' := [(0, .ref Γ.2.1), (3, .int v3), (4, .int v4), (5, .int x17), (6, .int v6), (7, .int v7)]) [3, 4, 5, 0, 6, 7] rfl ?_
                exact tm_summedUp_j285 hk hK τ v3 v4 x17 v6 v7 (x17 - 1) r23 (T_summedUp_l38 v3 v4 n) ih
          · refine g_aload_n (pc := 166) hk dX2_summedUp_166 rfl ?_
            refine t_getR (pc := 167) hk hK tr_21 tf_21 dX2_summedUp_167 ?_
            refine g_iload (pc := 170) hk dX2_summedUp_170 rfl ?_
            refine g_iconst (pc := 172) (v := 1) hk dX2_summedUp_172 rfl ?_
            refine g_isub (pc := 173) hk dX2_summedUp_173 ?_
            refine g_aload_n (pc := 174) hk dX2_summedUp_174 rfl ?_
            refine t_getR (pc := 175) hk hK tr_21 tf_21 dX2_summedUp_175 ?_
            refine g_iload (pc := 178) hk dX2_summedUp_178 rfl ?_
            refine g_iconst (pc := 180) (v := 1) hk dX2_summedUp_180 rfl ?_
            refine g_isub (pc := 181) hk dX2_summedUp_181 ?_
            refine t_lald (pc := 182) hk hK ta_21 dX2_summedUp_182 ?_
            refine g_lneg (pc := 183) hk dX2_summedUp_183 ?_
            refine t_last (pc := 184) hk hK ta_21 dX2_summedUp_184 (fun τ25 => ?_)
            refine g_goto (pc := 185) (tgt := 402) hk dX2_summedUp_185 rfl ?_
            refine g_sub (ls' := [(0, .ref Γ.2.1), (3, .int v3), (4, .int v4), (5, .int v5), (6, .int v6), (7, .int v7)]) [2, 3, 4, 5, 6, 7] rfl ?_
            exact tm_summedUp_j402 hk hK τ25 v3 v4 v5 v6 v7 (T_summedUp_l38 v3 v4 n) ih
        · refine g_iincN (pc := 125) (v := (-1)) (ls' := fun x26 => [(5, .int x26), (9, .int x5), (8, .int x4), (0, .ref Γ.2.1), (3, .int v3), (4, .int v4), (6, .int v6), (7, .int v7)]) hk dX2_summedUp_125 rfl rfl (by decide) (fun _ => rfl) (fun x26 => ?_)
          refine g_iincN (pc := 128) (v := (-1)) (ls' := fun x27 => [(6, .int x27), (5, .int x26), (9, .int x5), (8, .int x4), (0, .ref Γ.2.1), (3, .int v3), (4, .int v4), (7, .int v7)]) hk dX2_summedUp_128 rfl rfl (by decide) (fun _ => rfl) (fun x27 => ?_)
          refine g_aload_n (pc := 131) hk dX2_summedUp_131 rfl ?_
          refine t_getR (pc := 132) hk hK tr_22 tf_22 dX2_summedUp_132 ?_
          refine g_iload (pc := 135) hk dX2_summedUp_135 rfl ?_
          refine t_zald (pc := 137) hk hK ta_22 dX2_summedUp_137 ?_
          refine g_if_ne (pc := 138) (tgt := 402) hk dX2_summedUp_138 rfl ?_ ?_
          · refine g_sub (ls' := [(0, .ref Γ.2.1), (3, .int v3), (4, .int v4), (5, .int x26), (6, .int x27), (7, .int v7)]) [4, 5, 6, 1, 0, 7] rfl ?_
            exact tm_summedUp_j402 hk hK τ v3 v4 x26 x27 v7 (T_summedUp_l38 v3 v4 n) ih
          · refine g_aload_n (pc := 141) hk dX2_summedUp_141 rfl ?_
            refine t_getR (pc := 142) hk hK tr_21 tf_21 dX2_summedUp_142 ?_
            refine g_iload (pc := 145) hk dX2_summedUp_145 rfl ?_
            refine g_iconst (pc := 147) (v := 1) hk dX2_summedUp_147 rfl ?_
            refine g_isub (pc := 148) hk dX2_summedUp_148 ?_
            refine g_aload_n (pc := 149) hk dX2_summedUp_149 rfl ?_
            refine t_getR (pc := 150) hk hK tr_21 tf_21 dX2_summedUp_150 ?_
            refine g_iload (pc := 153) hk dX2_summedUp_153 rfl ?_
            refine t_lald (pc := 155) hk hK ta_21 dX2_summedUp_155 ?_
            refine t_last (pc := 156) hk hK ta_21 dX2_summedUp_156 (fun τ28 => ?_)
            refine g_goto (pc := 157) (tgt := 402) hk dX2_summedUp_157 rfl ?_
            refine g_sub (ls' := [(0, .ref Γ.2.1), (3, .int v3), (4, .int v4), (5, .int x26), (6, .int x27), (7, .int v7)]) [4, 5, 6, 1, 0, 7] rfl ?_
            exact tm_summedUp_j402 hk hK τ28 v3 v4 x26 x27 v7 (T_summedUp_l38 v3 v4 n) ih
      · refine g_aload_n (pc := 87) hk dX2_summedUp_87 rfl ?_
        refine t_getR (pc := 88) hk hK tr_21 tf_21 dX2_summedUp_88 ?_
        refine g_iload (pc := 91) hk dX2_summedUp_91 rfl ?_
        refine g_iload (pc := 93) hk dX2_summedUp_93 rfl ?_
        refine g_if_ne (pc := 95) (tgt := 104) hk dX2_summedUp_95 rfl ?_ ?_
        · refine g_aload_n (pc := 104) hk dX2_summedUp_104 rfl ?_
          refine t_getR (pc := 105) hk hK tr_20 tf_20 dX2_summedUp_105 ?_
          refine g_iload (pc := 108) hk dX2_summedUp_108 rfl ?_
          refine t_iald (pc := 110) hk hK ta_20 dX2_summedUp_110 ?_
          refine g_i2l (pc := 111) hk dX2_summedUp_111 ?_
          refine g_sub (ls' := [(0, .ref Γ.2.1), (3, .int v3), (4, .int v4), (5, .int v5), (6, .int v6), (7, .int v7)]) [2, 3, 4, 5, 6, 7] rfl ?_
          exact tm_summedUp_j112 hk hK τ v3 v4 v5 v6 v7 v5 (Int32.toInt64 (tA τ 20 x5.toNatClampNeg)) (T_summedUp_l38 v3 v4 n) ih
        · refine g_iload (pc := 98) hk dX2_summedUp_98 rfl ?_
          refine g_i2l (pc := 100) hk dX2_summedUp_100 ?_
          refine g_goto (pc := 101) (tgt := 112) hk dX2_summedUp_101 rfl ?_
          refine g_sub (ls' := [(0, .ref Γ.2.1), (3, .int v3), (4, .int v4), (5, .int v5), (6, .int v6), (7, .int v7)]) [2, 3, 4, 5, 6, 7] rfl ?_
          exact tm_summedUp_j112 hk hK τ v3 v4 v5 v6 v7 v5 (Int32.toInt64 x5) (T_summedUp_l38 v3 v4 n) ih
theorem tm_summedUp (Γ : TG) (τ : TS) (v1 : Int32) (v2 : Int32)  (r : Int64 × TS) (h : T_summedUp τ v1 v2 = some r) : TMet Γ yX2_summedUp cX2_summedUp 10 (some .long) rm_summedUp [.ref Γ.2.1, .int v1, .int v2] τ (some (.long r.1)) r.2 := by
  refine t_met (view := (fun r : Int64 × TS => (some (Value.long r.1), r.2))) rfl rfl (ls0 := [(0, .ref Γ.2.1), (1, .int v1), (2, .int v2)]) rfl (fun K hk hK => ?_) r h
  unfold T_summedUp
  refine g_sipush (pc := 0) (v := 681) hk dX2_summedUp_0 rfl ?_
  refine g_iload_n (pc := 3) hk dX2_summedUp_3 rfl ?_
  refine g_imul (pc := 4) hk dX2_summedUp_4 ?_
  refine g_iconst (pc := 5) (v := 1) hk dX2_summedUp_5 rfl ?_
  refine g_iadd (pc := 6) hk dX2_summedUp_6 ?_
  refine g_iconst (pc := 7) (v := 3) hk dX2_summedUp_7 rfl ?_
  refine g_iload_n (pc := 8) hk dX2_summedUp_8 rfl ?_
  refine g_imul (pc := 9) hk dX2_summedUp_9 ?_
  refine g_iadd (pc := 10) hk dX2_summedUp_10 ?_
  refine g_istore_nN (pc := 11) (i := 3) (ls' := fun x1 => [(3, .int x1), (0, .ref Γ.2.1), (1, .int v1), (2, .int v2)]) hk dX2_summedUp_11 rfl (by decide) (fun _ => rfl) (fun x1 => ?_)
  refine g_sipush (pc := 12) (v := 681) hk dX2_summedUp_12 rfl ?_
  refine g_iload_n (pc := 15) hk dX2_summedUp_15 rfl ?_
  refine g_imul (pc := 16) hk dX2_summedUp_16 ?_
  refine g_bipush (pc := 17) (v := 73) hk dX2_summedUp_17 rfl ?_
  refine g_iadd (pc := 19) hk dX2_summedUp_19 ?_
  refine g_istoreN (pc := 20) (i := 4) (ls' := fun x2 => [(4, .int x2), (3, .int x1), (0, .ref Γ.2.1), (1, .int v1), (2, .int v2)]) hk dX2_summedUp_20 (by decide) (fun _ => rfl) (fun x2 => ?_)
  refine g_iconst (pc := 22) (v := 0) hk dX2_summedUp_22 rfl ?_
  refine g_istore (pc := 23) (i := 5) (ls' := [(5, .int 0), (4, .int x2), (3, .int x1), (0, .ref Γ.2.1), (1, .int v1), (2, .int v2)]) hk dX2_summedUp_23 (by decide) rfl ?_
  refine g_iconst (pc := 25) (v := 0) hk dX2_summedUp_25 rfl ?_
  refine g_istore (pc := 26) (i := 6) (ls' := [(6, .int 0), (5, .int 0), (4, .int x2), (3, .int x1), (0, .ref Γ.2.1), (1, .int v1), (2, .int v2)]) hk dX2_summedUp_26 (by decide) rfl ?_
  refine g_aload_n (pc := 28) hk dX2_summedUp_28 rfl ?_
  refine t_getR (pc := 29) hk hK tr_2 tf_2 dX2_summedUp_29 ?_
  refine g_iload_n (pc := 32) hk dX2_summedUp_32 rfl ?_
  refine g_iconst (pc := 33) (v := 1) hk dX2_summedUp_33 rfl ?_
  refine g_iadd (pc := 34) hk dX2_summedUp_34 ?_
  refine t_iald (pc := 35) hk hK ta_2 dX2_summedUp_35 ?_
  refine g_istoreN (pc := 36) (i := 7) (ls' := fun x3 => [(7, .int x3), (6, .int 0), (5, .int 0), (4, .int x2), (3, .int x1), (0, .ref Γ.2.1), (1, .int v1), (2, .int v2)]) hk dX2_summedUp_36 (by decide) (fun _ => rfl) (fun x3 => ?_)
  refine g_sub (ls' := [(0, .ref Γ.2.1), (3, .int x1), (4, .int x2), (5, .int 0), (6, .int 0), (7, .int x3)]) [5, 4, 3, 2, 1, 0] rfl ?_
  exact tm_summedUp_l38 hk hK x1 x2 FU τ 0 0 x3
def rm_held : Room := { frames := 0, cells := 0, slots := 0, locals := 0 }
theorem hs_held : yX2_held.cls ≠ "java/lang/invoke/MethodHandle" ∧ yX2_held.cls ≠ "java/lang/invoke/VarHandle" ∧ (parseMethodDescriptor yX2_held.desc).map (fun d => d.parameters.length) = some 3 := by decide +kernel
theorem tm_held (Γ : TG) (τ : TS) (v0 : Int64) (v2 : Int32) (v3 : Int32)  (r : Int32) (h : T_held v0 v2 v3 = some r) : TMet Γ yX2_held cX2_held 4 (some .int) rm_held [.long v0, .int v2, .int v3] τ (some (.int r)) τ := by
  refine t_met (view := (fun r : Int32 => (some (Value.int r), τ))) rfl rfl (ls0 := [(0, .long v0), (2, .int v2), (3, .int v3)]) rfl (fun K hk hK => ?_) r h
  unfold T_held
  refine g_lload_n (pc := 0) hk dX2_held_0 rfl ?_
  refine g_iload_n (pc := 1) hk dX2_held_1 rfl ?_
  refine g_i2l (pc := 2) hk dX2_held_2 ?_
  refine g_lcmp_ge (pc := 3) (tgt := 11) hk dX2_held_3 dX2_held_4 rfl ?_ ?_
  · refine g_lload_n (pc := 11) hk dX2_held_11 rfl ?_
    refine g_iload_n (pc := 12) hk dX2_held_12 rfl ?_
    refine g_i2l (pc := 13) hk dX2_held_13 ?_
    refine g_lcmp_le (pc := 14) (tgt := 22) hk dX2_held_14 dX2_held_15 rfl ?_ ?_
    · refine g_lload_n (pc := 22) hk dX2_held_22 rfl ?_
      refine g_l2i (pc := 23) hk dX2_held_23 ?_
      exact t_iret (pc := 24) hk rfl dX2_held_24
    · refine g_iload_n (pc := 18) hk dX2_held_18 rfl ?_
      refine g_goto (pc := 19) (tgt := 24) hk dX2_held_19 rfl ?_
      exact t_iret (pc := 24) hk rfl dX2_held_24
  · refine g_iload_n (pc := 7) hk dX2_held_7 rfl ?_
    refine g_goto (pc := 8) (tgt := 24) hk dX2_held_8 rfl ?_
    exact t_iret (pc := 24) hk rfl dX2_held_24
def rm_says : Room := { frames := 5, cells := 0, slots := 0, locals := 124 }
theorem hv_says : yX2_says.cls = RX2 ∧ yX2_says.cls ≠ "java/lang/invoke/MethodHandle" ∧ yX2_says.cls ≠ "java/lang/invoke/VarHandle" ∧ (parseMethodDescriptor yX2_says.desc).map (fun d => d.parameters.length) = some 4 := by decide +kernel
theorem tm_says_j63 {K : KT} {Γ : TG} (hk : KOK K cX2_says 6 RX2 rm_says (some .int)) (hK : va_K Γ.1 tcl (ttys Γ) (kS K)) (τ : TS) (v3 : Int32) (v4 : Int32)   : GGo K (tQ K Γ (fun r : Int32 × TS => (some (Value.int r.1), r.2))) (T_says_j63 τ v3 v4) 6 (TI Γ (kS K) τ) 0 0 63 [(3, .int v3), (4, .int v4)] [] := by
  unfold T_says_j63
  refine g_iload_n (pc := 63) hk dX2_says_63 rfl ?_
  refine g_i2l (pc := 64) hk dX2_says_64 ?_
  refine g_iconst (pc := 65) (v := 0) hk dX2_says_65 rfl ?_
  refine g_iload (pc := 66) hk dX2_says_66 rfl ?_
  refine g_ob1 (fun r1 h2 => ?_)
  refine t_callS (pc := 68) hk hK [.long (Int32.toInt64 v3), .int 0, .int v4] [] (tm_held Γ τ (Int32.toInt64 v3) 0 v4 r1 h2) (lw_S q1735 q1736 q128 q1737) hs_held rfl rfl rfl dX2_says_68 rfl rfl ?_
  exact t_iret (pc := 71) hk rfl dX2_says_71
theorem tm_says_l3 {K : KT} {Γ : TG} (hk : KOK K cX2_says 6 RX2 rm_says (some .int)) (hK : va_K Γ.1 tcl (ttys Γ) (kS K)) (τ : TS) (v1 : Int32) (v2 : Int32) (v3 : Int32) (v4 : Int32)   : ∀ (n : Nat) (v5 : Int32), GGo K (tQ K Γ (fun r : Int32 × TS => (some (Value.int r.1), r.2))) (T_says_l3 τ v1 v2 v3 v4 n v5) 6 (TI Γ (kS K) τ) 0 0 3 [(0, .ref Γ.2.1), (1, .int v1), (2, .int v2), (3, .int v3), (4, .int v4), (5, .int v5)] [] := by
  intro n
  induction n with
  | zero =>
    intro v5
    unfold T_says_l3
    exact g_none
  | succ n ih =>
    intro v5
    unfold T_says_l3
    refine g_iload_n (pc := 3) hk dX2_says_3 rfl ?_
    refine g_if_lt (pc := 4) (tgt := 63) hk dX2_says_4 rfl ?_ ?_
    · refine g_sub (ls' := [(3, .int v3), (4, .int v4)]) [3, 4] rfl ?_
      exact tm_says_j63 hk hK τ v3 v4
    · refine g_iload (pc := 7) hk dX2_says_7 rfl ?_
      refine g_aload_n (pc := 9) hk dX2_says_9 rfl ?_
      refine t_getR (pc := 10) hk hK tr_2 tf_2 dX2_says_10 ?_
      refine g_sipush (pc := 13) (v := 681) hk dX2_says_13 rfl ?_
      refine g_iload_n (pc := 16) hk dX2_says_16 rfl ?_
      refine g_imul (pc := 17) hk dX2_says_17 ?_
      refine t_iald (pc := 18) hk hK ta_2 dX2_says_18 ?_
      refine g_icmp_ge (pc := 19) (tgt := 63) hk dX2_says_19 rfl ?_ ?_
      · refine g_sub (ls' := [(3, .int v3), (4, .int v4)]) [3, 4] rfl ?_
        exact tm_says_j63 hk hK τ v3 v4
      · refine g_aload_n (pc := 22) hk dX2_says_22 rfl ?_
        refine t_getR (pc := 23) hk hK tr_2 tf_2 dX2_says_23 ?_
        refine g_sipush (pc := 26) (v := 681) hk dX2_says_26 rfl ?_
        refine g_iload_n (pc := 29) hk dX2_says_29 rfl ?_
        refine g_imul (pc := 30) hk dX2_says_30 ?_
        refine g_iconst (pc := 31) (v := 1) hk dX2_says_31 rfl ?_
        refine g_iadd (pc := 32) hk dX2_says_32 ?_
        refine g_iconst (pc := 33) (v := 3) hk dX2_says_33 rfl ?_
        refine g_iload (pc := 34) hk dX2_says_34 rfl ?_
        refine g_imul (pc := 36) hk dX2_says_36 ?_
        refine g_iadd (pc := 37) hk dX2_says_37 ?_
        refine t_iald (pc := 38) hk hK ta_2 dX2_says_38 ?_
        refine g_iload_n (pc := 39) hk dX2_says_39 rfl ?_
        refine g_icmp_ne (pc := 40) (tgt := 57) hk dX2_says_40 rfl ?_ ?_
        · refine g_iincN (pc := 57) (v := 1) (ls' := fun x3 => [(5, .int x3), (0, .ref Γ.2.1), (1, .int v1), (2, .int v2), (3, .int v3), (4, .int v4)]) hk dX2_says_57 rfl rfl (by decide) (fun _ => rfl) (fun x3 => ?_)
          refine g_goto (pc := 60) (tgt := 3) hk dX2_says_60 rfl ?_
          refine g_sub (ls' := [(0, .ref Γ.2.1), (1, .int v1), (2, .int v2), (3, .int v3), (4, .int v4), (5, .int x3)]) [1, 2, 3, 4, 5, 0] rfl ?_
          exact ih x3
        · refine g_aload_n (pc := 43) hk dX2_says_43 rfl ?_
          refine g_iload_n (pc := 44) hk dX2_says_44 rfl ?_
          refine g_iload (pc := 45) hk dX2_says_45 rfl ?_
          refine g_ob2 (fun r4 τ6 h5 => ?_)
          refine t_callV (pc := 47) hk hK [.int v1, .int v5] [] (tm_summedUp Γ τ v1 v5 (r4, τ6) h5) (lw_V q1699 q1701 qs93 q128 q1702) hv_summedUp rfl rfl rfl dX2_says_47 rfl rfl ?_
          refine g_iconst (pc := 50) (v := 0) hk dX2_says_50 rfl ?_
          refine g_iload (pc := 51) hk dX2_says_51 rfl ?_
          refine g_ob1 (fun r7 h8 => ?_)
          refine t_callS (pc := 53) hk hK [.long r4, .int 0, .int v4] [] (tm_held Γ τ6 r4 0 v4 r7 h8) (lw_S q1735 q1736 q128 q1737) hs_held rfl rfl rfl dX2_says_53 rfl rfl ?_
          exact t_iret (pc := 56) hk rfl dX2_says_56
theorem tm_says (Γ : TG) (τ : TS) (v1 : Int32) (v2 : Int32) (v3 : Int32) (v4 : Int32)  (r : Int32 × TS) (h : T_says τ v1 v2 v3 v4 = some r) : TMet Γ yX2_says cX2_says 6 (some .int) rm_says [.ref Γ.2.1, .int v1, .int v2, .int v3, .int v4] τ (some (.int r.1)) r.2 := by
  refine t_met (view := (fun r : Int32 × TS => (some (Value.int r.1), r.2))) rfl rfl (ls0 := [(0, .ref Γ.2.1), (1, .int v1), (2, .int v2), (3, .int v3), (4, .int v4)]) rfl (fun K hk hK => ?_) r h
  unfold T_says
  refine g_iconst (pc := 0) (v := 0) hk dX2_says_0 rfl ?_
  refine g_istore (pc := 1) (i := 5) (ls' := [(5, .int 0), (0, .ref Γ.2.1), (1, .int v1), (2, .int v2), (3, .int v3), (4, .int v4)]) hk dX2_says_1 (by decide) rfl ?_
  refine g_sub (ls' := [(0, .ref Γ.2.1), (1, .int v1), (2, .int v2), (3, .int v3), (4, .int v4), (5, .int 0)]) [1, 2, 3, 4, 5, 0] rfl ?_
  exact tm_says_l3 hk hK τ v1 v2 v3 v4 FU 0
def rm_slipsOf : Room := { frames := 6, cells := 0, slots := 0, locals := 149 }
theorem hv_slipsOf : yX2_slipsOf.cls = RX2 ∧ yX2_slipsOf.cls ≠ "java/lang/invoke/MethodHandle" ∧ yX2_slipsOf.cls ≠ "java/lang/invoke/VarHandle" ∧ (parseMethodDescriptor yX2_slipsOf.desc).map (fun d => d.parameters.length) = some 1 := by decide +kernel
theorem tm_slipsOf (Γ : TG) (τ : TS) (v1 : Int32)  (r : Int32 × TS) (h : T_slipsOf τ v1 = some r) : TMet Γ yX2_slipsOf cX2_slipsOf 2 (some .int) rm_slipsOf [.ref Γ.2.1, .int v1] τ (some (.int r.1)) r.2 := by
  refine t_met (view := (fun r : Int32 × TS => (some (Value.int r.1), r.2))) rfl rfl (ls0 := [(0, .ref Γ.2.1), (1, .int v1)]) rfl (fun K hk hK => ?_) r h
  unfold T_slipsOf
  refine g_aload_n (pc := 0) hk dX2_slipsOf_0 rfl ?_
  refine g_iload_n (pc := 1) hk dX2_slipsOf_1 rfl ?_
  refine g_ob1 (fun τ2 h1 => ?_)
  refine t_callV (pc := 2) hk hK [.int v1] [] (tm_name Γ τ v1 τ2 h1) (lw_V q1687 q1689 qs90 q128 q1690) hv_name rfl rfl rfl dX2_slipsOf_2 rfl rfl ?_
  refine g_aload_n (pc := 5) hk dX2_slipsOf_5 rfl ?_
  refine g_aload_n (pc := 6) hk dX2_slipsOf_6 rfl ?_
  refine t_getR (pc := 7) hk hK tr_0 tf_0 dX2_slipsOf_7 ?_
  refine g_iconst (pc := 10) (v := 2) hk dX2_slipsOf_10 rfl ?_
  refine t_ialdC (pc := 11) (j := 2) hk hK ta_0 rfl rfl dX2_slipsOf_11 ?_
  refine g_iconst (pc := 12) (v := 1) hk dX2_slipsOf_12 rfl ?_
  refine g_aload_n (pc := 13) hk dX2_slipsOf_13 rfl ?_
  refine t_getR (pc := 14) hk hK tr_20 tf_20 dX2_slipsOf_14 ?_
  refine g_iconst (pc := 17) (v := 2) hk dX2_slipsOf_17 rfl ?_
  refine t_ialdC (pc := 18) (j := 2) hk hK ta_20 rfl rfl dX2_slipsOf_18 ?_
  refine g_iconst (pc := 19) (v := 2) hk dX2_slipsOf_19 rfl ?_
  refine g_idiv (pc := 20) hk dX2_slipsOf_20 (by decide) ?_
  refine g_bipush (pc := 21) (v := 10) hk dX2_slipsOf_21 rfl ?_
  refine g_ob2 (fun r3 τ5 h4 => ?_)
  refine t_callV (pc := 23) hk hK [.int (tA τ2 0 2), .int 1, .int ((tA τ2 20 2) / 2), .int 10] [] (tm_says Γ τ2 (tA τ2 0 2) 1 ((tA τ2 20 2) / 2) 10 (r3, τ5) h4) (lw_V q1695 q1697 qs92 q128 q1698) hv_says rfl rfl rfl dX2_slipsOf_23 rfl rfl ?_
  exact t_iret (pc := 26) hk rfl dX2_slipsOf_26
def rm_razesOf : Room := { frames := 6, cells := 0, slots := 0, locals := 149 }
theorem hv_razesOf : yX2_razesOf.cls = RX2 ∧ yX2_razesOf.cls ≠ "java/lang/invoke/MethodHandle" ∧ yX2_razesOf.cls ≠ "java/lang/invoke/VarHandle" ∧ (parseMethodDescriptor yX2_razesOf.desc).map (fun d => d.parameters.length) = some 1 := by decide +kernel
theorem tm_razesOf (Γ : TG) (τ : TS) (v1 : Int32)  (r : Int32 × TS) (h : T_razesOf τ v1 = some r) : TMet Γ yX2_razesOf cX2_razesOf 2 (some .int) rm_razesOf [.ref Γ.2.1, .int v1] τ (some (.int r.1)) r.2 := by
  refine t_met (view := (fun r : Int32 × TS => (some (Value.int r.1), r.2))) rfl rfl (ls0 := [(0, .ref Γ.2.1), (1, .int v1)]) rfl (fun K hk hK => ?_) r h
  unfold T_razesOf
  refine g_aload_n (pc := 0) hk dX2_razesOf_0 rfl ?_
  refine g_iload_n (pc := 1) hk dX2_razesOf_1 rfl ?_
  refine g_ob1 (fun τ2 h1 => ?_)
  refine t_callV (pc := 2) hk hK [.int v1] [] (tm_name Γ τ v1 τ2 h1) (lw_V q1687 q1689 qs90 q128 q1690) hv_name rfl rfl rfl dX2_razesOf_2 rfl rfl ?_
  refine g_aload_n (pc := 5) hk dX2_razesOf_5 rfl ?_
  refine g_aload_n (pc := 6) hk dX2_razesOf_6 rfl ?_
  refine t_getR (pc := 7) hk hK tr_0 tf_0 dX2_razesOf_7 ?_
  refine g_iconst (pc := 10) (v := 2) hk dX2_razesOf_10 rfl ?_
  refine t_ialdC (pc := 11) (j := 2) hk hK ta_0 rfl rfl dX2_razesOf_11 ?_
  refine g_iconst (pc := 12) (v := 0) hk dX2_razesOf_12 rfl ?_
  refine g_iconst (pc := 13) (v := 5) hk dX2_razesOf_13 rfl ?_
  refine g_bipush (pc := 14) (v := 99) hk dX2_razesOf_14 rfl ?_
  refine g_ob2 (fun r3 τ5 h4 => ?_)
  refine t_callV (pc := 16) hk hK [.int (tA τ2 0 2), .int 0, .int 5, .int 99] [] (tm_says Γ τ2 (tA τ2 0 2) 0 5 99 (r3, τ5) h4) (lw_V q1695 q1697 qs92 q128 q1698) hv_says rfl rfl rfl dX2_razesOf_16 rfl rfl ?_
  exact t_iret (pc := 19) hk rfl dX2_razesOf_19
def rm_ratesOf : Room := { frames := 6, cells := 0, slots := 0, locals := 149 }
theorem hv_ratesOf : yX2_ratesOf.cls = RX2 ∧ yX2_ratesOf.cls ≠ "java/lang/invoke/MethodHandle" ∧ yX2_ratesOf.cls ≠ "java/lang/invoke/VarHandle" ∧ (parseMethodDescriptor yX2_ratesOf.desc).map (fun d => d.parameters.length) = some 2 := by decide +kernel
theorem tm_ratesOf (Γ : TG) (τ : TS) (v1 : Int32) (v2 : Int32)  (r : Int32 × TS) (h : T_ratesOf τ v1 v2 = some r) : TMet Γ yX2_ratesOf cX2_ratesOf 3 (some .int) rm_ratesOf [.ref Γ.2.1, .int v1, .int v2] τ (some (.int r.1)) r.2 := by
  refine t_met (view := (fun r : Int32 × TS => (some (Value.int r.1), r.2))) rfl rfl (ls0 := [(0, .ref Γ.2.1), (1, .int v1), (2, .int v2)]) rfl (fun K hk hK => ?_) r h
  unfold T_ratesOf
  refine g_aload_n (pc := 0) hk dX2_ratesOf_0 rfl ?_
  refine g_iload_n (pc := 1) hk dX2_ratesOf_1 rfl ?_
  refine g_ob1 (fun τ2 h1 => ?_)
  refine t_callV (pc := 2) hk hK [.int v2] [] (tm_name Γ τ v2 τ2 h1) (lw_V q1687 q1689 qs90 q128 q1690) hv_name rfl rfl rfl dX2_ratesOf_2 rfl rfl ?_
  refine g_aload_n (pc := 5) hk dX2_ratesOf_5 rfl ?_
  refine g_iload_n (pc := 6) hk dX2_ratesOf_6 rfl ?_
  refine g_iconst (pc := 7) (v := 2) hk dX2_ratesOf_7 rfl ?_
  refine g_bipush (pc := 8) (v := 10) hk dX2_ratesOf_8 rfl ?_
  refine g_aload_n (pc := 10) hk dX2_ratesOf_10 rfl ?_
  refine t_getR (pc := 11) hk hK tr_20 tf_20 dX2_ratesOf_11 ?_
  refine g_iconst (pc := 14) (v := 2) hk dX2_ratesOf_14 rfl ?_
  refine t_ialdC (pc := 15) (j := 2) hk hK ta_20 rfl rfl dX2_ratesOf_15 ?_
  refine g_isub (pc := 16) hk dX2_ratesOf_16 ?_
  refine g_bipush (pc := 17) (v := 99) hk dX2_ratesOf_17 rfl ?_
  refine g_ob2 (fun r3 τ5 h4 => ?_)
  refine t_callV (pc := 19) hk hK [.int v1, .int 2, .int (10 - (tA τ2 20 2)), .int 99] [] (tm_says Γ τ2 v1 2 (10 - (tA τ2 20 2)) 99 (r3, τ5) h4) (lw_V q1695 q1697 qs92 q128 q1698) hv_says rfl rfl rfl dX2_ratesOf_19 rfl rfl ?_
  exact t_iret (pc := 22) hk rfl dX2_ratesOf_22
def rm_write : Room := { frames := 0, cells := 0, slots := 0, locals := 0 }
theorem hv_write : yX2_write.cls = RX2 ∧ yX2_write.cls ≠ "java/lang/invoke/MethodHandle" ∧ yX2_write.cls ≠ "java/lang/invoke/VarHandle" ∧ (parseMethodDescriptor yX2_write.desc).map (fun d => d.parameters.length) = some 3 := by decide +kernel
theorem tm_write_j71 {K : KT} {Γ : TG} (hk : KOK K cX2_write 5 RX2 rm_write none) (hK : va_K Γ.1 tcl (ttys Γ) (kS K)) (τ : TS) (v1 : Int32) (v2 : Int32) (v3 : Int32)   : GGo K (tQ K Γ (fun r : TS => ((none : Option Value), r))) (T_write_j71 τ v1 v2 v3) 5 (TI Γ (kS K) τ) 0 0 71 [(0, .ref Γ.2.1), (1, .int v1), (2, .int v2), (3, .int v3)] [] := by
  unfold T_write_j71
  refine g_aload_n (pc := 71) hk dX2_write_71 rfl ?_
  refine t_getR (pc := 72) hk hK tr_0 tf_0 dX2_write_72 ?_
  refine g_sipush (pc := 75) (v := 2000) hk dX2_write_75 rfl ?_
  refine g_aload_n (pc := 78) hk dX2_write_78 rfl ?_
  refine t_getR (pc := 79) hk hK tr_0 tf_0 dX2_write_79 ?_
  refine g_bipush (pc := 82) (v := 9) hk dX2_write_82 rfl ?_
  refine t_ialdC (pc := 84) (j := 9) hk hK ta_0 rfl rfl dX2_write_84 ?_
  refine g_iadd (pc := 85) hk dX2_write_85 ?_
  refine g_aload_n (pc := 86) hk dX2_write_86 rfl ?_
  refine t_getR (pc := 87) hk hK tr_0 tf_0 dX2_write_87 ?_
  refine g_bipush (pc := 90) (v := 6) hk dX2_write_90 rfl ?_
  refine t_ialdC (pc := 92) (j := 6) hk hK ta_0 rfl rfl dX2_write_92 ?_
  refine g_bipush (pc := 93) (v := 8) hk dX2_write_93 rfl ?_
  refine g_imul (pc := 95) hk dX2_write_95 ?_
  refine g_iload_n (pc := 96) hk dX2_write_96 rfl ?_
  refine g_iadd (pc := 97) hk dX2_write_97 ?_
  refine g_bipush (pc := 98) (v := 100) hk dX2_write_98 rfl ?_
  refine g_imul (pc := 100) hk dX2_write_100 ?_
  refine g_iload_n (pc := 101) hk dX2_write_101 rfl ?_
  refine g_iadd (pc := 102) hk dX2_write_102 ?_
  refine g_iconst (pc := 103) (v := 2) hk dX2_write_103 rfl ?_
  refine g_imul (pc := 104) hk dX2_write_104 ?_
  refine g_iload_n (pc := 105) hk dX2_write_105 rfl ?_
  refine g_iadd (pc := 106) hk dX2_write_106 ?_
  refine t_iast (pc := 107) hk hK ta_0 dX2_write_107 (fun τ1 => ?_)
  refine g_aload_n (pc := 108) hk dX2_write_108 rfl ?_
  refine t_getR (pc := 109) hk hK tr_0 tf_0 dX2_write_109 ?_
  refine g_bipush (pc := 112) (v := 9) hk dX2_write_112 rfl ?_
  refine g_dup2 (pc := 114) hk dX2_write_114 rfl rfl ?_
  refine t_ialdC (pc := 115) (j := 9) hk hK ta_0 rfl rfl dX2_write_115 ?_
  refine g_iconst (pc := 116) (v := 1) hk dX2_write_116 rfl ?_
  refine g_iadd (pc := 117) hk dX2_write_117 ?_
  refine t_iastC (pc := 118) (j := 9) hk hK ta_0 rfl rfl dX2_write_118 (fun τ2 => ?_)
  exact t_vret (pc := 119) hk rfl dX2_write_119
theorem tm_write_l23 {K : KT} {Γ : TG} (hk : KOK K cX2_write 5 RX2 rm_write none) (hK : va_K Γ.1 tcl (ttys Γ) (kS K)) (v1 : Int32) (v2 : Int32) (v3 : Int32)   : ∀ (n : Nat) (τ : TS) (v4 : Int32), GGo K (tQ K Γ (fun r : TS => ((none : Option Value), r))) (T_write_l23 v1 v2 v3 n τ v4) 5 (TI Γ (kS K) τ) 0 0 23 [(0, .ref Γ.2.1), (1, .int v1), (2, .int v2), (3, .int v3), (4, .int v4)] [] := by
  intro n
  induction n with
  | zero =>
    intro τ v4
    unfold T_write_l23
    exact g_none
  | succ n ih =>
    intro τ v4
    unfold T_write_l23
    refine g_iload (pc := 23) hk dX2_write_23 rfl ?_
    refine g_bipush (pc := 25) (v := 30) hk dX2_write_25 rfl ?_
    refine g_icmp_ge (pc := 27) (tgt := 60) hk dX2_write_27 rfl ?_ ?_
    · refine g_aload_n (pc := 60) hk dX2_write_60 rfl ?_
      refine t_getR (pc := 61) hk hK tr_0 tf_0 dX2_write_61 ?_
      refine g_bipush (pc := 64) (v := 9) hk dX2_write_64 rfl ?_
      refine g_dup2 (pc := 66) hk dX2_write_66 rfl rfl ?_
      refine t_ialdC (pc := 67) (j := 9) hk hK ta_0 rfl rfl dX2_write_67 ?_
      refine g_iconst (pc := 68) (v := 1) hk dX2_write_68 rfl ?_
      refine g_isub (pc := 69) hk dX2_write_69 ?_
      refine t_iastC (pc := 70) (j := 9) hk hK ta_0 rfl rfl dX2_write_70 (fun τ3 => ?_)
      refine g_sub (ls' := [(0, .ref Γ.2.1), (1, .int v1), (2, .int v2), (3, .int v3)]) [0, 1, 2, 3] rfl ?_
      exact tm_write_j71 hk hK τ3 v1 v2 v3
    · refine g_aload_n (pc := 30) hk dX2_write_30 rfl ?_
      refine t_getR (pc := 31) hk hK tr_0 tf_0 dX2_write_31 ?_
      refine g_sipush (pc := 34) (v := 2000) hk dX2_write_34 rfl ?_
      refine g_iload (pc := 37) hk dX2_write_37 rfl ?_
      refine g_iadd (pc := 39) hk dX2_write_39 ?_
      refine g_iconst (pc := 40) (v := 1) hk dX2_write_40 rfl ?_
      refine g_isub (pc := 41) hk dX2_write_41 ?_
      refine g_aload_n (pc := 42) hk dX2_write_42 rfl ?_
      refine t_getR (pc := 43) hk hK tr_0 tf_0 dX2_write_43 ?_
      refine g_sipush (pc := 46) (v := 2000) hk dX2_write_46 rfl ?_
      refine g_iload (pc := 49) hk dX2_write_49 rfl ?_
      refine g_iadd (pc := 51) hk dX2_write_51 ?_
      refine t_iald (pc := 52) hk hK ta_0 dX2_write_52 ?_
      refine t_iast (pc := 53) hk hK ta_0 dX2_write_53 (fun τ4 => ?_)
      refine g_iincN (pc := 54) (v := 1) (ls' := fun x5 => [(4, .int x5), (0, .ref Γ.2.1), (1, .int v1), (2, .int v2), (3, .int v3)]) hk dX2_write_54 rfl rfl (by decide) (fun _ => rfl) (fun x5 => ?_)
      refine g_goto (pc := 57) (tgt := 23) hk dX2_write_57 rfl ?_
      refine g_sub (ls' := [(0, .ref Γ.2.1), (1, .int v1), (2, .int v2), (3, .int v3), (4, .int x5)]) [1, 2, 3, 4, 0] rfl ?_
      exact ih τ4 x5
theorem tm_write (Γ : TG) (τ : TS) (v1 : Int32) (v2 : Int32) (v3 : Int32)  (r : TS) (h : T_write τ v1 v2 v3 = some r) : TMet Γ yX2_write cX2_write 5 none rm_write [.ref Γ.2.1, .int v1, .int v2, .int v3] τ none r := by
  refine t_met (view := (fun r : TS => ((none : Option Value), r))) rfl rfl (ls0 := [(0, .ref Γ.2.1), (1, .int v1), (2, .int v2), (3, .int v3)]) rfl (fun K hk hK => ?_) r h
  unfold T_write
  refine g_aload_n (pc := 0) hk dX2_write_0 rfl ?_
  refine t_getI (pc := 1) hk hK ti_23 tf_23 dX2_write_1 ?_
  refine g_if_ne (pc := 4) (tgt := 8) hk dX2_write_4 rfl ?_ ?_
  · refine g_aload_n (pc := 8) hk dX2_write_8 rfl ?_
    refine t_getR (pc := 9) hk hK tr_0 tf_0 dX2_write_9 ?_
    refine g_bipush (pc := 12) (v := 9) hk dX2_write_12 rfl ?_
    refine t_ialdC (pc := 14) (j := 9) hk hK ta_0 rfl rfl dX2_write_14 ?_
    refine g_bipush (pc := 15) (v := 30) hk dX2_write_15 rfl ?_
    refine g_icmp_ne (pc := 17) (tgt := 71) hk dX2_write_17 rfl ?_ ?_
    · exact tm_write_j71 hk hK τ v1 v2 v3
    · refine g_iconst (pc := 20) (v := 1) hk dX2_write_20 rfl ?_
      refine g_istore (pc := 21) (i := 4) (ls' := [(4, .int 1), (0, .ref Γ.2.1), (1, .int v1), (2, .int v2), (3, .int v3)]) hk dX2_write_21 (by decide) rfl ?_
      refine g_sub (ls' := [(0, .ref Γ.2.1), (1, .int v1), (2, .int v2), (3, .int v3), (4, .int 1)]) [1, 2, 3, 4, 0] rfl ?_
      exact tm_write_l23 hk hK v1 v2 v3 FU τ 1
  · exact t_vret (pc := 7) hk rfl dX2_write_7
def rm_anew : Room := { frames := 0, cells := 0, slots := 0, locals := 0 }
theorem hv_anew : yX2_anew.cls = RX2 ∧ yX2_anew.cls ≠ "java/lang/invoke/MethodHandle" ∧ yX2_anew.cls ≠ "java/lang/invoke/VarHandle" ∧ (parseMethodDescriptor yX2_anew.desc).map (fun d => d.parameters.length) = some 0 := by decide +kernel
theorem tm_anew (Γ : TG) (τ : TS)   (r : TS) (h : T_anew τ = some r) : TMet Γ yX2_anew cX2_anew 1 none rm_anew [.ref Γ.2.1] τ none r := by
  refine t_met (view := (fun r : TS => ((none : Option Value), r))) rfl rfl (ls0 := [(0, .ref Γ.2.1)]) rfl (fun K hk hK => ?_) r h
  unfold T_anew
  refine g_aload_n (pc := 0) hk dX2_anew_0 rfl ?_
  refine t_getR (pc := 1) hk hK tr_0 tf_0 dX2_anew_1 ?_
  refine g_bipush (pc := 4) (v := 8) hk dX2_anew_4 rfl ?_
  refine g_aload_n (pc := 6) hk dX2_anew_6 rfl ?_
  refine t_getR (pc := 7) hk hK tr_0 tf_0 dX2_anew_7 ?_
  refine g_bipush (pc := 10) (v := 8) hk dX2_anew_10 rfl ?_
  refine t_ialdC (pc := 12) (j := 8) hk hK ta_0 rfl rfl dX2_anew_12 ?_
  refine g_i2l (pc := 13) hk dX2_anew_13 ?_
  refine g_ldc2 (pc := 14) (v := 457) hk q1754 dX2_anew_14 ?_
  refine g_lmul (pc := 17) hk dX2_anew_17 ?_
  refine g_ldc2 (pc := 18) (v := 347) hk q1755 dX2_anew_18 ?_
  refine g_ladd (pc := 21) hk dX2_anew_21 ?_
  refine g_ldc2 (pc := 22) (v := 30631) hk q1756 dX2_anew_22 ?_
  refine g_lrem (pc := 25) hk dX2_anew_25 (by decide) ?_
  refine g_l2i (pc := 26) hk dX2_anew_26 ?_
  refine t_iastC (pc := 27) (j := 8) hk hK ta_0 rfl rfl dX2_anew_27 (fun τ1 => ?_)
  exact t_vret (pc := 28) hk rfl dX2_anew_28
def rm_shaveNow : Room := { frames := 7, cells := 0, slots := 0, locals := 171 }
theorem hv_shaveNow : yX2_shaveNow.cls = RX2 ∧ yX2_shaveNow.cls ≠ "java/lang/invoke/MethodHandle" ∧ yX2_shaveNow.cls ≠ "java/lang/invoke/VarHandle" ∧ (parseMethodDescriptor yX2_shaveNow.desc).map (fun d => d.parameters.length) = some 1 := by decide +kernel
theorem tm_shaveNow_j199 {K : KT} {Γ : TG} (hk : KOK K cX2_shaveNow 7 RX2 rm_shaveNow (some .int)) (hK : va_K Γ.1 tcl (ttys Γ) (kS K)) (τ : TS) (v5 : Int32) (s1 : Int32) (s2 : Int32) (s3 : Int32)   : GGo K (tQ K Γ (fun r : Int32 × TS => (some (Value.int r.1), r.2))) (T_shaveNow_j199 τ v5 s1 s2 s3) 7 (TI Γ (kS K) τ) 0 0 199 [(5, .int v5)] [.int s3, .int s2, .int s1, .ref Γ.2.1] := by
  unfold T_shaveNow_j199
  refine g_ob1 (fun τ28 h27 => ?_)
  refine t_callV (pc := 199) hk hK [.int s1, .int s2, .int s3] [] (tm_write Γ τ s1 s2 s3 τ28 h27) (lw_V q1746 q1748 qs99 q128 q1749) hv_write rfl rfl rfl dX2_shaveNow_199 rfl rfl ?_
  refine g_iload (pc := 202) hk dX2_shaveNow_202 rfl ?_
  exact t_iret (pc := 204) hk rfl dX2_shaveNow_204
theorem tm_shaveNow_j185 {K : KT} {Γ : TG} (hk : KOK K cX2_shaveNow 7 RX2 rm_shaveNow (some .int)) (hK : va_K Γ.1 tcl (ttys Γ) (kS K)) (τ : TS) (v1 : Int32) (v5 : Int32) (v6 : Int32)   : GGo K (tQ K Γ (fun r : Int32 × TS => (some (Value.int r.1), r.2))) (T_shaveNow_j185 τ v1 v5 v6) 7 (TI Γ (kS K) τ) 0 0 185 [(0, .ref Γ.2.1), (1, .int v1), (5, .int v5), (6, .int v6)] [] := by
  unfold T_shaveNow_j185
  refine g_aload_n (pc := 185) hk dX2_shaveNow_185 rfl ?_
  refine g_iload_n (pc := 186) hk dX2_shaveNow_186 rfl ?_
  refine g_iload (pc := 187) hk dX2_shaveNow_187 rfl ?_
  refine g_iload (pc := 189) hk dX2_shaveNow_189 rfl ?_
  refine g_if_eq (pc := 191) (tgt := 198) hk dX2_shaveNow_191 rfl ?_ ?_
  · refine g_iconst (pc := 198) (v := 0) hk dX2_shaveNow_198 rfl ?_
    refine g_sub (ls' := [(5, .int v5)]) [2] rfl ?_
    exact tm_shaveNow_j199 hk hK τ v5 v1 v5 0
  · refine g_iconst (pc := 194) (v := 1) hk dX2_shaveNow_194 rfl ?_
    refine g_goto (pc := 195) (tgt := 199) hk dX2_shaveNow_195 rfl ?_
    refine g_sub (ls' := [(5, .int v5)]) [2] rfl ?_
    exact tm_shaveNow_j199 hk hK τ v5 v1 v5 1
theorem tm_shaveNow_j130 {K : KT} {Γ : TG} (hk : KOK K cX2_shaveNow 7 RX2 rm_shaveNow (some .int)) (hK : va_K Γ.1 tcl (ttys Γ) (kS K)) (τ : TS) (v1 : Int32) (v4 : Int32) (v5 : Int32) (s0 : Int32)   : GGo K (tQ K Γ (fun r : Int32 × TS => (some (Value.int r.1), r.2))) (T_shaveNow_j130 τ v1 v4 v5 s0) 7 (TI Γ (kS K) τ) 0 0 130 [(0, .ref Γ.2.1), (1, .int v1), (4, .int v4), (5, .int v5)] [.int s0] := by
  unfold T_shaveNow_j130
  refine g_istore (pc := 130) (i := 6) (ls' := [(6, .int s0), (0, .ref Γ.2.1), (1, .int v1), (4, .int v4), (5, .int v5)]) hk dX2_shaveNow_130 (by decide) rfl ?_
  refine g_aload_n (pc := 132) hk dX2_shaveNow_132 rfl ?_
  refine g_ob1 (fun τ26 h25 => ?_)
  refine t_callV (pc := 133) hk hK [] [] (tm_anew Γ τ τ26 h25) (lw_V q1750 q1752 qs100 q128 q1753) hv_anew rfl rfl rfl dX2_shaveNow_133 rfl rfl ?_
  refine g_iload (pc := 136) hk dX2_shaveNow_136 rfl ?_
  refine g_if_eq (pc := 138) (tgt := 185) hk dX2_shaveNow_138 rfl ?_ ?_
  · refine g_sub (ls' := [(0, .ref Γ.2.1), (1, .int v1), (5, .int v5), (6, .int s0)]) [1, 2, 4, 0] rfl ?_
    exact tm_shaveNow_j185 hk hK τ26 v1 v5 s0
  · refine g_aload_n (pc := 141) hk dX2_shaveNow_141 rfl ?_
    refine g_iload (pc := 142) hk dX2_shaveNow_142 rfl ?_
    refine g_iconst (pc := 144) (v := 2) hk dX2_shaveNow_144 rfl ?_
    refine g_aload_n (pc := 145) hk dX2_shaveNow_145 rfl ?_
    refine g_iload (pc := 146) hk dX2_shaveNow_146 rfl ?_
    refine g_iconst (pc := 148) (v := 2) hk dX2_shaveNow_148 rfl ?_
    refine g_ob1 (fun r29 h30 => ?_)
    refine t_callV (pc := 149) hk hK [.int v4, .int 2] [.int 2, .int v4, .ref Γ.2.1] (tm_get Γ τ26 v4 2 r29 h30) (lw_V q1488 q1490 qs57 q128 q1491) hv_get rfl rfl rfl dX2_shaveNow_149 rfl rfl ?_
    refine g_iconst (pc := 152) (v := 1) hk dX2_shaveNow_152 rfl ?_
    refine g_iadd (pc := 153) hk dX2_shaveNow_153 ?_
    refine g_i2l (pc := 154) hk dX2_shaveNow_154 ?_
    refine g_iconst (pc := 155) (v := 0) hk dX2_shaveNow_155 rfl ?_
    refine g_bipush (pc := 156) (v := 99) hk dX2_shaveNow_156 rfl ?_
    refine g_ob1 (fun r31 h32 => ?_)
    refine t_callS (pc := 158) hk hK [.long (Int32.toInt64 (r29 + 1)), .int 0, .int 99] [.int 2, .int v4, .ref Γ.2.1] (tm_held Γ τ26 (Int32.toInt64 (r29 + 1)) 0 99 r31 h32) (lw_S q1735 q1736 q128 q1737) hs_held rfl rfl rfl dX2_shaveNow_158 rfl rfl ?_
    refine g_ob1 (fun τ34 h33 => ?_)
    refine t_callV (pc := 161) hk hK [.int v4, .int 2, .int r31] [] (tm_put Γ τ26 v4 2 r31 τ34 h33) (lw_V q1480 q1482 qs55 q128 q1483) hv_put rfl rfl rfl dX2_shaveNow_161 rfl rfl ?_
    refine g_aload_n (pc := 164) hk dX2_shaveNow_164 rfl ?_
    refine g_iload_n (pc := 165) hk dX2_shaveNow_165 rfl ?_
    refine g_iconst (pc := 166) (v := 1) hk dX2_shaveNow_166 rfl ?_
    refine g_aload_n (pc := 167) hk dX2_shaveNow_167 rfl ?_
    refine g_iload_n (pc := 168) hk dX2_shaveNow_168 rfl ?_
    refine g_iconst (pc := 169) (v := 1) hk dX2_shaveNow_169 rfl ?_
    refine g_ob1 (fun r35 h36 => ?_)
    refine t_callV (pc := 170) hk hK [.int v1, .int 1] [.int 1, .int v1, .ref Γ.2.1] (tm_get Γ τ34 v1 1 r35 h36) (lw_V q1488 q1490 qs57 q128 q1491) hv_get rfl rfl rfl dX2_shaveNow_170 rfl rfl ?_
    refine g_iconst (pc := 173) (v := 1) hk dX2_shaveNow_173 rfl ?_
    refine g_iadd (pc := 174) hk dX2_shaveNow_174 ?_
    refine g_i2l (pc := 175) hk dX2_shaveNow_175 ?_
    refine g_iconst (pc := 176) (v := 0) hk dX2_shaveNow_176 rfl ?_
    refine g_bipush (pc := 177) (v := 9) hk dX2_shaveNow_177 rfl ?_
    refine g_ob1 (fun r37 h38 => ?_)
    refine t_callS (pc := 179) hk hK [.long (Int32.toInt64 (r35 + 1)), .int 0, .int 9] [.int 1, .int v1, .ref Γ.2.1] (tm_held Γ τ34 (Int32.toInt64 (r35 + 1)) 0 9 r37 h38) (lw_S q1735 q1736 q128 q1737) hs_held rfl rfl rfl dX2_shaveNow_179 rfl rfl ?_
    refine g_ob1 (fun τ40 h39 => ?_)
    refine t_callV (pc := 182) hk hK [.int v1, .int 1, .int r37] [] (tm_put Γ τ34 v1 1 r37 τ40 h39) (lw_V q1480 q1482 qs55 q128 q1483) hv_put rfl rfl rfl dX2_shaveNow_182 rfl rfl ?_
    refine g_sub (ls' := [(0, .ref Γ.2.1), (1, .int v1), (5, .int v5), (6, .int s0)]) [1, 2, 4, 0] rfl ?_
    exact tm_shaveNow_j185 hk hK τ40 v1 v5 s0
theorem tm_shaveNow_j92 {K : KT} {Γ : TG} (hk : KOK K cX2_shaveNow 7 RX2 rm_shaveNow (some .int)) (hK : va_K Γ.1 tcl (ttys Γ) (kS K)) (τ : TS) (v1 : Int32) (v2 : Int32) (v4 : Int32) (s0 : Int32)   : GGo K (tQ K Γ (fun r : Int32 × TS => (some (Value.int r.1), r.2))) (T_shaveNow_j92 τ v1 v2 v4 s0) 7 (TI Γ (kS K) τ) 0 0 92 [(0, .ref Γ.2.1), (1, .int v1), (2, .int v2), (4, .int v4)] [.int s0] := by
  unfold T_shaveNow_j92
  refine g_istore (pc := 92) (i := 5) (ls' := [(5, .int s0), (0, .ref Γ.2.1), (1, .int v1), (2, .int v2), (4, .int v4)]) hk dX2_shaveNow_92 (by decide) rfl ?_
  refine g_aload_n (pc := 94) hk dX2_shaveNow_94 rfl ?_
  refine g_iload (pc := 95) hk dX2_shaveNow_95 rfl ?_
  refine g_iconst (pc := 97) (v := 0) hk dX2_shaveNow_97 rfl ?_
  refine g_aload_n (pc := 98) hk dX2_shaveNow_98 rfl ?_
  refine g_iload (pc := 99) hk dX2_shaveNow_99 rfl ?_
  refine g_iconst (pc := 101) (v := 0) hk dX2_shaveNow_101 rfl ?_
  refine g_ob1 (fun r21 h22 => ?_)
  refine t_callV (pc := 102) hk hK [.int v4, .int 0] [.int 0, .int v4, .ref Γ.2.1] (tm_get Γ τ v4 0 r21 h22) (lw_V q1488 q1490 qs57 q128 q1491) hv_get rfl rfl rfl dX2_shaveNow_102 rfl rfl ?_
  refine g_iload (pc := 105) hk dX2_shaveNow_105 rfl ?_
  refine g_isub (pc := 107) hk dX2_shaveNow_107 ?_
  refine g_ob1 (fun τ24 h23 => ?_)
  refine t_callV (pc := 108) hk hK [.int v4, .int 0, .int (r21 - s0)] [] (tm_put Γ τ v4 0 (r21 - s0) τ24 h23) (lw_V q1480 q1482 qs55 q128 q1483) hv_put rfl rfl rfl dX2_shaveNow_108 rfl rfl ?_
  refine g_aload_n (pc := 111) hk dX2_shaveNow_111 rfl ?_
  refine t_getR (pc := 112) hk hK tr_0 tf_0 dX2_shaveNow_112 ?_
  refine g_bipush (pc := 115) (v := 8) hk dX2_shaveNow_115 rfl ?_
  refine t_ialdC (pc := 117) (j := 8) hk hK ta_0 rfl rfl dX2_shaveNow_117 ?_
  refine g_bipush (pc := 118) (v := 10) hk dX2_shaveNow_118 rfl ?_
  refine g_irem (pc := 120) hk dX2_shaveNow_120 (by decide) ?_
  refine g_iload_n (pc := 121) hk dX2_shaveNow_121 rfl ?_
  refine g_icmp_ge (pc := 122) (tgt := 129) hk dX2_shaveNow_122 rfl ?_ ?_
  · refine g_iconst (pc := 129) (v := 0) hk dX2_shaveNow_129 rfl ?_
    refine g_sub (ls' := [(0, .ref Γ.2.1), (1, .int v1), (4, .int v4), (5, .int s0)]) [1, 2, 4, 0] rfl ?_
    exact tm_shaveNow_j130 hk hK τ24 v1 v4 s0 0
  · refine g_iconst (pc := 125) (v := 1) hk dX2_shaveNow_125 rfl ?_
    refine g_goto (pc := 126) (tgt := 130) hk dX2_shaveNow_126 rfl ?_
    refine g_sub (ls' := [(0, .ref Γ.2.1), (1, .int v1), (4, .int v4), (5, .int s0)]) [1, 2, 4, 0] rfl ?_
    exact tm_shaveNow_j130 hk hK τ24 v1 v4 s0 1
theorem tm_shaveNow (Γ : TG) (τ : TS) (v1 : Int32)  (r : Int32 × TS) (h : T_shaveNow τ v1 = some r) : TMet Γ yX2_shaveNow cX2_shaveNow 7 (some .int) rm_shaveNow [.ref Γ.2.1, .int v1] τ (some (.int r.1)) r.2 := by
  refine t_met (view := (fun r : Int32 × TS => (some (Value.int r.1), r.2))) rfl rfl (ls0 := [(0, .ref Γ.2.1), (1, .int v1)]) rfl (fun K hk hK => ?_) r h
  unfold T_shaveNow
  refine g_aload_n (pc := 0) hk dX2_shaveNow_0 rfl ?_
  refine g_iload_n (pc := 1) hk dX2_shaveNow_1 rfl ?_
  refine g_ob2 (fun r1 τ3 h2 => ?_)
  refine t_callV (pc := 2) hk hK [.int v1] [] (tm_slipsOf Γ τ v1 (r1, τ3) h2) (lw_V q1683 q1685 qs89 q128 q1686) hv_slipsOf rfl rfl rfl dX2_shaveNow_2 rfl rfl ?_
  refine g_istore_n (pc := 5) (i := 2) (ls' := [(2, .int r1), (0, .ref Γ.2.1), (1, .int v1)]) hk dX2_shaveNow_5 rfl (by decide) rfl ?_
  refine g_aload_n (pc := 6) hk dX2_shaveNow_6 rfl ?_
  refine g_iload_n (pc := 7) hk dX2_shaveNow_7 rfl ?_
  refine g_ob2 (fun r4 τ6 h5 => ?_)
  refine t_callV (pc := 8) hk hK [.int v1] [] (tm_razesOf Γ τ3 v1 (r4, τ6) h5) (lw_V q1738 q1740 qs97 q128 q1741) hv_razesOf rfl rfl rfl dX2_shaveNow_8 rfl rfl ?_
  refine g_istore_n (pc := 11) (i := 3) (ls' := [(3, .int r4), (2, .int r1), (0, .ref Γ.2.1), (1, .int v1)]) hk dX2_shaveNow_11 rfl (by decide) rfl ?_
  refine g_aload_n (pc := 12) hk dX2_shaveNow_12 rfl ?_
  refine t_getR (pc := 13) hk hK tr_0 tf_0 dX2_shaveNow_13 ?_
  refine g_bipush (pc := 16) (v := 7) hk dX2_shaveNow_16 rfl ?_
  refine g_aload_n (pc := 18) hk dX2_shaveNow_18 rfl ?_
  refine t_getR (pc := 19) hk hK tr_0 tf_0 dX2_shaveNow_19 ?_
  refine g_bipush (pc := 22) (v := 7) hk dX2_shaveNow_22 rfl ?_
  refine t_ialdC (pc := 24) (j := 7) hk hK ta_0 rfl rfl dX2_shaveNow_24 ?_
  refine g_aload_n (pc := 25) hk dX2_shaveNow_25 rfl ?_
  refine g_aload_n (pc := 26) hk dX2_shaveNow_26 rfl ?_
  refine t_getR (pc := 27) hk hK tr_0 tf_0 dX2_shaveNow_27 ?_
  refine g_iconst (pc := 30) (v := 2) hk dX2_shaveNow_30 rfl ?_
  refine t_ialdC (pc := 31) (j := 2) hk hK ta_0 rfl rfl dX2_shaveNow_31 ?_
  refine g_iload_n (pc := 32) hk dX2_shaveNow_32 rfl ?_
  refine g_ob2 (fun r7 τ9 h8 => ?_)
  refine t_callV (pc := 33) hk hK [.int (tA τ6 0 2), .int v1] [.int (tA τ6 0 7), .int 7, .ref (Γ.2.2.1 0)] (tm_ratesOf Γ τ6 (tA τ6 0 2) v1 (r7, τ9) h8) (lw_V q1742 q1744 qs98 q128 q1745) hv_ratesOf rfl rfl rfl dX2_shaveNow_33 rfl rfl ?_
  refine g_iadd (pc := 36) hk dX2_shaveNow_36 ?_
  refine g_i2l (pc := 37) hk dX2_shaveNow_37 ?_
  refine g_iconst (pc := 38) (v := 0) hk dX2_shaveNow_38 rfl ?_
  refine g_ldc (pc := 39) (v := 99999) hk q1530 dX2_shaveNow_39 ?_
  refine g_ob1 (fun r10 h11 => ?_)
  refine t_callS (pc := 41) hk hK [.long (Int32.toInt64 ((tA τ6 0 7) + r7)), .int 0, .int 99999] [.int 7, .ref (Γ.2.2.1 0)] (tm_held Γ τ9 (Int32.toInt64 ((tA τ6 0 7) + r7)) 0 99999 r10 h11) (lw_S q1735 q1736 q128 q1737) hs_held rfl rfl rfl dX2_shaveNow_41 rfl rfl ?_
  refine t_iastC (pc := 44) (j := 7) hk hK ta_0 rfl rfl dX2_shaveNow_44 (fun τ12 => ?_)
  refine g_aload_n (pc := 45) hk dX2_shaveNow_45 rfl ?_
  refine g_iload_n (pc := 46) hk dX2_shaveNow_46 rfl ?_
  refine g_ob1 (fun r13 h14 => ?_)
  refine t_callV (pc := 47) hk hK [.int v1] [] (tm_otherOf Γ τ12 v1 r13 h14) (lw_V q1691 q1693 qs91 q128 q1694) hv_otherOf rfl rfl rfl dX2_shaveNow_47 rfl rfl ?_
  refine g_istore (pc := 50) (i := 4) (ls' := [(4, .int r13), (3, .int r4), (2, .int r1), (0, .ref Γ.2.1), (1, .int v1)]) hk dX2_shaveNow_50 (by decide) rfl ?_
  refine g_aload_n (pc := 52) hk dX2_shaveNow_52 rfl ?_
  refine g_iload (pc := 53) hk dX2_shaveNow_53 rfl ?_
  refine g_ob1 (fun r15 h16 => ?_)
  refine t_callV (pc := 55) hk hK [.int r13] [] (tm_isPerson Γ τ12 r13 r15 h16) (lw_V q1671 q1673 qs86 q128 q1674) hv_isPerson rfl rfl rfl dX2_shaveNow_55 rfl rfl ?_
  refine g_if_ne (pc := 58) (tgt := 70) hk dX2_shaveNow_58 rfl ?_ ?_
  · refine g_iload_n (pc := 70) hk dX2_shaveNow_70 rfl ?_
    refine g_aload_n (pc := 71) hk dX2_shaveNow_71 rfl ?_
    refine g_iload (pc := 72) hk dX2_shaveNow_72 rfl ?_
    refine g_iconst (pc := 74) (v := 0) hk dX2_shaveNow_74 rfl ?_
    refine g_ob1 (fun r17 h18 => ?_)
    refine t_callV (pc := 75) hk hK [.int r13, .int 0] [.int r4] (tm_get Γ τ12 r13 0 r17 h18) (lw_V q1488 q1490 qs57 q128 q1491) hv_get rfl rfl rfl dX2_shaveNow_75 rfl rfl ?_
    refine g_icmp_ge (pc := 78) (tgt := 85) hk dX2_shaveNow_78 rfl ?_ ?_
    · refine g_aload_n (pc := 85) hk dX2_shaveNow_85 rfl ?_
      refine g_iload (pc := 86) hk dX2_shaveNow_86 rfl ?_
      refine g_iconst (pc := 88) (v := 0) hk dX2_shaveNow_88 rfl ?_
      refine g_ob1 (fun r19 h20 => ?_)
      refine t_callV (pc := 89) hk hK [.int r13, .int 0] [] (tm_get Γ τ12 r13 0 r19 h20) (lw_V q1488 q1490 qs57 q128 q1491) hv_get rfl rfl rfl dX2_shaveNow_89 rfl rfl ?_
      refine g_sub (ls' := [(0, .ref Γ.2.1), (1, .int v1), (2, .int r1), (4, .int r13)]) [3, 4, 2, 0] rfl ?_
      exact tm_shaveNow_j92 hk hK τ12 v1 r1 r13 r19
    · refine g_iload_n (pc := 81) hk dX2_shaveNow_81 rfl ?_
      refine g_goto (pc := 82) (tgt := 92) hk dX2_shaveNow_82 rfl ?_
      refine g_sub (ls' := [(0, .ref Γ.2.1), (1, .int v1), (2, .int r1), (4, .int r13)]) [3, 4, 2, 0] rfl ?_
      exact tm_shaveNow_j92 hk hK τ12 v1 r1 r13 r4
  · refine g_aload_n (pc := 61) hk dX2_shaveNow_61 rfl ?_
    refine g_iload_n (pc := 62) hk dX2_shaveNow_62 rfl ?_
    refine g_iconst (pc := 63) (v := 0) hk dX2_shaveNow_63 rfl ?_
    refine g_iconst (pc := 64) (v := 0) hk dX2_shaveNow_64 rfl ?_
    refine g_ob1 (fun τ42 h41 => ?_)
    refine t_callV (pc := 65) hk hK [.int v1, .int 0, .int 0] [] (tm_write Γ τ12 v1 0 0 τ42 h41) (lw_V q1746 q1748 qs99 q128 q1749) hv_write rfl rfl rfl dX2_shaveNow_65 rfl rfl ?_
    refine g_iconst (pc := 68) (v := 0) hk dX2_shaveNow_68 rfl ?_
    exact t_iret (pc := 69) hk rfl dX2_shaveNow_69
def rm_shave : Room := { frames := 8, cells := 0, slots := 0, locals := 197 }
theorem hv_shave : yX2_shave.cls = RX2 ∧ yX2_shave.cls ≠ "java/lang/invoke/MethodHandle" ∧ yX2_shave.cls ≠ "java/lang/invoke/VarHandle" ∧ (parseMethodDescriptor yX2_shave.desc).map (fun d => d.parameters.length) = some 1 := by decide +kernel
theorem tm_shave (Γ : TG) (τ : TS) (v1 : Int32)  (r : Int32 × TS) (h : T_shave τ v1 = some r) : TMet Γ yX2_shave cX2_shave 2 (some .int) rm_shave [.ref Γ.2.1, .int v1] τ (some (.int r.1)) r.2 := by
  refine t_met (view := (fun r : Int32 × TS => (some (Value.int r.1), r.2))) rfl rfl (ls0 := [(0, .ref Γ.2.1), (1, .int v1)]) rfl (fun K hk hK => ?_) r h
  unfold T_shave
  refine g_aload_n (pc := 0) hk dX2_shave_0 rfl ?_
  refine g_iload_n (pc := 1) hk dX2_shave_1 rfl ?_
  refine g_ob1 (fun r1 h2 => ?_)
  refine t_callV (pc := 2) hk hK [.int v1] [] (tm_isPerson Γ τ v1 r1 h2) (lw_V q1671 q1673 qs86 q128 q1674) hv_isPerson rfl rfl rfl dX2_shave_2 rfl rfl ?_
  refine g_if_ne (pc := 5) (tgt := 10) hk dX2_shave_5 rfl ?_ ?_
  · refine g_aload_n (pc := 10) hk dX2_shave_10 rfl ?_
    refine g_ob1 (fun τ4 h3 => ?_)
    refine t_callV (pc := 11) hk hK [] [] (tm_keep Γ τ τ4 h3) (lw_V q1675 q1677 qs87 q128 q1678) hv_keep rfl rfl rfl dX2_shave_11 rfl rfl ?_
    refine g_aload_n (pc := 14) hk dX2_shave_14 rfl ?_
    refine g_iload_n (pc := 15) hk dX2_shave_15 rfl ?_
    refine g_ob2 (fun r5 τ7 h6 => ?_)
    refine t_callV (pc := 16) hk hK [.int v1] [] (tm_shaveNow Γ τ4 v1 (r5, τ7) h6) (lw_V q1679 q1681 qs88 q128 q1682) hv_shaveNow rfl rfl rfl dX2_shave_16 rfl rfl ?_
    exact t_iret (pc := 19) hk rfl dX2_shave_19
  · refine g_iconst (pc := 8) (v := (-1)) hk dX2_shave_8 rfl ?_
    exact t_iret (pc := 9) hk rfl dX2_shave_9
