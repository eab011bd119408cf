/-! WALKS of the twin's methods, by program (wip: gen.py) -/
set_option maxRecDepth 100000
def rm_canCalm : Room := { frames := 2, cells := 0, slots := 0, locals := 43 }
theorem hv_canCalm : yX2_canCalm.cls = RX2 ∧ yX2_canCalm.cls ≠ "java/lang/invoke/MethodHandle" ∧ yX2_canCalm.cls ≠ "java/lang/invoke/VarHandle" ∧ (parseMethodDescriptor yX2_canCalm.desc).map (fun d => d.parameters.length) = some 1 := by decide +kernel
theorem tm_canCalm (Γ : TG) (τ : TS) (v1 : Int32)  (r : Int32) (h : T_canCalm τ v1 = some r) : TMet Γ yX2_canCalm cX2_canCalm 2 (some .boolean) rm_canCalm [.ref Γ.2.1, .int v1] τ (some (.int r)) τ := by
  refine t_met (view := (fun r : Int32 => (some (Value.int r), τ))) rfl rfl (ls0 := [(0, .ref Γ.2.1), (1, .int v1)]) rfl (fun K hk hK => ?_) r h
  unfold T_canCalm
  refine g_aload_n (pc := 0) hk dX2_canCalm_0 rfl ?_
  refine g_iload_n (pc := 1) hk dX2_canCalm_1 rfl ?_
  refine g_ob1 (fun r1 h2 => ?_)
  refine t_callV (pc := 2) hk hK [.int v1] [] (tm_isPerson Γ τ v1 r1 h2) (lw_V q1671 q1673 qs86 q128 q1674) hv_isPerson rfl rfl rfl dX2_canCalm_2 rfl rfl ?_
  refine g_if_eq (pc := 5) (tgt := 21) hk dX2_canCalm_5 rfl ?_ ?_
  · refine g_iconst (pc := 21) (v := 0) hk dX2_canCalm_21 rfl ?_
    exact t_zret (pc := 22) hk rfl rfl dX2_canCalm_22
  · refine g_aload_n (pc := 8) hk dX2_canCalm_8 rfl ?_
    refine g_iload_n (pc := 9) hk dX2_canCalm_9 rfl ?_
    refine g_iconst (pc := 10) (v := 1) hk dX2_canCalm_10 rfl ?_
    refine g_ob1 (fun r3 h4 => ?_)
    refine t_callV (pc := 11) hk hK [.int v1, .int 1] [] (tm_get Γ τ v1 1 r3 h4) (lw_V q1488 q1490 qs57 q128 q1491) hv_get rfl rfl rfl dX2_canCalm_11 rfl rfl ?_
    refine g_if_le (pc := 14) (tgt := 21) hk dX2_canCalm_14 rfl ?_ ?_
    · refine g_iconst (pc := 21) (v := 0) hk dX2_canCalm_21 rfl ?_
      exact t_zret (pc := 22) hk rfl rfl dX2_canCalm_22
    · refine g_iconst (pc := 17) (v := 1) hk dX2_canCalm_17 rfl ?_
      refine g_goto (pc := 18) (tgt := 22) hk dX2_canCalm_18 rfl ?_
      exact t_zret (pc := 22) hk rfl rfl dX2_canCalm_22
def rm_calm : Room := { frames := 3, cells := 0, slots := 0, locals := 64 }
theorem hv_calm : yX2_calm.cls = RX2 ∧ yX2_calm.cls ≠ "java/lang/invoke/MethodHandle" ∧ yX2_calm.cls ≠ "java/lang/invoke/VarHandle" ∧ (parseMethodDescriptor yX2_calm.desc).map (fun d => d.parameters.length) = some 1 := by decide +kernel
theorem tm_calm (Γ : TG) (τ : TS) (v1 : Int32)  (r : Int32 × TS) (h : T_calm τ v1 = some r) : TMet Γ yX2_calm cX2_calm 2 (some .boolean) rm_calm [.ref Γ.2.1, .int v1] τ (some (.int r.1)) r.2 := by
  refine t_met (view := (fun r : Int32 × TS => (some (Value.int r.1), r.2))) rfl rfl (ls0 := [(0, .ref Γ.2.1), (1, .int v1)]) rfl (fun K hk hK => ?_) r h
  unfold T_calm
  refine g_aload_n (pc := 0) hk dX2_calm_0 rfl ?_
  refine g_iload_n (pc := 1) hk dX2_calm_1 rfl ?_
  refine g_ob1 (fun r1 h2 => ?_)
  refine t_callV (pc := 2) hk hK [.int v1] [] (tm_canCalm Γ τ v1 r1 h2) (lw_V q1761 q1763 qs101 q128 q1764) hv_canCalm rfl rfl rfl dX2_calm_2 rfl rfl ?_
  refine g_if_ne (pc := 5) (tgt := 10) hk dX2_calm_5 rfl ?_ ?_
  · refine g_aload_n (pc := 10) hk dX2_calm_10 rfl ?_
    refine g_ob1 (fun τ4 h3 => ?_)
    refine t_callV (pc := 11) hk hK [] [] (tm_keep Γ τ τ4 h3) (lw_V q1675 q1677 qs87 q128 q1678) hv_keep rfl rfl rfl dX2_calm_11 rfl rfl ?_
    refine g_aload_n (pc := 14) hk dX2_calm_14 rfl ?_
    refine g_iload_n (pc := 15) hk dX2_calm_15 rfl ?_
    refine g_iconst (pc := 16) (v := 1) hk dX2_calm_16 rfl ?_
    refine g_aload_n (pc := 17) hk dX2_calm_17 rfl ?_
    refine g_iload_n (pc := 18) hk dX2_calm_18 rfl ?_
    refine g_iconst (pc := 19) (v := 1) hk dX2_calm_19 rfl ?_
    refine g_ob1 (fun r5 h6 => ?_)
    refine t_callV (pc := 20) hk hK [.int v1, .int 1] [.int 1, .int v1, .ref Γ.2.1] (tm_get Γ τ4 v1 1 r5 h6) (lw_V q1488 q1490 qs57 q128 q1491) hv_get rfl rfl rfl dX2_calm_20 rfl rfl ?_
    refine g_iconst (pc := 23) (v := 1) hk dX2_calm_23 rfl ?_
    refine g_isub (pc := 24) hk dX2_calm_24 ?_
    refine g_ob1 (fun τ8 h7 => ?_)
    refine t_callV (pc := 25) hk hK [.int v1, .int 1, .int (r5 - 1)] [] (tm_put Γ τ4 v1 1 (r5 - 1) τ8 h7) (lw_V q1480 q1482 qs55 q128 q1483) hv_put rfl rfl rfl dX2_calm_25 rfl rfl ?_
    refine g_iconst (pc := 28) (v := 1) hk dX2_calm_28 rfl ?_
    exact t_zret (pc := 29) hk rfl rfl dX2_calm_29
  · refine g_iconst (pc := 8) (v := 0) hk dX2_calm_8 rfl ?_
    exact t_zret (pc := 9) hk rfl rfl dX2_calm_9
def rm_pass : Room := { frames := 1, cells := 0, slots := 0, locals := 23 }
theorem hv_pass : yX2_pass.cls = RX2 ∧ yX2_pass.cls ≠ "java/lang/invoke/MethodHandle" ∧ yX2_pass.cls ≠ "java/lang/invoke/VarHandle" ∧ (parseMethodDescriptor yX2_pass.desc).map (fun d => d.parameters.length) = some 0 := by decide +kernel
theorem tm_pass_l2 {K : KT} {Γ : TG} (hk : KOK K cX2_pass 2 RX2 rm_pass none) (hK : va_K Γ.1 tcl (ttys Γ) (kS K))    : ∀ (n : Nat) (τ : TS) (v1 : Int32), GGo K (tQ K Γ (fun r : TS => ((none : Option Value), r))) (T_pass_l2 n τ v1) 2 (TI Γ (kS K) τ) 0 0 2 [(0, .ref Γ.2.1), (1, .int v1)] [] := by
  intro n
  induction n with
  | zero =>
    intro τ v1
    unfold T_pass_l2
    exact g_none
  | succ n ih =>
    intro τ v1
    unfold T_pass_l2
    refine g_iload_n (pc := 2) hk dX2_pass_2 rfl ?_
    refine g_aload_n (pc := 3) hk dX2_pass_3 rfl ?_
    refine t_getR (pc := 4) hk hK tr_0 tf_0 dX2_pass_4 ?_
    refine g_iconst (pc := 7) (v := 0) hk dX2_pass_7 rfl ?_
    refine t_ialdC (pc := 8) (j := 0) hk hK ta_0 rfl rfl dX2_pass_8 ?_
    refine g_icmp_ge (pc := 9) (tgt := 39) hk dX2_pass_9 rfl ?_ ?_
    · refine g_aload_n (pc := 39) hk dX2_pass_39 rfl ?_
      refine t_getR (pc := 40) hk hK tr_0 tf_0 dX2_pass_40 ?_
      refine g_bipush (pc := 43) (v := 6) hk dX2_pass_43 rfl ?_
      refine g_dup2 (pc := 45) hk dX2_pass_45 rfl rfl ?_
      refine t_ialdC (pc := 46) (j := 6) hk hK ta_0 rfl rfl dX2_pass_46 ?_
      refine g_iconst (pc := 47) (v := 1) hk dX2_pass_47 rfl ?_
      refine g_iadd (pc := 48) hk dX2_pass_48 ?_
      refine t_iastC (pc := 49) (j := 6) hk hK ta_0 rfl rfl dX2_pass_49 (fun τ1 => ?_)
      exact t_vret (pc := 50) hk rfl dX2_pass_50
    · refine g_aload_n (pc := 12) hk dX2_pass_12 rfl ?_
      refine g_iload_n (pc := 13) hk dX2_pass_13 rfl ?_
      refine g_iconst (pc := 14) (v := 0) hk dX2_pass_14 rfl ?_
      refine g_aload_n (pc := 15) hk dX2_pass_15 rfl ?_
      refine g_iload_n (pc := 16) hk dX2_pass_16 rfl ?_
      refine g_iconst (pc := 17) (v := 0) hk dX2_pass_17 rfl ?_
      refine g_ob1 (fun r2 h3 => ?_)
      refine t_callV (pc := 18) hk hK [.int v1, .int 0] [.int 0, .int v1, .ref Γ.2.1] (tm_get Γ τ v1 0 r2 h3) (lw_V q1488 q1490 qs57 q128 q1491) hv_get rfl rfl rfl dX2_pass_18 rfl rfl ?_
      refine g_iconst (pc := 21) (v := 1) hk dX2_pass_21 rfl ?_
      refine g_iadd (pc := 22) hk dX2_pass_22 ?_
      refine g_i2l (pc := 23) hk dX2_pass_23 ?_
      refine g_iconst (pc := 24) (v := 0) hk dX2_pass_24 rfl ?_
      refine g_bipush (pc := 25) (v := 99) hk dX2_pass_25 rfl ?_
      refine g_ob1 (fun r4 h5 => ?_)
      refine t_callS (pc := 27) hk hK [.long (Int32.toInt64 (r2 + 1)), .int 0, .int 99] [.int 0, .int v1, .ref Γ.2.1] (tm_held Γ τ (Int32.toInt64 (r2 + 1)) 0 99 r4 h5) (lw_S q1735 q1736 q128 q1737) hs_held rfl rfl rfl dX2_pass_27 rfl rfl ?_
      refine g_ob1 (fun τ7 h6 => ?_)
      refine t_callV (pc := 30) hk hK [.int v1, .int 0, .int r4] [] (tm_put Γ τ v1 0 r4 τ7 h6) (lw_V q1480 q1482 qs55 q128 q1483) hv_put rfl rfl rfl dX2_pass_30 rfl rfl ?_
      refine g_iincN (pc := 33) (v := 1) (ls' := fun x8 => [(1, .int x8), (0, .ref Γ.2.1)]) hk dX2_pass_33 rfl rfl (by decide) (fun _ => rfl) (fun x8 => ?_)
      refine g_goto (pc := 36) (tgt := 2) hk dX2_pass_36 rfl ?_
      refine g_sub (ls' := [(0, .ref Γ.2.1), (1, .int x8)]) [1, 0] rfl ?_
      exact ih τ7 x8
theorem tm_pass (Γ : TG) (τ : TS)   (r : TS) (h : T_pass τ = some r) : TMet Γ yX2_pass cX2_pass 2 none rm_pass [.ref Γ.2.1] τ none r := by
  refine t_met (view := (fun r : TS => ((none : Option Value), r))) rfl rfl (ls0 := [(0, .ref Γ.2.1)]) rfl (fun K hk hK => ?_) r h
  unfold T_pass
  refine g_iconst (pc := 0) (v := 0) hk dX2_pass_0 rfl ?_
  refine g_istore_n (pc := 1) (i := 1) (ls' := [(1, .int 0), (0, .ref Γ.2.1)]) hk dX2_pass_1 rfl (by decide) rfl ?_
  refine g_sub (ls' := [(0, .ref Γ.2.1), (1, .int 0)]) [1, 0] rfl ?_
  exact tm_pass_l2 hk hK FU τ 0
def rm_arePassed : Room := { frames := 2, cells := 0, slots := 0, locals := 45 }
theorem hv_arePassed : yX2_arePassed.cls = RX2 ∧ yX2_arePassed.cls ≠ "java/lang/invoke/MethodHandle" ∧ yX2_arePassed.cls ≠ "java/lang/invoke/VarHandle" ∧ (parseMethodDescriptor yX2_arePassed.desc).map (fun d => d.parameters.length) = some 1 := by decide +kernel
theorem tm_arePassed_l2 {K : KT} {Γ : TG} (hk : KOK K cX2_arePassed 3 RX2 rm_arePassed (some .boolean)) (hK : va_K Γ.1 tcl (ttys Γ) (kS K)) (v1 : Int32)   : ∀ (n : Nat) (τ : TS) (v2 : Int32), GGo K (tQ K Γ (fun r : Int32 × TS => (some (Value.int r.1), r.2))) (T_arePassed_l2 v1 n τ v2) 3 (TI Γ (kS K) τ) 0 0 2 [(0, .ref Γ.2.1), (1, .int v1), (2, .int v2)] [] := by
  intro n
  induction n with
  | zero =>
    intro τ v2
    unfold T_arePassed_l2
    exact g_none
  | succ n ih =>
    intro τ v2
    unfold T_arePassed_l2
    refine g_iload_n (pc := 2) hk dX2_arePassed_2 rfl ?_
    refine g_iload_n (pc := 3) hk dX2_arePassed_3 rfl ?_
    refine g_icmp_ge (pc := 4) (tgt := 36) hk dX2_arePassed_4 rfl ?_ ?_
    · refine g_iconst (pc := 36) (v := 1) hk dX2_arePassed_36 rfl ?_
      exact t_zret (pc := 37) hk rfl rfl dX2_arePassed_37
    · refine g_aload_n (pc := 7) hk dX2_arePassed_7 rfl ?_
      refine t_getR (pc := 8) hk hK tr_0 tf_0 dX2_arePassed_8 ?_
      refine g_bipush (pc := 11) (v := 6) hk dX2_arePassed_11 rfl ?_
      refine t_ialdC (pc := 13) (j := 6) hk hK ta_0 rfl rfl dX2_arePassed_13 ?_
      refine g_sipush (pc := 14) (v := 9999) hk dX2_arePassed_14 rfl ?_
      refine g_icmp_ne (pc := 17) (tgt := 22) hk dX2_arePassed_17 rfl ?_ ?_
      · refine g_aload_n (pc := 22) hk dX2_arePassed_22 rfl ?_
        refine g_ob1 (fun τ2 h1 => ?_)
        refine t_callV (pc := 23) hk hK [] [] (tm_keep Γ τ τ2 h1) (lw_V q1675 q1677 qs87 q128 q1678) hv_keep rfl rfl rfl dX2_arePassed_23 rfl rfl ?_
        refine g_aload_n (pc := 26) hk dX2_arePassed_26 rfl ?_
        refine g_ob1 (fun τ4 h3 => ?_)
        refine t_callV (pc := 27) hk hK [] [] (tm_pass Γ τ2 τ4 h3) (lw_V q1773 q1775 qs103 q128 q1776) hv_pass rfl rfl rfl dX2_arePassed_27 rfl rfl ?_
        refine g_iincN (pc := 30) (v := 1) (ls' := fun x5 => [(2, .int x5), (0, .ref Γ.2.1), (1, .int v1)]) hk dX2_arePassed_30 rfl rfl (by decide) (fun _ => rfl) (fun x5 => ?_)
        refine g_goto (pc := 33) (tgt := 2) hk dX2_arePassed_33 rfl ?_
        refine g_sub (ls' := [(0, .ref Γ.2.1), (1, .int v1), (2, .int x5)]) [1, 2, 0] rfl ?_
        exact ih τ4 x5
      · refine g_iconst (pc := 20) (v := 0) hk dX2_arePassed_20 rfl ?_
        exact t_zret (pc := 21) hk rfl rfl dX2_arePassed_21
theorem tm_arePassed (Γ : TG) (τ : TS) (v1 : Int32)  (r : Int32 × TS) (h : T_arePassed τ v1 = some r) : TMet Γ yX2_arePassed cX2_arePassed 3 (some .boolean) rm_arePassed [.ref Γ.2.1, .int v1] τ (some (.int r.1)) r.2 := by
  refine t_met (view := (fun r : Int32 × TS => (some (Value.int r.1), r.2))) rfl rfl (ls0 := [(0, .ref Γ.2.1), (1, .int v1)]) rfl (fun K hk hK => ?_) r h
  unfold T_arePassed
  refine g_iconst (pc := 0) (v := 0) hk dX2_arePassed_0 rfl ?_
  refine g_istore_n (pc := 1) (i := 2) (ls' := [(2, .int 0), (0, .ref Γ.2.1), (1, .int v1)]) hk dX2_arePassed_1 rfl (by decide) rfl ?_
  refine g_sub (ls' := [(0, .ref Γ.2.1), (1, .int v1), (2, .int 0)]) [1, 2, 0] rfl ?_
  exact tm_arePassed_l2 hk hK v1 FU τ 0
def rm_sumOf : Room := { frames := 1, cells := 0, slots := 0, locals := 22 }
theorem hv_sumOf : yX2_sumOf.cls = RX2 ∧ yX2_sumOf.cls ≠ "java/lang/invoke/MethodHandle" ∧ yX2_sumOf.cls ≠ "java/lang/invoke/VarHandle" ∧ (parseMethodDescriptor yX2_sumOf.desc).map (fun d => d.parameters.length) = some 1 := by decide +kernel
theorem tm_sumOf_l4 {K : KT} {Γ : TG} (hk : KOK K cX2_sumOf 4 RX2 rm_sumOf (some .int)) (hK : va_K Γ.1 tcl (ttys Γ) (kS K)) (τ : TS) (v1 : Int32)   : ∀ (n : Nat) (v2 : Int32) (v3 : Int32), GGo K (tQ K Γ (fun r : Int32 => (some (Value.int r), τ))) (T_sumOf_l4 τ v1 n v2 v3) 4 (TI Γ (kS K) τ) 0 0 4 [(0, .ref Γ.2.1), (1, .int v1), (2, .int v2), (3, .int v3)] [] := by
  intro n
  induction n with
  | zero =>
    intro v2 v3
    unfold T_sumOf_l4
    exact g_none
  | succ n ih =>
    intro v2 v3
    unfold T_sumOf_l4
    refine g_iload_n (pc := 4) hk dX2_sumOf_4 rfl ?_
    refine g_aload_n (pc := 5) hk dX2_sumOf_5 rfl ?_
    refine t_getR (pc := 6) hk hK tr_0 tf_0 dX2_sumOf_6 ?_
    refine g_iconst (pc := 9) (v := 0) hk dX2_sumOf_9 rfl ?_
    refine t_ialdC (pc := 10) (j := 0) hk hK ta_0 rfl rfl dX2_sumOf_10 ?_
    refine g_icmp_ge (pc := 11) (tgt := 29) hk dX2_sumOf_11 rfl ?_ ?_
    · refine g_iload_n (pc := 29) hk dX2_sumOf_29 rfl ?_
      exact t_iret (pc := 30) hk rfl dX2_sumOf_30
    · refine g_iload_n (pc := 14) hk dX2_sumOf_14 rfl ?_
      refine g_aload_n (pc := 15) hk dX2_sumOf_15 rfl ?_
      refine g_iload_n (pc := 16) hk dX2_sumOf_16 rfl ?_
      refine g_iload_n (pc := 17) hk dX2_sumOf_17 rfl ?_
      refine g_ob1 (fun r1 h2 => ?_)
      refine t_callV (pc := 18) hk hK [.int v3, .int v1] [.int v2] (tm_get Γ τ v3 v1 r1 h2) (lw_V q1488 q1490 qs57 q128 q1491) hv_get rfl rfl rfl dX2_sumOf_18 rfl rfl ?_
      refine g_iadd (pc := 21) hk dX2_sumOf_21 ?_
      refine g_istore_nN (pc := 22) (i := 2) (ls' := fun x3 => [(2, .int x3), (0, .ref Γ.2.1), (1, .int v1), (3, .int v3)]) hk dX2_sumOf_22 rfl (by decide) (fun _ => rfl) (fun x3 => ?_)
      refine g_iincN (pc := 23) (v := 1) (ls' := fun x4 => [(3, .int x4), (2, .int x3), (0, .ref Γ.2.1), (1, .int v1)]) hk dX2_sumOf_23 rfl rfl (by decide) (fun _ => rfl) (fun x4 => ?_)
      refine g_goto (pc := 26) (tgt := 4) hk dX2_sumOf_26 rfl ?_
      refine g_sub (ls' := [(0, .ref Γ.2.1), (1, .int v1), (2, .int x3), (3, .int x4)]) [2, 3, 1, 0] rfl ?_
      exact ih x3 x4
theorem tm_sumOf (Γ : TG) (τ : TS) (v1 : Int32)  (r : Int32) (h : T_sumOf τ v1 = some r) : TMet Γ yX2_sumOf cX2_sumOf 4 (some .int) rm_sumOf [.ref Γ.2.1, .int v1] τ (some (.int r)) τ := by
  refine t_met (view := (fun r : Int32 => (some (Value.int r), τ))) rfl rfl (ls0 := [(0, .ref Γ.2.1), (1, .int v1)]) rfl (fun K hk hK => ?_) r h
  unfold T_sumOf
  refine g_iconst (pc := 0) (v := 0) hk dX2_sumOf_0 rfl ?_
  refine g_istore_n (pc := 1) (i := 2) (ls' := [(2, .int 0), (0, .ref Γ.2.1), (1, .int v1)]) hk dX2_sumOf_1 rfl (by decide) rfl ?_
  refine g_iconst (pc := 2) (v := 0) hk dX2_sumOf_2 rfl ?_
  refine g_istore_n (pc := 3) (i := 3) (ls' := [(3, .int 0), (2, .int 0), (0, .ref Γ.2.1), (1, .int v1)]) hk dX2_sumOf_3 rfl (by decide) rfl ?_
  refine g_sub (ls' := [(0, .ref Γ.2.1), (1, .int v1), (2, .int 0), (3, .int 0)]) [2, 3, 1, 0] rfl ?_
  exact tm_sumOf_l4 hk hK τ v1 FU 0 0
def rm_day : Room := { frames := 3, cells := 0, slots := 0, locals := 67 }
theorem hv_day : yX2_day.cls = RX2 ∧ yX2_day.cls ≠ "java/lang/invoke/MethodHandle" ∧ yX2_day.cls ≠ "java/lang/invoke/VarHandle" ∧ (parseMethodDescriptor yX2_day.desc).map (fun d => d.parameters.length) = some 1 := by decide +kernel
theorem tm_day (Γ : TG) (τ : TS) (v1 : Int32)  (r : Int32 × TS) (h : T_day τ v1 = some r) : TMet Γ yX2_day cX2_day 2 (some .int) rm_day [.ref Γ.2.1, .int v1] τ (some (.int r.1)) r.2 := by
  refine t_met (view := (fun r : Int32 × TS => (some (Value.int r.1), r.2))) rfl rfl (ls0 := [(0, .ref Γ.2.1), (1, .int v1)]) rfl (fun K hk hK => ?_) r h
  unfold T_day
  refine g_iload_n (pc := 0) hk dX2_day_0 rfl ?_
  refine g_iconst (pc := 1) (v := 1) hk dX2_day_1 rfl ?_
  refine g_bipush (pc := 2) (v := 60) hk dX2_day_2 rfl ?_
  refine g_ob1 (fun r1 h2 => ?_)
  refine t_callS (pc := 4) hk hK [.int v1, .int 1, .int 60] [] (tm_isIn Γ τ v1 1 60 r1 h2) (lw_S q1477 q1478 q128 q1479) hs_isIn rfl rfl rfl dX2_day_4 rfl rfl ?_
  refine g_if_eq (pc := 7) (tgt := 41) hk dX2_day_7 rfl ?_ ?_
  · refine g_iconst (pc := 41) (v := (-1)) hk dX2_day_41 rfl ?_
    exact t_iret (pc := 42) hk rfl dX2_day_42
  · refine g_aload_n (pc := 10) hk dX2_day_10 rfl ?_
    refine t_getR (pc := 11) hk hK tr_0 tf_0 dX2_day_11 ?_
    refine g_bipush (pc := 14) (v := 6) hk dX2_day_14 rfl ?_
    refine t_ialdC (pc := 16) (j := 6) hk hK ta_0 rfl rfl dX2_day_16 ?_
    refine g_iload_n (pc := 17) hk dX2_day_17 rfl ?_
    refine g_iadd (pc := 18) hk dX2_day_18 ?_
    refine g_sipush (pc := 19) (v := 9999) hk dX2_day_19 rfl ?_
    refine g_icmp_gt (pc := 22) (tgt := 41) hk dX2_day_22 rfl ?_ ?_
    · refine g_iconst (pc := 41) (v := (-1)) hk dX2_day_41 rfl ?_
      exact t_iret (pc := 42) hk rfl dX2_day_42
    · refine g_aload_n (pc := 25) hk dX2_day_25 rfl ?_
      refine g_iload_n (pc := 26) hk dX2_day_26 rfl ?_
      refine g_ob2 (fun r3 τ5 h4 => ?_)
      refine t_callV (pc := 27) hk hK [.int v1] [] (tm_arePassed Γ τ v1 (r3, τ5) h4) (lw_V q1769 q1771 qs102 q128 q1772) hv_arePassed rfl rfl rfl dX2_day_27 rfl rfl ?_
      refine g_if_eq (pc := 30) (tgt := 41) hk dX2_day_30 rfl ?_ ?_
      · refine g_iconst (pc := 41) (v := (-1)) hk dX2_day_41 rfl ?_
        exact t_iret (pc := 42) hk rfl dX2_day_42
      · refine g_aload_n (pc := 33) hk dX2_day_33 rfl ?_
        refine g_iconst (pc := 34) (v := 0) hk dX2_day_34 rfl ?_
        refine g_ob1 (fun r6 h7 => ?_)
        refine t_callV (pc := 35) hk hK [.int 0] [] (tm_sumOf Γ τ5 0 r6 h7) (lw_V q1777 q1779 qs104 q128 q1780) hv_sumOf rfl rfl rfl dX2_day_35 rfl rfl ?_
        refine g_goto (pc := 38) (tgt := 42) hk dX2_day_38 rfl ?_
        exact t_iret (pc := 42) hk rfl dX2_day_42
def rm_isPlayed : Room := { frames := 9, cells := 0, slots := 0, locals := 218 }
theorem hv_isPlayed : yX2_isPlayed.cls = RX2 ∧ yX2_isPlayed.cls ≠ "java/lang/invoke/MethodHandle" ∧ yX2_isPlayed.cls ≠ "java/lang/invoke/VarHandle" ∧ (parseMethodDescriptor yX2_isPlayed.desc).map (fun d => d.parameters.length) = some 1 := by decide +kernel
theorem tm_isPlayed (Γ : TG) (τ : TS) (v1 : Int32)  (r : Int32 × TS) (h : T_isPlayed τ v1 = some r) : TMet Γ yX2_isPlayed cX2_isPlayed 4 (some .boolean) rm_isPlayed [.ref Γ.2.1, .int v1] τ (some (.int r.1)) r.2 := by
  refine t_met (view := (fun r : Int32 × TS => (some (Value.int r.1), r.2))) rfl rfl (ls0 := [(0, .ref Γ.2.1), (1, .int v1)]) rfl (fun K hk hK => ?_) r h
  unfold T_isPlayed
  refine g_aload_n (pc := 0) hk dX2_isPlayed_0 rfl ?_
  refine t_getR (pc := 1) hk hK tr_2 tf_2 dX2_isPlayed_1 ?_
  refine g_iload_n (pc := 4) hk dX2_isPlayed_4 rfl ?_
  refine g_iconst (pc := 5) (v := 1) hk dX2_isPlayed_5 rfl ?_
  refine g_iadd (pc := 6) hk dX2_isPlayed_6 ?_
  refine t_iald (pc := 7) hk hK ta_2 dX2_isPlayed_7 ?_
  refine g_istore_nN (pc := 8) (i := 2) (ls' := fun x1 => [(2, .int x1), (0, .ref Γ.2.1), (1, .int v1)]) hk dX2_isPlayed_8 rfl (by decide) (fun _ => rfl) (fun x1 => ?_)
  refine g_aload_n (pc := 9) hk dX2_isPlayed_9 rfl ?_
  refine t_getR (pc := 10) hk hK tr_2 tf_2 dX2_isPlayed_10 ?_
  refine g_iload_n (pc := 13) hk dX2_isPlayed_13 rfl ?_
  refine g_iconst (pc := 14) (v := 2) hk dX2_isPlayed_14 rfl ?_
  refine g_iadd (pc := 15) hk dX2_isPlayed_15 ?_
  refine t_iald (pc := 16) hk hK ta_2 dX2_isPlayed_16 ?_
  refine g_istore_nN (pc := 17) (i := 3) (ls' := fun x2 => [(3, .int x2), (2, .int x1), (0, .ref Γ.2.1), (1, .int v1)]) hk dX2_isPlayed_17 rfl (by decide) (fun _ => rfl) (fun x2 => ?_)
  refine g_aload_n (pc := 18) hk dX2_isPlayed_18 rfl ?_
  refine t_getR (pc := 19) hk hK tr_2 tf_2 dX2_isPlayed_19 ?_
  refine g_iload_n (pc := 22) hk dX2_isPlayed_22 rfl ?_
  refine t_iald (pc := 23) hk hK ta_2 dX2_isPlayed_23 ?_
  refine g_nmI (pc := 24) (fun x3 => ?_)
  refine g_if (fun h4 => ?_) (fun n5 => ?_)
  · refine g_tabIn (pc := 24) (tgt := 60) hk 3 h4 dX2_isPlayed_24 (by decide) (by decide) rfl rfl ?_
    refine g_aload_n (pc := 60) hk dX2_isPlayed_60 rfl ?_
    refine g_iload_n (pc := 61) hk dX2_isPlayed_61 rfl ?_
    refine g_iload_n (pc := 62) hk dX2_isPlayed_62 rfl ?_
    refine g_ob2 (fun r6 τ8 h7 => ?_)
    refine t_callV (pc := 63) hk hK [.int x1, .int x2] [] (tm_person Γ τ x1 x2 (r6, τ8) h7) (lw_V q1789 q1474 q1475 q128 q1476) hv_person rfl rfl rfl dX2_isPlayed_63 rfl rfl ?_
    refine g_if_lt (pc := 66) (tgt := 73) hk dX2_isPlayed_66 rfl ?_ ?_
    · refine g_iconst (pc := 73) (v := 0) hk dX2_isPlayed_73 rfl ?_
      exact t_zret (pc := 74) hk rfl rfl dX2_isPlayed_74
    · refine g_iconst (pc := 69) (v := 1) hk dX2_isPlayed_69 rfl ?_
      refine g_goto (pc := 70) (tgt := 74) hk dX2_isPlayed_70 rfl ?_
      exact t_zret (pc := 74) hk rfl rfl dX2_isPlayed_74
  · refine g_if (fun h9 => ?_) (fun n10 => ?_)
    · refine g_tabIn (pc := 24) (tgt := 75) hk 4 h9 dX2_isPlayed_24 (by decide) (by decide) rfl rfl ?_
      refine g_aload_n (pc := 75) hk dX2_isPlayed_75 rfl ?_
      refine g_iload_n (pc := 76) hk dX2_isPlayed_76 rfl ?_
      refine g_iload_n (pc := 77) hk dX2_isPlayed_77 rfl ?_
      refine g_ob2 (fun r11 τ13 h12 => ?_)
      refine t_callV (pc := 78) hk hK [.int x1, .int x2] [] (tm_other Γ τ x1 x2 (r11, τ13) h12) (lw_V q1790 q1493 q1494 q128 q1495) hv_other rfl rfl rfl dX2_isPlayed_78 rfl rfl ?_
      exact g_gd (fun h14 => t_zret (pc := 81) hk h14 rfl dX2_isPlayed_81)
    · refine g_if (fun h15 => ?_) (fun n16 => ?_)
      · refine g_tabIn (pc := 24) (tgt := 82) hk 5 h15 dX2_isPlayed_24 (by decide) (by decide) rfl rfl ?_
        refine g_aload_n (pc := 82) hk dX2_isPlayed_82 rfl ?_
        refine g_iload_n (pc := 83) hk dX2_isPlayed_83 rfl ?_
        refine g_ob2 (fun r17 τ19 h18 => ?_)
        refine t_callV (pc := 84) hk hK [.int x1] [] (tm_shave Γ τ x1 (r17, τ19) h18) (lw_V q1791 q1668 q1669 q128 q1670) hv_shave rfl rfl rfl dX2_isPlayed_84 rfl rfl ?_
        refine g_if_lt (pc := 87) (tgt := 94) hk dX2_isPlayed_87 rfl ?_ ?_
        · refine g_iconst (pc := 94) (v := 0) hk dX2_isPlayed_94 rfl ?_
          exact t_zret (pc := 95) hk rfl rfl dX2_isPlayed_95
        · refine g_iconst (pc := 90) (v := 1) hk dX2_isPlayed_90 rfl ?_
          refine g_goto (pc := 91) (tgt := 95) hk dX2_isPlayed_91 rfl ?_
          exact t_zret (pc := 95) hk rfl rfl dX2_isPlayed_95
      · refine g_if (fun h20 => ?_) (fun n21 => ?_)
        · refine g_tabIn (pc := 24) (tgt := 96) hk 6 h20 dX2_isPlayed_24 (by decide) (by decide) rfl rfl ?_
          refine g_aload_n (pc := 96) hk dX2_isPlayed_96 rfl ?_
          refine g_iload_n (pc := 97) hk dX2_isPlayed_97 rfl ?_
          refine g_ob2 (fun r22 τ24 h23 => ?_)
          refine t_callV (pc := 98) hk hK [.int x1] [] (tm_calm Γ τ x1 (r22, τ24) h23) (lw_V q1792 q1758 q1759 q128 q1760) hv_calm rfl rfl rfl dX2_isPlayed_98 rfl rfl ?_
          exact g_gd (fun h25 => t_zret (pc := 101) hk h25 rfl dX2_isPlayed_101)
        · refine g_if (fun h26 => ?_) (fun n27 => ?_)
          · refine g_tabIn (pc := 24) (tgt := 102) hk 7 h26 dX2_isPlayed_24 (by decide) (by decide) rfl rfl ?_
            refine g_aload_n (pc := 102) hk dX2_isPlayed_102 rfl ?_
            refine g_iload_n (pc := 103) hk dX2_isPlayed_103 rfl ?_
            refine g_ob2 (fun r28 τ30 h29 => ?_)
            refine t_callV (pc := 104) hk hK [.int x1] [] (tm_arePassed Γ τ x1 (r28, τ30) h29) (lw_V q1769 q1771 qs102 q128 q1772) hv_arePassed rfl rfl rfl dX2_isPlayed_104 rfl rfl ?_
            exact g_gd (fun h31 => t_zret (pc := 107) hk h31 rfl dX2_isPlayed_107)
          · refine g_tabOut (pc := 24) (tgt := 108) hk dX2_isPlayed_24 (by have z3 := ne_toInt n5 (z := 3) rfl; have z4 := ne_toInt n10 (z := 4) rfl; have z5 := ne_toInt n16 (z := 5) rfl; have z6 := ne_toInt n21 (z := 6) rfl; have z7 := ne_toInt n27 (z := 7) rfl; omega) rfl ?_
            refine g_iconst (pc := 108) (v := 1) hk dX2_isPlayed_108 rfl ?_
            exact t_zret (pc := 109) hk rfl rfl dX2_isPlayed_109
def rm_played : Room := { frames := 10, cells := 0, slots := 0, locals := 241 }
theorem hv_played : yX2_played.cls = RX2 ∧ yX2_played.cls ≠ "java/lang/invoke/MethodHandle" ∧ yX2_played.cls ≠ "java/lang/invoke/VarHandle" ∧ (parseMethodDescriptor yX2_played.desc).map (fun d => d.parameters.length) = some 1 := by decide +kernel
theorem tm_played_l21 {K : KT} {Γ : TG} (hk : KOK K cX2_played 3 RX2 rm_played (some .int)) (hK : va_K Γ.1 tcl (ttys Γ) (kS K)) (v1 : Int32)   : ∀ (n : Nat) (τ : TS) (v2 : Int32), GGo K (tQ K Γ (fun r : Int32 × TS => (some (Value.int r.1), r.2))) (T_played_l21 v1 n τ v2) 3 (TI Γ (kS K) τ) 0 0 21 [(0, .ref Γ.2.1), (1, .int v1), (2, .int v2)] [] := by
  intro n
  induction n with
  | zero =>
    intro τ v2
    unfold T_played_l21
    exact g_none
  | succ n ih =>
    intro τ v2
    unfold T_played_l21
    refine g_iload_n (pc := 21) hk dX2_played_21 rfl ?_
    refine g_aload_n (pc := 22) hk dX2_played_22 rfl ?_
    refine t_getR (pc := 23) hk hK tr_2 tf_2 dX2_played_23 ?_
    refine g_sipush (pc := 26) (v := 681) hk dX2_played_26 rfl ?_
    refine g_iload_n (pc := 29) hk dX2_played_29 rfl ?_
    refine g_imul (pc := 30) hk dX2_played_30 ?_
    refine t_iald (pc := 31) hk hK ta_2 dX2_played_31 ?_
    refine g_icmp_ge (pc := 32) (tgt := 61) hk dX2_played_32 rfl ?_ ?_
    · refine g_iconst (pc := 61) (v := (-1)) hk dX2_played_61 rfl ?_
      exact t_iret (pc := 62) hk rfl dX2_played_62
    · refine g_aload_n (pc := 35) hk dX2_played_35 rfl ?_
      refine g_sipush (pc := 36) (v := 681) hk dX2_played_36 rfl ?_
      refine g_iload_n (pc := 39) hk dX2_played_39 rfl ?_
      refine g_imul (pc := 40) hk dX2_played_40 ?_
      refine g_iconst (pc := 41) (v := 1) hk dX2_played_41 rfl ?_
      refine g_iadd (pc := 42) hk dX2_played_42 ?_
      refine g_iconst (pc := 43) (v := 3) hk dX2_played_43 rfl ?_
      refine g_iload_n (pc := 44) hk dX2_played_44 rfl ?_
      refine g_imul (pc := 45) hk dX2_played_45 ?_
      refine g_iadd (pc := 46) hk dX2_played_46 ?_
      refine g_ob2 (fun r3 τ5 h4 => ?_)
      refine t_callV (pc := 47) hk hK [.int (((681 * v1) + 1) + (3 * v2))] [] (tm_isPlayed Γ τ (((681 * v1) + 1) + (3 * v2)) (r3, τ5) h4) (lw_V q1785 q1787 qs105 q128 q1788) hv_isPlayed rfl rfl rfl dX2_played_47 rfl rfl ?_
      refine g_if_ne (pc := 50) (tgt := 55) hk dX2_played_50 rfl ?_ ?_
      · refine g_iincN (pc := 55) (v := 1) (ls' := fun x6 => [(2, .int x6), (0, .ref Γ.2.1), (1, .int v1)]) hk dX2_played_55 rfl rfl (by decide) (fun _ => rfl) (fun x6 => ?_)
        refine g_goto (pc := 58) (tgt := 21) hk dX2_played_58 rfl ?_
        refine g_sub (ls' := [(0, .ref Γ.2.1), (1, .int v1), (2, .int x6)]) [1, 2, 0] rfl ?_
        exact ih τ5 x6
      · refine g_iload_n (pc := 53) hk dX2_played_53 rfl ?_
        exact t_iret (pc := 54) hk rfl dX2_played_54
theorem tm_played (Γ : TG) (τ : TS) (v1 : Int32)  (r : Int32 × TS) (h : T_played τ v1 = some r) : TMet Γ yX2_played cX2_played 3 (some .int) rm_played [.ref Γ.2.1, .int v1] τ (some (.int r.1)) r.2 := by
  refine t_met (view := (fun r : Int32 × TS => (some (Value.int r.1), r.2))) rfl rfl (ls0 := [(0, .ref Γ.2.1), (1, .int v1)]) rfl (fun K hk hK => ?_) r h
  unfold T_played
  refine g_iload_n (pc := 0) hk dX2_played_0 rfl ?_
  refine g_iconst (pc := 1) (v := 0) hk dX2_played_1 rfl ?_
  refine g_aload_n (pc := 2) hk dX2_played_2 rfl ?_
  refine t_getR (pc := 3) hk hK tr_0 tf_0 dX2_played_3 ?_
  refine g_iconst (pc := 6) (v := 1) hk dX2_played_6 rfl ?_
  refine t_ialdC (pc := 7) (j := 1) hk hK ta_0 rfl rfl dX2_played_7 ?_
  refine g_iconst (pc := 8) (v := 1) hk dX2_played_8 rfl ?_
  refine g_isub (pc := 9) hk dX2_played_9 ?_
  refine g_ob1 (fun r1 h2 => ?_)
  refine t_callS (pc := 10) hk hK [.int v1, .int 0, .int ((tA τ 0 1) - 1)] [] (tm_isIn Γ τ v1 0 ((tA τ 0 1) - 1) r1 h2) (lw_S q1477 q1478 q128 q1479) hs_isIn rfl rfl rfl dX2_played_10 rfl rfl ?_
  refine g_if_ne (pc := 13) (tgt := 19) hk dX2_played_13 rfl ?_ ?_
  · refine g_iconst (pc := 19) (v := 0) hk dX2_played_19 rfl ?_
    refine g_istore_n (pc := 20) (i := 2) (ls' := [(2, .int 0), (0, .ref Γ.2.1), (1, .int v1)]) hk dX2_played_20 rfl (by decide) rfl ?_
    refine g_sub (ls' := [(0, .ref Γ.2.1), (1, .int v1), (2, .int 0)]) [1, 2, 0] rfl ?_
    exact tm_played_l21 hk hK v1 FU τ 0
  · refine g_bipush (pc := 16) (v := (-2)) hk dX2_played_16 rfl ?_
    exact t_iret (pc := 18) hk rfl dX2_played_18
def rm_happens : Room := { frames := 8, cells := 0, slots := 0, locals := 197 }
theorem hv_happens : yX2_happens.cls = RX2 ∧ yX2_happens.cls ≠ "java/lang/invoke/MethodHandle" ∧ yX2_happens.cls ≠ "java/lang/invoke/VarHandle" ∧ (parseMethodDescriptor yX2_happens.desc).map (fun d => d.parameters.length) = some 1 := by decide +kernel
theorem tm_happens (Γ : TG) (τ : TS) (v1 : Int32)  (r : TS) (h : T_happens τ v1 = some r) : TMet Γ yX2_happens cX2_happens 3 none rm_happens [.ref Γ.2.1, .int v1] τ none r := by
  refine t_met (view := (fun r : TS => ((none : Option Value), r))) rfl rfl (ls0 := [(0, .ref Γ.2.1), (1, .int v1)]) rfl (fun K hk hK => ?_) r h
  unfold T_happens
  refine g_iload_n (pc := 0) hk dX2_happens_0 rfl ?_
  refine g_iconst (pc := 1) (v := 5) hk dX2_happens_1 rfl ?_
  refine g_irem (pc := 2) hk dX2_happens_2 (by decide) ?_
  refine g_iconst (pc := 3) (v := 2) hk dX2_happens_3 rfl ?_
  refine g_icmp_le (pc := 4) (tgt := 25) hk dX2_happens_4 rfl ?_ ?_
  · refine g_aload_n (pc := 25) hk dX2_happens_25 rfl ?_
    refine t_getR (pc := 26) hk hK tr_0 tf_0 dX2_happens_26 ?_
    refine g_iconst (pc := 29) (v := 0) hk dX2_happens_29 rfl ?_
    refine t_ialdC (pc := 30) (j := 0) hk hK ta_0 rfl rfl dX2_happens_30 ?_
    refine g_if_ne (pc := 31) (tgt := 35) hk dX2_happens_31 rfl ?_ ?_
    · refine g_iload_n (pc := 35) hk dX2_happens_35 rfl ?_
      refine g_aload_n (pc := 36) hk dX2_happens_36 rfl ?_
      refine t_getR (pc := 37) hk hK tr_0 tf_0 dX2_happens_37 ?_
      refine g_iconst (pc := 40) (v := 0) hk dX2_happens_40 rfl ?_
      refine t_ialdC (pc := 41) (j := 0) hk hK ta_0 rfl rfl dX2_happens_41 ?_
      refine g_iremG (pc := 42) hk dX2_happens_42 (fun _ => ?_)
      refine g_istore_nN (pc := 43) (i := 2) (ls' := fun x1 => [(2, .int x1), (0, .ref Γ.2.1), (1, .int v1)]) hk dX2_happens_43 rfl (by decide) (fun _ => rfl) (fun x1 => ?_)
      refine g_iload_n (pc := 44) hk dX2_happens_44 rfl ?_
      refine g_iconst (pc := 45) (v := 5) hk dX2_happens_45 rfl ?_
      refine g_irem (pc := 46) hk dX2_happens_46 (by decide) ?_
      refine g_iconst (pc := 47) (v := 2) hk dX2_happens_47 rfl ?_
      refine g_icmp_ge (pc := 48) (tgt := 60) hk dX2_happens_48 rfl ?_ ?_
      · refine g_iload_n (pc := 60) hk dX2_happens_60 rfl ?_
        refine g_iconst (pc := 61) (v := 4) hk dX2_happens_61 rfl ?_
        refine g_irem (pc := 62) hk dX2_happens_62 (by decide) ?_
        refine g_if_ne (pc := 63) (tgt := 88) hk dX2_happens_63 rfl ?_ ?_
        · exact t_vret (pc := 88) hk rfl dX2_happens_88
        · refine g_aload_n (pc := 66) hk dX2_happens_66 rfl ?_
          refine g_iload_n (pc := 67) hk dX2_happens_67 rfl ?_
          refine g_ob1 (fun r2 h3 => ?_)
          refine t_callV (pc := 68) hk hK [.int x1] [] (tm_canCalm Γ τ x1 r2 h3) (lw_V q1761 q1763 qs101 q128 q1764) hv_canCalm rfl rfl rfl dX2_happens_68 rfl rfl ?_
          refine g_if_eq (pc := 71) (tgt := 88) hk dX2_happens_71 rfl ?_ ?_
          · exact t_vret (pc := 88) hk rfl dX2_happens_88
          · refine g_aload_n (pc := 74) hk dX2_happens_74 rfl ?_
            refine g_iload_n (pc := 75) hk dX2_happens_75 rfl ?_
            refine g_iconst (pc := 76) (v := 1) hk dX2_happens_76 rfl ?_
            refine g_aload_n (pc := 77) hk dX2_happens_77 rfl ?_
            refine g_iload_n (pc := 78) hk dX2_happens_78 rfl ?_
            refine g_iconst (pc := 79) (v := 1) hk dX2_happens_79 rfl ?_
            refine g_ob1 (fun r4 h5 => ?_)
            refine t_callV (pc := 80) hk hK [.int x1, .int 1] [.int 1, .int x1, .ref Γ.2.1] (tm_get Γ τ x1 1 r4 h5) (lw_V q1488 q1490 qs57 q128 q1491) hv_get rfl rfl rfl dX2_happens_80 rfl rfl ?_
            refine g_iconst (pc := 83) (v := 1) hk dX2_happens_83 rfl ?_
            refine g_isub (pc := 84) hk dX2_happens_84 ?_
            refine g_ob1 (fun τ7 h6 => ?_)
            refine t_callV (pc := 85) hk hK [.int x1, .int 1, .int (r4 - 1)] [] (tm_put Γ τ x1 1 (r4 - 1) τ7 h6) (lw_V q1480 q1482 qs55 q128 q1483) hv_put rfl rfl rfl dX2_happens_85 rfl rfl ?_
            exact t_vret (pc := 88) hk rfl dX2_happens_88
      · refine g_aload_n (pc := 51) hk dX2_happens_51 rfl ?_
        refine g_iload_n (pc := 52) hk dX2_happens_52 rfl ?_
        refine g_ob2 (fun r8 τ10 h9 => ?_)
        refine t_callV (pc := 53) hk hK [.int x1] [] (tm_shaveNow Γ τ x1 (r8, τ10) h9) (lw_V q1679 q1681 qs88 q128 q1682) hv_shaveNow rfl rfl rfl dX2_happens_53 rfl rfl ?_
        refine g_pop (pc := 56) hk dX2_happens_56 rfl ?_
        refine g_goto (pc := 57) (tgt := 88) hk dX2_happens_57 rfl ?_
        exact t_vret (pc := 88) hk rfl dX2_happens_88
    · exact t_vret (pc := 34) hk rfl dX2_happens_34
  · refine g_aload_n (pc := 7) hk dX2_happens_7 rfl ?_
    refine t_getR (pc := 8) hk hK tr_0 tf_0 dX2_happens_8 ?_
    refine g_bipush (pc := 11) (v := 6) hk dX2_happens_11 rfl ?_
    refine t_ialdC (pc := 13) (j := 6) hk hK ta_0 rfl rfl dX2_happens_13 ?_
    refine g_sipush (pc := 14) (v := 9999) hk dX2_happens_14 rfl ?_
    refine g_icmp_ge (pc := 17) (tgt := 24) hk dX2_happens_17 rfl ?_ ?_
    · exact t_vret (pc := 24) hk rfl dX2_happens_24
    · refine g_aload_n (pc := 20) hk dX2_happens_20 rfl ?_
      refine g_ob1 (fun τ12 h11 => ?_)
      refine t_callV (pc := 21) hk hK [] [] (tm_pass Γ τ τ12 h11) (lw_V q1773 q1775 qs103 q128 q1776) hv_pass rfl rfl rfl dX2_happens_21 rfl rfl ?_
      exact t_vret (pc := 24) hk rfl dX2_happens_24
def rm_years : Room := { frames := 9, cells := 0, slots := 0, locals := 219 }
theorem hv_years : yX2_years.cls = RX2 ∧ yX2_years.cls ≠ "java/lang/invoke/MethodHandle" ∧ yX2_years.cls ≠ "java/lang/invoke/VarHandle" ∧ (parseMethodDescriptor yX2_years.desc).map (fun d => d.parameters.length) = some 2 := by decide +kernel
theorem tm_years_l43 {K : KT} {Γ : TG} (hk : KOK K cX2_years 5 RX2 rm_years (some .int)) (hK : va_K Γ.1 tcl (ttys Γ) (kS K)) (v2 : Int32)   : ∀ (n : Nat) (τ : TS) (v3 : Int32), GGo K (tQ K Γ (fun r : Int32 × TS => (some (Value.int r.1), r.2))) (T_years_l43 v2 n τ v3) 5 (TI Γ (kS K) τ) 0 0 43 [(0, .ref Γ.2.1), (2, .int v2), (3, .int v3)] [] := by
  intro n
  induction n with
  | zero =>
    intro τ v3
    unfold T_years_l43
    exact g_none
  | succ n ih =>
    intro τ v3
    unfold T_years_l43
    refine g_iload_n (pc := 43) hk dX2_years_43 rfl ?_
    refine g_iload_n (pc := 44) hk dX2_years_44 rfl ?_
    refine g_icmp_ge (pc := 45) (tgt := 73) hk dX2_years_45 rfl ?_ ?_
    · refine g_aload_n (pc := 73) hk dX2_years_73 rfl ?_
      refine t_getR (pc := 74) hk hK tr_0 tf_0 dX2_years_74 ?_
      refine g_bipush (pc := 77) (v := 6) hk dX2_years_77 rfl ?_
      refine t_ialdC (pc := 79) (j := 6) hk hK ta_0 rfl rfl dX2_years_79 ?_
      exact t_iret (pc := 80) hk rfl dX2_years_80
    · refine g_aload_n (pc := 48) hk dX2_years_48 rfl ?_
      refine t_getR (pc := 49) hk hK tr_0 tf_0 dX2_years_49 ?_
      refine g_bipush (pc := 52) (v := 8) hk dX2_years_52 rfl ?_
      refine t_ialdC (pc := 54) (j := 8) hk hK ta_0 rfl rfl dX2_years_54 ?_
      refine g_istoreN (pc := 55) (i := 4) (ls' := fun x8 => [(4, .int x8), (0, .ref Γ.2.1), (2, .int v2), (3, .int v3)]) hk dX2_years_55 (by decide) (fun _ => rfl) (fun x8 => ?_)
      refine g_aload_n (pc := 57) hk dX2_years_57 rfl ?_
      refine g_ob1 (fun τ10 h9 => ?_)
      refine t_callV (pc := 58) hk hK [] [] (tm_anew Γ τ τ10 h9) (lw_V q1750 q1752 qs100 q128 q1753) hv_anew rfl rfl rfl dX2_years_58 rfl rfl ?_
      refine g_aload_n (pc := 61) hk dX2_years_61 rfl ?_
      refine g_iload (pc := 62) hk dX2_years_62 rfl ?_
      refine g_ob1 (fun τ12 h11 => ?_)
      refine t_callV (pc := 64) hk hK [.int x8] [] (tm_happens Γ τ10 x8 τ12 h11) (lw_V q1797 q1799 qs106 q128 q1800) hv_happens rfl rfl rfl dX2_years_64 rfl rfl ?_
      refine g_iincN (pc := 67) (v := 1) (ls' := fun x13 => [(3, .int x13), (4, .int x8), (0, .ref Γ.2.1), (2, .int v2)]) hk dX2_years_67 rfl rfl (by decide) (fun _ => rfl) (fun x13 => ?_)
      refine g_goto (pc := 70) (tgt := 43) hk dX2_years_70 rfl ?_
      refine g_sub (ls' := [(0, .ref Γ.2.1), (2, .int v2), (3, .int x13)]) [2, 3, 0] rfl ?_
      exact ih τ12 x13
theorem tm_years (Γ : TG) (τ : TS) (v1 : Int32) (v2 : Int32)  (r : Int32 × TS) (h : T_years τ v1 v2 = some r) : TMet Γ yX2_years cX2_years 5 (some .int) rm_years [.ref Γ.2.1, .int v1, .int v2] τ (some (.int r.1)) r.2 := by
  refine t_met (view := (fun r : Int32 × TS => (some (Value.int r.1), r.2))) rfl rfl (ls0 := [(0, .ref Γ.2.1), (1, .int v1), (2, .int v2)]) rfl (fun K hk hK => ?_) r h
  unfold T_years
  refine g_iload_n (pc := 0) hk dX2_years_0 rfl ?_
  refine g_iconst (pc := 1) (v := 0) hk dX2_years_1 rfl ?_
  refine g_sipush (pc := 2) (v := 9999) hk dX2_years_2 rfl ?_
  refine g_ob1 (fun r1 h2 => ?_)
  refine t_callS (pc := 5) hk hK [.int v1, .int 0, .int 9999] [] (tm_isIn Γ τ v1 0 9999 r1 h2) (lw_S q1477 q1478 q128 q1479) hs_isIn rfl rfl rfl dX2_years_5 rfl rfl ?_
  refine g_if_eq (pc := 8) (tgt := 21) hk dX2_years_8 rfl ?_ ?_
  · refine g_iconst (pc := 21) (v := (-1)) hk dX2_years_21 rfl ?_
    exact t_iret (pc := 22) hk rfl dX2_years_22
  · refine g_iload_n (pc := 11) hk dX2_years_11 rfl ?_
    refine g_iconst (pc := 12) (v := 1) hk dX2_years_12 rfl ?_
    refine g_bipush (pc := 13) (v := 40) hk dX2_years_13 rfl ?_
    refine g_ob1 (fun r3 h4 => ?_)
    refine t_callS (pc := 15) hk hK [.int v2, .int 1, .int 40] [] (tm_isIn Γ τ v2 1 40 r3 h4) (lw_S q1477 q1478 q128 q1479) hs_isIn rfl rfl rfl dX2_years_15 rfl rfl ?_
    refine g_if_ne (pc := 18) (tgt := 23) hk dX2_years_18 rfl ?_ ?_
    · refine g_aload_n (pc := 23) hk dX2_years_23 rfl ?_
      refine g_ob1 (fun τ6 h5 => ?_)
      refine t_callV (pc := 24) hk hK [] [] (tm_keep Γ τ τ6 h5) (lw_V q1675 q1677 qs87 q128 q1678) hv_keep rfl rfl rfl dX2_years_24 rfl rfl ?_
      refine g_aload_n (pc := 27) hk dX2_years_27 rfl ?_
      refine t_getR (pc := 28) hk hK tr_0 tf_0 dX2_years_28 ?_
      refine g_bipush (pc := 31) (v := 8) hk dX2_years_31 rfl ?_
      refine g_iload_n (pc := 33) hk dX2_years_33 rfl ?_
      refine g_iconst (pc := 34) (v := 2) hk dX2_years_34 rfl ?_
      refine g_imul (pc := 35) hk dX2_years_35 ?_
      refine g_sipush (pc := 36) (v := 223) hk dX2_years_36 rfl ?_
      refine g_iadd (pc := 39) hk dX2_years_39 ?_
      refine t_iastC (pc := 40) (j := 8) hk hK ta_0 rfl rfl dX2_years_40 (fun τ7 => ?_)
      refine g_iconst (pc := 41) (v := 0) hk dX2_years_41 rfl ?_
      refine g_istore_n (pc := 42) (i := 3) (ls' := [(3, .int 0), (0, .ref Γ.2.1), (1, .int v1), (2, .int v2)]) hk dX2_years_42 rfl (by decide) rfl ?_
      refine g_sub (ls' := [(0, .ref Γ.2.1), (2, .int v2), (3, .int 0)]) [1, 3, 0] rfl ?_
      exact tm_years_l43 hk hK v2 FU τ7 0
    · refine g_iconst (pc := 21) (v := (-1)) hk dX2_years_21 rfl ?_
      exact t_iret (pc := 22) hk rfl dX2_years_22
def rm_of : Room := { frames := 7, cells := 0, slots := 0, locals := 171 }
theorem hv_of : yX2_of.cls = RX2 ∧ yX2_of.cls ≠ "java/lang/invoke/MethodHandle" ∧ yX2_of.cls ≠ "java/lang/invoke/VarHandle" ∧ (parseMethodDescriptor yX2_of.desc).map (fun d => d.parameters.length) = some 2 := by decide +kernel
theorem tm_of (Γ : TG) (τ : TS) (v1 : Int32) (v2 : Int32)  (r : Int32 × TS) (h : T_of τ v1 v2 = some r) : TMet Γ yX2_of cX2_of 3 (some .int) rm_of [.ref Γ.2.1, .int v1, .int v2] τ (some (.int r.1)) r.2 := by
  refine t_met (view := (fun r : Int32 × TS => (some (Value.int r.1), r.2))) rfl rfl (ls0 := [(0, .ref Γ.2.1), (1, .int v1), (2, .int v2)]) rfl (fun K hk hK => ?_) r h
  unfold T_of
  refine g_aload_n (pc := 0) hk dX2_of_0 rfl ?_
  refine g_iload_n (pc := 1) hk dX2_of_1 rfl ?_
  refine g_ob1 (fun r1 h2 => ?_)
  refine t_callV (pc := 2) hk hK [.int v1] [] (tm_isPerson Γ τ v1 r1 h2) (lw_V q1671 q1673 qs86 q128 q1674) hv_isPerson rfl rfl rfl dX2_of_2 rfl rfl ?_
  refine g_if_ne (pc := 5) (tgt := 10) hk dX2_of_5 rfl ?_ ?_
  · refine g_iload_n (pc := 10) hk dX2_of_10 rfl ?_
    refine g_if (fun h3 => ?_) (fun n4 => ?_)
    · refine g_tabIn (pc := 11) (tgt := 36) hk 3 h3 dX2_of_11 (by decide) (by decide) rfl rfl ?_
      refine g_aload_n (pc := 36) hk dX2_of_36 rfl ?_
      refine g_iload_n (pc := 37) hk dX2_of_37 rfl ?_
      refine g_ob2 (fun r5 τ7 h6 => ?_)
      refine t_callV (pc := 38) hk hK [.int v1] [] (tm_razesOf Γ τ v1 (r5, τ7) h6) (lw_V q1738 q1740 qs97 q128 q1741) hv_razesOf rfl rfl rfl dX2_of_38 rfl rfl ?_
      exact t_iret (pc := 41) hk rfl dX2_of_41
    · refine g_if (fun h8 => ?_) (fun n9 => ?_)
      · refine g_tabIn (pc := 11) (tgt := 42) hk 4 h8 dX2_of_11 (by decide) (by decide) rfl rfl ?_
        refine g_aload_n (pc := 42) hk dX2_of_42 rfl ?_
        refine g_iload_n (pc := 43) hk dX2_of_43 rfl ?_
        refine g_ob2 (fun r10 τ12 h11 => ?_)
        refine t_callV (pc := 44) hk hK [.int v1] [] (tm_slipsOf Γ τ v1 (r10, τ12) h11) (lw_V q1683 q1685 qs89 q128 q1686) hv_slipsOf rfl rfl rfl dX2_of_44 rfl rfl ?_
        exact t_iret (pc := 47) hk rfl dX2_of_47
      · refine g_if (fun h13 => ?_) (fun n14 => ?_)
        · refine g_tabIn (pc := 11) (tgt := 48) hk 5 h13 dX2_of_11 (by decide) (by decide) rfl rfl ?_
          refine g_aload_n (pc := 48) hk dX2_of_48 rfl ?_
          refine g_aload_n (pc := 49) hk dX2_of_49 rfl ?_
          refine t_getR (pc := 50) hk hK tr_0 tf_0 dX2_of_50 ?_
          refine g_iconst (pc := 53) (v := 2) hk dX2_of_53 rfl ?_
          refine t_ialdC (pc := 54) (j := 2) hk hK ta_0 rfl rfl dX2_of_54 ?_
          refine g_iload_n (pc := 55) hk dX2_of_55 rfl ?_
          refine g_ob2 (fun r15 τ17 h16 => ?_)
          refine t_callV (pc := 56) hk hK [.int (tA τ 0 2), .int v1] [] (tm_ratesOf Γ τ (tA τ 0 2) v1 (r15, τ17) h16) (lw_V q1742 q1744 qs98 q128 q1745) hv_ratesOf rfl rfl rfl dX2_of_56 rfl rfl ?_
          exact t_iret (pc := 59) hk rfl dX2_of_59
        · refine g_tabOut (pc := 11) (tgt := 60) hk dX2_of_11 (by have z3 := ne_toInt n4 (z := 3) rfl; have z4 := ne_toInt n9 (z := 4) rfl; have z5 := ne_toInt n14 (z := 5) rfl; omega) rfl ?_
          refine g_iload_n (pc := 60) hk dX2_of_60 rfl ?_
          refine g_iconst (pc := 61) (v := 0) hk dX2_of_61 rfl ?_
          refine g_iconst (pc := 62) (v := 2) hk dX2_of_62 rfl ?_
          refine g_ob1 (fun r18 h19 => ?_)
          refine t_callS (pc := 63) hk hK [.int v2, .int 0, .int 2] [] (tm_isIn Γ τ v2 0 2 r18 h19) (lw_S q1477 q1478 q128 q1479) hs_isIn rfl rfl rfl dX2_of_63 rfl rfl ?_
          refine g_if_eq (pc := 66) (tgt := 78) hk dX2_of_66 rfl ?_ ?_
          · refine g_iconst (pc := 78) (v := (-1)) hk dX2_of_78 rfl ?_
            exact t_iret (pc := 79) hk rfl dX2_of_79
          · refine g_aload_n (pc := 69) hk dX2_of_69 rfl ?_
            refine g_iload_n (pc := 70) hk dX2_of_70 rfl ?_
            refine g_iload_n (pc := 71) hk dX2_of_71 rfl ?_
            refine g_ob1 (fun r20 h21 => ?_)
            refine t_callV (pc := 72) hk hK [.int v1, .int v2] [] (tm_get Γ τ v1 v2 r20 h21) (lw_V q1488 q1490 qs57 q128 q1491) hv_get rfl rfl rfl dX2_of_72 rfl rfl ?_
            refine g_goto (pc := 75) (tgt := 79) hk dX2_of_75 rfl ?_
            exact t_iret (pc := 79) hk rfl dX2_of_79
  · refine g_iconst (pc := 8) (v := (-1)) hk dX2_of_8 rfl ?_
    exact t_iret (pc := 9) hk rfl dX2_of_9
def rm_told : Room := { frames := 2, cells := 0, slots := 0, locals := 42 }
theorem hv_told : yX2_told.cls = RX2 ∧ yX2_told.cls ≠ "java/lang/invoke/MethodHandle" ∧ yX2_told.cls ≠ "java/lang/invoke/VarHandle" ∧ (parseMethodDescriptor yX2_told.desc).map (fun d => d.parameters.length) = some 1 := by decide +kernel
theorem tm_told (Γ : TG) (τ : TS) (v1 : Int32)  (r : Int32) (h : T_told τ v1 = some r) : TMet Γ yX2_told cX2_told 2 (some .int) rm_told [.ref Γ.2.1, .int v1] τ (some (.int r)) τ := by
  refine t_met (view := (fun r : Int32 => (some (Value.int r), τ))) rfl rfl (ls0 := [(0, .ref Γ.2.1), (1, .int v1)]) rfl (fun K hk hK => ?_) r h
  unfold T_told
  refine g_iload_n (pc := 0) hk dX2_told_0 rfl ?_
  refine g_ob1 (fun r1 h2 => ?_)
  refine t_callS (pc := 1) hk hK [.int v1] [] (tm_isChair Γ τ v1 r1 h2) (lw_S q1496 q1497 q128 q1498) hs_isChair rfl rfl rfl dX2_told_1 rfl rfl ?_
  refine g_if_eq (pc := 4) (tgt := 15) hk dX2_told_4 rfl ?_ ?_
  · refine g_iconst (pc := 15) (v := (-1)) hk dX2_told_15 rfl ?_
    exact t_iret (pc := 16) hk rfl dX2_told_16
  · refine g_aload_n (pc := 7) hk dX2_told_7 rfl ?_
    refine g_iload_n (pc := 8) hk dX2_told_8 rfl ?_
    refine g_ob1 (fun r3 h4 => ?_)
    refine t_callV (pc := 9) hk hK [.int v1] [] (tm_otherOf Γ τ v1 r3 h4) (lw_V q1691 q1693 qs91 q128 q1694) hv_otherOf rfl rfl rfl dX2_told_9 rfl rfl ?_
    refine g_goto (pc := 12) (tgt := 16) hk dX2_told_12 rfl ?_
    exact t_iret (pc := 16) hk rfl dX2_told_16
def rm_is : Room := { frames := 1, cells := 0, slots := 0, locals := 22 }
theorem hv_is : yX2_is.cls = RX2 ∧ yX2_is.cls ≠ "java/lang/invoke/MethodHandle" ∧ yX2_is.cls ≠ "java/lang/invoke/VarHandle" ∧ (parseMethodDescriptor yX2_is.desc).map (fun d => d.parameters.length) = some 1 := by decide +kernel
theorem tm_is (Γ : TG) (τ : TS) (v1 : Int32)  (r : Int32) (h : T_is τ v1 = some r) : TMet Γ yX2_is cX2_is 2 (some .int) rm_is [.ref Γ.2.1, .int v1] τ (some (.int r)) τ := by
  refine t_met (view := (fun r : Int32 => (some (Value.int r), τ))) rfl rfl (ls0 := [(0, .ref Γ.2.1), (1, .int v1)]) rfl (fun K hk hK => ?_) r h
  unfold T_is
  refine g_iload_n (pc := 0) hk dX2_is_0 rfl ?_
  refine g_iconst (pc := 1) (v := 0) hk dX2_is_1 rfl ?_
  refine g_iconst (pc := 2) (v := 2) hk dX2_is_2 rfl ?_
  refine g_ob1 (fun r1 h2 => ?_)
  refine t_callS (pc := 3) hk hK [.int v1, .int 0, .int 2] [] (tm_isIn Γ τ v1 0 2 r1 h2) (lw_S q1477 q1478 q128 q1479) hs_isIn rfl rfl rfl dX2_is_3 rfl rfl ?_
  refine g_if_eq (pc := 6) (tgt := 21) hk dX2_is_6 rfl ?_ ?_
  · refine g_bipush (pc := 21) (v := (-2)) hk dX2_is_21 rfl ?_
    exact t_iret (pc := 23) hk rfl dX2_is_23
  · refine g_aload_n (pc := 9) hk dX2_is_9 rfl ?_
    refine t_getR (pc := 10) hk hK tr_0 tf_0 dX2_is_10 ?_
    refine g_bipush (pc := 13) (v := 6) hk dX2_is_13 rfl ?_
    refine g_iload_n (pc := 15) hk dX2_is_15 rfl ?_
    refine g_iadd (pc := 16) hk dX2_is_16 ?_
    refine t_iald (pc := 17) hk hK ta_0 dX2_is_17 ?_
    refine g_goto (pc := 18) (tgt := 23) hk dX2_is_18 rfl ?_
    exact t_iret (pc := 23) hk rfl dX2_is_23
def rm_entry : Room := { frames := 0, cells := 0, slots := 0, locals := 0 }
theorem hv_entry : yX2_entry.cls = RX2 ∧ yX2_entry.cls ≠ "java/lang/invoke/MethodHandle" ∧ yX2_entry.cls ≠ "java/lang/invoke/VarHandle" ∧ (parseMethodDescriptor yX2_entry.desc).map (fun d => d.parameters.length) = some 2 := by decide +kernel
theorem tm_entry (Γ : TG) (τ : TS) (v1 : Int32) (v2 : Int32)  (r : Int32) (h : T_entry τ v1 v2 = some r) : TMet Γ yX2_entry cX2_entry 4 (some .int) rm_entry [.ref Γ.2.1, .int v1, .int v2] τ (some (.int r)) τ := by
  refine t_met (view := (fun r : Int32 => (some (Value.int r), τ))) rfl rfl (ls0 := [(0, .ref Γ.2.1), (1, .int v1), (2, .int v2)]) rfl (fun K hk hK => ?_) r h
  unfold T_entry
  refine g_aload_n (pc := 0) hk dX2_entry_0 rfl ?_
  refine t_getR (pc := 1) hk hK tr_0 tf_0 dX2_entry_1 ?_
  refine g_sipush (pc := 4) (v := 2000) hk dX2_entry_4 rfl ?_
  refine g_iload_n (pc := 7) hk dX2_entry_7 rfl ?_
  refine g_iadd (pc := 8) hk dX2_entry_8 ?_
  refine t_iald (pc := 9) hk hK ta_0 dX2_entry_9 ?_
  refine g_istore_nN (pc := 10) (i := 3) (ls' := fun x1 => [(3, .int x1), (0, .ref Γ.2.1), (1, .int v1), (2, .int v2)]) hk dX2_entry_10 rfl (by decide) (fun _ => rfl) (fun x1 => ?_)
  refine g_iload_n (pc := 11) hk dX2_entry_11 rfl ?_
  refine g_if_ne (pc := 12) (tgt := 23) hk dX2_entry_12 rfl ?_ ?_
  · refine g_iload_n (pc := 23) hk dX2_entry_23 rfl ?_
    refine g_iconst (pc := 24) (v := 1) hk dX2_entry_24 rfl ?_
    refine g_icmp_ne (pc := 25) (tgt := 39) hk dX2_entry_25 rfl ?_ ?_
    · refine g_iload_n (pc := 39) hk dX2_entry_39 rfl ?_
      refine g_iconst (pc := 40) (v := 2) hk dX2_entry_40 rfl ?_
      refine g_icmp_ne (pc := 41) (tgt := 53) hk dX2_entry_41 rfl ?_ ?_
      · refine g_iload_n (pc := 53) hk dX2_entry_53 rfl ?_
        refine g_iconst (pc := 54) (v := 2) hk dX2_entry_54 rfl ?_
        refine g_irem (pc := 55) hk dX2_entry_55 (by decide) ?_
        exact t_iret (pc := 56) hk rfl dX2_entry_56
      · refine g_iload_n (pc := 44) hk dX2_entry_44 rfl ?_
        refine g_iconst (pc := 45) (v := 2) hk dX2_entry_45 rfl ?_
        refine g_idiv (pc := 46) hk dX2_entry_46 (by decide) ?_
        refine g_bipush (pc := 47) (v := 100) hk dX2_entry_47 rfl ?_
        refine g_irem (pc := 49) hk dX2_entry_49 (by decide) ?_
        refine g_goto (pc := 50) (tgt := 56) hk dX2_entry_50 rfl ?_
        exact t_iret (pc := 56) hk rfl dX2_entry_56
    · refine g_iload_n (pc := 28) hk dX2_entry_28 rfl ?_
      refine g_sipush (pc := 29) (v := 200) hk dX2_entry_29 rfl ?_
      refine g_idiv (pc := 32) hk dX2_entry_32 (by decide) ?_
      refine g_bipush (pc := 33) (v := 8) hk dX2_entry_33 rfl ?_
      refine g_irem (pc := 35) hk dX2_entry_35 (by decide) ?_
      refine g_goto (pc := 36) (tgt := 56) hk dX2_entry_36 rfl ?_
      exact t_iret (pc := 56) hk rfl dX2_entry_56
  · refine g_iload_n (pc := 15) hk dX2_entry_15 rfl ?_
    refine g_sipush (pc := 16) (v := 1600) hk dX2_entry_16 rfl ?_
    refine g_idiv (pc := 19) hk dX2_entry_19 (by decide) ?_
    refine g_goto (pc := 20) (tgt := 56) hk dX2_entry_20 rfl ?_
    exact t_iret (pc := 56) hk rfl dX2_entry_56
def rm_book : Room := { frames := 1, cells := 0, slots := 0, locals := 23 }
theorem hv_book : yX2_book.cls = RX2 ∧ yX2_book.cls ≠ "java/lang/invoke/MethodHandle" ∧ yX2_book.cls ≠ "java/lang/invoke/VarHandle" ∧ (parseMethodDescriptor yX2_book.desc).map (fun d => d.parameters.length) = some 2 := by decide +kernel
theorem tm_book (Γ : TG) (τ : TS) (v1 : Int32) (v2 : Int32)  (r : Int32) (h : T_book τ v1 v2 = some r) : TMet Γ yX2_book cX2_book 3 (some .int) rm_book [.ref Γ.2.1, .int v1, .int v2] τ (some (.int r)) τ := by
  refine t_met (view := (fun r : Int32 => (some (Value.int r), τ))) rfl rfl (ls0 := [(0, .ref Γ.2.1), (1, .int v1), (2, .int v2)]) rfl (fun K hk hK => ?_) r h
  unfold T_book
  refine g_iload_n (pc := 0) hk dX2_book_0 rfl ?_
  refine g_iconst (pc := 1) (v := (-1)) hk dX2_book_1 rfl ?_
  refine g_icmp_ne (pc := 2) (tgt := 13) hk dX2_book_2 rfl ?_ ?_
  · refine g_iload_n (pc := 13) hk dX2_book_13 rfl ?_
    refine g_iconst (pc := 14) (v := 0) hk dX2_book_14 rfl ?_
    refine g_aload_n (pc := 15) hk dX2_book_15 rfl ?_
    refine t_getR (pc := 16) hk hK tr_0 tf_0 dX2_book_16 ?_
    refine g_bipush (pc := 19) (v := 9) hk dX2_book_19 rfl ?_
    refine t_ialdC (pc := 21) (j := 9) hk hK ta_0 rfl rfl dX2_book_21 ?_
    refine g_iconst (pc := 22) (v := 1) hk dX2_book_22 rfl ?_
    refine g_isub (pc := 23) hk dX2_book_23 ?_
    refine g_ob1 (fun r1 h2 => ?_)
    refine t_callS (pc := 24) hk hK [.int v1, .int 0, .int ((tA τ 0 9) - 1)] [] (tm_isIn Γ τ v1 0 ((tA τ 0 9) - 1) r1 h2) (lw_S q1477 q1478 q128 q1479) hs_isIn rfl rfl rfl dX2_book_24 rfl rfl ?_
    refine g_if_eq (pc := 27) (tgt := 48) hk dX2_book_27 rfl ?_ ?_
    · refine g_bipush (pc := 48) (v := (-2)) hk dX2_book_48 rfl ?_
      exact t_iret (pc := 50) hk rfl dX2_book_50
    · refine g_iload_n (pc := 30) hk dX2_book_30 rfl ?_
      refine g_iconst (pc := 31) (v := 0) hk dX2_book_31 rfl ?_
      refine g_iconst (pc := 32) (v := 3) hk dX2_book_32 rfl ?_
      refine g_ob1 (fun r3 h4 => ?_)
      refine t_callS (pc := 33) hk hK [.int v2, .int 0, .int 3] [] (tm_isIn Γ τ v2 0 3 r3 h4) (lw_S q1477 q1478 q128 q1479) hs_isIn rfl rfl rfl dX2_book_33 rfl rfl ?_
      refine g_if_eq (pc := 36) (tgt := 48) hk dX2_book_36 rfl ?_ ?_
      · refine g_bipush (pc := 48) (v := (-2)) hk dX2_book_48 rfl ?_
        exact t_iret (pc := 50) hk rfl dX2_book_50
      · refine g_aload_n (pc := 39) hk dX2_book_39 rfl ?_
        refine g_iload_n (pc := 40) hk dX2_book_40 rfl ?_
        refine g_iload_n (pc := 41) hk dX2_book_41 rfl ?_
        refine g_ob1 (fun r5 h6 => ?_)
        refine t_callV (pc := 42) hk hK [.int v1, .int v2] [] (tm_entry Γ τ v1 v2 r5 h6) (lw_V q1817 q1819 qs107 q128 q1820) hv_entry rfl rfl rfl dX2_book_42 rfl rfl ?_
        refine g_goto (pc := 45) (tgt := 50) hk dX2_book_45 rfl ?_
        exact t_iret (pc := 50) hk rfl dX2_book_50
  · refine g_aload_n (pc := 5) hk dX2_book_5 rfl ?_
    refine t_getR (pc := 6) hk hK tr_0 tf_0 dX2_book_6 ?_
    refine g_bipush (pc := 9) (v := 9) hk dX2_book_9 rfl ?_
    refine t_ialdC (pc := 11) (j := 9) hk hK ta_0 rfl rfl dX2_book_11 ?_
    exact t_iret (pc := 12) hk rfl dX2_book_12
def rm_ledger : Room := { frames := 2, cells := 0, slots := 0, locals := 42 }
theorem hv_ledger : yX2_ledger.cls = RX2 ∧ yX2_ledger.cls ≠ "java/lang/invoke/MethodHandle" ∧ yX2_ledger.cls ≠ "java/lang/invoke/VarHandle" ∧ (parseMethodDescriptor yX2_ledger.desc).map (fun d => d.parameters.length) = some 1 := by decide +kernel
theorem tm_ledger_j45 {K : KT} {Γ : TG} (hk : KOK K cX2_ledger 4 RX2 rm_ledger (some .int)) (hK : va_K Γ.1 tcl (ttys Γ) (kS K)) (τ : TS) (v1 : Int32) (v3 : Int32) (s0 : Int32) (s1 : Int32)  (k13 : Int32 → Int32 → Option (Int32)) (hk13 : ∀ (v2 : Int32) (v3 : Int32), GGo K (tQ K Γ (fun r : Int32 => (some (Value.int r), τ))) (k13 v2 v3) 4 (TI Γ (kS K) τ) 0 0 13 [(0, .ref Γ.2.1), (1, .int v1), (2, .int v2), (3, .int v3)] []) : GGo K (tQ K Γ (fun r : Int32 => (some (Value.int r), τ))) (T_ledger_j45 k13 τ v1 v3 s0 s1) 4 (TI Γ (kS K) τ) 0 0 45 [(0, .ref Γ.2.1), (1, .int v1), (3, .int v3)] [.int s1, .int s0] := by
  unfold T_ledger_j45
  refine g_iadd (pc := 45) hk dX2_ledger_45 ?_
  refine g_istore_nN (pc := 46) (i := 2) (ls' := fun x5 => [(2, .int x5), (0, .ref Γ.2.1), (1, .int v1), (3, .int v3)]) hk dX2_ledger_46 rfl (by decide) (fun _ => rfl) (fun x5 => ?_)
  refine g_iincN (pc := 47) (v := 1) (ls' := fun x6 => [(3, .int x6), (2, .int x5), (0, .ref Γ.2.1), (1, .int v1)]) hk dX2_ledger_47 rfl rfl (by decide) (fun _ => rfl) (fun x6 => ?_)
  refine g_goto (pc := 50) (tgt := 13) hk dX2_ledger_50 rfl ?_
  refine g_sub (ls' := [(0, .ref Γ.2.1), (1, .int v1), (2, .int x5), (3, .int x6)]) [2, 3, 1, 0] rfl ?_
  exact hk13 x5 x6
theorem tm_ledger_l13 {K : KT} {Γ : TG} (hk : KOK K cX2_ledger 4 RX2 rm_ledger (some .int)) (hK : va_K Γ.1 tcl (ttys Γ) (kS K)) (τ : TS) (v1 : Int32)   : ∀ (n : Nat) (v2 : Int32) (v3 : Int32), GGo K (tQ K Γ (fun r : Int32 => (some (Value.int r), τ))) (T_ledger_l13 τ v1 n v2 v3) 4 (TI Γ (kS K) τ) 0 0 13 [(0, .ref Γ.2.1), (1, .int v1), (2, .int v2), (3, .int v3)] [] := by
  intro n
  induction n with
  | zero =>
    intro v2 v3
    unfold T_ledger_l13
    exact g_none
  | succ n ih =>
    intro v2 v3
    unfold T_ledger_l13
    refine g_iload_n (pc := 13) hk dX2_ledger_13 rfl ?_
    refine g_aload_n (pc := 14) hk dX2_ledger_14 rfl ?_
    refine t_getR (pc := 15) hk hK tr_0 tf_0 dX2_ledger_15 ?_
    refine g_bipush (pc := 18) (v := 9) hk dX2_ledger_18 rfl ?_
    refine t_ialdC (pc := 20) (j := 9) hk hK ta_0 rfl rfl dX2_ledger_20 ?_
    refine g_icmp_ge (pc := 21) (tgt := 53) hk dX2_ledger_21 rfl ?_ ?_
    · refine g_iload_n (pc := 53) hk dX2_ledger_53 rfl ?_
      exact t_iret (pc := 54) hk rfl dX2_ledger_54
    · refine g_iload_n (pc := 24) hk dX2_ledger_24 rfl ?_
      refine g_aload_n (pc := 25) hk dX2_ledger_25 rfl ?_
      refine g_iload_n (pc := 26) hk dX2_ledger_26 rfl ?_
      refine g_iconst (pc := 27) (v := 1) hk dX2_ledger_27 rfl ?_
      refine g_ob1 (fun r3 h4 => ?_)
      refine t_callV (pc := 28) hk hK [.int v3, .int 1] [.int v2] (tm_entry Γ τ v3 1 r3 h4) (lw_V q1817 q1819 qs107 q128 q1820) hv_entry rfl rfl rfl dX2_ledger_28 rfl rfl ?_
      refine g_iload_n (pc := 31) hk dX2_ledger_31 rfl ?_
      refine g_icmp_ne (pc := 32) (tgt := 44) hk dX2_ledger_32 rfl ?_ ?_
      · refine g_iconst (pc := 44) (v := 0) hk dX2_ledger_44 rfl ?_
        refine g_sub (ls' := [(0, .ref Γ.2.1), (1, .int v1), (3, .int v3)]) [0, 1, 3] rfl ?_
        exact tm_ledger_j45 hk hK τ v1 v3 v2 0 (T_ledger_l13 τ v1 n) ih
      · refine g_aload_n (pc := 35) hk dX2_ledger_35 rfl ?_
        refine g_iload_n (pc := 36) hk dX2_ledger_36 rfl ?_
        refine g_iconst (pc := 37) (v := 2) hk dX2_ledger_37 rfl ?_
        refine g_ob1 (fun r7 h8 => ?_)
        refine t_callV (pc := 38) hk hK [.int v3, .int 2] [.int v2] (tm_entry Γ τ v3 2 r7 h8) (lw_V q1817 q1819 qs107 q128 q1820) hv_entry rfl rfl rfl dX2_ledger_38 rfl rfl ?_
        refine g_goto (pc := 41) (tgt := 45) hk dX2_ledger_41 rfl ?_
        refine g_sub (ls' := [(0, .ref Γ.2.1), (1, .int v1), (3, .int v3)]) [0, 1, 3] rfl ?_
        exact tm_ledger_j45 hk hK τ v1 v3 v2 r7 (T_ledger_l13 τ v1 n) ih
theorem tm_ledger (Γ : TG) (τ : TS) (v1 : Int32)  (r : Int32) (h : T_ledger τ v1 = some r) : TMet Γ yX2_ledger cX2_ledger 4 (some .int) rm_ledger [.ref Γ.2.1, .int v1] τ (some (.int r)) τ := by
  refine t_met (view := (fun r : Int32 => (some (Value.int r), τ))) rfl rfl (ls0 := [(0, .ref Γ.2.1), (1, .int v1)]) rfl (fun K hk hK => ?_) r h
  unfold T_ledger
  refine g_iload_n (pc := 0) hk dX2_ledger_0 rfl ?_
  refine g_ob1 (fun r1 h2 => ?_)
  refine t_callS (pc := 1) hk hK [.int v1] [] (tm_isChair Γ τ v1 r1 h2) (lw_S q1496 q1497 q128 q1498) hs_isChair rfl rfl rfl dX2_ledger_1 rfl rfl ?_
  refine g_if_ne (pc := 4) (tgt := 9) hk dX2_ledger_4 rfl ?_ ?_
  · refine g_iconst (pc := 9) (v := 0) hk dX2_ledger_9 rfl ?_
    refine g_istore_n (pc := 10) (i := 2) (ls' := [(2, .int 0), (0, .ref Γ.2.1), (1, .int v1)]) hk dX2_ledger_10 rfl (by decide) rfl ?_
    refine g_iconst (pc := 11) (v := 0) hk dX2_ledger_11 rfl ?_
    refine g_istore_n (pc := 12) (i := 3) (ls' := [(3, .int 0), (2, .int 0), (0, .ref Γ.2.1), (1, .int v1)]) hk dX2_ledger_12 rfl (by decide) rfl ?_
    refine g_sub (ls' := [(0, .ref Γ.2.1), (1, .int v1), (2, .int 0), (3, .int 0)]) [2, 3, 1, 0] rfl ?_
    exact tm_ledger_l13 hk hK τ v1 FU 0 0
  · refine g_iconst (pc := 7) (v := (-1)) hk dX2_ledger_7 rfl ?_
    exact t_iret (pc := 8) hk rfl dX2_ledger_8
def rm_hairiest : Room := { frames := 1, cells := 0, slots := 0, locals := 22 }
theorem hv_hairiest : yX2_hairiest.cls = RX2 ∧ yX2_hairiest.cls ≠ "java/lang/invoke/MethodHandle" ∧ yX2_hairiest.cls ≠ "java/lang/invoke/VarHandle" ∧ (parseMethodDescriptor yX2_hairiest.desc).map (fun d => d.parameters.length) = some 0 := by decide +kernel
theorem tm_hairiest_j36 {K : KT} {Γ : TG} (hk : KOK K cX2_hairiest 3 RX2 rm_hairiest (some .int)) (hK : va_K Γ.1 tcl (ttys Γ) (kS K)) (τ : TS) (v1 : Int32) (v2 : Int32)  (k4 : Int32 → Int32 → Option (Int32)) (hk4 : ∀ (v1 : Int32) (v2 : Int32), GGo K (tQ K Γ (fun r : Int32 => (some (Value.int r), τ))) (k4 v1 v2) 3 (TI Γ (kS K) τ) 0 0 4 [(0, .ref Γ.2.1), (1, .int v1), (2, .int v2)] []) : GGo K (tQ K Γ (fun r : Int32 => (some (Value.int r), τ))) (T_hairiest_j36 k4 τ v1 v2) 3 (TI Γ (kS K) τ) 0 0 36 [(0, .ref Γ.2.1), (1, .int v1), (2, .int v2)] [] := by
  unfold T_hairiest_j36
  refine g_iincN (pc := 36) (v := 1) (ls' := fun x1 => [(2, .int x1), (0, .ref Γ.2.1), (1, .int v1)]) hk dX2_hairiest_36 rfl rfl (by decide) (fun _ => rfl) (fun x1 => ?_)
  refine g_goto (pc := 39) (tgt := 4) hk dX2_hairiest_39 rfl ?_
  refine g_sub (ls' := [(0, .ref Γ.2.1), (1, .int v1), (2, .int x1)]) [1, 2, 0] rfl ?_
  exact hk4 v1 x1
theorem tm_hairiest_j34 {K : KT} {Γ : TG} (hk : KOK K cX2_hairiest 3 RX2 rm_hairiest (some .int)) (hK : va_K Γ.1 tcl (ttys Γ) (kS K)) (τ : TS) (v2 : Int32)  (k4 : Int32 → Int32 → Option (Int32)) (hk4 : ∀ (v1 : Int32) (v2 : Int32), GGo K (tQ K Γ (fun r : Int32 => (some (Value.int r), τ))) (k4 v1 v2) 3 (TI Γ (kS K) τ) 0 0 4 [(0, .ref Γ.2.1), (1, .int v1), (2, .int v2)] []) : GGo K (tQ K Γ (fun r : Int32 => (some (Value.int r), τ))) (T_hairiest_j34 k4 τ v2) 3 (TI Γ (kS K) τ) 0 0 34 [(0, .ref Γ.2.1), (2, .int v2)] [] := by
  unfold T_hairiest_j34
  refine g_iload_n (pc := 34) hk dX2_hairiest_34 rfl ?_
  refine g_istore_n (pc := 35) (i := 1) (ls' := [(1, .int v2), (0, .ref Γ.2.1), (2, .int v2)]) hk dX2_hairiest_35 rfl (by decide) rfl ?_
  refine g_sub (ls' := [(0, .ref Γ.2.1), (1, .int v2), (2, .int v2)]) [1, 0, 2] rfl ?_
  exact tm_hairiest_j36 hk hK τ v2 v2 k4 hk4
theorem tm_hairiest_l4 {K : KT} {Γ : TG} (hk : KOK K cX2_hairiest 3 RX2 rm_hairiest (some .int)) (hK : va_K Γ.1 tcl (ttys Γ) (kS K)) (τ : TS)   : ∀ (n : Nat) (v1 : Int32) (v2 : Int32), GGo K (tQ K Γ (fun r : Int32 => (some (Value.int r), τ))) (T_hairiest_l4 τ n v1 v2) 3 (TI Γ (kS K) τ) 0 0 4 [(0, .ref Γ.2.1), (1, .int v1), (2, .int v2)] [] := by
  intro n
  induction n with
  | zero =>
    intro v1 v2
    unfold T_hairiest_l4
    exact g_none
  | succ n ih =>
    intro v1 v2
    unfold T_hairiest_l4
    refine g_iload_n (pc := 4) hk dX2_hairiest_4 rfl ?_
    refine g_aload_n (pc := 5) hk dX2_hairiest_5 rfl ?_
    refine t_getR (pc := 6) hk hK tr_0 tf_0 dX2_hairiest_6 ?_
    refine g_iconst (pc := 9) (v := 0) hk dX2_hairiest_9 rfl ?_
    refine t_ialdC (pc := 10) (j := 0) hk hK ta_0 rfl rfl dX2_hairiest_10 ?_
    refine g_icmp_ge (pc := 11) (tgt := 42) hk dX2_hairiest_11 rfl ?_ ?_
    · refine g_iload_n (pc := 42) hk dX2_hairiest_42 rfl ?_
      exact t_iret (pc := 43) hk rfl dX2_hairiest_43
    · refine g_iload_n (pc := 14) hk dX2_hairiest_14 rfl ?_
      refine g_iconst (pc := 15) (v := (-1)) hk dX2_hairiest_15 rfl ?_
      refine g_icmp_eq (pc := 16) (tgt := 34) hk dX2_hairiest_16 rfl ?_ ?_
      · refine g_sub (ls' := [(0, .ref Γ.2.1), (2, .int v2)]) [0, 2] rfl ?_
        exact tm_hairiest_j34 hk hK τ v2 (T_hairiest_l4 τ n) ih
      · refine g_aload_n (pc := 19) hk dX2_hairiest_19 rfl ?_
        refine g_iload_n (pc := 20) hk dX2_hairiest_20 rfl ?_
        refine g_iconst (pc := 21) (v := 0) hk dX2_hairiest_21 rfl ?_
        refine g_ob1 (fun r2 h3 => ?_)
        refine t_callV (pc := 22) hk hK [.int v2, .int 0] [] (tm_get Γ τ v2 0 r2 h3) (lw_V q1488 q1490 qs57 q128 q1491) hv_get rfl rfl rfl dX2_hairiest_22 rfl rfl ?_
        refine g_aload_n (pc := 25) hk dX2_hairiest_25 rfl ?_
        refine g_iload_n (pc := 26) hk dX2_hairiest_26 rfl ?_
        refine g_iconst (pc := 27) (v := 0) hk dX2_hairiest_27 rfl ?_
        refine g_ob1 (fun r4 h5 => ?_)
        refine t_callV (pc := 28) hk hK [.int v1, .int 0] [.int r2] (tm_get Γ τ v1 0 r4 h5) (lw_V q1488 q1490 qs57 q128 q1491) hv_get rfl rfl rfl dX2_hairiest_28 rfl rfl ?_
        refine g_icmp_le (pc := 31) (tgt := 36) hk dX2_hairiest_31 rfl ?_ ?_
        · exact tm_hairiest_j36 hk hK τ v1 v2 (T_hairiest_l4 τ n) ih
        · refine g_sub (ls' := [(0, .ref Γ.2.1), (2, .int v2)]) [0, 2] rfl ?_
          exact tm_hairiest_j34 hk hK τ v2 (T_hairiest_l4 τ n) ih
theorem tm_hairiest (Γ : TG) (τ : TS)   (r : Int32) (h : T_hairiest τ = some r) : TMet Γ yX2_hairiest cX2_hairiest 3 (some .int) rm_hairiest [.ref Γ.2.1] τ (some (.int r)) τ := by
  refine t_met (view := (fun r : Int32 => (some (Value.int r), τ))) rfl rfl (ls0 := [(0, .ref Γ.2.1)]) rfl (fun K hk hK => ?_) r h
  unfold T_hairiest
  refine g_iconst (pc := 0) (v := (-1)) hk dX2_hairiest_0 rfl ?_
  refine g_istore_n (pc := 1) (i := 1) (ls' := [(1, .int (-1)), (0, .ref Γ.2.1)]) hk dX2_hairiest_1 rfl (by decide) rfl ?_
  refine g_iconst (pc := 2) (v := 0) hk dX2_hairiest_2 rfl ?_
  refine g_istore_n (pc := 3) (i := 2) (ls' := [(2, .int 0), (1, .int (-1)), (0, .ref Γ.2.1)]) hk dX2_hairiest_3 rfl (by decide) rfl ?_
  refine g_sub (ls' := [(0, .ref Γ.2.1), (1, .int (-1)), (2, .int 0)]) [2, 1, 0] rfl ?_
  exact tm_hairiest_l4 hk hK τ FU (-1) 0
def rm_calmest : Room := { frames := 1, cells := 0, slots := 0, locals := 22 }
theorem hv_calmest : yX2_calmest.cls = RX2 ∧ yX2_calmest.cls ≠ "java/lang/invoke/MethodHandle" ∧ yX2_calmest.cls ≠ "java/lang/invoke/VarHandle" ∧ (parseMethodDescriptor yX2_calmest.desc).map (fun d => d.parameters.length) = some 0 := by decide +kernel
theorem tm_calmest_j36 {K : KT} {Γ : TG} (hk : KOK K cX2_calmest 3 RX2 rm_calmest (some .int)) (hK : va_K Γ.1 tcl (ttys Γ) (kS K)) (τ : TS) (v1 : Int32) (v2 : Int32)  (k4 : Int32 → Int32 → Option (Int32)) (hk4 : ∀ (v1 : Int32) (v2 : Int32), GGo K (tQ K Γ (fun r : Int32 => (some (Value.int r), τ))) (k4 v1 v2) 3 (TI Γ (kS K) τ) 0 0 4 [(0, .ref Γ.2.1), (1, .int v1), (2, .int v2)] []) : GGo K (tQ K Γ (fun r : Int32 => (some (Value.int r), τ))) (T_calmest_j36 k4 τ v1 v2) 3 (TI Γ (kS K) τ) 0 0 36 [(0, .ref Γ.2.1), (1, .int v1), (2, .int v2)] [] := by
  unfold T_calmest_j36
  refine g_iincN (pc := 36) (v := 1) (ls' := fun x1 => [(2, .int x1), (0, .ref Γ.2.1), (1, .int v1)]) hk dX2_calmest_36 rfl rfl (by decide) (fun _ => rfl) (fun x1 => ?_)
  refine g_goto (pc := 39) (tgt := 4) hk dX2_calmest_39 rfl ?_
  refine g_sub (ls' := [(0, .ref Γ.2.1), (1, .int v1), (2, .int x1)]) [1, 2, 0] rfl ?_
  exact hk4 v1 x1
theorem tm_calmest_j34 {K : KT} {Γ : TG} (hk : KOK K cX2_calmest 3 RX2 rm_calmest (some .int)) (hK : va_K Γ.1 tcl (ttys Γ) (kS K)) (τ : TS) (v2 : Int32)  (k4 : Int32 → Int32 → Option (Int32)) (hk4 : ∀ (v1 : Int32) (v2 : Int32), GGo K (tQ K Γ (fun r : Int32 => (some (Value.int r), τ))) (k4 v1 v2) 3 (TI Γ (kS K) τ) 0 0 4 [(0, .ref Γ.2.1), (1, .int v1), (2, .int v2)] []) : GGo K (tQ K Γ (fun r : Int32 => (some (Value.int r), τ))) (T_calmest_j34 k4 τ v2) 3 (TI Γ (kS K) τ) 0 0 34 [(0, .ref Γ.2.1), (2, .int v2)] [] := by
  unfold T_calmest_j34
  refine g_iload_n (pc := 34) hk dX2_calmest_34 rfl ?_
  refine g_istore_n (pc := 35) (i := 1) (ls' := [(1, .int v2), (0, .ref Γ.2.1), (2, .int v2)]) hk dX2_calmest_35 rfl (by decide) rfl ?_
  refine g_sub (ls' := [(0, .ref Γ.2.1), (1, .int v2), (2, .int v2)]) [1, 0, 2] rfl ?_
  exact tm_calmest_j36 hk hK τ v2 v2 k4 hk4
theorem tm_calmest_l4 {K : KT} {Γ : TG} (hk : KOK K cX2_calmest 3 RX2 rm_calmest (some .int)) (hK : va_K Γ.1 tcl (ttys Γ) (kS K)) (τ : TS)   : ∀ (n : Nat) (v1 : Int32) (v2 : Int32), GGo K (tQ K Γ (fun r : Int32 => (some (Value.int r), τ))) (T_calmest_l4 τ n v1 v2) 3 (TI Γ (kS K) τ) 0 0 4 [(0, .ref Γ.2.1), (1, .int v1), (2, .int v2)] [] := by
  intro n
  induction n with
  | zero =>
    intro v1 v2
    unfold T_calmest_l4
    exact g_none
  | succ n ih =>
    intro v1 v2
    unfold T_calmest_l4
    refine g_iload_n (pc := 4) hk dX2_calmest_4 rfl ?_
    refine g_aload_n (pc := 5) hk dX2_calmest_5 rfl ?_
    refine t_getR (pc := 6) hk hK tr_0 tf_0 dX2_calmest_6 ?_
    refine g_iconst (pc := 9) (v := 0) hk dX2_calmest_9 rfl ?_
    refine t_ialdC (pc := 10) (j := 0) hk hK ta_0 rfl rfl dX2_calmest_10 ?_
    refine g_icmp_ge (pc := 11) (tgt := 42) hk dX2_calmest_11 rfl ?_ ?_
    · refine g_iload_n (pc := 42) hk dX2_calmest_42 rfl ?_
      exact t_iret (pc := 43) hk rfl dX2_calmest_43
    · refine g_iload_n (pc := 14) hk dX2_calmest_14 rfl ?_
      refine g_iconst (pc := 15) (v := (-1)) hk dX2_calmest_15 rfl ?_
      refine g_icmp_eq (pc := 16) (tgt := 34) hk dX2_calmest_16 rfl ?_ ?_
      · refine g_sub (ls' := [(0, .ref Γ.2.1), (2, .int v2)]) [0, 2] rfl ?_
        exact tm_calmest_j34 hk hK τ v2 (T_calmest_l4 τ n) ih
      · refine g_aload_n (pc := 19) hk dX2_calmest_19 rfl ?_
        refine g_iload_n (pc := 20) hk dX2_calmest_20 rfl ?_
        refine g_iconst (pc := 21) (v := 1) hk dX2_calmest_21 rfl ?_
        refine g_ob1 (fun r2 h3 => ?_)
        refine t_callV (pc := 22) hk hK [.int v2, .int 1] [] (tm_get Γ τ v2 1 r2 h3) (lw_V q1488 q1490 qs57 q128 q1491) hv_get rfl rfl rfl dX2_calmest_22 rfl rfl ?_
        refine g_aload_n (pc := 25) hk dX2_calmest_25 rfl ?_
        refine g_iload_n (pc := 26) hk dX2_calmest_26 rfl ?_
        refine g_iconst (pc := 27) (v := 1) hk dX2_calmest_27 rfl ?_
        refine g_ob1 (fun r4 h5 => ?_)
        refine t_callV (pc := 28) hk hK [.int v1, .int 1] [.int r2] (tm_get Γ τ v1 1 r4 h5) (lw_V q1488 q1490 qs57 q128 q1491) hv_get rfl rfl rfl dX2_calmest_28 rfl rfl ?_
        refine g_icmp_ge (pc := 31) (tgt := 36) hk dX2_calmest_31 rfl ?_ ?_
        · exact tm_calmest_j36 hk hK τ v1 v2 (T_calmest_l4 τ n) ih
        · refine g_sub (ls' := [(0, .ref Γ.2.1), (2, .int v2)]) [0, 2] rfl ?_
          exact tm_calmest_j34 hk hK τ v2 (T_calmest_l4 τ n) ih
theorem tm_calmest (Γ : TG) (τ : TS)   (r : Int32) (h : T_calmest τ = some r) : TMet Γ yX2_calmest cX2_calmest 3 (some .int) rm_calmest [.ref Γ.2.1] τ (some (.int r)) τ := by
  refine t_met (view := (fun r : Int32 => (some (Value.int r), τ))) rfl rfl (ls0 := [(0, .ref Γ.2.1)]) rfl (fun K hk hK => ?_) r h
  unfold T_calmest
  refine g_iconst (pc := 0) (v := (-1)) hk dX2_calmest_0 rfl ?_
  refine g_istore_n (pc := 1) (i := 1) (ls' := [(1, .int (-1)), (0, .ref Γ.2.1)]) hk dX2_calmest_1 rfl (by decide) rfl ?_
  refine g_iconst (pc := 2) (v := 0) hk dX2_calmest_2 rfl ?_
  refine g_istore_n (pc := 3) (i := 2) (ls' := [(2, .int 0), (1, .int (-1)), (0, .ref Γ.2.1)]) hk dX2_calmest_3 rfl (by decide) rfl ?_
  refine g_sub (ls' := [(0, .ref Γ.2.1), (1, .int (-1)), (2, .int 0)]) [2, 1, 0] rfl ?_
  exact tm_calmest_l4 hk hK τ FU (-1) 0
def rm_without : Room := { frames := 1, cells := 0, slots := 0, locals := 22 }
theorem hv_without : yX2_without.cls = RX2 ∧ yX2_without.cls ≠ "java/lang/invoke/MethodHandle" ∧ yX2_without.cls ≠ "java/lang/invoke/VarHandle" ∧ (parseMethodDescriptor yX2_without.desc).map (fun d => d.parameters.length) = some 1 := by decide +kernel
theorem tm_without_j31 {K : KT} {Γ : TG} (hk : KOK K cX2_without 4 RX2 rm_without (some .int)) (hK : va_K Γ.1 tcl (ttys Γ) (kS K)) (τ : TS) (v1 : Int32) (v3 : Int32) (s0 : Int32) (s1 : Int32)  (k4 : Int32 → Int32 → Option (Int32)) (hk4 : ∀ (v2 : Int32) (v3 : Int32), GGo K (tQ K Γ (fun r : Int32 => (some (Value.int r), τ))) (k4 v2 v3) 4 (TI Γ (kS K) τ) 0 0 4 [(0, .ref Γ.2.1), (1, .int v1), (2, .int v2), (3, .int v3)] []) : GGo K (tQ K Γ (fun r : Int32 => (some (Value.int r), τ))) (T_without_j31 k4 τ v1 v3 s0 s1) 4 (TI Γ (kS K) τ) 0 0 31 [(0, .ref Γ.2.1), (1, .int v1), (3, .int v3)] [.int s1, .int s0] := by
  unfold T_without_j31
  refine g_ior (pc := 31) hk dX2_without_31 ?_
  refine g_istore_nN (pc := 32) (i := 2) (ls' := fun x3 => [(2, .int x3), (0, .ref Γ.2.1), (1, .int v1), (3, .int v3)]) hk dX2_without_32 rfl (by decide) (fun _ => rfl) (fun x3 => ?_)
  refine g_iincN (pc := 33) (v := 1) (ls' := fun x4 => [(3, .int x4), (2, .int x3), (0, .ref Γ.2.1), (1, .int v1)]) hk dX2_without_33 rfl rfl (by decide) (fun _ => rfl) (fun x4 => ?_)
  refine g_goto (pc := 36) (tgt := 4) hk dX2_without_36 rfl ?_
  refine g_sub (ls' := [(0, .ref Γ.2.1), (1, .int v1), (2, .int x3), (3, .int x4)]) [2, 3, 1, 0] rfl ?_
  exact hk4 x3 x4
theorem tm_without_l4 {K : KT} {Γ : TG} (hk : KOK K cX2_without 4 RX2 rm_without (some .int)) (hK : va_K Γ.1 tcl (ttys Γ) (kS K)) (τ : TS) (v1 : Int32)   : ∀ (n : Nat) (v2 : Int32) (v3 : Int32), GGo K (tQ K Γ (fun r : Int32 => (some (Value.int r), τ))) (T_without_l4 τ v1 n v2 v3) 4 (TI Γ (kS K) τ) 0 0 4 [(0, .ref Γ.2.1), (1, .int v1), (2, .int v2), (3, .int v3)] [] := by
  intro n
  induction n with
  | zero =>
    intro v2 v3
    unfold T_without_l4
    exact g_none
  | succ n ih =>
    intro v2 v3
    unfold T_without_l4
    refine g_iload_n (pc := 4) hk dX2_without_4 rfl ?_
    refine g_aload_n (pc := 5) hk dX2_without_5 rfl ?_
    refine t_getR (pc := 6) hk hK tr_0 tf_0 dX2_without_6 ?_
    refine g_iconst (pc := 9) (v := 0) hk dX2_without_9 rfl ?_
    refine t_ialdC (pc := 10) (j := 0) hk hK ta_0 rfl rfl dX2_without_10 ?_
    refine g_icmp_ge (pc := 11) (tgt := 39) hk dX2_without_11 rfl ?_ ?_
    · refine g_iload_n (pc := 39) hk dX2_without_39 rfl ?_
      exact t_iret (pc := 40) hk rfl dX2_without_40
    · refine g_iload_n (pc := 14) hk dX2_without_14 rfl ?_
      refine g_aload_n (pc := 15) hk dX2_without_15 rfl ?_
      refine g_iload_n (pc := 16) hk dX2_without_16 rfl ?_
      refine g_iload_n (pc := 17) hk dX2_without_17 rfl ?_
      refine g_ob1 (fun r1 h2 => ?_)
      refine t_callV (pc := 18) hk hK [.int v3, .int v1] [.int v2] (tm_get Γ τ v3 v1 r1 h2) (lw_V q1488 q1490 qs57 q128 q1491) hv_get rfl rfl rfl dX2_without_18 rfl rfl ?_
      refine g_if_ne (pc := 21) (tgt := 30) hk dX2_without_21 rfl ?_ ?_
      · refine g_iconst (pc := 30) (v := 0) hk dX2_without_30 rfl ?_
        refine g_sub (ls' := [(0, .ref Γ.2.1), (1, .int v1), (3, .int v3)]) [0, 1, 3] rfl ?_
        exact tm_without_j31 hk hK τ v1 v3 v2 0 (T_without_l4 τ v1 n) ih
      · refine g_iconst (pc := 24) (v := 1) hk dX2_without_24 rfl ?_
        refine g_iload_n (pc := 25) hk dX2_without_25 rfl ?_
        refine g_ishl (pc := 26) hk dX2_without_26 ?_
        refine g_goto (pc := 27) (tgt := 31) hk dX2_without_27 rfl ?_
        refine g_sub (ls' := [(0, .ref Γ.2.1), (1, .int v1), (3, .int v3)]) [0, 1, 3] rfl ?_
        exact tm_without_j31 hk hK τ v1 v3 v2 (i_shl 1 v3) (T_without_l4 τ v1 n) ih
theorem tm_without (Γ : TG) (τ : TS) (v1 : Int32)  (r : Int32) (h : T_without τ v1 = some r) : TMet Γ yX2_without cX2_without 4 (some .int) rm_without [.ref Γ.2.1, .int v1] τ (some (.int r)) τ := by
  refine t_met (view := (fun r : Int32 => (some (Value.int r), τ))) rfl rfl (ls0 := [(0, .ref Γ.2.1), (1, .int v1)]) rfl (fun K hk hK => ?_) r h
  unfold T_without
  refine g_iconst (pc := 0) (v := 0) hk dX2_without_0 rfl ?_
  refine g_istore_n (pc := 1) (i := 2) (ls' := [(2, .int 0), (0, .ref Γ.2.1), (1, .int v1)]) hk dX2_without_1 rfl (by decide) rfl ?_
  refine g_iconst (pc := 2) (v := 0) hk dX2_without_2 rfl ?_
  refine g_istore_n (pc := 3) (i := 3) (ls' := [(3, .int 0), (2, .int 0), (0, .ref Γ.2.1), (1, .int v1)]) hk dX2_without_3 rfl (by decide) rfl ?_
  refine g_sub (ls' := [(0, .ref Γ.2.1), (1, .int v1), (2, .int 0), (3, .int 0)]) [2, 3, 1, 0] rfl ?_
  exact tm_without_l4 hk hK τ v1 FU 0 0
def rm_smooth : Room := { frames := 2, cells := 0, slots := 0, locals := 45 }
theorem hv_smooth : yX2_smooth.cls = RX2 ∧ yX2_smooth.cls ≠ "java/lang/invoke/MethodHandle" ∧ yX2_smooth.cls ≠ "java/lang/invoke/VarHandle" ∧ (parseMethodDescriptor yX2_smooth.desc).map (fun d => d.parameters.length) = some 0 := by decide +kernel
theorem tm_smooth (Γ : TG) (τ : TS)   (r : Int32) (h : T_smooth τ = some r) : TMet Γ yX2_smooth cX2_smooth 1 (some .int) rm_smooth [.ref Γ.2.1] τ (some (.int r)) τ := by
  refine t_met (view := (fun r : Int32 => (some (Value.int r), τ))) rfl rfl (ls0 := [(0, .ref Γ.2.1)]) rfl (fun K hk hK => ?_) r h
  unfold T_smooth
  refine g_aload_n (pc := 0) hk dX2_smooth_0 rfl ?_
  refine g_iconst (pc := 1) (v := 0) hk dX2_smooth_1 rfl ?_
  refine g_ob1 (fun r1 h2 => ?_)
  refine t_callV (pc := 2) hk hK [.int 0] [] (tm_without Γ τ 0 r1 h2) (lw_V q1837 q1839 qs108 q128 q1840) hv_without rfl rfl rfl dX2_smooth_2 rfl rfl ?_
  exact t_iret (pc := 5) hk rfl dX2_smooth_5
def rm_unscarred : Room := { frames := 2, cells := 0, slots := 0, locals := 45 }
theorem hv_unscarred : yX2_unscarred.cls = RX2 ∧ yX2_unscarred.cls ≠ "java/lang/invoke/MethodHandle" ∧ yX2_unscarred.cls ≠ "java/lang/invoke/VarHandle" ∧ (parseMethodDescriptor yX2_unscarred.desc).map (fun d => d.parameters.length) = some 0 := by decide +kernel
theorem tm_unscarred (Γ : TG) (τ : TS)   (r : Int32) (h : T_unscarred τ = some r) : TMet Γ yX2_unscarred cX2_unscarred 1 (some .int) rm_unscarred [.ref Γ.2.1] τ (some (.int r)) τ := by
  refine t_met (view := (fun r : Int32 => (some (Value.int r), τ))) rfl rfl (ls0 := [(0, .ref Γ.2.1)]) rfl (fun K hk hK => ?_) r h
  unfold T_unscarred
  refine g_aload_n (pc := 0) hk dX2_unscarred_0 rfl ?_
  refine g_iconst (pc := 1) (v := 2) hk dX2_unscarred_1 rfl ?_
  refine g_ob1 (fun r1 h2 => ?_)
  refine t_callV (pc := 2) hk hK [.int 2] [] (tm_without Γ τ 2 r1 h2) (lw_V q1837 q1839 qs108 q128 q1840) hv_without rfl rfl rfl dX2_unscarred_2 rfl rfl ?_
  exact t_iret (pc := 5) hk rfl dX2_unscarred_5
def rm_alone : Room := { frames := 2, cells := 0, slots := 0, locals := 43 }
theorem hv_alone : yX2_alone.cls = RX2 ∧ yX2_alone.cls ≠ "java/lang/invoke/MethodHandle" ∧ yX2_alone.cls ≠ "java/lang/invoke/VarHandle" ∧ (parseMethodDescriptor yX2_alone.desc).map (fun d => d.parameters.length) = some 0 := by decide +kernel
theorem tm_alone_j34 {K : KT} {Γ : TG} (hk : KOK K cX2_alone 3 RX2 rm_alone (some .int)) (hK : va_K Γ.1 tcl (ttys Γ) (kS K)) (τ : TS) (v2 : Int32) (s0 : Int32) (s1 : Int32)  (k4 : Int32 → Int32 → Option (Int32)) (hk4 : ∀ (v1 : Int32) (v2 : Int32), GGo K (tQ K Γ (fun r : Int32 => (some (Value.int r), τ))) (k4 v1 v2) 3 (TI Γ (kS K) τ) 0 0 4 [(0, .ref Γ.2.1), (1, .int v1), (2, .int v2)] []) : GGo K (tQ K Γ (fun r : Int32 => (some (Value.int r), τ))) (T_alone_j34 k4 τ v2 s0 s1) 3 (TI Γ (kS K) τ) 0 0 34 [(0, .ref Γ.2.1), (2, .int v2)] [.int s1, .int s0] := by
  unfold T_alone_j34
  refine g_ior (pc := 34) hk dX2_alone_34 ?_
  refine g_istore_nN (pc := 35) (i := 1) (ls' := fun x5 => [(1, .int x5), (0, .ref Γ.2.1), (2, .int v2)]) hk dX2_alone_35 rfl (by decide) (fun _ => rfl) (fun x5 => ?_)
  refine g_iincN (pc := 36) (v := 1) (ls' := fun x6 => [(2, .int x6), (1, .int x5), (0, .ref Γ.2.1)]) hk dX2_alone_36 rfl rfl (by decide) (fun _ => rfl) (fun x6 => ?_)
  refine g_goto (pc := 39) (tgt := 4) hk dX2_alone_39 rfl ?_
  refine g_sub (ls' := [(0, .ref Γ.2.1), (1, .int x5), (2, .int x6)]) [2, 1, 0] rfl ?_
  exact hk4 x5 x6
theorem tm_alone_l4 {K : KT} {Γ : TG} (hk : KOK K cX2_alone 3 RX2 rm_alone (some .int)) (hK : va_K Γ.1 tcl (ttys Γ) (kS K)) (τ : TS)   : ∀ (n : Nat) (v1 : Int32) (v2 : Int32), GGo K (tQ K Γ (fun r : Int32 => (some (Value.int r), τ))) (T_alone_l4 τ n v1 v2) 3 (TI Γ (kS K) τ) 0 0 4 [(0, .ref Γ.2.1), (1, .int v1), (2, .int v2)] [] := by
  intro n
  induction n with
  | zero =>
    intro v1 v2
    unfold T_alone_l4
    exact g_none
  | succ n ih =>
    intro v1 v2
    unfold T_alone_l4
    refine g_iload_n (pc := 4) hk dX2_alone_4 rfl ?_
    refine g_aload_n (pc := 5) hk dX2_alone_5 rfl ?_
    refine t_getR (pc := 6) hk hK tr_0 tf_0 dX2_alone_6 ?_
    refine g_iconst (pc := 9) (v := 0) hk dX2_alone_9 rfl ?_
    refine t_ialdC (pc := 10) (j := 0) hk hK ta_0 rfl rfl dX2_alone_10 ?_
    refine g_icmp_ge (pc := 11) (tgt := 42) hk dX2_alone_11 rfl ?_ ?_
    · refine g_iload_n (pc := 42) hk dX2_alone_42 rfl ?_
      exact t_iret (pc := 43) hk rfl dX2_alone_43
    · refine g_iload_n (pc := 14) hk dX2_alone_14 rfl ?_
      refine g_aload_n (pc := 15) hk dX2_alone_15 rfl ?_
      refine g_aload_n (pc := 16) hk dX2_alone_16 rfl ?_
      refine g_iload_n (pc := 17) hk dX2_alone_17 rfl ?_
      refine g_ob1 (fun r1 h2 => ?_)
      refine t_callV (pc := 18) hk hK [.int v2] [.ref Γ.2.1, .int v1] (tm_otherOf Γ τ v2 r1 h2) (lw_V q1691 q1693 qs91 q128 q1694) hv_otherOf rfl rfl rfl dX2_alone_18 rfl rfl ?_
      refine g_ob1 (fun r3 h4 => ?_)
      refine t_callV (pc := 21) hk hK [.int r1] [.int v1] (tm_isPerson Γ τ r1 r3 h4) (lw_V q1671 q1673 qs86 q128 q1674) hv_isPerson rfl rfl rfl dX2_alone_21 rfl rfl ?_
      refine g_if_eq (pc := 24) (tgt := 31) hk dX2_alone_24 rfl ?_ ?_
      · refine g_iconst (pc := 31) (v := 1) hk dX2_alone_31 rfl ?_
        refine g_iload_n (pc := 32) hk dX2_alone_32 rfl ?_
        refine g_ishl (pc := 33) hk dX2_alone_33 ?_
        refine g_sub (ls' := [(0, .ref Γ.2.1), (2, .int v2)]) [0, 2] rfl ?_
        exact tm_alone_j34 hk hK τ v2 v1 (i_shl 1 v2) (T_alone_l4 τ n) ih
      · refine g_iconst (pc := 27) (v := 0) hk dX2_alone_27 rfl ?_
        refine g_goto (pc := 28) (tgt := 34) hk dX2_alone_28 rfl ?_
        refine g_sub (ls' := [(0, .ref Γ.2.1), (2, .int v2)]) [0, 2] rfl ?_
        exact tm_alone_j34 hk hK τ v2 v1 0 (T_alone_l4 τ n) ih
theorem tm_alone (Γ : TG) (τ : TS)   (r : Int32) (h : T_alone τ = some r) : TMet Γ yX2_alone cX2_alone 3 (some .int) rm_alone [.ref Γ.2.1] τ (some (.int r)) τ := by
  refine t_met (view := (fun r : Int32 => (some (Value.int r), τ))) rfl rfl (ls0 := [(0, .ref Γ.2.1)]) rfl (fun K hk hK => ?_) r h
  unfold T_alone
  refine g_iconst (pc := 0) (v := 0) hk dX2_alone_0 rfl ?_
  refine g_istore_n (pc := 1) (i := 1) (ls' := [(1, .int 0), (0, .ref Γ.2.1)]) hk dX2_alone_1 rfl (by decide) rfl ?_
  refine g_iconst (pc := 2) (v := 0) hk dX2_alone_2 rfl ?_
  refine g_istore_n (pc := 3) (i := 2) (ls' := [(2, .int 0), (1, .int 0), (0, .ref Γ.2.1)]) hk dX2_alone_3 rfl (by decide) rfl ?_
  refine g_sub (ls' := [(0, .ref Γ.2.1), (1, .int 0), (2, .int 0)]) [2, 1, 0] rfl ?_
  exact tm_alone_l4 hk hK τ FU 0 0
def rm_foretold : Room := { frames := 8, cells := 0, slots := 0, locals := 197 }
theorem hv_foretold : yX2_foretold.cls = RX2 ∧ yX2_foretold.cls ≠ "java/lang/invoke/MethodHandle" ∧ yX2_foretold.cls ≠ "java/lang/invoke/VarHandle" ∧ (parseMethodDescriptor yX2_foretold.desc).map (fun d => d.parameters.length) = some 2 := by decide +kernel
theorem tm_foretold_l122 {K : KT} {Γ : TG} (hk : KOK K cX2_foretold 5 RX2 rm_foretold (some .int)) (hK : va_K Γ.1 tcl (ttys Γ) (kS K)) (v3 : Int32)   : ∀ (n : Nat) (τ : TS) (v4 : Int32), GGo K (tQ K Γ (fun r : Int32 × TS => (some (Value.int r.1), r.2))) (T_foretold_l122 v3 n τ v4) 5 (TI Γ (kS K) τ) 0 0 122 [(0, .ref Γ.2.1), (3, .int v3), (4, .int v4)] [] := by
  intro n
  induction n with
  | zero =>
    intro τ v4
    unfold T_foretold_l122
    exact g_none
  | succ n ih =>
    intro τ v4
    unfold T_foretold_l122
    refine g_iload (pc := 122) hk dX2_foretold_122 rfl ?_
    refine g_bipush (pc := 124) (v := 50) hk dX2_foretold_124 rfl ?_
    refine g_icmp_ge (pc := 126) (tgt := 149) hk dX2_foretold_126 rfl ?_ ?_
    · refine g_aload_n (pc := 149) hk dX2_foretold_149 rfl ?_
      refine g_iconst (pc := 150) (v := 1) hk dX2_foretold_150 rfl ?_
      refine t_putI (pc := 151) hk hK ti_23 tf_23 (Or.inr ⟨rfl, rfl⟩) rfl dX2_foretold_151 (fun τ8 => ?_)
      refine g_iload_n (pc := 154) hk dX2_foretold_154 rfl ?_
      exact t_iret (pc := 155) hk rfl dX2_foretold_155
    · refine g_aload_n (pc := 129) hk dX2_foretold_129 rfl ?_
      refine t_getR (pc := 130) hk hK tr_0 tf_0 dX2_foretold_130 ?_
      refine g_iload (pc := 133) hk dX2_foretold_133 rfl ?_
      refine g_aload_n (pc := 135) hk dX2_foretold_135 rfl ?_
      refine t_getR (pc := 136) hk hK tr_24 tf_24 dX2_foretold_136 ?_
      refine g_iload (pc := 139) hk dX2_foretold_139 rfl ?_
      refine t_iald (pc := 141) hk hK ta_24 dX2_foretold_141 ?_
      refine t_iast (pc := 142) hk hK ta_0 dX2_foretold_142 (fun τ9 => ?_)
      refine g_iincN (pc := 143) (v := 1) (ls' := fun x10 => [(4, .int x10), (0, .ref Γ.2.1), (3, .int v3)]) hk dX2_foretold_143 rfl rfl (by decide) (fun _ => rfl) (fun x10 => ?_)
      refine g_goto (pc := 146) (tgt := 122) hk dX2_foretold_146 rfl ?_
      refine g_sub (ls' := [(0, .ref Γ.2.1), (3, .int v3), (4, .int x10)]) [1, 2, 0] rfl ?_
      exact ih τ9 x10
theorem tm_foretold_j117 {K : KT} {Γ : TG} (hk : KOK K cX2_foretold 5 RX2 rm_foretold (some .int)) (hK : va_K Γ.1 tcl (ttys Γ) (kS K)) (τ : TS) (s0 : Int32)   : GGo K (tQ K Γ (fun r : Int32 × TS => (some (Value.int r.1), r.2))) (T_foretold_j117 τ s0) 5 (TI Γ (kS K) τ) 0 0 117 [(0, .ref Γ.2.1)] [.int s0] := by
  unfold T_foretold_j117
  refine g_istore_n (pc := 117) (i := 3) (ls' := [(3, .int s0), (0, .ref Γ.2.1)]) hk dX2_foretold_117 rfl (by decide) rfl ?_
  refine g_bipush (pc := 118) (v := 6) hk dX2_foretold_118 rfl ?_
  refine g_istore (pc := 120) (i := 4) (ls' := [(4, .int 6), (3, .int s0), (0, .ref Γ.2.1)]) hk dX2_foretold_120 (by decide) rfl ?_
  refine g_sub (ls' := [(0, .ref Γ.2.1), (3, .int s0), (4, .int 6)]) [2, 1, 0] rfl ?_
  exact tm_foretold_l122 hk hK s0 FU τ 6
theorem tm_foretold_j114 {K : KT} {Γ : TG} (hk : KOK K cX2_foretold 5 RX2 rm_foretold (some .int)) (hK : va_K Γ.1 tcl (ttys Γ) (kS K)) (τ : TS) (s1 : Int32)   : GGo K (tQ K Γ (fun r : Int32 × TS => (some (Value.int r.1), r.2))) (T_foretold_j114 τ s1) 5 (TI Γ (kS K) τ) 0 0 114 [(0, .ref Γ.2.1)] [.int s1, .ref Γ.2.1] := by
  unfold T_foretold_j114
  refine g_ob1 (fun r6 h7 => ?_)
  refine t_callV (pc := 114) hk hK [.int s1] [] (tm_sumOf Γ τ s1 r6 h7) (lw_V q1777 q1779 qs104 q128 q1780) hv_sumOf rfl rfl rfl dX2_foretold_114 rfl rfl ?_
  exact tm_foretold_j117 hk hK τ r6
theorem tm_foretold_j83 {K : KT} {Γ : TG} (hk : KOK K cX2_foretold 5 RX2 rm_foretold (some .int)) (hK : va_K Γ.1 tcl (ttys Γ) (kS K)) (τ : TS) (v1 : Int32) (v2 : Int32) (v3 : Int32)  (k63 : TS → Int32 → Option (Int32 × TS)) (hk63 : ∀ (τ : TS) (v3 : Int32), GGo K (tQ K Γ (fun r : Int32 × TS => (some (Value.int r.1), r.2))) (k63 τ v3) 5 (TI Γ (kS K) τ) 0 0 63 [(0, .ref Γ.2.1), (1, .int v1), (2, .int v2), (3, .int v3)] []) : GGo K (tQ K Γ (fun r : Int32 × TS => (some (Value.int r.1), r.2))) (T_foretold_j83 k63 τ v1 v2 v3) 5 (TI Γ (kS K) τ) 0 0 83 [(0, .ref Γ.2.1), (1, .int v1), (2, .int v2), (3, .int v3)] [] := by
  unfold T_foretold_j83
  refine g_iincN (pc := 83) (v := 1) (ls' := fun x13 => [(3, .int x13), (0, .ref Γ.2.1), (1, .int v1), (2, .int v2)]) hk dX2_foretold_83 rfl rfl (by decide) (fun _ => rfl) (fun x13 => ?_)
  refine g_goto (pc := 86) (tgt := 63) hk dX2_foretold_86 rfl ?_
  refine g_sub (ls' := [(0, .ref Γ.2.1), (1, .int v1), (2, .int v2), (3, .int x13)]) [1, 2, 3, 0] rfl ?_
  exact hk63 τ x13
theorem tm_foretold_l63 {K : KT} {Γ : TG} (hk : KOK K cX2_foretold 5 RX2 rm_foretold (some .int)) (hK : va_K Γ.1 tcl (ttys Γ) (kS K)) (v1 : Int32) (v2 : Int32)   : ∀ (n : Nat) (τ : TS) (v3 : Int32), GGo K (tQ K Γ (fun r : Int32 × TS => (some (Value.int r.1), r.2))) (T_foretold_l63 v1 v2 n τ v3) 5 (TI Γ (kS K) τ) 0 0 63 [(0, .ref Γ.2.1), (1, .int v1), (2, .int v2), (3, .int v3)] [] := by
  intro n
  induction n with
  | zero =>
    intro τ v3
    unfold T_foretold_l63
    exact g_none
  | succ n ih =>
    intro τ v3
    unfold T_foretold_l63
    refine g_iload_n (pc := 63) hk dX2_foretold_63 rfl ?_
    refine g_bipush (pc := 64) (v := 8) hk dX2_foretold_64 rfl ?_
    refine g_icmp_ge (pc := 66) (tgt := 89) hk dX2_foretold_66 rfl ?_ ?_
    · refine g_iload_n (pc := 89) hk dX2_foretold_89 rfl ?_
      refine g_if_ne (pc := 90) (tgt := 103) hk dX2_foretold_90 rfl ?_ ?_
      · refine g_aload_n (pc := 103) hk dX2_foretold_103 rfl ?_
        refine g_iload_n (pc := 104) hk dX2_foretold_104 rfl ?_
        refine g_iconst (pc := 105) (v := 1) hk dX2_foretold_105 rfl ?_
        refine g_icmp_ne (pc := 106) (tgt := 113) hk dX2_foretold_106 rfl ?_ ?_
        · refine g_iconst (pc := 113) (v := 0) hk dX2_foretold_113 rfl ?_
          refine g_sub (ls' := [(0, .ref Γ.2.1)]) [0] rfl ?_
          exact tm_foretold_j114 hk hK τ 0
        · refine g_iconst (pc := 109) (v := 2) hk dX2_foretold_109 rfl ?_
          refine g_goto (pc := 110) (tgt := 114) hk dX2_foretold_110 rfl ?_
          refine g_sub (ls' := [(0, .ref Γ.2.1)]) [0] rfl ?_
          exact tm_foretold_j114 hk hK τ 2
      · refine g_aload_n (pc := 93) hk dX2_foretold_93 rfl ?_
        refine t_getR (pc := 94) hk hK tr_0 tf_0 dX2_foretold_94 ?_
        refine g_bipush (pc := 97) (v := 7) hk dX2_foretold_97 rfl ?_
        refine t_ialdC (pc := 99) (j := 7) hk hK ta_0 rfl rfl dX2_foretold_99 ?_
        refine g_goto (pc := 100) (tgt := 117) hk dX2_foretold_100 rfl ?_
        refine g_sub (ls' := [(0, .ref Γ.2.1)]) [0] rfl ?_
        exact tm_foretold_j117 hk hK τ (tA τ 0 7)
    · refine g_iload_n (pc := 69) hk dX2_foretold_69 rfl ?_
      refine g_iload_n (pc := 70) hk dX2_foretold_70 rfl ?_
      refine g_ob1 (fun r11 h12 => ?_)
      refine t_callS (pc := 71) hk hK [.int v1, .int v3] [] (tm_has Γ τ v1 v3 r11 h12) (lw_S q1565 q1566 q128 q1567) hs_has rfl rfl rfl dX2_foretold_71 rfl rfl ?_
      refine g_if_eq (pc := 74) (tgt := 83) hk dX2_foretold_74 rfl ?_ ?_
      · exact tm_foretold_j83 hk hK τ v1 v2 v3 (T_foretold_l63 v1 v2 n) ih
      · refine g_aload_n (pc := 77) hk dX2_foretold_77 rfl ?_
        refine g_iload_n (pc := 78) hk dX2_foretold_78 rfl ?_
        refine g_ob2 (fun r14 τ16 h15 => ?_)
        refine t_callV (pc := 79) hk hK [.int v3] [] (tm_shaveNow Γ τ v3 (r14, τ16) h15) (lw_V q1679 q1681 qs88 q128 q1682) hv_shaveNow rfl rfl rfl dX2_foretold_79 rfl rfl ?_
        refine g_pop (pc := 82) hk dX2_foretold_82 rfl ?_
        exact tm_foretold_j83 hk hK τ16 v1 v2 v3 (T_foretold_l63 v1 v2 n) ih
theorem tm_foretold_l32 {K : KT} {Γ : TG} (hk : KOK K cX2_foretold 5 RX2 rm_foretold (some .int)) (hK : va_K Γ.1 tcl (ttys Γ) (kS K)) (v1 : Int32) (v2 : Int32)   : ∀ (n : Nat) (τ : TS) (v3 : Int32), GGo K (tQ K Γ (fun r : Int32 × TS => (some (Value.int r.1), r.2))) (T_foretold_l32 v1 v2 n τ v3) 5 (TI Γ (kS K) τ) 0 0 32 [(0, .ref Γ.2.1), (1, .int v1), (2, .int v2), (3, .int v3)] [] := by
  intro n
  induction n with
  | zero =>
    intro τ v3
    unfold T_foretold_l32
    exact g_none
  | succ n ih =>
    intro τ v3
    unfold T_foretold_l32
    refine g_iload_n (pc := 32) hk dX2_foretold_32 rfl ?_
    refine g_bipush (pc := 33) (v := 50) hk dX2_foretold_33 rfl ?_
    refine g_icmp_ge (pc := 35) (tgt := 56) hk dX2_foretold_35 rfl ?_ ?_
    · refine g_aload_n (pc := 56) hk dX2_foretold_56 rfl ?_
      refine g_iconst (pc := 57) (v := 0) hk dX2_foretold_57 rfl ?_
      refine t_putI (pc := 58) hk hK ti_23 tf_23 (Or.inr ⟨rfl, rfl⟩) rfl dX2_foretold_58 (fun τ5 => ?_)
      refine g_iconst (pc := 61) (v := 0) hk dX2_foretold_61 rfl ?_
      refine g_istore_n (pc := 62) (i := 3) (ls' := [(3, .int 0), (0, .ref Γ.2.1), (1, .int v1), (2, .int v2)]) hk dX2_foretold_62 rfl (by decide) rfl ?_
      refine g_sub (ls' := [(0, .ref Γ.2.1), (1, .int v1), (2, .int v2), (3, .int 0)]) [1, 2, 3, 0] rfl ?_
      exact tm_foretold_l63 hk hK v1 v2 FU τ5 0
    · refine g_aload_n (pc := 38) hk dX2_foretold_38 rfl ?_
      refine t_getR (pc := 39) hk hK tr_24 tf_24 dX2_foretold_39 ?_
      refine g_iload_n (pc := 42) hk dX2_foretold_42 rfl ?_
      refine g_aload_n (pc := 43) hk dX2_foretold_43 rfl ?_
      refine t_getR (pc := 44) hk hK tr_0 tf_0 dX2_foretold_44 ?_
      refine g_iload_n (pc := 47) hk dX2_foretold_47 rfl ?_
      refine t_iald (pc := 48) hk hK ta_0 dX2_foretold_48 ?_
      refine t_iast (pc := 49) hk hK ta_24 dX2_foretold_49 (fun τ17 => ?_)
      refine g_iincN (pc := 50) (v := 1) (ls' := fun x18 => [(3, .int x18), (0, .ref Γ.2.1), (1, .int v1), (2, .int v2)]) hk dX2_foretold_50 rfl rfl (by decide) (fun _ => rfl) (fun x18 => ?_)
      refine g_goto (pc := 53) (tgt := 32) hk dX2_foretold_53 rfl ?_
      refine g_sub (ls' := [(0, .ref Γ.2.1), (1, .int v1), (2, .int v2), (3, .int x18)]) [1, 2, 3, 0] rfl ?_
      exact ih τ17 x18
theorem tm_foretold (Γ : TG) (τ : TS) (v1 : Int32) (v2 : Int32)  (r : Int32 × TS) (h : T_foretold τ v1 v2 = some r) : TMet Γ yX2_foretold cX2_foretold 5 (some .int) rm_foretold [.ref Γ.2.1, .int v1, .int v2] τ (some (.int r.1)) r.2 := by
  refine t_met (view := (fun r : Int32 × TS => (some (Value.int r.1), r.2))) rfl rfl (ls0 := [(0, .ref Γ.2.1), (1, .int v1), (2, .int v2)]) rfl (fun K hk hK => ?_) r h
  unfold T_foretold
  refine g_iload_n (pc := 0) hk dX2_foretold_0 rfl ?_
  refine g_iconst (pc := 1) (v := 1) hk dX2_foretold_1 rfl ?_
  refine g_iconst (pc := 2) (v := 1) hk dX2_foretold_2 rfl ?_
  refine g_aload_n (pc := 3) hk dX2_foretold_3 rfl ?_
  refine t_getR (pc := 4) hk hK tr_0 tf_0 dX2_foretold_4 ?_
  refine g_iconst (pc := 7) (v := 0) hk dX2_foretold_7 rfl ?_
  refine t_ialdC (pc := 8) (j := 0) hk hK ta_0 rfl rfl dX2_foretold_8 ?_
  refine g_ishl (pc := 9) hk dX2_foretold_9 ?_
  refine g_iconst (pc := 10) (v := 1) hk dX2_foretold_10 rfl ?_
  refine g_isub (pc := 11) hk dX2_foretold_11 ?_
  refine g_ob1 (fun r1 h2 => ?_)
  refine t_callS (pc := 12) hk hK [.int v1, .int 1, .int ((i_shl 1 (tA τ 0 0)) - 1)] [] (tm_isIn Γ τ v1 1 ((i_shl 1 (tA τ 0 0)) - 1) r1 h2) (lw_S q1477 q1478 q128 q1479) hs_isIn rfl rfl rfl dX2_foretold_12 rfl rfl ?_
  refine g_if_eq (pc := 15) (tgt := 27) hk dX2_foretold_15 rfl ?_ ?_
  · refine g_iconst (pc := 27) (v := (-1)) hk dX2_foretold_27 rfl ?_
    exact t_iret (pc := 28) hk rfl dX2_foretold_28
  · refine g_iload_n (pc := 18) hk dX2_foretold_18 rfl ?_
    refine g_iconst (pc := 19) (v := 0) hk dX2_foretold_19 rfl ?_
    refine g_iconst (pc := 20) (v := 2) hk dX2_foretold_20 rfl ?_
    refine g_ob1 (fun r3 h4 => ?_)
    refine t_callS (pc := 21) hk hK [.int v2, .int 0, .int 2] [] (tm_isIn Γ τ v2 0 2 r3 h4) (lw_S q1477 q1478 q128 q1479) hs_isIn rfl rfl rfl dX2_foretold_21 rfl rfl ?_
    refine g_if_ne (pc := 24) (tgt := 29) hk dX2_foretold_24 rfl ?_ ?_
    · refine g_bipush (pc := 29) (v := 6) hk dX2_foretold_29 rfl ?_
      refine g_istore_n (pc := 31) (i := 3) (ls' := [(3, .int 6), (0, .ref Γ.2.1), (1, .int v1), (2, .int v2)]) hk dX2_foretold_31 rfl (by decide) rfl ?_
      refine g_sub (ls' := [(0, .ref Γ.2.1), (1, .int v1), (2, .int v2), (3, .int 6)]) [1, 2, 3, 0] rfl ?_
      exact tm_foretold_l32 hk hK v1 v2 FU τ 6
    · refine g_iconst (pc := 27) (v := (-1)) hk dX2_foretold_27 rfl ?_
      exact t_iret (pc := 28) hk rfl dX2_foretold_28
def rm_after : Room := { frames := 3, cells := 0, slots := 0, locals := 71 }
theorem hv_after : yX2_after.cls = RX2 ∧ yX2_after.cls ≠ "java/lang/invoke/MethodHandle" ∧ yX2_after.cls ≠ "java/lang/invoke/VarHandle" ∧ (parseMethodDescriptor yX2_after.desc).map (fun d => d.parameters.length) = some 2 := by decide +kernel
theorem tm_after (Γ : TG) (τ : TS) (v1 : Int32) (v2 : Int64)  (r : Int32) (h : T_after τ v1 v2 = some r) : TMet Γ yX2_after cX2_after 4 (some .int) rm_after [.ref Γ.2.1, .int v1, .long v2] τ (some (.int r)) τ := by
  refine t_met (view := (fun r : Int32 => (some (Value.int r), τ))) rfl rfl (ls0 := [(0, .ref Γ.2.1), (1, .int v1), (2, .long v2)]) rfl (fun K hk hK => ?_) r h
  unfold T_after
  refine g_iload_n (pc := 0) hk dX2_after_0 rfl ?_
  refine g_ob1 (fun r1 h2 => ?_)
  refine t_callS (pc := 1) hk hK [.int v1] [] (tm_isChair Γ τ v1 r1 h2) (lw_S q1496 q1497 q128 q1498) hs_isChair rfl rfl rfl dX2_after_1 rfl rfl ?_
  refine g_if_eq (pc := 4) (tgt := 22) hk dX2_after_4 rfl ?_ ?_
  · refine g_iconst (pc := 22) (v := (-1)) hk dX2_after_22 rfl ?_
    exact t_iret (pc := 23) hk rfl dX2_after_23
  · refine g_lload_n (pc := 7) hk dX2_after_7 rfl ?_
    refine g_lconst (pc := 8) (v := 0) hk dX2_after_8 rfl ?_
    refine g_lcmp_lt (pc := 9) (tgt := 22) hk dX2_after_9 dX2_after_10 rfl ?_ ?_
    · refine g_iconst (pc := 22) (v := (-1)) hk dX2_after_22 rfl ?_
      exact t_iret (pc := 23) hk rfl dX2_after_23
    · refine g_aload_n (pc := 13) hk dX2_after_13 rfl ?_
      refine g_iload_n (pc := 14) hk dX2_after_14 rfl ?_
      refine g_lload_n (pc := 15) hk dX2_after_15 rfl ?_
      refine g_ob1 (fun r3 h4 => ?_)
      refine t_callV (pc := 16) hk hK [.int v1, .long v2] [] (tm_goneFrom Γ τ v1 v2 r3 h4) (lw_V q1708 q1710 qs95 q128 q1711) hv_goneFrom rfl rfl rfl dX2_after_16 rfl rfl ?_
      refine g_goto (pc := 19) (tgt := 23) hk dX2_after_19 rfl ?_
      exact t_iret (pc := 23) hk rfl dX2_after_23
def rm_ringOf : Room := { frames := 3, cells := 0, slots := 0, locals := 71 }
theorem hv_ringOf : yX2_ringOf.cls = RX2 ∧ yX2_ringOf.cls ≠ "java/lang/invoke/MethodHandle" ∧ yX2_ringOf.cls ≠ "java/lang/invoke/VarHandle" ∧ (parseMethodDescriptor yX2_ringOf.desc).map (fun d => d.parameters.length) = some 1 := by decide +kernel
theorem tm_ringOf_l11 {K : KT} {Γ : TG} (hk : KOK K cX2_ringOf 4 RX2 rm_ringOf (some .int)) (hK : va_K Γ.1 tcl (ttys Γ) (kS K)) (τ : TS)   : ∀ (n : Nat) (v2 : Int32) (v3 : Int32), GGo K (tQ K Γ (fun r : Int32 => (some (Value.int r), τ))) (T_ringOf_l11 τ n v2 v3) 4 (TI Γ (kS K) τ) 0 0 11 [(0, .ref Γ.2.1), (2, .int v2), (3, .int v3)] [] := by
  intro n
  induction n with
  | zero =>
    intro v2 v3
    unfold T_ringOf_l11
    exact g_none
  | succ n ih =>
    intro v2 v3
    unfold T_ringOf_l11
    refine g_iload_n (pc := 11) hk dX2_ringOf_11 rfl ?_
    refine g_iload_n (pc := 12) hk dX2_ringOf_12 rfl ?_
    refine g_ob1 (fun r3 h4 => ?_)
    refine t_callS (pc := 13) hk hK [.int v3, .int v2] [] (tm_has Γ τ v3 v2 r3 h4) (lw_S q1565 q1566 q128 q1567) hs_has rfl rfl rfl dX2_ringOf_13 rfl rfl ?_
    refine g_if_ne (pc := 16) (tgt := 34) hk dX2_ringOf_16 rfl ?_ ?_
    · refine g_iload_n (pc := 34) hk dX2_ringOf_34 rfl ?_
      exact t_iret (pc := 35) hk rfl dX2_ringOf_35
    · refine g_iload_n (pc := 19) hk dX2_ringOf_19 rfl ?_
      refine g_iconst (pc := 20) (v := 1) hk dX2_ringOf_20 rfl ?_
      refine g_iload_n (pc := 21) hk dX2_ringOf_21 rfl ?_
      refine g_ishl (pc := 22) hk dX2_ringOf_22 ?_
      refine g_ior (pc := 23) hk dX2_ringOf_23 ?_
      refine g_istore_nN (pc := 24) (i := 3) (ls' := fun x5 => [(3, .int x5), (0, .ref Γ.2.1), (2, .int v2)]) hk dX2_ringOf_24 rfl (by decide) (fun _ => rfl) (fun x5 => ?_)
      refine g_aload_n (pc := 25) hk dX2_ringOf_25 rfl ?_
      refine g_iload_n (pc := 26) hk dX2_ringOf_26 rfl ?_
      refine g_ob1 (fun r6 h7 => ?_)
      refine t_callV (pc := 27) hk hK [.int v2] [] (tm_otherOf Γ τ v2 r6 h7) (lw_V q1691 q1693 qs91 q128 q1694) hv_otherOf rfl rfl rfl dX2_ringOf_27 rfl rfl ?_
      refine g_istore_n (pc := 30) (i := 2) (ls' := [(2, .int r6), (3, .int x5), (0, .ref Γ.2.1)]) hk dX2_ringOf_30 rfl (by decide) rfl ?_
      refine g_goto (pc := 31) (tgt := 11) hk dX2_ringOf_31 rfl ?_
      refine g_sub (ls' := [(0, .ref Γ.2.1), (2, .int r6), (3, .int x5)]) [2, 0, 1] rfl ?_
      exact ih r6 x5
theorem tm_ringOf (Γ : TG) (τ : TS) (v1 : Int32)  (r : Int32) (h : T_ringOf τ v1 = some r) : TMet Γ yX2_ringOf cX2_ringOf 4 (some .int) rm_ringOf [.ref Γ.2.1, .int v1] τ (some (.int r)) τ := by
  refine t_met (view := (fun r : Int32 => (some (Value.int r), τ))) rfl rfl (ls0 := [(0, .ref Γ.2.1), (1, .int v1)]) rfl (fun K hk hK => ?_) r h
  unfold T_ringOf
  refine g_aload_n (pc := 0) hk dX2_ringOf_0 rfl ?_
  refine g_iload_n (pc := 1) hk dX2_ringOf_1 rfl ?_
  refine g_ldc2 (pc := 2) (v := 8) hk q1707 dX2_ringOf_2 ?_
  refine g_ob1 (fun r1 h2 => ?_)
  refine t_callV (pc := 5) hk hK [.int v1, .long 8] [] (tm_goneFrom Γ τ v1 8 r1 h2) (lw_V q1708 q1710 qs95 q128 q1711) hv_goneFrom rfl rfl rfl dX2_ringOf_5 rfl rfl ?_
  refine g_istore_n (pc := 8) (i := 2) (ls' := [(2, .int r1), (0, .ref Γ.2.1), (1, .int v1)]) hk dX2_ringOf_8 rfl (by decide) rfl ?_
  refine g_iconst (pc := 9) (v := 0) hk dX2_ringOf_9 rfl ?_
  refine g_istore_n (pc := 10) (i := 3) (ls' := [(3, .int 0), (2, .int r1), (0, .ref Γ.2.1), (1, .int v1)]) hk dX2_ringOf_10 rfl (by decide) rfl ?_
  refine g_sub (ls' := [(0, .ref Γ.2.1), (2, .int r1), (3, .int 0)]) [2, 1, 0] rfl ?_
  exact tm_ringOf_l11 hk hK τ FU r1 0
def rm_bits : Room := { frames := 0, cells := 0, slots := 0, locals := 0 }
theorem hs_bits : yX2_bits.cls ≠ "java/lang/invoke/MethodHandle" ∧ yX2_bits.cls ≠ "java/lang/invoke/VarHandle" ∧ (parseMethodDescriptor yX2_bits.desc).map (fun d => d.parameters.length) = some 1 := by decide +kernel
theorem tm_bits_l4 {K : KT} {Γ : TG} (hk : KOK K cX2_bits 3 RX2 rm_bits (some .int)) (hK : va_K Γ.1 tcl (ttys Γ) (kS K))   (τ : TS) : ∀ (n : Nat) (v1 : Int32) (v2 : Int32), GGo K (tQ K Γ (fun r : Int32 => (some (Value.int r), τ))) (T_bits_l4 n v1 v2) 3 (TI Γ (kS K) τ) 0 0 4 [(1, .int v1), (2, .int v2)] [] := by
  intro n
  induction n with
  | zero =>
    intro v1 v2
    unfold T_bits_l4
    exact g_none
  | succ n ih =>
    intro v1 v2
    unfold T_bits_l4
    refine g_iload_n (pc := 4) hk dX2_bits_4 rfl ?_
    refine g_if_eq (pc := 5) (tgt := 20) hk dX2_bits_5 rfl ?_ ?_
    · refine g_iload_n (pc := 20) hk dX2_bits_20 rfl ?_
      exact t_iret (pc := 21) hk rfl dX2_bits_21
    · refine g_iincN (pc := 8) (v := 1) (ls' := fun x1 => [(1, .int x1), (2, .int v2)]) hk dX2_bits_8 rfl rfl (by decide) (fun _ => rfl) (fun x1 => ?_)
      refine g_iload_n (pc := 11) hk dX2_bits_11 rfl ?_
      refine g_iload_n (pc := 12) hk dX2_bits_12 rfl ?_
      refine g_iconst (pc := 13) (v := 1) hk dX2_bits_13 rfl ?_
      refine g_isub (pc := 14) hk dX2_bits_14 ?_
      refine g_iand (pc := 15) hk dX2_bits_15 ?_
      refine g_istore_nN (pc := 16) (i := 2) (ls' := fun x2 => [(2, .int x2), (1, .int x1)]) hk dX2_bits_16 rfl (by decide) (fun _ => rfl) (fun x2 => ?_)
      refine g_goto (pc := 17) (tgt := 4) hk dX2_bits_17 rfl ?_
      refine g_sub (ls' := [(1, .int x1), (2, .int x2)]) [1, 0] rfl ?_
      exact ih x1 x2
theorem tm_bits (Γ : TG) (τ : TS) (v0 : Int32)  (r : Int32) (h : T_bits v0 = some r) : TMet Γ yX2_bits cX2_bits 3 (some .int) rm_bits [.int v0] τ (some (.int r)) τ := by
  refine t_met (view := (fun r : Int32 => (some (Value.int r), τ))) rfl rfl (ls0 := [(0, .int v0)]) rfl (fun K hk hK => ?_) r h
  unfold T_bits
  refine g_iconst (pc := 0) (v := 0) hk dX2_bits_0 rfl ?_
  refine g_istore_n (pc := 1) (i := 1) (ls' := [(1, .int 0), (0, .int v0)]) hk dX2_bits_1 rfl (by decide) rfl ?_
  refine g_iload_n (pc := 2) hk dX2_bits_2 rfl ?_
  refine g_istore_n (pc := 3) (i := 2) (ls' := [(2, .int v0), (1, .int 0), (0, .int v0)]) hk dX2_bits_3 rfl (by decide) rfl ?_
  refine g_sub (ls' := [(1, .int 0), (2, .int v0)]) [1, 0] rfl ?_
  exact tm_bits_l4 hk hK τ FU 0 v0
def rm_tillRing : Room := { frames := 4, cells := 0, slots := 0, locals := 94 }
theorem hv_tillRing : yX2_tillRing.cls = RX2 ∧ yX2_tillRing.cls ≠ "java/lang/invoke/MethodHandle" ∧ yX2_tillRing.cls ≠ "java/lang/invoke/VarHandle" ∧ (parseMethodDescriptor yX2_tillRing.desc).map (fun d => d.parameters.length) = some 1 := by decide +kernel
theorem tm_tillRing_l4 {K : KT} {Γ : TG} (hk : KOK K cX2_tillRing 4 RX2 rm_tillRing (some .int)) (hK : va_K Γ.1 tcl (ttys Γ) (kS K)) (τ : TS) (v1 : Int32)   : ∀ (n : Nat) (v2 : Int32) (v3 : Int32), GGo K (tQ K Γ (fun r : Int32 => (some (Value.int r), τ))) (T_tillRing_l4 τ v1 n v2 v3) 4 (TI Γ (kS K) τ) 0 0 4 [(0, .ref Γ.2.1), (1, .int v1), (2, .int v2), (3, .int v3)] [] := by
  intro n
  induction n with
  | zero =>
    intro v2 v3
    unfold T_tillRing_l4
    exact g_none
  | succ n ih =>
    intro v2 v3
    unfold T_tillRing_l4
    refine g_aload_n (pc := 4) hk dX2_tillRing_4 rfl ?_
    refine g_iload_n (pc := 5) hk dX2_tillRing_5 rfl ?_
    refine g_ob1 (fun r1 h2 => ?_)
    refine t_callV (pc := 6) hk hK [.int v1] [] (tm_ringOf Γ τ v1 r1 h2) (lw_V q1861 q1863 qs109 q128 q1864) hv_ringOf rfl rfl rfl dX2_tillRing_6 rfl rfl ?_
    refine g_iload_n (pc := 9) hk dX2_tillRing_9 rfl ?_
    refine g_ob1 (fun r3 h4 => ?_)
    refine t_callS (pc := 10) hk hK [.int r1, .int v3] [] (tm_has Γ τ r1 v3 r3 h4) (lw_S q1565 q1566 q128 q1567) hs_has rfl rfl rfl dX2_tillRing_10 rfl rfl ?_
    refine g_if_ne (pc := 13) (tgt := 28) hk dX2_tillRing_13 rfl ?_ ?_
    · refine g_iload_n (pc := 28) hk dX2_tillRing_28 rfl ?_
      exact t_iret (pc := 29) hk rfl dX2_tillRing_29
    · refine g_iincN (pc := 16) (v := 1) (ls' := fun x5 => [(2, .int x5), (0, .ref Γ.2.1), (1, .int v1), (3, .int v3)]) hk dX2_tillRing_16 rfl rfl (by decide) (fun _ => rfl) (fun x5 => ?_)
      refine g_aload_n (pc := 19) hk dX2_tillRing_19 rfl ?_
      refine g_iload_n (pc := 20) hk dX2_tillRing_20 rfl ?_
      refine g_ob1 (fun r6 h7 => ?_)
      refine t_callV (pc := 21) hk hK [.int v3] [] (tm_otherOf Γ τ v3 r6 h7) (lw_V q1691 q1693 qs91 q128 q1694) hv_otherOf rfl rfl rfl dX2_tillRing_21 rfl rfl ?_
      refine g_istore_n (pc := 24) (i := 3) (ls' := [(3, .int r6), (2, .int x5), (0, .ref Γ.2.1), (1, .int v1)]) hk dX2_tillRing_24 rfl (by decide) rfl ?_
      refine g_goto (pc := 25) (tgt := 4) hk dX2_tillRing_25 rfl ?_
      refine g_sub (ls' := [(0, .ref Γ.2.1), (1, .int v1), (2, .int x5), (3, .int r6)]) [2, 3, 1, 0] rfl ?_
      exact ih x5 r6
theorem tm_tillRing (Γ : TG) (τ : TS) (v1 : Int32)  (r : Int32) (h : T_tillRing τ v1 = some r) : TMet Γ yX2_tillRing cX2_tillRing 4 (some .int) rm_tillRing [.ref Γ.2.1, .int v1] τ (some (.int r)) τ := by
  refine t_met (view := (fun r : Int32 => (some (Value.int r), τ))) rfl rfl (ls0 := [(0, .ref Γ.2.1), (1, .int v1)]) rfl (fun K hk hK => ?_) r h
  unfold T_tillRing
  refine g_iconst (pc := 0) (v := 0) hk dX2_tillRing_0 rfl ?_
  refine g_istore_n (pc := 1) (i := 2) (ls' := [(2, .int 0), (0, .ref Γ.2.1), (1, .int v1)]) hk dX2_tillRing_1 rfl (by decide) rfl ?_
  refine g_iload_n (pc := 2) hk dX2_tillRing_2 rfl ?_
  refine g_istore_n (pc := 3) (i := 3) (ls' := [(3, .int v1), (2, .int 0), (0, .ref Γ.2.1), (1, .int v1)]) hk dX2_tillRing_3 rfl (by decide) rfl ?_
  refine g_sub (ls' := [(0, .ref Γ.2.1), (1, .int v1), (2, .int 0), (3, .int v1)]) [2, 3, 1, 0] rfl ?_
  exact tm_tillRing_l4 hk hK τ v1 FU 0 v1
def rm_ring : Room := { frames := 5, cells := 0, slots := 0, locals := 117 }
theorem hv_ring : yX2_ring.cls = RX2 ∧ yX2_ring.cls ≠ "java/lang/invoke/MethodHandle" ∧ yX2_ring.cls ≠ "java/lang/invoke/VarHandle" ∧ (parseMethodDescriptor yX2_ring.desc).map (fun d => d.parameters.length) = some 2 := by decide +kernel
theorem tm_ring (Γ : TG) (τ : TS) (v1 : Int32) (v2 : Int32)  (r : Int32) (h : T_ring τ v1 v2 = some r) : TMet Γ yX2_ring cX2_ring 3 (some .int) rm_ring [.ref Γ.2.1, .int v1, .int v2] τ (some (.int r)) τ := by
  refine t_met (view := (fun r : Int32 => (some (Value.int r), τ))) rfl rfl (ls0 := [(0, .ref Γ.2.1), (1, .int v1), (2, .int v2)]) rfl (fun K hk hK => ?_) r h
  unfold T_ring
  refine g_iload_n (pc := 0) hk dX2_ring_0 rfl ?_
  refine g_ob1 (fun r1 h2 => ?_)
  refine t_callS (pc := 1) hk hK [.int v1] [] (tm_isChair Γ τ v1 r1 h2) (lw_S q1496 q1497 q128 q1498) hs_isChair rfl rfl rfl dX2_ring_1 rfl rfl ?_
  refine g_if_eq (pc := 4) (tgt := 16) hk dX2_ring_4 rfl ?_ ?_
  · refine g_iconst (pc := 16) (v := (-1)) hk dX2_ring_16 rfl ?_
    exact t_iret (pc := 17) hk rfl dX2_ring_17
  · refine g_iload_n (pc := 7) hk dX2_ring_7 rfl ?_
    refine g_iconst (pc := 8) (v := 0) hk dX2_ring_8 rfl ?_
    refine g_iconst (pc := 9) (v := 2) hk dX2_ring_9 rfl ?_
    refine g_ob1 (fun r3 h4 => ?_)
    refine t_callS (pc := 10) hk hK [.int v2, .int 0, .int 2] [] (tm_isIn Γ τ v2 0 2 r3 h4) (lw_S q1477 q1478 q128 q1479) hs_isIn rfl rfl rfl dX2_ring_10 rfl rfl ?_
    refine g_if_ne (pc := 13) (tgt := 18) hk dX2_ring_13 rfl ?_ ?_
    · refine g_iload_n (pc := 18) hk dX2_ring_18 rfl ?_
      refine g_if_ne (pc := 19) (tgt := 33) hk dX2_ring_19 rfl ?_ ?_
      · refine g_iload_n (pc := 33) hk dX2_ring_33 rfl ?_
        refine g_iconst (pc := 34) (v := 1) hk dX2_ring_34 rfl ?_
        refine g_icmp_ne (pc := 35) (tgt := 46) hk dX2_ring_35 rfl ?_ ?_
        · refine g_aload_n (pc := 46) hk dX2_ring_46 rfl ?_
          refine g_iload_n (pc := 47) hk dX2_ring_47 rfl ?_
          refine g_ob1 (fun r5 h6 => ?_)
          refine t_callV (pc := 48) hk hK [.int v1] [] (tm_ringOf Γ τ v1 r5 h6) (lw_V q1861 q1863 qs109 q128 q1864) hv_ringOf rfl rfl rfl dX2_ring_48 rfl rfl ?_
          exact t_iret (pc := 51) hk rfl dX2_ring_51
        · refine g_aload_n (pc := 38) hk dX2_ring_38 rfl ?_
          refine g_iload_n (pc := 39) hk dX2_ring_39 rfl ?_
          refine g_ob1 (fun r7 h8 => ?_)
          refine t_callV (pc := 40) hk hK [.int v1] [] (tm_tillRing Γ τ v1 r7 h8) (lw_V q1868 q1870 qs110 q128 q1871) hv_tillRing rfl rfl rfl dX2_ring_40 rfl rfl ?_
          refine g_goto (pc := 43) (tgt := 51) hk dX2_ring_43 rfl ?_
          exact t_iret (pc := 51) hk rfl dX2_ring_51
      · refine g_aload_n (pc := 22) hk dX2_ring_22 rfl ?_
        refine g_iload_n (pc := 23) hk dX2_ring_23 rfl ?_
        refine g_ob1 (fun r9 h10 => ?_)
        refine t_callV (pc := 24) hk hK [.int v1] [] (tm_ringOf Γ τ v1 r9 h10) (lw_V q1861 q1863 qs109 q128 q1864) hv_ringOf rfl rfl rfl dX2_ring_24 rfl rfl ?_
        refine g_ob1 (fun r11 h12 => ?_)
        refine t_callS (pc := 27) hk hK [.int r9] [] (tm_bits Γ τ r9 r11 h12) (lw_S q1865 q1866 q128 q1867) hs_bits rfl rfl rfl dX2_ring_27 rfl rfl ?_
        refine g_goto (pc := 30) (tgt := 51) hk dX2_ring_30 rfl ?_
        exact t_iret (pc := 51) hk rfl dX2_ring_51
    · refine g_iconst (pc := 16) (v := (-1)) hk dX2_ring_16 rfl ?_
      exact t_iret (pc := 17) hk rfl dX2_ring_17
def rm_divisor : Room := { frames := 0, cells := 0, slots := 0, locals := 0 }
theorem hs_divisor : yX2_divisor.cls ≠ "java/lang/invoke/MethodHandle" ∧ yX2_divisor.cls ≠ "java/lang/invoke/VarHandle" ∧ (parseMethodDescriptor yX2_divisor.desc).map (fun d => d.parameters.length) = some 2 := by decide +kernel
theorem tm_divisor_l6 {K : KT} {Γ : TG} (hk : KOK K cX2_divisor 10 RX2 rm_divisor (some .long)) (hK : va_K Γ.1 tcl (ttys Γ) (kS K))   (τ : TS) : ∀ (n : Nat) (v4 : Int64) (v6 : Int64), GGo K (tQ K Γ (fun r : Int64 => (some (Value.long r), τ))) (T_divisor_l6 n v4 v6) 10 (TI Γ (kS K) τ) 0 0 6 [(4, .long v4), (6, .long v6)] [] := by
  intro n
  induction n with
  | zero =>
    intro v4 v6
    unfold T_divisor_l6
    exact g_none
  | succ n ih =>
    intro v4 v6
    unfold T_divisor_l6
    refine g_lload (pc := 6) hk dX2_divisor_6 rfl ?_
    refine g_lconst (pc := 8) (v := 0) hk dX2_divisor_8 rfl ?_
    refine g_lcmp_eq (pc := 9) (tgt := 31) hk dX2_divisor_9 dX2_divisor_10 rfl ?_ ?_
    · refine g_lload (pc := 31) hk dX2_divisor_31 rfl ?_
      exact t_lret (pc := 33) hk rfl dX2_divisor_33
    · refine g_lload (pc := 13) hk dX2_divisor_13 rfl ?_
      refine g_lload (pc := 15) hk dX2_divisor_15 rfl ?_
      refine g_lremG (pc := 17) hk dX2_divisor_17 (fun _ => ?_)
      refine g_lstoreN (pc := 18) (i := 8) (ls' := fun x1 => [(8, .long x1), (4, .long v4), (6, .long v6)]) hk dX2_divisor_18 (by decide) (fun _ => rfl) (fun x1 => ?_)
      refine g_lload (pc := 20) hk dX2_divisor_20 rfl ?_
      refine g_lstore (pc := 22) (i := 4) (ls' := [(4, .long v6), (8, .long x1), (6, .long v6)]) hk dX2_divisor_22 (by decide) rfl ?_
      refine g_lload (pc := 24) hk dX2_divisor_24 rfl ?_
      refine g_lstore (pc := 26) (i := 6) (ls' := [(6, .long x1), (4, .long v6), (8, .long x1)]) hk dX2_divisor_26 (by decide) rfl ?_
      refine g_goto (pc := 28) (tgt := 6) hk dX2_divisor_28 rfl ?_
      refine g_sub (ls' := [(4, .long v6), (6, .long x1)]) [1, 0] rfl ?_
      exact ih v6 x1
theorem tm_divisor (Γ : TG) (τ : TS) (v0 : Int64) (v2 : Int64)  (r : Int64) (h : T_divisor v0 v2 = some r) : TMet Γ yX2_divisor cX2_divisor 10 (some .long) rm_divisor [.long v0, .long v2] τ (some (.long r)) τ := by
  refine t_met (view := (fun r : Int64 => (some (Value.long r), τ))) rfl rfl (ls0 := [(0, .long v0), (2, .long v2)]) rfl (fun K hk hK => ?_) r h
  unfold T_divisor
  refine g_lload_n (pc := 0) hk dX2_divisor_0 rfl ?_
  refine g_lstore (pc := 1) (i := 4) (ls' := [(4, .long v0), (0, .long v0), (2, .long v2)]) hk dX2_divisor_1 (by decide) rfl ?_
  refine g_lload_n (pc := 3) hk dX2_divisor_3 rfl ?_
  refine g_lstore (pc := 4) (i := 6) (ls' := [(6, .long v2), (4, .long v0), (0, .long v0), (2, .long v2)]) hk dX2_divisor_4 (by decide) rfl ?_
  refine g_sub (ls' := [(4, .long v0), (6, .long v2)]) [1, 0] rfl ?_
  exact tm_divisor_l6 hk hK τ FU v0 v2
def rm_rounds : Room := { frames := 4, cells := 0, slots := 0, locals := 94 }
theorem hv_rounds : yX2_rounds.cls = RX2 ∧ yX2_rounds.cls ≠ "java/lang/invoke/MethodHandle" ∧ yX2_rounds.cls ≠ "java/lang/invoke/VarHandle" ∧ (parseMethodDescriptor yX2_rounds.desc).map (fun d => d.parameters.length) = some 0 := by decide +kernel
theorem tm_rounds_l4 {K : KT} {Γ : TG} (hk : KOK K cX2_rounds 4 RX2 rm_rounds (some .long)) (hK : va_K Γ.1 tcl (ttys Γ) (kS K)) (τ : TS)   : ∀ (n : Nat) (v1 : Int64) (v3 : Int32), GGo K (tQ K Γ (fun r : Int64 => (some (Value.long r), τ))) (T_rounds_l4 τ n v1 v3) 4 (TI Γ (kS K) τ) 0 0 4 [(0, .ref Γ.2.1), (1, .long v1), (3, .int v3)] [] := by
  intro n
  induction n with
  | zero =>
    intro v1 v3
    unfold T_rounds_l4
    exact g_none
  | succ n ih =>
    intro v1 v3
    unfold T_rounds_l4
    refine g_iload_n (pc := 4) hk dX2_rounds_4 rfl ?_
    refine g_bipush (pc := 5) (v := 8) hk dX2_rounds_5 rfl ?_
    refine g_icmp_ge (pc := 7) (tgt := 42) hk dX2_rounds_7 rfl ?_ ?_
    · refine g_lload_n (pc := 42) hk dX2_rounds_42 rfl ?_
      exact t_lret (pc := 43) hk rfl dX2_rounds_43
    · refine g_lload_n (pc := 10) hk dX2_rounds_10 rfl ?_
      refine g_lload_n (pc := 11) hk dX2_rounds_11 rfl ?_
      refine g_aload_n (pc := 12) hk dX2_rounds_12 rfl ?_
      refine g_iload_n (pc := 13) hk dX2_rounds_13 rfl ?_
      refine g_ob1 (fun r1 h2 => ?_)
      refine t_callV (pc := 14) hk hK [.int v3] [.long v1, .long v1] (tm_ringOf Γ τ v3 r1 h2) (lw_V q1861 q1863 qs109 q128 q1864) hv_ringOf rfl rfl rfl dX2_rounds_14 rfl rfl ?_
      refine g_ob1 (fun r3 h4 => ?_)
      refine t_callS (pc := 17) hk hK [.int r1] [.long v1, .long v1] (tm_bits Γ τ r1 r3 h4) (lw_S q1865 q1866 q128 q1867) hs_bits rfl rfl rfl dX2_rounds_17 rfl rfl ?_
      refine g_i2l (pc := 20) hk dX2_rounds_20 ?_
      refine g_ob1 (fun r5 h6 => ?_)
      refine t_callS (pc := 21) hk hK [.long v1, .long (Int32.toInt64 r3)] [.long v1] (tm_divisor Γ τ v1 (Int32.toInt64 r3) r5 h6) (lw_S q1876 q1877 q128 q1878) hs_divisor rfl rfl rfl dX2_rounds_21 rfl rfl ?_
      refine g_ldivG (pc := 24) hk dX2_rounds_24 (fun _ => ?_)
      refine g_aload_n (pc := 25) hk dX2_rounds_25 rfl ?_
      refine g_iload_n (pc := 26) hk dX2_rounds_26 rfl ?_
      refine g_ob1 (fun r7 h8 => ?_)
      refine t_callV (pc := 27) hk hK [.int v3] [.long (v1 / r5)] (tm_ringOf Γ τ v3 r7 h8) (lw_V q1861 q1863 qs109 q128 q1864) hv_ringOf rfl rfl rfl dX2_rounds_27 rfl rfl ?_
      refine g_ob1 (fun r9 h10 => ?_)
      refine t_callS (pc := 30) hk hK [.int r7] [.long (v1 / r5)] (tm_bits Γ τ r7 r9 h10) (lw_S q1865 q1866 q128 q1867) hs_bits rfl rfl rfl dX2_rounds_30 rfl rfl ?_
      refine g_i2l (pc := 33) hk dX2_rounds_33 ?_
      refine g_lmul (pc := 34) hk dX2_rounds_34 ?_
      refine g_lstore_nN (pc := 35) (i := 1) (ls' := fun x11 => [(1, .long x11), (0, .ref Γ.2.1), (3, .int v3)]) hk dX2_rounds_35 rfl (by decide) (fun _ => rfl) (fun x11 => ?_)
      refine g_iincN (pc := 36) (v := 1) (ls' := fun x12 => [(3, .int x12), (1, .long x11), (0, .ref Γ.2.1)]) hk dX2_rounds_36 rfl rfl (by decide) (fun _ => rfl) (fun x12 => ?_)
      refine g_goto (pc := 39) (tgt := 4) hk dX2_rounds_39 rfl ?_
      refine g_sub (ls' := [(0, .ref Γ.2.1), (1, .long x11), (3, .int x12)]) [2, 1, 0] rfl ?_
      exact ih x11 x12
theorem tm_rounds (Γ : TG) (τ : TS)   (r : Int64) (h : T_rounds τ = some r) : TMet Γ yX2_rounds cX2_rounds 4 (some .long) rm_rounds [.ref Γ.2.1] τ (some (.long r)) τ := by
  refine t_met (view := (fun r : Int64 => (some (Value.long r), τ))) rfl rfl (ls0 := [(0, .ref Γ.2.1)]) rfl (fun K hk hK => ?_) r h
  unfold T_rounds
  refine g_lconst (pc := 0) (v := 1) hk dX2_rounds_0 rfl ?_
  refine g_lstore_n (pc := 1) (i := 1) (ls' := [(1, .long 1), (0, .ref Γ.2.1)]) hk dX2_rounds_1 rfl (by decide) rfl ?_
  refine g_iconst (pc := 2) (v := 0) hk dX2_rounds_2 rfl ?_
  refine g_istore_n (pc := 3) (i := 3) (ls' := [(3, .int 0), (1, .long 1), (0, .ref Γ.2.1)]) hk dX2_rounds_3 rfl (by decide) rfl ?_
  refine g_sub (ls' := [(0, .ref Γ.2.1), (1, .long 1), (3, .int 0)]) [2, 1, 0] rfl ?_
  exact tm_rounds_l4 hk hK τ FU 1 0
def rm_done : Room := { frames := 2, cells := 0, slots := 0, locals := 42 }
theorem hv_done : yX2_done.cls = RX2 ∧ yX2_done.cls ≠ "java/lang/invoke/MethodHandle" ∧ yX2_done.cls ≠ "java/lang/invoke/VarHandle" ∧ (parseMethodDescriptor yX2_done.desc).map (fun d => d.parameters.length) = some 1 := by decide +kernel
theorem tm_done_j36 {K : KT} {Γ : TG} (hk : KOK K cX2_done 4 RX2 rm_done (some .int)) (hK : va_K Γ.1 tcl (ttys Γ) (kS K)) (τ : TS) (v1 : Int32) (v3 : Int32) (s0 : Int32) (s1 : Int32)  (k13 : Int32 → Int32 → Option (Int32)) (hk13 : ∀ (v2 : Int32) (v3 : Int32), GGo K (tQ K Γ (fun r : Int32 => (some (Value.int r), τ))) (k13 v2 v3) 4 (TI Γ (kS K) τ) 0 0 13 [(0, .ref Γ.2.1), (1, .int v1), (2, .int v2), (3, .int v3)] []) : GGo K (tQ K Γ (fun r : Int32 => (some (Value.int r), τ))) (T_done_j36 k13 τ v1 v3 s0 s1) 4 (TI Γ (kS K) τ) 0 0 36 [(0, .ref Γ.2.1), (1, .int v1), (3, .int v3)] [.int s1, .int s0] := by
  unfold T_done_j36
  refine g_ior (pc := 36) hk dX2_done_36 ?_
  refine g_istore_nN (pc := 37) (i := 2) (ls' := fun x5 => [(2, .int x5), (0, .ref Γ.2.1), (1, .int v1), (3, .int v3)]) hk dX2_done_37 rfl (by decide) (fun _ => rfl) (fun x5 => ?_)
  refine g_iincN (pc := 38) (v := 1) (ls' := fun x6 => [(3, .int x6), (2, .int x5), (0, .ref Γ.2.1), (1, .int v1)]) hk dX2_done_38 rfl rfl (by decide) (fun _ => rfl) (fun x6 => ?_)
  refine g_goto (pc := 41) (tgt := 13) hk dX2_done_41 rfl ?_
  refine g_sub (ls' := [(0, .ref Γ.2.1), (1, .int v1), (2, .int x5), (3, .int x6)]) [2, 3, 1, 0] rfl ?_
  exact hk13 x5 x6
theorem tm_done_l13 {K : KT} {Γ : TG} (hk : KOK K cX2_done 4 RX2 rm_done (some .int)) (hK : va_K Γ.1 tcl (ttys Γ) (kS K)) (τ : TS) (v1 : Int32)   : ∀ (n : Nat) (v2 : Int32) (v3 : Int32), GGo K (tQ K Γ (fun r : Int32 => (some (Value.int r), τ))) (T_done_l13 τ v1 n v2 v3) 4 (TI Γ (kS K) τ) 0 0 13 [(0, .ref Γ.2.1), (1, .int v1), (2, .int v2), (3, .int v3)] [] := by
  intro n
  induction n with
  | zero =>
    intro v2 v3
    unfold T_done_l13
    exact g_none
  | succ n ih =>
    intro v2 v3
    unfold T_done_l13
    refine g_iload_n (pc := 13) hk dX2_done_13 rfl ?_
    refine g_bipush (pc := 14) (v := 8) hk dX2_done_14 rfl ?_
    refine g_icmp_ge (pc := 16) (tgt := 44) hk dX2_done_16 rfl ?_ ?_
    · refine g_iload_n (pc := 44) hk dX2_done_44 rfl ?_
      exact t_iret (pc := 45) hk rfl dX2_done_45
    · refine g_iload_n (pc := 19) hk dX2_done_19 rfl ?_
      refine g_aload_n (pc := 20) hk dX2_done_20 rfl ?_
      refine g_iload_n (pc := 21) hk dX2_done_21 rfl ?_
      refine g_ob1 (fun r3 h4 => ?_)
      refine t_callV (pc := 22) hk hK [.int v3] [.int v2] (tm_otherOf Γ τ v3 r3 h4) (lw_V q1691 q1693 qs91 q128 q1694) hv_otherOf rfl rfl rfl dX2_done_22 rfl rfl ?_
      refine g_iload_n (pc := 25) hk dX2_done_25 rfl ?_
      refine g_icmp_ne (pc := 26) (tgt := 35) hk dX2_done_26 rfl ?_ ?_
      · refine g_iconst (pc := 35) (v := 0) hk dX2_done_35 rfl ?_
        refine g_sub (ls' := [(0, .ref Γ.2.1), (1, .int v1), (3, .int v3)]) [0, 1, 3] rfl ?_
        exact tm_done_j36 hk hK τ v1 v3 v2 0 (T_done_l13 τ v1 n) ih
      · refine g_iconst (pc := 29) (v := 1) hk dX2_done_29 rfl ?_
        refine g_iload_n (pc := 30) hk dX2_done_30 rfl ?_
        refine g_ishl (pc := 31) hk dX2_done_31 ?_
        refine g_goto (pc := 32) (tgt := 36) hk dX2_done_32 rfl ?_
        refine g_sub (ls' := [(0, .ref Γ.2.1), (1, .int v1), (3, .int v3)]) [0, 1, 3] rfl ?_
        exact tm_done_j36 hk hK τ v1 v3 v2 (i_shl 1 v3) (T_done_l13 τ v1 n) ih
theorem tm_done (Γ : TG) (τ : TS) (v1 : Int32)  (r : Int32) (h : T_done τ v1 = some r) : TMet Γ yX2_done cX2_done 4 (some .int) rm_done [.ref Γ.2.1, .int v1] τ (some (.int r)) τ := by
  refine t_met (view := (fun r : Int32 => (some (Value.int r), τ))) rfl rfl (ls0 := [(0, .ref Γ.2.1), (1, .int v1)]) rfl (fun K hk hK => ?_) r h
  unfold T_done
  refine g_iload_n (pc := 0) hk dX2_done_0 rfl ?_
  refine g_ob1 (fun r1 h2 => ?_)
  refine t_callS (pc := 1) hk hK [.int v1] [] (tm_isChair Γ τ v1 r1 h2) (lw_S q1496 q1497 q128 q1498) hs_isChair rfl rfl rfl dX2_done_1 rfl rfl ?_
  refine g_if_ne (pc := 4) (tgt := 9) hk dX2_done_4 rfl ?_ ?_
  · refine g_iconst (pc := 9) (v := 0) hk dX2_done_9 rfl ?_
    refine g_istore_n (pc := 10) (i := 2) (ls' := [(2, .int 0), (0, .ref Γ.2.1), (1, .int v1)]) hk dX2_done_10 rfl (by decide) rfl ?_
    refine g_iconst (pc := 11) (v := 0) hk dX2_done_11 rfl ?_
    refine g_istore_n (pc := 12) (i := 3) (ls' := [(3, .int 0), (2, .int 0), (0, .ref Γ.2.1), (1, .int v1)]) hk dX2_done_12 rfl (by decide) rfl ?_
    refine g_sub (ls' := [(0, .ref Γ.2.1), (1, .int v1), (2, .int 0), (3, .int 0)]) [2, 3, 1, 0] rfl ?_
    exact tm_done_l13 hk hK τ v1 FU 0 0
  · refine g_iconst (pc := 7) (v := (-1)) hk dX2_done_7 rfl ?_
    exact t_iret (pc := 8) hk rfl dX2_done_8
def rm_meet : Room := { frames := 2, cells := 0, slots := 0, locals := 42 }
theorem hv_meet : yX2_meet.cls = RX2 ∧ yX2_meet.cls ≠ "java/lang/invoke/MethodHandle" ∧ yX2_meet.cls ≠ "java/lang/invoke/VarHandle" ∧ (parseMethodDescriptor yX2_meet.desc).map (fun d => d.parameters.length) = some 2 := by decide +kernel
theorem tm_meet_l24 {K : KT} {Γ : TG} (hk : KOK K cX2_meet 6 RX2 rm_meet (some .int)) (hK : va_K Γ.1 tcl (ttys Γ) (kS K)) (τ : TS)   : ∀ (n : Nat) (v3 : Int32) (v4 : Int32) (v5 : Int32), GGo K (tQ K Γ (fun r : Int32 => (some (Value.int r), τ))) (T_meet_l24 τ n v3 v4 v5) 6 (TI Γ (kS K) τ) 0 0 24 [(0, .ref Γ.2.1), (3, .int v3), (4, .int v4), (5, .int v5)] [] := by
  intro n
  induction n with
  | zero =>
    intro v3 v4 v5
    unfold T_meet_l24
    exact g_none
  | succ n ih =>
    intro v3 v4 v5
    unfold T_meet_l24
    refine g_iload (pc := 24) hk dX2_meet_24 rfl ?_
    refine g_bipush (pc := 26) (v := 8) hk dX2_meet_26 rfl ?_
    refine g_icmp_gt (pc := 28) (tgt := 60) hk dX2_meet_28 rfl ?_ ?_
    · refine g_iconst (pc := 60) (v := (-1)) hk dX2_meet_60 rfl ?_
      exact t_iret (pc := 61) hk rfl dX2_meet_61
    · refine g_iload_n (pc := 31) hk dX2_meet_31 rfl ?_
      refine g_iload (pc := 32) hk dX2_meet_32 rfl ?_
      refine g_icmp_ne (pc := 34) (tgt := 40) hk dX2_meet_34 rfl ?_ ?_
      · refine g_aload_n (pc := 40) hk dX2_meet_40 rfl ?_
        refine g_iload_n (pc := 41) hk dX2_meet_41 rfl ?_
        refine g_ob1 (fun r5 h6 => ?_)
        refine t_callV (pc := 42) hk hK [.int v3] [] (tm_otherOf Γ τ v3 r5 h6) (lw_V q1691 q1693 qs91 q128 q1694) hv_otherOf rfl rfl rfl dX2_meet_42 rfl rfl ?_
        refine g_istore_n (pc := 45) (i := 3) (ls' := [(3, .int r5), (0, .ref Γ.2.1), (4, .int v4), (5, .int v5)]) hk dX2_meet_45 rfl (by decide) rfl ?_
        refine g_aload_n (pc := 46) hk dX2_meet_46 rfl ?_
        refine g_iload (pc := 47) hk dX2_meet_47 rfl ?_
        refine g_ob1 (fun r7 h8 => ?_)
        refine t_callV (pc := 49) hk hK [.int v4] [] (tm_otherOf Γ τ v4 r7 h8) (lw_V q1691 q1693 qs91 q128 q1694) hv_otherOf rfl rfl rfl dX2_meet_49 rfl rfl ?_
        refine g_istore (pc := 52) (i := 4) (ls' := [(4, .int r7), (3, .int r5), (0, .ref Γ.2.1), (5, .int v5)]) hk dX2_meet_52 (by decide) rfl ?_
        refine g_iincN (pc := 54) (v := 1) (ls' := fun x9 => [(5, .int x9), (4, .int r7), (3, .int r5), (0, .ref Γ.2.1)]) hk dX2_meet_54 rfl rfl (by decide) (fun _ => rfl) (fun x9 => ?_)
        refine g_goto (pc := 57) (tgt := 24) hk dX2_meet_57 rfl ?_
        refine g_sub (ls' := [(0, .ref Γ.2.1), (3, .int r5), (4, .int r7), (5, .int x9)]) [3, 2, 1, 0] rfl ?_
        exact ih r5 r7 x9
      · refine g_iload (pc := 37) hk dX2_meet_37 rfl ?_
        exact t_iret (pc := 39) hk rfl dX2_meet_39
theorem tm_meet (Γ : TG) (τ : TS) (v1 : Int32) (v2 : Int32)  (r : Int32) (h : T_meet τ v1 v2 = some r) : TMet Γ yX2_meet cX2_meet 6 (some .int) rm_meet [.ref Γ.2.1, .int v1, .int v2] τ (some (.int r)) τ := by
  refine t_met (view := (fun r : Int32 => (some (Value.int r), τ))) rfl rfl (ls0 := [(0, .ref Γ.2.1), (1, .int v1), (2, .int v2)]) rfl (fun K hk hK => ?_) r h
  unfold T_meet
  refine g_iload_n (pc := 0) hk dX2_meet_0 rfl ?_
  refine g_ob1 (fun r1 h2 => ?_)
  refine t_callS (pc := 1) hk hK [.int v1] [] (tm_isChair Γ τ v1 r1 h2) (lw_S q1496 q1497 q128 q1498) hs_isChair rfl rfl rfl dX2_meet_1 rfl rfl ?_
  refine g_if_eq (pc := 4) (tgt := 14) hk dX2_meet_4 rfl ?_ ?_
  · refine g_iconst (pc := 14) (v := (-1)) hk dX2_meet_14 rfl ?_
    exact t_iret (pc := 15) hk rfl dX2_meet_15
  · refine g_iload_n (pc := 7) hk dX2_meet_7 rfl ?_
    refine g_ob1 (fun r3 h4 => ?_)
    refine t_callS (pc := 8) hk hK [.int v2] [] (tm_isChair Γ τ v2 r3 h4) (lw_S q1496 q1497 q128 q1498) hs_isChair rfl rfl rfl dX2_meet_8 rfl rfl ?_
    refine g_if_ne (pc := 11) (tgt := 16) hk dX2_meet_11 rfl ?_ ?_
    · refine g_iload_n (pc := 16) hk dX2_meet_16 rfl ?_
      refine g_istore_n (pc := 17) (i := 3) (ls' := [(3, .int v1), (0, .ref Γ.2.1), (1, .int v1), (2, .int v2)]) hk dX2_meet_17 rfl (by decide) rfl ?_
      refine g_iload_n (pc := 18) hk dX2_meet_18 rfl ?_
      refine g_istore (pc := 19) (i := 4) (ls' := [(4, .int v2), (3, .int v1), (0, .ref Γ.2.1), (1, .int v1), (2, .int v2)]) hk dX2_meet_19 (by decide) rfl ?_
      refine g_iconst (pc := 21) (v := 0) hk dX2_meet_21 rfl ?_
      refine g_istore (pc := 22) (i := 5) (ls' := [(5, .int 0), (4, .int v2), (3, .int v1), (0, .ref Γ.2.1), (1, .int v1), (2, .int v2)]) hk dX2_meet_22 (by decide) rfl ?_
      refine g_sub (ls' := [(0, .ref Γ.2.1), (3, .int v1), (4, .int v2), (5, .int 0)]) [3, 2, 1, 0] rfl ?_
      exact tm_meet_l24 hk hK τ FU v1 v2 0
    · refine g_iconst (pc := 14) (v := (-1)) hk dX2_meet_14 rfl ?_
      exact t_iret (pc := 15) hk rfl dX2_meet_15
def rm_outermost : Room := { frames := 5, cells := 0, slots := 0, locals := 117 }
theorem hv_outermost : yX2_outermost.cls = RX2 ∧ yX2_outermost.cls ≠ "java/lang/invoke/MethodHandle" ∧ yX2_outermost.cls ≠ "java/lang/invoke/VarHandle" ∧ (parseMethodDescriptor yX2_outermost.desc).map (fun d => d.parameters.length) = some 0 := by decide +kernel
theorem tm_outermost_j25 {K : KT} {Γ : TG} (hk : KOK K cX2_outermost 3 RX2 rm_outermost (some .int)) (hK : va_K Γ.1 tcl (ttys Γ) (kS K)) (τ : TS) (v1 : Int32) (v2 : Int32)  (k4 : Int32 → Int32 → Option (Int32)) (hk4 : ∀ (v1 : Int32) (v2 : Int32), GGo K (tQ K Γ (fun r : Int32 => (some (Value.int r), τ))) (k4 v1 v2) 3 (TI Γ (kS K) τ) 0 0 4 [(0, .ref Γ.2.1), (1, .int v1), (2, .int v2)] []) : GGo K (tQ K Γ (fun r : Int32 => (some (Value.int r), τ))) (T_outermost_j25 k4 τ v1 v2) 3 (TI Γ (kS K) τ) 0 0 25 [(0, .ref Γ.2.1), (1, .int v1), (2, .int v2)] [] := by
  unfold T_outermost_j25
  refine g_iincN (pc := 25) (v := 1) (ls' := fun x5 => [(2, .int x5), (0, .ref Γ.2.1), (1, .int v1)]) hk dX2_outermost_25 rfl rfl (by decide) (fun _ => rfl) (fun x5 => ?_)
  refine g_goto (pc := 28) (tgt := 4) hk dX2_outermost_28 rfl ?_
  refine g_sub (ls' := [(0, .ref Γ.2.1), (1, .int v1), (2, .int x5)]) [1, 2, 0] rfl ?_
  exact hk4 v1 x5
theorem tm_outermost_l4 {K : KT} {Γ : TG} (hk : KOK K cX2_outermost 3 RX2 rm_outermost (some .int)) (hK : va_K Γ.1 tcl (ttys Γ) (kS K)) (τ : TS)   : ∀ (n : Nat) (v1 : Int32) (v2 : Int32), GGo K (tQ K Γ (fun r : Int32 => (some (Value.int r), τ))) (T_outermost_l4 τ n v1 v2) 3 (TI Γ (kS K) τ) 0 0 4 [(0, .ref Γ.2.1), (1, .int v1), (2, .int v2)] [] := by
  intro n
  induction n with
  | zero =>
    intro v1 v2
    unfold T_outermost_l4
    exact g_none
  | succ n ih =>
    intro v1 v2
    unfold T_outermost_l4
    refine g_iload_n (pc := 4) hk dX2_outermost_4 rfl ?_
    refine g_bipush (pc := 5) (v := 8) hk dX2_outermost_5 rfl ?_
    refine g_icmp_ge (pc := 7) (tgt := 31) hk dX2_outermost_7 rfl ?_ ?_
    · refine g_iload_n (pc := 31) hk dX2_outermost_31 rfl ?_
      exact t_iret (pc := 32) hk rfl dX2_outermost_32
    · refine g_aload_n (pc := 10) hk dX2_outermost_10 rfl ?_
      refine g_iload_n (pc := 11) hk dX2_outermost_11 rfl ?_
      refine g_ob1 (fun r1 h2 => ?_)
      refine t_callV (pc := 12) hk hK [.int v2] [] (tm_tillRing Γ τ v2 r1 h2) (lw_V q1868 q1870 qs110 q128 q1871) hv_tillRing rfl rfl rfl dX2_outermost_12 rfl rfl ?_
      refine g_aload_n (pc := 15) hk dX2_outermost_15 rfl ?_
      refine g_iload_n (pc := 16) hk dX2_outermost_16 rfl ?_
      refine g_ob1 (fun r3 h4 => ?_)
      refine t_callV (pc := 17) hk hK [.int v1] [.int r1] (tm_tillRing Γ τ v1 r3 h4) (lw_V q1868 q1870 qs110 q128 q1871) hv_tillRing rfl rfl rfl dX2_outermost_17 rfl rfl ?_
      refine g_icmp_le (pc := 20) (tgt := 25) hk dX2_outermost_20 rfl ?_ ?_
      · exact tm_outermost_j25 hk hK τ v1 v2 (T_outermost_l4 τ n) ih
      · refine g_iload_n (pc := 23) hk dX2_outermost_23 rfl ?_
        refine g_istore_n (pc := 24) (i := 1) (ls' := [(1, .int v2), (0, .ref Γ.2.1), (2, .int v2)]) hk dX2_outermost_24 rfl (by decide) rfl ?_
        refine g_sub (ls' := [(0, .ref Γ.2.1), (1, .int v2), (2, .int v2)]) [1, 0, 2] rfl ?_
        exact tm_outermost_j25 hk hK τ v2 v2 (T_outermost_l4 τ n) ih
theorem tm_outermost (Γ : TG) (τ : TS)   (r : Int32) (h : T_outermost τ = some r) : TMet Γ yX2_outermost cX2_outermost 3 (some .int) rm_outermost [.ref Γ.2.1] τ (some (.int r)) τ := by
  refine t_met (view := (fun r : Int32 => (some (Value.int r), τ))) rfl rfl (ls0 := [(0, .ref Γ.2.1)]) rfl (fun K hk hK => ?_) r h
  unfold T_outermost
  refine g_iconst (pc := 0) (v := 0) hk dX2_outermost_0 rfl ?_
  refine g_istore_n (pc := 1) (i := 1) (ls' := [(1, .int 0), (0, .ref Γ.2.1)]) hk dX2_outermost_1 rfl (by decide) rfl ?_
  refine g_iconst (pc := 2) (v := 1) hk dX2_outermost_2 rfl ?_
  refine g_istore_n (pc := 3) (i := 2) (ls' := [(2, .int 1), (1, .int 0), (0, .ref Γ.2.1)]) hk dX2_outermost_3 rfl (by decide) rfl ?_
  refine g_sub (ls' := [(0, .ref Γ.2.1), (1, .int 0), (2, .int 1)]) [2, 1, 0] rfl ?_
  exact tm_outermost_l4 hk hK τ FU 0 1
def rm_swap : Room := { frames := 0, cells := 0, slots := 0, locals := 0 }
theorem hv_swap : yX2_swap.cls = RX2 ∧ yX2_swap.cls ≠ "java/lang/invoke/MethodHandle" ∧ yX2_swap.cls ≠ "java/lang/invoke/VarHandle" ∧ (parseMethodDescriptor yX2_swap.desc).map (fun d => d.parameters.length) = some 2 := by decide +kernel
theorem tm_swap (Γ : TG) (τ : TS) (v1 : Int32) (v2 : Int32)  (r : TS) (h : T_swap τ v1 v2 = some r) : TMet Γ yX2_swap cX2_swap 4 none rm_swap [.ref Γ.2.1, .int v1, .int v2] τ none r := by
  refine t_met (view := (fun r : TS => ((none : Option Value), r))) rfl rfl (ls0 := [(0, .ref Γ.2.1), (1, .int v1), (2, .int v2)]) rfl (fun K hk hK => ?_) r h
  unfold T_swap
  refine g_aload_n (pc := 0) hk dX2_swap_0 rfl ?_
  refine t_getR (pc := 1) hk hK tr_25 tf_25 dX2_swap_1 ?_
  refine g_iload_n (pc := 4) hk dX2_swap_4 rfl ?_
  refine t_iald (pc := 5) hk hK ta_25 dX2_swap_5 ?_
  refine g_istore_nN (pc := 6) (i := 3) (ls' := fun x1 => [(3, .int x1), (0, .ref Γ.2.1), (1, .int v1), (2, .int v2)]) hk dX2_swap_6 rfl (by decide) (fun _ => rfl) (fun x1 => ?_)
  refine g_aload_n (pc := 7) hk dX2_swap_7 rfl ?_
  refine t_getR (pc := 8) hk hK tr_25 tf_25 dX2_swap_8 ?_
  refine g_iload_n (pc := 11) hk dX2_swap_11 rfl ?_
  refine g_aload_n (pc := 12) hk dX2_swap_12 rfl ?_
  refine t_getR (pc := 13) hk hK tr_25 tf_25 dX2_swap_13 ?_
  refine g_iload_n (pc := 16) hk dX2_swap_16 rfl ?_
  refine t_iald (pc := 17) hk hK ta_25 dX2_swap_17 ?_
  refine t_iast (pc := 18) hk hK ta_25 dX2_swap_18 (fun τ2 => ?_)
  refine g_aload_n (pc := 19) hk dX2_swap_19 rfl ?_
  refine t_getR (pc := 20) hk hK tr_25 tf_25 dX2_swap_20 ?_
  refine g_iload_n (pc := 23) hk dX2_swap_23 rfl ?_
  refine g_iload_n (pc := 24) hk dX2_swap_24 rfl ?_
  refine t_iast (pc := 25) hk hK ta_25 dX2_swap_25 (fun τ3 => ?_)
  exact t_vret (pc := 26) hk rfl dX2_swap_26
def rm_isNextTurn : Room := { frames := 1, cells := 0, slots := 0, locals := 23 }
theorem hv_isNextTurn : yX2_isNextTurn.cls = RX2 ∧ yX2_isNextTurn.cls ≠ "java/lang/invoke/MethodHandle" ∧ yX2_isNextTurn.cls ≠ "java/lang/invoke/VarHandle" ∧ (parseMethodDescriptor yX2_isNextTurn.desc).map (fun d => d.parameters.length) = some 0 := by decide +kernel
theorem tm_isNextTurn_l74 {K : KT} {Γ : TG} (hk : KOK K cX2_isNextTurn 5 RX2 rm_isNextTurn (some .boolean)) (hK : va_K Γ.1 tcl (ttys Γ) (kS K))    : ∀ (n : Nat) (τ : TS) (v3 : Int32) (v4 : Int32), GGo K (tQ K Γ (fun r : Int32 × TS => (some (Value.int r.1), r.2))) (T_isNextTurn_l74 n τ v3 v4) 5 (TI Γ (kS K) τ) 0 0 74 [(0, .ref Γ.2.1), (3, .int v3), (4, .int v4)] [] := by
  intro n
  induction n with
  | zero =>
    intro τ v3 v4
    unfold T_isNextTurn_l74
    exact g_none
  | succ n ih =>
    intro τ v3 v4
    unfold T_isNextTurn_l74
    refine g_iload (pc := 74) hk dX2_isNextTurn_74 rfl ?_
    refine g_iload_n (pc := 76) hk dX2_isNextTurn_76 rfl ?_
    refine g_icmp_ge (pc := 77) (tgt := 96) hk dX2_isNextTurn_77 rfl ?_ ?_
    · refine g_iconst (pc := 96) (v := 1) hk dX2_isNextTurn_96 rfl ?_
      exact t_zret (pc := 97) hk rfl rfl dX2_isNextTurn_97
    · refine g_aload_n (pc := 80) hk dX2_isNextTurn_80 rfl ?_
      refine g_iload (pc := 81) hk dX2_isNextTurn_81 rfl ?_
      refine g_iload_n (pc := 83) hk dX2_isNextTurn_83 rfl ?_
      refine g_ob1 (fun τ5 h4 => ?_)
      refine t_callV (pc := 84) hk hK [.int v4, .int v3] [] (tm_swap Γ τ v4 v3 τ5 h4) (lw_V q1899 q1901 qs112 q128 q1902) hv_swap rfl rfl rfl dX2_isNextTurn_84 rfl rfl ?_
      refine g_iincN (pc := 87) (v := (-1)) (ls' := fun x6 => [(3, .int x6), (0, .ref Γ.2.1), (4, .int v4)]) hk dX2_isNextTurn_87 rfl rfl (by decide) (fun _ => rfl) (fun x6 => ?_)
      refine g_iincN (pc := 90) (v := 1) (ls' := fun x7 => [(4, .int x7), (3, .int x6), (0, .ref Γ.2.1)]) hk dX2_isNextTurn_90 rfl rfl (by decide) (fun _ => rfl) (fun x7 => ?_)
      refine g_goto (pc := 93) (tgt := 74) hk dX2_isNextTurn_93 rfl ?_
      refine g_sub (ls' := [(0, .ref Γ.2.1), (3, .int x6), (4, .int x7)]) [2, 1, 0] rfl ?_
      exact ih τ5 x6 x7
theorem tm_isNextTurn_l39 {K : KT} {Γ : TG} (hk : KOK K cX2_isNextTurn 5 RX2 rm_isNextTurn (some .boolean)) (hK : va_K Γ.1 tcl (ttys Γ) (kS K)) (τ : TS) (v1 : Int32)   : ∀ (n : Nat) (v2 : Int32), GGo K (tQ K Γ (fun r : Int32 × TS => (some (Value.int r.1), r.2))) (T_isNextTurn_l39 τ v1 n v2) 5 (TI Γ (kS K) τ) 0 0 39 [(0, .ref Γ.2.1), (1, .int v1), (2, .int v2)] [] := by
  intro n
  induction n with
  | zero =>
    intro v2
    unfold T_isNextTurn_l39
    exact g_none
  | succ n ih =>
    intro v2
    unfold T_isNextTurn_l39
    refine g_aload_n (pc := 39) hk dX2_isNextTurn_39 rfl ?_
    refine t_getR (pc := 40) hk hK tr_25 tf_25 dX2_isNextTurn_40 ?_
    refine g_iload_n (pc := 43) hk dX2_isNextTurn_43 rfl ?_
    refine t_iald (pc := 44) hk hK ta_25 dX2_isNextTurn_44 ?_
    refine g_aload_n (pc := 45) hk dX2_isNextTurn_45 rfl ?_
    refine t_getR (pc := 46) hk hK tr_25 tf_25 dX2_isNextTurn_46 ?_
    refine g_iload_n (pc := 49) hk dX2_isNextTurn_49 rfl ?_
    refine t_iald (pc := 50) hk hK ta_25 dX2_isNextTurn_50 ?_
    refine g_icmp_ge (pc := 51) (tgt := 60) hk dX2_isNextTurn_51 rfl ?_ ?_
    · refine g_aload_n (pc := 60) hk dX2_isNextTurn_60 rfl ?_
      refine g_iload_n (pc := 61) hk dX2_isNextTurn_61 rfl ?_
      refine g_iload_n (pc := 62) hk dX2_isNextTurn_62 rfl ?_
      refine g_ob1 (fun τ2 h1 => ?_)
      refine t_callV (pc := 63) hk hK [.int v1, .int v2] [] (tm_swap Γ τ v1 v2 τ2 h1) (lw_V q1899 q1901 qs112 q128 q1902) hv_swap rfl rfl rfl dX2_isNextTurn_63 rfl rfl ?_
      refine g_bipush (pc := 66) (v := 7) hk dX2_isNextTurn_66 rfl ?_
      refine g_istore_n (pc := 68) (i := 3) (ls' := [(3, .int 7), (0, .ref Γ.2.1), (1, .int v1), (2, .int v2)]) hk dX2_isNextTurn_68 rfl (by decide) rfl ?_
      refine g_iload_n (pc := 69) hk dX2_isNextTurn_69 rfl ?_
      refine g_iconst (pc := 70) (v := 1) hk dX2_isNextTurn_70 rfl ?_
      refine g_iadd (pc := 71) hk dX2_isNextTurn_71 ?_
      refine g_istoreN (pc := 72) (i := 4) (ls' := fun x3 => [(4, .int x3), (3, .int 7), (0, .ref Γ.2.1), (1, .int v1), (2, .int v2)]) hk dX2_isNextTurn_72 (by decide) (fun _ => rfl) (fun x3 => ?_)
      refine g_sub (ls' := [(0, .ref Γ.2.1), (3, .int 7), (4, .int x3)]) [2, 1, 0] rfl ?_
      exact tm_isNextTurn_l74 hk hK FU τ2 7 x3
    · refine g_iincN (pc := 54) (v := (-1)) (ls' := fun x8 => [(2, .int x8), (0, .ref Γ.2.1), (1, .int v1)]) hk dX2_isNextTurn_54 rfl rfl (by decide) (fun _ => rfl) (fun x8 => ?_)
      refine g_goto (pc := 57) (tgt := 39) hk dX2_isNextTurn_57 rfl ?_
      refine g_sub (ls' := [(0, .ref Γ.2.1), (1, .int v1), (2, .int x8)]) [1, 2, 0] rfl ?_
      exact ih x8
theorem tm_isNextTurn_j30 {K : KT} {Γ : TG} (hk : KOK K cX2_isNextTurn 5 RX2 rm_isNextTurn (some .boolean)) (hK : va_K Γ.1 tcl (ttys Γ) (kS K)) (τ : TS) (v1 : Int32)   : GGo K (tQ K Γ (fun r : Int32 × TS => (some (Value.int r.1), r.2))) (T_isNextTurn_j30 τ v1) 5 (TI Γ (kS K) τ) 0 0 30 [(0, .ref Γ.2.1), (1, .int v1)] [] := by
  unfold T_isNextTurn_j30
  refine g_iload_n (pc := 30) hk dX2_isNextTurn_30 rfl ?_
  refine g_if_ge (pc := 31) (tgt := 36) hk dX2_isNextTurn_31 rfl ?_ ?_
  · refine g_bipush (pc := 36) (v := 7) hk dX2_isNextTurn_36 rfl ?_
    refine g_istore_n (pc := 38) (i := 2) (ls' := [(2, .int 7), (0, .ref Γ.2.1), (1, .int v1)]) hk dX2_isNextTurn_38 rfl (by decide) rfl ?_
    refine g_sub (ls' := [(0, .ref Γ.2.1), (1, .int v1), (2, .int 7)]) [1, 2, 0] rfl ?_
    exact tm_isNextTurn_l39 hk hK τ v1 FU 7
  · refine g_iconst (pc := 34) (v := 0) hk dX2_isNextTurn_34 rfl ?_
    exact t_zret (pc := 35) hk rfl rfl dX2_isNextTurn_35
theorem tm_isNextTurn_l3 {K : KT} {Γ : TG} (hk : KOK K cX2_isNextTurn 5 RX2 rm_isNextTurn (some .boolean)) (hK : va_K Γ.1 tcl (ttys Γ) (kS K)) (τ : TS)   : ∀ (n : Nat) (v1 : Int32), GGo K (tQ K Γ (fun r : Int32 × TS => (some (Value.int r.1), r.2))) (T_isNextTurn_l3 τ n v1) 5 (TI Γ (kS K) τ) 0 0 3 [(0, .ref Γ.2.1), (1, .int v1)] [] := by
  intro n
  induction n with
  | zero =>
    intro v1
    unfold T_isNextTurn_l3
    exact g_none
  | succ n ih =>
    intro v1
    unfold T_isNextTurn_l3
    refine g_iload_n (pc := 3) hk dX2_isNextTurn_3 rfl ?_
    refine g_if_lt (pc := 4) (tgt := 30) hk dX2_isNextTurn_4 rfl ?_ ?_
    · exact tm_isNextTurn_j30 hk hK τ v1
    · refine g_aload_n (pc := 7) hk dX2_isNextTurn_7 rfl ?_
      refine t_getR (pc := 8) hk hK tr_25 tf_25 dX2_isNextTurn_8 ?_
      refine g_iload_n (pc := 11) hk dX2_isNextTurn_11 rfl ?_
      refine t_iald (pc := 12) hk hK ta_25 dX2_isNextTurn_12 ?_
      refine g_aload_n (pc := 13) hk dX2_isNextTurn_13 rfl ?_
      refine t_getR (pc := 14) hk hK tr_25 tf_25 dX2_isNextTurn_14 ?_
      refine g_iload_n (pc := 17) hk dX2_isNextTurn_17 rfl ?_
      refine g_iconst (pc := 18) (v := 1) hk dX2_isNextTurn_18 rfl ?_
      refine g_iadd (pc := 19) hk dX2_isNextTurn_19 ?_
      refine t_iald (pc := 20) hk hK ta_25 dX2_isNextTurn_20 ?_
      refine g_icmp_le (pc := 21) (tgt := 30) hk dX2_isNextTurn_21 rfl ?_ ?_
      · exact tm_isNextTurn_j30 hk hK τ v1
      · refine g_iincN (pc := 24) (v := (-1)) (ls' := fun x9 => [(1, .int x9), (0, .ref Γ.2.1)]) hk dX2_isNextTurn_24 rfl rfl (by decide) (fun _ => rfl) (fun x9 => ?_)
        refine g_goto (pc := 27) (tgt := 3) hk dX2_isNextTurn_27 rfl ?_
        refine g_sub (ls' := [(0, .ref Γ.2.1), (1, .int x9)]) [1, 0] rfl ?_
        exact ih x9
theorem tm_isNextTurn (Γ : TG) (τ : TS)   (r : Int32 × TS) (h : T_isNextTurn τ = some r) : TMet Γ yX2_isNextTurn cX2_isNextTurn 5 (some .boolean) rm_isNextTurn [.ref Γ.2.1] τ (some (.int r.1)) r.2 := by
  refine t_met (view := (fun r : Int32 × TS => (some (Value.int r.1), r.2))) rfl rfl (ls0 := [(0, .ref Γ.2.1)]) rfl (fun K hk hK => ?_) r h
  unfold T_isNextTurn
  refine g_bipush (pc := 0) (v := 6) hk dX2_isNextTurn_0 rfl ?_
  refine g_istore_n (pc := 2) (i := 1) (ls' := [(1, .int 6), (0, .ref Γ.2.1)]) hk dX2_isNextTurn_2 rfl (by decide) rfl ?_
  refine g_sub (ls' := [(0, .ref Γ.2.1), (1, .int 6)]) [1, 0] rfl ?_
  exact tm_isNextTurn_l3 hk hK τ FU 6
def rm_isMirror : Room := { frames := 1, cells := 0, slots := 0, locals := 21 }
theorem hv_isMirror : yX2_isMirror.cls = RX2 ∧ yX2_isMirror.cls ≠ "java/lang/invoke/MethodHandle" ∧ yX2_isMirror.cls ≠ "java/lang/invoke/VarHandle" ∧ (parseMethodDescriptor yX2_isMirror.desc).map (fun d => d.parameters.length) = some 0 := by decide +kernel
theorem tm_isMirror_l2 {K : KT} {Γ : TG} (hk : KOK K cX2_isMirror 2 RX2 rm_isMirror (some .boolean)) (hK : va_K Γ.1 tcl (ttys Γ) (kS K)) (τ : TS)   : ∀ (n : Nat) (v1 : Int32), GGo K (tQ K Γ (fun r : Int32 => (some (Value.int r), τ))) (T_isMirror_l2 τ n v1) 2 (TI Γ (kS K) τ) 0 0 2 [(0, .ref Γ.2.1), (1, .int v1)] [] := by
  intro n
  induction n with
  | zero =>
    intro v1
    unfold T_isMirror_l2
    exact g_none
  | succ n ih =>
    intro v1
    unfold T_isMirror_l2
    refine g_iload_n (pc := 2) hk dX2_isMirror_2 rfl ?_
    refine g_bipush (pc := 3) (v := 8) hk dX2_isMirror_3 rfl ?_
    refine g_icmp_ge (pc := 5) (tgt := 39) hk dX2_isMirror_5 rfl ?_ ?_
    · refine g_iconst (pc := 39) (v := 1) hk dX2_isMirror_39 rfl ?_
      exact t_zret (pc := 40) hk rfl rfl dX2_isMirror_40
    · refine g_aload_n (pc := 8) hk dX2_isMirror_8 rfl ?_
      refine t_getR (pc := 9) hk hK tr_25 tf_25 dX2_isMirror_9 ?_
      refine g_aload_n (pc := 12) hk dX2_isMirror_12 rfl ?_
      refine g_iload_n (pc := 13) hk dX2_isMirror_13 rfl ?_
      refine g_ob1 (fun r1 h2 => ?_)
      refine t_callV (pc := 14) hk hK [.int v1] [.ref (Γ.2.2.1 25)] (tm_otherOf Γ τ v1 r1 h2) (lw_V q1691 q1693 qs91 q128 q1694) hv_otherOf rfl rfl rfl dX2_isMirror_14 rfl rfl ?_
      refine t_iald (pc := 17) hk hK ta_25 dX2_isMirror_17 ?_
      refine g_aload_n (pc := 18) hk dX2_isMirror_18 rfl ?_
      refine g_aload_n (pc := 19) hk dX2_isMirror_19 rfl ?_
      refine t_getR (pc := 20) hk hK tr_25 tf_25 dX2_isMirror_20 ?_
      refine g_iload_n (pc := 23) hk dX2_isMirror_23 rfl ?_
      refine t_iald (pc := 24) hk hK ta_25 dX2_isMirror_24 ?_
      refine g_ob1 (fun r3 h4 => ?_)
      refine t_callV (pc := 25) hk hK [.int (tA τ 25 v1.toNatClampNeg)] [.int (tA τ 25 r1.toNatClampNeg)] (tm_otherOf Γ τ (tA τ 25 v1.toNatClampNeg) r3 h4) (lw_V q1691 q1693 qs91 q128 q1694) hv_otherOf rfl rfl rfl dX2_isMirror_25 rfl rfl ?_
      refine g_icmp_eq (pc := 28) (tgt := 33) hk dX2_isMirror_28 rfl ?_ ?_
      · refine g_iincN (pc := 33) (v := 1) (ls' := fun x5 => [(1, .int x5), (0, .ref Γ.2.1)]) hk dX2_isMirror_33 rfl rfl (by decide) (fun _ => rfl) (fun x5 => ?_)
        refine g_goto (pc := 36) (tgt := 2) hk dX2_isMirror_36 rfl ?_
        refine g_sub (ls' := [(0, .ref Γ.2.1), (1, .int x5)]) [1, 0] rfl ?_
        exact ih x5
      · refine g_iconst (pc := 31) (v := 0) hk dX2_isMirror_31 rfl ?_
        exact t_zret (pc := 32) hk rfl rfl dX2_isMirror_32
theorem tm_isMirror (Γ : TG) (τ : TS)   (r : Int32) (h : T_isMirror τ = some r) : TMet Γ yX2_isMirror cX2_isMirror 2 (some .boolean) rm_isMirror [.ref Γ.2.1] τ (some (.int r)) τ := by
  refine t_met (view := (fun r : Int32 => (some (Value.int r), τ))) rfl rfl (ls0 := [(0, .ref Γ.2.1)]) rfl (fun K hk hK => ?_) r h
  unfold T_isMirror
  refine g_iconst (pc := 0) (v := 0) hk dX2_isMirror_0 rfl ?_
  refine g_istore_n (pc := 1) (i := 1) (ls' := [(1, .int 0), (0, .ref Γ.2.1)]) hk dX2_isMirror_1 rfl (by decide) rfl ?_
  refine g_sub (ls' := [(0, .ref Γ.2.1), (1, .int 0)]) [1, 0] rfl ?_
  exact tm_isMirror_l2 hk hK τ FU 0
def rm_mirrors : Room := { frames := 2, cells := 0, slots := 0, locals := 47 }
theorem hv_mirrors : yX2_mirrors.cls = RX2 ∧ yX2_mirrors.cls ≠ "java/lang/invoke/MethodHandle" ∧ yX2_mirrors.cls ≠ "java/lang/invoke/VarHandle" ∧ (parseMethodDescriptor yX2_mirrors.desc).map (fun d => d.parameters.length) = some 0 := by decide +kernel
theorem tm_mirrors_j43 {K : KT} {Γ : TG} (hk : KOK K cX2_mirrors 2 RX2 rm_mirrors (some .int)) (hK : va_K Γ.1 tcl (ttys Γ) (kS K)) (τ : TS) (s0 : Int32) (s1 : Int32)  (k23 : TS → Int32 → Option (Int32 × TS)) (hk23 : ∀ (τ : TS) (v1 : Int32), GGo K (tQ K Γ (fun r : Int32 × TS => (some (Value.int r.1), r.2))) (k23 τ v1) 2 (TI Γ (kS K) τ) 0 0 23 [(0, .ref Γ.2.1), (1, .int v1)] []) : GGo K (tQ K Γ (fun r : Int32 × TS => (some (Value.int r.1), r.2))) (T_mirrors_j43 k23 τ s0 s1) 2 (TI Γ (kS K) τ) 0 0 43 [(0, .ref Γ.2.1)] [.int s1, .int s0] := by
  unfold T_mirrors_j43
  refine g_iadd (pc := 43) hk dX2_mirrors_43 ?_
  refine g_istore_nN (pc := 44) (i := 1) (ls' := fun x6 => [(1, .int x6), (0, .ref Γ.2.1)]) hk dX2_mirrors_44 rfl (by decide) (fun _ => rfl) (fun x6 => ?_)
  refine g_goto (pc := 45) (tgt := 23) hk dX2_mirrors_45 rfl ?_
  refine g_sub (ls' := [(0, .ref Γ.2.1), (1, .int x6)]) [1, 0] rfl ?_
  exact hk23 τ x6
theorem tm_mirrors_l23 {K : KT} {Γ : TG} (hk : KOK K cX2_mirrors 2 RX2 rm_mirrors (some .int)) (hK : va_K Γ.1 tcl (ttys Γ) (kS K))    : ∀ (n : Nat) (τ : TS) (v1 : Int32), GGo K (tQ K Γ (fun r : Int32 × TS => (some (Value.int r.1), r.2))) (T_mirrors_l23 n τ v1) 2 (TI Γ (kS K) τ) 0 0 23 [(0, .ref Γ.2.1), (1, .int v1)] [] := by
  intro n
  induction n with
  | zero =>
    intro τ v1
    unfold T_mirrors_l23
    exact g_none
  | succ n ih =>
    intro τ v1
    unfold T_mirrors_l23
    refine g_aload_n (pc := 23) hk dX2_mirrors_23 rfl ?_
    refine g_ob2 (fun r1 τ3 h2 => ?_)
    refine t_callV (pc := 24) hk hK [] [] (tm_isNextTurn Γ τ (r1, τ3) h2) (lw_V q1895 q1897 qs111 q128 q1898) hv_isNextTurn rfl rfl rfl dX2_mirrors_24 rfl rfl ?_
    refine g_if_eq (pc := 27) (tgt := 48) hk dX2_mirrors_27 rfl ?_ ?_
    · refine g_iload_n (pc := 48) hk dX2_mirrors_48 rfl ?_
      exact t_iret (pc := 49) hk rfl dX2_mirrors_49
    · refine g_iload_n (pc := 30) hk dX2_mirrors_30 rfl ?_
      refine g_aload_n (pc := 31) hk dX2_mirrors_31 rfl ?_
      refine g_ob1 (fun r4 h5 => ?_)
      refine t_callV (pc := 32) hk hK [] [.int v1] (tm_isMirror Γ τ3 r4 h5) (lw_V q1903 q1905 qs113 q128 q1906) hv_isMirror rfl rfl rfl dX2_mirrors_32 rfl rfl ?_
      refine g_if_eq (pc := 35) (tgt := 42) hk dX2_mirrors_35 rfl ?_ ?_
      · refine g_iconst (pc := 42) (v := 0) hk dX2_mirrors_42 rfl ?_
        refine g_sub (ls' := [(0, .ref Γ.2.1)]) [0] rfl ?_
        exact tm_mirrors_j43 hk hK τ3 v1 0 (T_mirrors_l23 n) ih
      · refine g_iconst (pc := 38) (v := 1) hk dX2_mirrors_38 rfl ?_
        refine g_goto (pc := 39) (tgt := 43) hk dX2_mirrors_39 rfl ?_
        refine g_sub (ls' := [(0, .ref Γ.2.1)]) [0] rfl ?_
        exact tm_mirrors_j43 hk hK τ3 v1 1 (T_mirrors_l23 n) ih
theorem tm_mirrors_l2 {K : KT} {Γ : TG} (hk : KOK K cX2_mirrors 2 RX2 rm_mirrors (some .int)) (hK : va_K Γ.1 tcl (ttys Γ) (kS K))    : ∀ (n : Nat) (τ : TS) (v1 : Int32), GGo K (tQ K Γ (fun r : Int32 × TS => (some (Value.int r.1), r.2))) (T_mirrors_l2 n τ v1) 2 (TI Γ (kS K) τ) 0 0 2 [(0, .ref Γ.2.1), (1, .int v1)] [] := by
  intro n
  induction n with
  | zero =>
    intro τ v1
    unfold T_mirrors_l2
    exact g_none
  | succ n ih =>
    intro τ v1
    unfold T_mirrors_l2
    refine g_iload_n (pc := 2) hk dX2_mirrors_2 rfl ?_
    refine g_bipush (pc := 3) (v := 8) hk dX2_mirrors_3 rfl ?_
    refine g_icmp_ge (pc := 5) (tgt := 21) hk dX2_mirrors_5 rfl ?_ ?_
    · refine g_iconst (pc := 21) (v := 1) hk dX2_mirrors_21 rfl ?_
      refine g_istore_n (pc := 22) (i := 1) (ls' := [(1, .int 1), (0, .ref Γ.2.1)]) hk dX2_mirrors_22 rfl (by decide) rfl ?_
      refine g_sub (ls' := [(0, .ref Γ.2.1), (1, .int 1)]) [1, 0] rfl ?_
      exact tm_mirrors_l23 hk hK FU τ 1
    · refine g_aload_n (pc := 8) hk dX2_mirrors_8 rfl ?_
      refine t_getR (pc := 9) hk hK tr_25 tf_25 dX2_mirrors_9 ?_
      refine g_iload_n (pc := 12) hk dX2_mirrors_12 rfl ?_
      refine g_iload_n (pc := 13) hk dX2_mirrors_13 rfl ?_
      refine t_iast (pc := 14) hk hK ta_25 dX2_mirrors_14 (fun τ7 => ?_)
      refine g_iincN (pc := 15) (v := 1) (ls' := fun x8 => [(1, .int x8), (0, .ref Γ.2.1)]) hk dX2_mirrors_15 rfl rfl (by decide) (fun _ => rfl) (fun x8 => ?_)
      refine g_goto (pc := 18) (tgt := 2) hk dX2_mirrors_18 rfl ?_
      refine g_sub (ls' := [(0, .ref Γ.2.1), (1, .int x8)]) [1, 0] rfl ?_
      exact ih τ7 x8
theorem tm_mirrors (Γ : TG) (τ : TS)   (r : Int32 × TS) (h : T_mirrors τ = some r) : TMet Γ yX2_mirrors cX2_mirrors 2 (some .int) rm_mirrors [.ref Γ.2.1] τ (some (.int r.1)) r.2 := by
  refine t_met (view := (fun r : Int32 × TS => (some (Value.int r.1), r.2))) rfl rfl (ls0 := [(0, .ref Γ.2.1)]) rfl (fun K hk hK => ?_) r h
  unfold T_mirrors
  refine g_iconst (pc := 0) (v := 0) hk dX2_mirrors_0 rfl ?_
  refine g_istore_n (pc := 1) (i := 1) (ls' := [(1, .int 0), (0, .ref Γ.2.1)]) hk dX2_mirrors_1 rfl (by decide) rfl ?_
  refine g_sub (ls' := [(0, .ref Γ.2.1), (1, .int 0)]) [1, 0] rfl ?_
  exact tm_mirrors_l2 hk hK FU τ 0
def rm_ratesBy : Room := { frames := 7, cells := 0, slots := 0, locals := 171 }
theorem hv_ratesBy : yX2_ratesBy.cls = RX2 ∧ yX2_ratesBy.cls ≠ "java/lang/invoke/MethodHandle" ∧ yX2_ratesBy.cls ≠ "java/lang/invoke/VarHandle" ∧ (parseMethodDescriptor yX2_ratesBy.desc).map (fun d => d.parameters.length) = some 2 := by decide +kernel
theorem tm_ratesBy (Γ : TG) (τ : TS) (v1 : Int32) (v2 : Int32)  (r : Int32 × TS) (h : T_ratesBy τ v1 v2 = some r) : TMet Γ yX2_ratesBy cX2_ratesBy 5 (some .int) rm_ratesBy [.ref Γ.2.1, .int v1, .int v2] τ (some (.int r.1)) r.2 := by
  refine t_met (view := (fun r : Int32 × TS => (some (Value.int r.1), r.2))) rfl rfl (ls0 := [(0, .ref Γ.2.1), (1, .int v1), (2, .int v2)]) rfl (fun K hk hK => ?_) r h
  unfold T_ratesBy
  refine g_aload_n (pc := 0) hk dX2_ratesBy_0 rfl ?_
  refine g_iload_n (pc := 1) hk dX2_ratesBy_1 rfl ?_
  refine g_iconst (pc := 2) (v := 1) hk dX2_ratesBy_2 rfl ?_
  refine g_ob1 (fun r1 h2 => ?_)
  refine t_callV (pc := 3) hk hK [.int v1, .int 1] [] (tm_get Γ τ v1 1 r1 h2) (lw_V q1488 q1490 qs57 q128 q1491) hv_get rfl rfl rfl dX2_ratesBy_3 rfl rfl ?_
  refine g_istore_n (pc := 6) (i := 3) (ls' := [(3, .int r1), (0, .ref Γ.2.1), (1, .int v1), (2, .int v2)]) hk dX2_ratesBy_6 rfl (by decide) rfl ?_
  refine g_aload_n (pc := 7) hk dX2_ratesBy_7 rfl ?_
  refine g_iload_n (pc := 8) hk dX2_ratesBy_8 rfl ?_
  refine g_iconst (pc := 9) (v := 1) hk dX2_ratesBy_9 rfl ?_
  refine g_iload_n (pc := 10) hk dX2_ratesBy_10 rfl ?_
  refine g_ob1 (fun τ4 h3 => ?_)
  refine t_callV (pc := 11) hk hK [.int v1, .int 1, .int v2] [] (tm_put Γ τ v1 1 v2 τ4 h3) (lw_V q1480 q1482 qs55 q128 q1483) hv_put rfl rfl rfl dX2_ratesBy_11 rfl rfl ?_
  refine g_aload_n (pc := 14) hk dX2_ratesBy_14 rfl ?_
  refine g_aload_n (pc := 15) hk dX2_ratesBy_15 rfl ?_
  refine t_getR (pc := 16) hk hK tr_0 tf_0 dX2_ratesBy_16 ?_
  refine g_iconst (pc := 19) (v := 2) hk dX2_ratesBy_19 rfl ?_
  refine t_ialdC (pc := 20) (j := 2) hk hK ta_0 rfl rfl dX2_ratesBy_20 ?_
  refine g_iload_n (pc := 21) hk dX2_ratesBy_21 rfl ?_
  refine g_ob2 (fun r5 τ7 h6 => ?_)
  refine t_callV (pc := 22) hk hK [.int (tA τ4 0 2), .int v1] [] (tm_ratesOf Γ τ4 (tA τ4 0 2) v1 (r5, τ7) h6) (lw_V q1742 q1744 qs98 q128 q1745) hv_ratesOf rfl rfl rfl dX2_ratesBy_22 rfl rfl ?_
  refine g_istore (pc := 25) (i := 4) (ls' := [(4, .int r5), (3, .int r1), (0, .ref Γ.2.1), (1, .int v1), (2, .int v2)]) hk dX2_ratesBy_25 (by decide) rfl ?_
  refine g_aload_n (pc := 27) hk dX2_ratesBy_27 rfl ?_
  refine g_iload_n (pc := 28) hk dX2_ratesBy_28 rfl ?_
  refine g_iconst (pc := 29) (v := 1) hk dX2_ratesBy_29 rfl ?_
  refine g_iload_n (pc := 30) hk dX2_ratesBy_30 rfl ?_
  refine g_ob1 (fun τ9 h8 => ?_)
  refine t_callV (pc := 31) hk hK [.int v1, .int 1, .int r1] [] (tm_put Γ τ7 v1 1 r1 τ9 h8) (lw_V q1480 q1482 qs55 q128 q1483) hv_put rfl rfl rfl dX2_ratesBy_31 rfl rfl ?_
  refine g_iload (pc := 34) hk dX2_ratesBy_34 rfl ?_
  exact t_iret (pc := 36) hk rfl dX2_ratesBy_36
def rm_shamOf : Room := { frames := 8, cells := 0, slots := 0, locals := 195 }
theorem hv_shamOf : yX2_shamOf.cls = RX2 ∧ yX2_shamOf.cls ≠ "java/lang/invoke/MethodHandle" ∧ yX2_shamOf.cls ≠ "java/lang/invoke/VarHandle" ∧ (parseMethodDescriptor yX2_shamOf.desc).map (fun d => d.parameters.length) = some 1 := by decide +kernel
theorem tm_shamOf_j27 {K : KT} {Γ : TG} (hk : KOK K cX2_shamOf 4 RX2 rm_shamOf (some .int)) (hK : va_K Γ.1 tcl (ttys Γ) (kS K)) (τ : TS) (v1 : Int32) (v2 : Int32) (v3 : Int32)  (k4 : TS → Int32 → Int32 → Option (Int32 × TS)) (hk4 : ∀ (τ : TS) (v2 : Int32) (v3 : Int32), GGo K (tQ K Γ (fun r : Int32 × TS => (some (Value.int r.1), r.2))) (k4 τ v2 v3) 4 (TI Γ (kS K) τ) 0 0 4 [(0, .ref Γ.2.1), (1, .int v1), (2, .int v2), (3, .int v3)] []) : GGo K (tQ K Γ (fun r : Int32 × TS => (some (Value.int r.1), r.2))) (T_shamOf_j27 k4 τ v1 v2 v3) 4 (TI Γ (kS K) τ) 0 0 27 [(0, .ref Γ.2.1), (1, .int v1), (2, .int v2), (3, .int v3)] [] := by
  unfold T_shamOf_j27
  refine g_iincN (pc := 27) (v := 1) (ls' := fun x7 => [(3, .int x7), (0, .ref Γ.2.1), (1, .int v1), (2, .int v2)]) hk dX2_shamOf_27 rfl rfl (by decide) (fun _ => rfl) (fun x7 => ?_)
  refine g_goto (pc := 30) (tgt := 4) hk dX2_shamOf_30 rfl ?_
  refine g_sub (ls' := [(0, .ref Γ.2.1), (1, .int v1), (2, .int v2), (3, .int x7)]) [1, 2, 3, 0] rfl ?_
  exact hk4 τ v2 x7
theorem tm_shamOf_l4 {K : KT} {Γ : TG} (hk : KOK K cX2_shamOf 4 RX2 rm_shamOf (some .int)) (hK : va_K Γ.1 tcl (ttys Γ) (kS K)) (v1 : Int32)   : ∀ (n : Nat) (τ : TS) (v2 : Int32) (v3 : Int32), GGo K (tQ K Γ (fun r : Int32 × TS => (some (Value.int r.1), r.2))) (T_shamOf_l4 v1 n τ v2 v3) 4 (TI Γ (kS K) τ) 0 0 4 [(0, .ref Γ.2.1), (1, .int v1), (2, .int v2), (3, .int v3)] [] := by
  intro n
  induction n with
  | zero =>
    intro τ v2 v3
    unfold T_shamOf_l4
    exact g_none
  | succ n ih =>
    intro τ v2 v3
    unfold T_shamOf_l4
    refine g_iload_n (pc := 4) hk dX2_shamOf_4 rfl ?_
    refine g_bipush (pc := 5) (v := 10) hk dX2_shamOf_5 rfl ?_
    refine g_icmp_ge (pc := 7) (tgt := 33) hk dX2_shamOf_7 rfl ?_ ?_
    · refine g_iload_n (pc := 33) hk dX2_shamOf_33 rfl ?_
      exact t_iret (pc := 34) hk rfl dX2_shamOf_34
    · refine g_aload_n (pc := 10) hk dX2_shamOf_10 rfl ?_
      refine g_iload_n (pc := 11) hk dX2_shamOf_11 rfl ?_
      refine g_iload_n (pc := 12) hk dX2_shamOf_12 rfl ?_
      refine g_ob2 (fun r1 τ3 h2 => ?_)
      refine t_callV (pc := 13) hk hK [.int v1, .int v3] [] (tm_ratesBy Γ τ v1 v3 (r1, τ3) h2) (lw_V q1915 q1917 qs115 q128 q1918) hv_ratesBy rfl rfl rfl dX2_shamOf_13 rfl rfl ?_
      refine g_aload_n (pc := 16) hk dX2_shamOf_16 rfl ?_
      refine g_iload_n (pc := 17) hk dX2_shamOf_17 rfl ?_
      refine g_iload_n (pc := 18) hk dX2_shamOf_18 rfl ?_
      refine g_ob2 (fun r4 τ6 h5 => ?_)
      refine t_callV (pc := 19) hk hK [.int v1, .int v2] [.int r1] (tm_ratesBy Γ τ3 v1 v2 (r4, τ6) h5) (lw_V q1915 q1917 qs115 q128 q1918) hv_ratesBy rfl rfl rfl dX2_shamOf_19 rfl rfl ?_
      refine g_icmp_ge (pc := 22) (tgt := 27) hk dX2_shamOf_22 rfl ?_ ?_
      · exact tm_shamOf_j27 hk hK τ6 v1 v2 v3 (T_shamOf_l4 v1 n) ih
      · refine g_iload_n (pc := 25) hk dX2_shamOf_25 rfl ?_
        refine g_istore_n (pc := 26) (i := 2) (ls' := [(2, .int v3), (0, .ref Γ.2.1), (1, .int v1), (3, .int v3)]) hk dX2_shamOf_26 rfl (by decide) rfl ?_
        refine g_sub (ls' := [(0, .ref Γ.2.1), (1, .int v1), (2, .int v3), (3, .int v3)]) [1, 2, 0, 3] rfl ?_
        exact tm_shamOf_j27 hk hK τ6 v1 v3 v3 (T_shamOf_l4 v1 n) ih
theorem tm_shamOf (Γ : TG) (τ : TS) (v1 : Int32)  (r : Int32 × TS) (h : T_shamOf τ v1 = some r) : TMet Γ yX2_shamOf cX2_shamOf 4 (some .int) rm_shamOf [.ref Γ.2.1, .int v1] τ (some (.int r.1)) r.2 := by
  refine t_met (view := (fun r : Int32 × TS => (some (Value.int r.1), r.2))) rfl rfl (ls0 := [(0, .ref Γ.2.1), (1, .int v1)]) rfl (fun K hk hK => ?_) r h
  unfold T_shamOf
  refine g_iconst (pc := 0) (v := 0) hk dX2_shamOf_0 rfl ?_
  refine g_istore_n (pc := 1) (i := 2) (ls' := [(2, .int 0), (0, .ref Γ.2.1), (1, .int v1)]) hk dX2_shamOf_1 rfl (by decide) rfl ?_
  refine g_iconst (pc := 2) (v := 1) hk dX2_shamOf_2 rfl ?_
  refine g_istore_n (pc := 3) (i := 3) (ls' := [(3, .int 1), (2, .int 0), (0, .ref Γ.2.1), (1, .int v1)]) hk dX2_shamOf_3 rfl (by decide) rfl ?_
  refine g_sub (ls' := [(0, .ref Γ.2.1), (1, .int v1), (2, .int 0), (3, .int 1)]) [2, 3, 1, 0] rfl ?_
  exact tm_shamOf_l4 hk hK v1 FU τ 0 1
def rm_sham : Room := { frames := 9, cells := 0, slots := 0, locals := 218 }
theorem hv_sham : yX2_sham.cls = RX2 ∧ yX2_sham.cls ≠ "java/lang/invoke/MethodHandle" ∧ yX2_sham.cls ≠ "java/lang/invoke/VarHandle" ∧ (parseMethodDescriptor yX2_sham.desc).map (fun d => d.parameters.length) = some 1 := by decide +kernel
theorem tm_sham (Γ : TG) (τ : TS) (v1 : Int32)  (r : Int32 × TS) (h : T_sham τ v1 = some r) : TMet Γ yX2_sham cX2_sham 2 (some .int) rm_sham [.ref Γ.2.1, .int v1] τ (some (.int r.1)) r.2 := by
  refine t_met (view := (fun r : Int32 × TS => (some (Value.int r.1), r.2))) rfl rfl (ls0 := [(0, .ref Γ.2.1), (1, .int v1)]) rfl (fun K hk hK => ?_) r h
  unfold T_sham
  refine g_aload_n (pc := 0) hk dX2_sham_0 rfl ?_
  refine g_iload_n (pc := 1) hk dX2_sham_1 rfl ?_
  refine g_ob1 (fun r1 h2 => ?_)
  refine t_callV (pc := 2) hk hK [.int v1] [] (tm_isPerson Γ τ v1 r1 h2) (lw_V q1671 q1673 qs86 q128 q1674) hv_isPerson rfl rfl rfl dX2_sham_2 rfl rfl ?_
  refine g_if_eq (pc := 5) (tgt := 16) hk dX2_sham_5 rfl ?_ ?_
  · refine g_iconst (pc := 16) (v := (-1)) hk dX2_sham_16 rfl ?_
    exact t_iret (pc := 17) hk rfl dX2_sham_17
  · refine g_aload_n (pc := 8) hk dX2_sham_8 rfl ?_
    refine g_iload_n (pc := 9) hk dX2_sham_9 rfl ?_
    refine g_ob2 (fun r3 τ5 h4 => ?_)
    refine t_callV (pc := 10) hk hK [.int v1] [] (tm_shamOf Γ τ v1 (r3, τ5) h4) (lw_V q1911 q1913 qs114 q128 q1914) hv_shamOf rfl rfl rfl dX2_sham_10 rfl rfl ?_
    refine g_goto (pc := 13) (tgt := 17) hk dX2_sham_13 rfl ?_
    exact t_iret (pc := 17) hk rfl dX2_sham_17
def rm_shams : Room := { frames := 9, cells := 0, slots := 0, locals := 218 }
theorem hv_shams : yX2_shams.cls = RX2 ∧ yX2_shams.cls ≠ "java/lang/invoke/MethodHandle" ∧ yX2_shams.cls ≠ "java/lang/invoke/VarHandle" ∧ (parseMethodDescriptor yX2_shams.desc).map (fun d => d.parameters.length) = some 0 := by decide +kernel
theorem tm_shams_j46 {K : KT} {Γ : TG} (hk : KOK K cX2_shams 3 RX2 rm_shams (some .int)) (hK : va_K Γ.1 tcl (ttys Γ) (kS K)) (τ : TS) (v2 : Int32) (s0 : Int32) (s1 : Int32)  (k4 : TS → Int32 → Int32 → Option (Int32 × TS)) (hk4 : ∀ (τ : TS) (v1 : Int32) (v2 : Int32), GGo K (tQ K Γ (fun r : Int32 × TS => (some (Value.int r.1), r.2))) (k4 τ v1 v2) 3 (TI Γ (kS K) τ) 0 0 4 [(0, .ref Γ.2.1), (1, .int v1), (2, .int v2)] []) : GGo K (tQ K Γ (fun r : Int32 × TS => (some (Value.int r.1), r.2))) (T_shams_j46 k4 τ v2 s0 s1) 3 (TI Γ (kS K) τ) 0 0 46 [(0, .ref Γ.2.1), (2, .int v2)] [.int s1, .int s0] := by
  unfold T_shams_j46
  refine g_ior (pc := 46) hk dX2_shams_46 ?_
  refine g_istore_nN (pc := 47) (i := 1) (ls' := fun x10 => [(1, .int x10), (0, .ref Γ.2.1), (2, .int v2)]) hk dX2_shams_47 rfl (by decide) (fun _ => rfl) (fun x10 => ?_)
  refine g_iincN (pc := 48) (v := 1) (ls' := fun x11 => [(2, .int x11), (1, .int x10), (0, .ref Γ.2.1)]) hk dX2_shams_48 rfl rfl (by decide) (fun _ => rfl) (fun x11 => ?_)
  refine g_goto (pc := 51) (tgt := 4) hk dX2_shams_51 rfl ?_
  refine g_sub (ls' := [(0, .ref Γ.2.1), (1, .int x10), (2, .int x11)]) [2, 1, 0] rfl ?_
  exact hk4 τ x10 x11
theorem tm_shams_l4 {K : KT} {Γ : TG} (hk : KOK K cX2_shams 3 RX2 rm_shams (some .int)) (hK : va_K Γ.1 tcl (ttys Γ) (kS K))    : ∀ (n : Nat) (τ : TS) (v1 : Int32) (v2 : Int32), GGo K (tQ K Γ (fun r : Int32 × TS => (some (Value.int r.1), r.2))) (T_shams_l4 n τ v1 v2) 3 (TI Γ (kS K) τ) 0 0 4 [(0, .ref Γ.2.1), (1, .int v1), (2, .int v2)] [] := by
  intro n
  induction n with
  | zero =>
    intro τ v1 v2
    unfold T_shams_l4
    exact g_none
  | succ n ih =>
    intro τ v1 v2
    unfold T_shams_l4
    refine g_iload_n (pc := 4) hk dX2_shams_4 rfl ?_
    refine g_aload_n (pc := 5) hk dX2_shams_5 rfl ?_
    refine t_getR (pc := 6) hk hK tr_0 tf_0 dX2_shams_6 ?_
    refine g_iconst (pc := 9) (v := 0) hk dX2_shams_9 rfl ?_
    refine t_ialdC (pc := 10) (j := 0) hk hK ta_0 rfl rfl dX2_shams_10 ?_
    refine g_icmp_ge (pc := 11) (tgt := 54) hk dX2_shams_11 rfl ?_ ?_
    · refine g_iload_n (pc := 54) hk dX2_shams_54 rfl ?_
      exact t_iret (pc := 55) hk rfl dX2_shams_55
    · refine g_iload_n (pc := 14) hk dX2_shams_14 rfl ?_
      refine g_aload_n (pc := 15) hk dX2_shams_15 rfl ?_
      refine g_iload_n (pc := 16) hk dX2_shams_16 rfl ?_
      refine g_aload_n (pc := 17) hk dX2_shams_17 rfl ?_
      refine g_iload_n (pc := 18) hk dX2_shams_18 rfl ?_
      refine g_ob2 (fun r1 τ3 h2 => ?_)
      refine t_callV (pc := 19) hk hK [.int v2] [.int v2, .ref Γ.2.1, .int v1] (tm_shamOf Γ τ v2 (r1, τ3) h2) (lw_V q1911 q1913 qs114 q128 q1914) hv_shamOf rfl rfl rfl dX2_shams_19 rfl rfl ?_
      refine g_ob2 (fun r4 τ6 h5 => ?_)
      refine t_callV (pc := 22) hk hK [.int v2, .int r1] [.int v1] (tm_ratesBy Γ τ3 v2 r1 (r4, τ6) h5) (lw_V q1915 q1917 qs115 q128 q1918) hv_ratesBy rfl rfl rfl dX2_shams_22 rfl rfl ?_
      refine g_aload_n (pc := 25) hk dX2_shams_25 rfl ?_
      refine g_aload_n (pc := 26) hk dX2_shams_26 rfl ?_
      refine t_getR (pc := 27) hk hK tr_0 tf_0 dX2_shams_27 ?_
      refine g_iconst (pc := 30) (v := 2) hk dX2_shams_30 rfl ?_
      refine t_ialdC (pc := 31) (j := 2) hk hK ta_0 rfl rfl dX2_shams_31 ?_
      refine g_iload_n (pc := 32) hk dX2_shams_32 rfl ?_
      refine g_ob2 (fun r7 τ9 h8 => ?_)
      refine t_callV (pc := 33) hk hK [.int (tA τ6 0 2), .int v2] [.int r4, .int v1] (tm_ratesOf Γ τ6 (tA τ6 0 2) v2 (r7, τ9) h8) (lw_V q1742 q1744 qs98 q128 q1745) hv_ratesOf rfl rfl rfl dX2_shams_33 rfl rfl ?_
      refine g_icmp_ge (pc := 36) (tgt := 45) hk dX2_shams_36 rfl ?_ ?_
      · refine g_iconst (pc := 45) (v := 0) hk dX2_shams_45 rfl ?_
        refine g_sub (ls' := [(0, .ref Γ.2.1), (2, .int v2)]) [0, 2] rfl ?_
        exact tm_shams_j46 hk hK τ9 v2 v1 0 (T_shams_l4 n) ih
      · refine g_iconst (pc := 39) (v := 1) hk dX2_shams_39 rfl ?_
        refine g_iload_n (pc := 40) hk dX2_shams_40 rfl ?_
        refine g_ishl (pc := 41) hk dX2_shams_41 ?_
        refine g_goto (pc := 42) (tgt := 46) hk dX2_shams_42 rfl ?_
        refine g_sub (ls' := [(0, .ref Γ.2.1), (2, .int v2)]) [0, 2] rfl ?_
        exact tm_shams_j46 hk hK τ9 v2 v1 (i_shl 1 v2) (T_shams_l4 n) ih
theorem tm_shams (Γ : TG) (τ : TS)   (r : Int32 × TS) (h : T_shams τ = some r) : TMet Γ yX2_shams cX2_shams 3 (some .int) rm_shams [.ref Γ.2.1] τ (some (.int r.1)) r.2 := by
  refine t_met (view := (fun r : Int32 × TS => (some (Value.int r.1), r.2))) rfl rfl (ls0 := [(0, .ref Γ.2.1)]) rfl (fun K hk hK => ?_) r h
  unfold T_shams
  refine g_iconst (pc := 0) (v := 0) hk dX2_shams_0 rfl ?_
  refine g_istore_n (pc := 1) (i := 1) (ls' := [(1, .int 0), (0, .ref Γ.2.1)]) hk dX2_shams_1 rfl (by decide) rfl ?_
  refine g_iconst (pc := 2) (v := 0) hk dX2_shams_2 rfl ?_
  refine g_istore_n (pc := 3) (i := 2) (ls' := [(2, .int 0), (1, .int 0), (0, .ref Γ.2.1)]) hk dX2_shams_3 rfl (by decide) rfl ?_
  refine g_sub (ls' := [(0, .ref Γ.2.1), (1, .int 0), (2, .int 0)]) [2, 1, 0] rfl ?_
  exact tm_shams_l4 hk hK FU τ 0 0
def rm_till : Room := { frames := 2, cells := 0, slots := 0, locals := 43 }
theorem hv_till : yX2_till.cls = RX2 ∧ yX2_till.cls ≠ "java/lang/invoke/MethodHandle" ∧ yX2_till.cls ≠ "java/lang/invoke/VarHandle" ∧ (parseMethodDescriptor yX2_till.desc).map (fun d => d.parameters.length) = some 2 := by decide +kernel
theorem tm_till (Γ : TG) (τ : TS) (v1 : Int32) (v2 : Int32)  (r : Int32) (h : T_till τ v1 v2 = some r) : TMet Γ yX2_till cX2_till 3 (some .int) rm_till [.ref Γ.2.1, .int v1, .int v2] τ (some (.int r)) τ := by
  refine t_met (view := (fun r : Int32 => (some (Value.int r), τ))) rfl rfl (ls0 := [(0, .ref Γ.2.1), (1, .int v1), (2, .int v2)]) rfl (fun K hk hK => ?_) r h
  unfold T_till
  refine g_aload_n (pc := 0) hk dX2_till_0 rfl ?_
  refine g_iload_n (pc := 1) hk dX2_till_1 rfl ?_
  refine g_ob1 (fun r1 h2 => ?_)
  refine t_callV (pc := 2) hk hK [.int v1] [] (tm_isPerson Γ τ v1 r1 h2) (lw_V q1671 q1673 qs86 q128 q1674) hv_isPerson rfl rfl rfl dX2_till_2 rfl rfl ?_
  refine g_if_eq (pc := 5) (tgt := 18) hk dX2_till_5 rfl ?_ ?_
  · refine g_iconst (pc := 18) (v := (-1)) hk dX2_till_18 rfl ?_
    exact t_iret (pc := 19) hk rfl dX2_till_19
  · refine g_iload_n (pc := 8) hk dX2_till_8 rfl ?_
    refine g_iconst (pc := 9) (v := 0) hk dX2_till_9 rfl ?_
    refine g_bipush (pc := 10) (v := 99) hk dX2_till_10 rfl ?_
    refine g_ob1 (fun r3 h4 => ?_)
    refine t_callS (pc := 12) hk hK [.int v2, .int 0, .int 99] [] (tm_isIn Γ τ v2 0 99 r3 h4) (lw_S q1477 q1478 q128 q1479) hs_isIn rfl rfl rfl dX2_till_12 rfl rfl ?_
    refine g_if_ne (pc := 15) (tgt := 20) hk dX2_till_15 rfl ?_ ?_
    · refine g_iload_n (pc := 20) hk dX2_till_20 rfl ?_
      refine g_aload_n (pc := 21) hk dX2_till_21 rfl ?_
      refine g_iload_n (pc := 22) hk dX2_till_22 rfl ?_
      refine g_iconst (pc := 23) (v := 0) hk dX2_till_23 rfl ?_
      refine g_ob1 (fun r5 h6 => ?_)
      refine t_callV (pc := 24) hk hK [.int v1, .int 0] [.int v2] (tm_get Γ τ v1 0 r5 h6) (lw_V q1488 q1490 qs57 q128 q1491) hv_get rfl rfl rfl dX2_till_24 rfl rfl ?_
      refine g_icmp_le (pc := 27) (tgt := 41) hk dX2_till_27 rfl ?_ ?_
      · refine g_iconst (pc := 41) (v := 0) hk dX2_till_41 rfl ?_
        exact t_iret (pc := 42) hk rfl dX2_till_42
      · refine g_iload_n (pc := 30) hk dX2_till_30 rfl ?_
        refine g_aload_n (pc := 31) hk dX2_till_31 rfl ?_
        refine g_iload_n (pc := 32) hk dX2_till_32 rfl ?_
        refine g_iconst (pc := 33) (v := 0) hk dX2_till_33 rfl ?_
        refine g_ob1 (fun r7 h8 => ?_)
        refine t_callV (pc := 34) hk hK [.int v1, .int 0] [.int v2] (tm_get Γ τ v1 0 r7 h8) (lw_V q1488 q1490 qs57 q128 q1491) hv_get rfl rfl rfl dX2_till_34 rfl rfl ?_
        refine g_isub (pc := 37) hk dX2_till_37 ?_
        refine g_goto (pc := 38) (tgt := 42) hk dX2_till_38 rfl ?_
        exact t_iret (pc := 42) hk rfl dX2_till_42
    · refine g_iconst (pc := 18) (v := (-1)) hk dX2_till_18 rfl ?_
      exact t_iret (pc := 19) hk rfl dX2_till_19
def rm_need : Room := { frames := 2, cells := 0, slots := 0, locals := 42 }
theorem hv_need : yX2_need.cls = RX2 ∧ yX2_need.cls ≠ "java/lang/invoke/MethodHandle" ∧ yX2_need.cls ≠ "java/lang/invoke/VarHandle" ∧ (parseMethodDescriptor yX2_need.desc).map (fun d => d.parameters.length) = some 2 := by decide +kernel
theorem tm_need (Γ : TG) (τ : TS) (v1 : Int32) (v2 : Int32)  (r : Int32 × TS) (h : T_need τ v1 v2 = some r) : TMet Γ yX2_need cX2_need 3 (some .boolean) rm_need [.ref Γ.2.1, .int v1, .int v2] τ (some (.int r.1)) r.2 := by
  refine t_met (view := (fun r : Int32 × TS => (some (Value.int r.1), r.2))) rfl rfl (ls0 := [(0, .ref Γ.2.1), (1, .int v1), (2, .int v2)]) rfl (fun K hk hK => ?_) r h
  unfold T_need
  refine g_iload_n (pc := 0) hk dX2_need_0 rfl ?_
  refine g_ob1 (fun r1 h2 => ?_)
  refine t_callS (pc := 1) hk hK [.int v1] [] (tm_isChair Γ τ v1 r1 h2) (lw_S q1496 q1497 q128 q1498) hs_isChair rfl rfl rfl dX2_need_1 rfl rfl ?_
  refine g_if_eq (pc := 4) (tgt := 16) hk dX2_need_4 rfl ?_ ?_
  · refine g_iconst (pc := 16) (v := 0) hk dX2_need_16 rfl ?_
    exact t_zret (pc := 17) hk rfl rfl dX2_need_17
  · refine g_iload_n (pc := 7) hk dX2_need_7 rfl ?_
    refine g_iconst (pc := 8) (v := 0) hk dX2_need_8 rfl ?_
    refine g_iconst (pc := 9) (v := 3) hk dX2_need_9 rfl ?_
    refine g_ob1 (fun r3 h4 => ?_)
    refine t_callS (pc := 10) hk hK [.int v2, .int 0, .int 3] [] (tm_isIn Γ τ v2 0 3 r3 h4) (lw_S q1477 q1478 q128 q1479) hs_isIn rfl rfl rfl dX2_need_10 rfl rfl ?_
    refine g_if_ne (pc := 13) (tgt := 18) hk dX2_need_13 rfl ?_ ?_
    · refine g_aload_n (pc := 18) hk dX2_need_18 rfl ?_
      refine t_getR (pc := 19) hk hK tr_0 tf_0 dX2_need_19 ?_
      refine g_bipush (pc := 22) (v := 58) hk dX2_need_22 rfl ?_
      refine g_iload_n (pc := 24) hk dX2_need_24 rfl ?_
      refine g_iadd (pc := 25) hk dX2_need_25 ?_
      refine g_iload_n (pc := 26) hk dX2_need_26 rfl ?_
      refine t_iast (pc := 27) hk hK ta_0 dX2_need_27 (fun τ5 => ?_)
      refine g_iconst (pc := 28) (v := 1) hk dX2_need_28 rfl ?_
      exact t_zret (pc := 29) hk rfl rfl dX2_need_29
    · refine g_iconst (pc := 16) (v := 0) hk dX2_need_16 rfl ?_
      exact t_zret (pc := 17) hk rfl rfl dX2_need_17
