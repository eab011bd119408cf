/-! WALKS of the twin's methods, by program (wip: gen.py) -/
set_option maxRecDepth 100000
def rm_copy : Room := { frames := 0, cells := 0, slots := 0, locals := 0 }
theorem hs_copy : yX2_copy.cls ≠ "java/lang/invoke/MethodHandle" ∧ yX2_copy.cls ≠ "java/lang/invoke/VarHandle" ∧ (parseMethodDescriptor yX2_copy.desc).map (fun d => d.parameters.length) = some 2 := by decide +kernel
theorem tm_copy_l2 {K : KT} {Γ : TG} (hk : KOK K cX2_copy 3 RX2 rm_copy none) (hK : va_K Γ.1 tcl (ttys Γ) (kS K)) (k0 : Nat) (k1 : Nat) {q0 : Nat} (hk0 : tAr k0 q0 2030) {q1 : Nat} (hk1 : tAr k1 q1 2030)  : ∀ (n : Nat) (τ : TS) (v2 : Int32), GGo K (tQ K Γ (fun r : TS => ((none : Option Value), r))) (T_copy_l2 k0 k1 n τ v2) 3 (TI Γ (kS K) τ) 0 0 2 [(0, .ref (Γ.2.2.1 k0)), (1, .ref (Γ.2.2.1 k1)), (2, .int v2)] [] := by
  intro n
  induction n with
  | zero =>
    intro τ v2
    unfold T_copy_l2
    exact g_none
  | succ n ih =>
    intro τ v2
    unfold T_copy_l2
    refine g_iload_n (pc := 2) hk dX2_copy_2 rfl ?_
    refine g_sipush (pc := 3) (v := 2030) hk dX2_copy_3 rfl ?_
    refine g_icmp_ge (pc := 6) (tgt := 21) hk dX2_copy_6 rfl ?_ ?_
    · exact t_vret (pc := 21) hk rfl dX2_copy_21
    · refine g_aload_n (pc := 9) hk dX2_copy_9 rfl ?_
      refine g_iload_n (pc := 10) hk dX2_copy_10 rfl ?_
      refine g_aload_n (pc := 11) hk dX2_copy_11 rfl ?_
      refine g_iload_n (pc := 12) hk dX2_copy_12 rfl ?_
      refine t_iald (pc := 13) hk hK hk0 dX2_copy_13 ?_
      refine t_iast (pc := 14) hk hK hk1 dX2_copy_14 (fun τ1 => ?_)
      refine g_iincN (pc := 15) (v := 1) (ls' := fun x2 => [(2, .int x2), (0, .ref (Γ.2.2.1 k0)), (1, .ref (Γ.2.2.1 k1))]) hk dX2_copy_15 rfl rfl (by decide) (fun _ => rfl) (fun x2 => ?_)
      refine g_goto (pc := 18) (tgt := 2) hk dX2_copy_18 rfl ?_
      refine g_sub (ls' := [(0, .ref (Γ.2.2.1 k0)), (1, .ref (Γ.2.2.1 k1)), (2, .int x2)]) [1, 2, 0] rfl ?_
      exact ih τ1 x2
theorem tm_copy (Γ : TG) (τ : TS) (k0 : Nat) (k1 : Nat) {q0 : Nat} (hk0 : tAr k0 q0 2030) {q1 : Nat} (hk1 : tAr k1 q1 2030) (r : TS) (h : T_copy τ k0 k1 = some r) : TMet Γ yX2_copy cX2_copy 3 none rm_copy [.ref (Γ.2.2.1 k0), .ref (Γ.2.2.1 k1)] τ none r := by
  refine t_met (view := (fun r : TS => ((none : Option Value), r))) rfl rfl (ls0 := [(0, .ref (Γ.2.2.1 k0)), (1, .ref (Γ.2.2.1 k1))]) rfl (fun K hk hK => ?_) r h
  unfold T_copy
  refine g_iconst (pc := 0) (v := 0) hk dX2_copy_0 rfl ?_
  refine g_istore_n (pc := 1) (i := 2) (ls' := [(2, .int 0), (0, .ref (Γ.2.2.1 k0)), (1, .ref (Γ.2.2.1 k1))]) hk dX2_copy_1 rfl (by decide) rfl ?_
  refine g_sub (ls' := [(0, .ref (Γ.2.2.1 k0)), (1, .ref (Γ.2.2.1 k1)), (2, .int 0)]) [1, 2, 0] rfl ?_
  exact tm_copy_l2 hk hK k0 k1 hk0 hk1 FU τ 0
def rm_isIn : Room := { frames := 0, cells := 0, slots := 0, locals := 0 }
theorem hs_isIn : yX2_isIn.cls ≠ "java/lang/invoke/MethodHandle" ∧ yX2_isIn.cls ≠ "java/lang/invoke/VarHandle" ∧ (parseMethodDescriptor yX2_isIn.desc).map (fun d => d.parameters.length) = some 3 := by decide +kernel
theorem tm_isIn (Γ : TG) (τ : TS) (v0 : Int32) (v1 : Int32) (v2 : Int32)  (r : Int32) (h : T_isIn v0 v1 v2 = some r) : TMet Γ yX2_isIn cX2_isIn 3 (some .boolean) rm_isIn [.int v0, .int v1, .int v2] τ (some (.int r)) τ := by
  refine t_met (view := (fun r : Int32 => (some (Value.int r), τ))) rfl rfl (ls0 := [(0, .int v0), (1, .int v1), (2, .int v2)]) rfl (fun K hk hK => ?_) r h
  unfold T_isIn
  refine g_iload_n (pc := 0) hk dX2_isIn_0 rfl ?_
  refine g_iload_n (pc := 1) hk dX2_isIn_1 rfl ?_
  refine g_icmp_lt (pc := 2) (tgt := 14) hk dX2_isIn_2 rfl ?_ ?_
  · refine g_iconst (pc := 14) (v := 0) hk dX2_isIn_14 rfl ?_
    exact t_zret (pc := 15) hk rfl rfl dX2_isIn_15
  · refine g_iload_n (pc := 5) hk dX2_isIn_5 rfl ?_
    refine g_iload_n (pc := 6) hk dX2_isIn_6 rfl ?_
    refine g_icmp_gt (pc := 7) (tgt := 14) hk dX2_isIn_7 rfl ?_ ?_
    · refine g_iconst (pc := 14) (v := 0) hk dX2_isIn_14 rfl ?_
      exact t_zret (pc := 15) hk rfl rfl dX2_isIn_15
    · refine g_iconst (pc := 10) (v := 1) hk dX2_isIn_10 rfl ?_
      refine g_goto (pc := 11) (tgt := 15) hk dX2_isIn_11 rfl ?_
      exact t_zret (pc := 15) hk rfl rfl dX2_isIn_15
def rm_put : Room := { frames := 0, cells := 0, slots := 0, locals := 0 }
theorem hv_put : yX2_put.cls = RX2 ∧ yX2_put.cls ≠ "java/lang/invoke/MethodHandle" ∧ yX2_put.cls ≠ "java/lang/invoke/VarHandle" ∧ (parseMethodDescriptor yX2_put.desc).map (fun d => d.parameters.length) = some 3 := by decide +kernel
theorem tm_put (Γ : TG) (τ : TS) (v1 : Int32) (v2 : Int32) (v3 : Int32)  (r : TS) (h : T_put τ v1 v2 v3 = some r) : TMet Γ yX2_put cX2_put 4 none rm_put [.ref Γ.2.1, .int v1, .int v2, .int v3] τ none r := by
  refine t_met (view := (fun r : TS => ((none : Option Value), r))) rfl rfl (ls0 := [(0, .ref Γ.2.1), (1, .int v1), (2, .int v2), (3, .int v3)]) rfl (fun K hk hK => ?_) r h
  unfold T_put
  refine g_aload_n (pc := 0) hk dX2_put_0 rfl ?_
  refine t_getR (pc := 1) hk hK tr_0 tf_0 dX2_put_1 ?_
  refine g_bipush (pc := 4) (v := 10) hk dX2_put_4 rfl ?_
  refine g_iconst (pc := 6) (v := 5) hk dX2_put_6 rfl ?_
  refine g_iload_n (pc := 7) hk dX2_put_7 rfl ?_
  refine g_imul (pc := 8) hk dX2_put_8 ?_
  refine g_iadd (pc := 9) hk dX2_put_9 ?_
  refine g_iload_n (pc := 10) hk dX2_put_10 rfl ?_
  refine g_iadd (pc := 11) hk dX2_put_11 ?_
  refine g_iload_n (pc := 12) hk dX2_put_12 rfl ?_
  refine t_iast (pc := 13) hk hK ta_0 dX2_put_13 (fun τ1 => ?_)
  exact t_vret (pc := 14) hk rfl dX2_put_14
def rm_get : Room := { frames := 0, cells := 0, slots := 0, locals := 0 }
theorem hv_get : yX2_get.cls = RX2 ∧ yX2_get.cls ≠ "java/lang/invoke/MethodHandle" ∧ yX2_get.cls ≠ "java/lang/invoke/VarHandle" ∧ (parseMethodDescriptor yX2_get.desc).map (fun d => d.parameters.length) = some 2 := by decide +kernel
theorem tm_get (Γ : TG) (τ : TS) (v1 : Int32) (v2 : Int32)  (r : Int32) (h : T_get τ v1 v2 = some r) : TMet Γ yX2_get cX2_get 3 (some .int) rm_get [.ref Γ.2.1, .int v1, .int v2] τ (some (.int r)) τ := by
  refine t_met (view := (fun r : Int32 => (some (Value.int r), τ))) rfl rfl (ls0 := [(0, .ref Γ.2.1), (1, .int v1), (2, .int v2)]) rfl (fun K hk hK => ?_) r h
  unfold T_get
  refine g_aload_n (pc := 0) hk dX2_get_0 rfl ?_
  refine t_getR (pc := 1) hk hK tr_0 tf_0 dX2_get_1 ?_
  refine g_bipush (pc := 4) (v := 10) hk dX2_get_4 rfl ?_
  refine g_iconst (pc := 6) (v := 5) hk dX2_get_6 rfl ?_
  refine g_iload_n (pc := 7) hk dX2_get_7 rfl ?_
  refine g_imul (pc := 8) hk dX2_get_8 ?_
  refine g_iadd (pc := 9) hk dX2_get_9 ?_
  refine g_iload_n (pc := 10) hk dX2_get_10 rfl ?_
  refine g_iadd (pc := 11) hk dX2_get_11 ?_
  refine t_iald (pc := 12) hk hK ta_0 dX2_get_12 ?_
  exact t_iret (pc := 13) hk rfl dX2_get_13
def rm_begin : Room := { frames := 1, cells := 0, slots := 0, locals := 23 }
theorem hv_begin : yX2_begin.cls = RX2 ∧ yX2_begin.cls ≠ "java/lang/invoke/MethodHandle" ∧ yX2_begin.cls ≠ "java/lang/invoke/VarHandle" ∧ (parseMethodDescriptor yX2_begin.desc).map (fun d => d.parameters.length) = some 1 := by decide +kernel
theorem tm_begin (Γ : TG) (τ : TS) (v1 : Int32)  (r : TS) (h : T_begin τ v1 = some r) : TMet Γ yX2_begin cX2_begin 2 none rm_begin [.ref Γ.2.1, .int v1] τ none r := by
  refine t_met (view := (fun r : TS => ((none : Option Value), r))) rfl rfl (ls0 := [(0, .ref Γ.2.1), (1, .int v1)]) rfl (fun K hk hK => ?_) r h
  unfold T_begin
  refine g_aload_n (pc := 0) hk dX2_begin_0 rfl ?_
  refine g_iload_n (pc := 1) hk dX2_begin_1 rfl ?_
  refine g_iconst (pc := 2) (v := 0) hk dX2_begin_2 rfl ?_
  refine g_aload_n (pc := 3) hk dX2_begin_3 rfl ?_
  refine g_iload_n (pc := 4) hk dX2_begin_4 rfl ?_
  refine g_iconst (pc := 5) (v := 3) hk dX2_begin_5 rfl ?_
  refine g_ob1 (fun r1 h2 => ?_)
  refine t_callV (pc := 6) hk hK [.int v1, .int 3] [.int 0, .int v1, .ref Γ.2.1] (tm_get Γ τ v1 3 r1 h2) (lw_V q1488 q1490 qs57 q128 q1491) hv_get rfl rfl rfl dX2_begin_6 rfl rfl ?_
  refine g_ob1 (fun τ4 h3 => ?_)
  refine t_callV (pc := 9) hk hK [.int v1, .int 0, .int r1] [] (tm_put Γ τ v1 0 r1 τ4 h3) (lw_V q1480 q1482 qs55 q128 q1483) hv_put rfl rfl rfl dX2_begin_9 rfl rfl ?_
  refine g_aload_n (pc := 12) hk dX2_begin_12 rfl ?_
  refine g_iload_n (pc := 13) hk dX2_begin_13 rfl ?_
  refine g_iconst (pc := 14) (v := 1) hk dX2_begin_14 rfl ?_
  refine g_aload_n (pc := 15) hk dX2_begin_15 rfl ?_
  refine g_iload_n (pc := 16) hk dX2_begin_16 rfl ?_
  refine g_iconst (pc := 17) (v := 4) hk dX2_begin_17 rfl ?_
  refine g_ob1 (fun r5 h6 => ?_)
  refine t_callV (pc := 18) hk hK [.int v1, .int 4] [.int 1, .int v1, .ref Γ.2.1] (tm_get Γ τ4 v1 4 r5 h6) (lw_V q1488 q1490 qs57 q128 q1491) hv_get rfl rfl rfl dX2_begin_18 rfl rfl ?_
  refine g_ob1 (fun τ8 h7 => ?_)
  refine t_callV (pc := 21) hk hK [.int v1, .int 1, .int r5] [] (tm_put Γ τ4 v1 1 r5 τ8 h7) (lw_V q1480 q1482 qs55 q128 q1483) hv_put rfl rfl rfl dX2_begin_21 rfl rfl ?_
  refine g_aload_n (pc := 24) hk dX2_begin_24 rfl ?_
  refine g_iload_n (pc := 25) hk dX2_begin_25 rfl ?_
  refine g_iconst (pc := 26) (v := 2) hk dX2_begin_26 rfl ?_
  refine g_iconst (pc := 27) (v := 0) hk dX2_begin_27 rfl ?_
  refine g_ob1 (fun τ10 h9 => ?_)
  refine t_callV (pc := 28) hk hK [.int v1, .int 2, .int 0] [] (tm_put Γ τ8 v1 2 0 τ10 h9) (lw_V q1480 q1482 qs55 q128 q1483) hv_put rfl rfl rfl dX2_begin_28 rfl rfl ?_
  exact t_vret (pc := 31) hk rfl dX2_begin_31
def rm_person : Room := { frames := 2, cells := 0, slots := 0, locals := 44 }
theorem hv_person : yX2_person.cls = RX2 ∧ yX2_person.cls ≠ "java/lang/invoke/MethodHandle" ∧ yX2_person.cls ≠ "java/lang/invoke/VarHandle" ∧ (parseMethodDescriptor yX2_person.desc).map (fun d => d.parameters.length) = some 2 := by decide +kernel
theorem tm_person (Γ : TG) (τ : TS) (v1 : Int32) (v2 : Int32)  (r : Int32 × TS) (h : T_person τ v1 v2 = some r) : TMet Γ yX2_person cX2_person 4 (some .int) rm_person [.ref Γ.2.1, .int v1, .int v2] τ (some (.int r.1)) r.2 := by
  refine t_met (view := (fun r : Int32 × TS => (some (Value.int r.1), r.2))) rfl rfl (ls0 := [(0, .ref Γ.2.1), (1, .int v1), (2, .int v2)]) rfl (fun K hk hK => ?_) r h
  unfold T_person
  refine g_iload_n (pc := 0) hk dX2_person_0 rfl ?_
  refine g_iconst (pc := 1) (v := 0) hk dX2_person_1 rfl ?_
  refine g_bipush (pc := 2) (v := 99) hk dX2_person_2 rfl ?_
  refine g_ob1 (fun r1 h2 => ?_)
  refine t_callS (pc := 4) hk hK [.int v1, .int 0, .int 99] [] (tm_isIn Γ τ v1 0 99 r1 h2) (lw_S q1477 q1478 q128 q1479) hs_isIn rfl rfl rfl dX2_person_4 rfl rfl ?_
  refine g_if_eq (pc := 7) (tgt := 31) hk dX2_person_7 rfl ?_ ?_
  · refine g_iconst (pc := 31) (v := (-1)) hk dX2_person_31 rfl ?_
    exact t_iret (pc := 32) hk rfl dX2_person_32
  · refine g_iload_n (pc := 10) hk dX2_person_10 rfl ?_
    refine g_iconst (pc := 11) (v := 0) hk dX2_person_11 rfl ?_
    refine g_bipush (pc := 12) (v := 9) hk dX2_person_12 rfl ?_
    refine g_ob1 (fun r3 h4 => ?_)
    refine t_callS (pc := 14) hk hK [.int v2, .int 0, .int 9] [] (tm_isIn Γ τ v2 0 9 r3 h4) (lw_S q1477 q1478 q128 q1479) hs_isIn rfl rfl rfl dX2_person_14 rfl rfl ?_
    refine g_if_eq (pc := 17) (tgt := 31) hk dX2_person_17 rfl ?_ ?_
    · refine g_iconst (pc := 31) (v := (-1)) hk dX2_person_31 rfl ?_
      exact t_iret (pc := 32) hk rfl dX2_person_32
    · refine g_aload_n (pc := 20) hk dX2_person_20 rfl ?_
      refine t_getR (pc := 21) hk hK tr_0 tf_0 dX2_person_21 ?_
      refine g_iconst (pc := 24) (v := 0) hk dX2_person_24 rfl ?_
      refine t_ialdC (pc := 25) (j := 0) hk hK ta_0 rfl rfl dX2_person_25 ?_
      refine g_bipush (pc := 26) (v := 8) hk dX2_person_26 rfl ?_
      refine g_icmp_ne (pc := 28) (tgt := 33) hk dX2_person_28 rfl ?_ ?_
      · refine g_aload_n (pc := 33) hk dX2_person_33 rfl ?_
        refine t_getR (pc := 34) hk hK tr_0 tf_0 dX2_person_34 ?_
        refine g_iconst (pc := 37) (v := 0) hk dX2_person_37 rfl ?_
        refine t_ialdC (pc := 38) (j := 0) hk hK ta_0 rfl rfl dX2_person_38 ?_
        refine g_istore_nN (pc := 39) (i := 3) (ls' := fun x5 => [(3, .int x5), (0, .ref Γ.2.1), (1, .int v1), (2, .int v2)]) hk dX2_person_39 rfl (by decide) (fun _ => rfl) (fun x5 => ?_)
        refine g_aload_n (pc := 40) hk dX2_person_40 rfl ?_
        refine g_iload_n (pc := 41) hk dX2_person_41 rfl ?_
        refine g_iconst (pc := 42) (v := 3) hk dX2_person_42 rfl ?_
        refine g_iload_n (pc := 43) hk dX2_person_43 rfl ?_
        refine g_ob1 (fun τ7 h6 => ?_)
        refine t_callV (pc := 44) hk hK [.int x5, .int 3, .int v1] [] (tm_put Γ τ x5 3 v1 τ7 h6) (lw_V q1480 q1482 qs55 q128 q1483) hv_put rfl rfl rfl dX2_person_44 rfl rfl ?_
        refine g_aload_n (pc := 47) hk dX2_person_47 rfl ?_
        refine g_iload_n (pc := 48) hk dX2_person_48 rfl ?_
        refine g_iconst (pc := 49) (v := 4) hk dX2_person_49 rfl ?_
        refine g_iload_n (pc := 50) hk dX2_person_50 rfl ?_
        refine g_ob1 (fun τ9 h8 => ?_)
        refine t_callV (pc := 51) hk hK [.int x5, .int 4, .int v2] [] (tm_put Γ τ7 x5 4 v2 τ9 h8) (lw_V q1480 q1482 qs55 q128 q1483) hv_put rfl rfl rfl dX2_person_51 rfl rfl ?_
        refine g_aload_n (pc := 54) hk dX2_person_54 rfl ?_
        refine g_iload_n (pc := 55) hk dX2_person_55 rfl ?_
        refine g_ob1 (fun τ11 h10 => ?_)
        refine t_callV (pc := 56) hk hK [.int x5] [] (tm_begin Γ τ9 x5 τ11 h10) (lw_V q1484 q1486 qs56 q128 q1487) hv_begin rfl rfl rfl dX2_person_56 rfl rfl ?_
        refine g_aload_n (pc := 59) hk dX2_person_59 rfl ?_
        refine t_getR (pc := 60) hk hK tr_0 tf_0 dX2_person_60 ?_
        refine g_iconst (pc := 63) (v := 0) hk dX2_person_63 rfl ?_
        refine g_dup2 (pc := 64) hk dX2_person_64 rfl rfl ?_
        refine t_ialdC (pc := 65) (j := 0) hk hK ta_0 rfl rfl dX2_person_65 ?_
        refine g_iconst (pc := 66) (v := 1) hk dX2_person_66 rfl ?_
        refine g_iadd (pc := 67) hk dX2_person_67 ?_
        refine t_iastC (pc := 68) (j := 0) hk hK ta_0 rfl rfl dX2_person_68 (fun τ12 => ?_)
        refine g_iload_n (pc := 69) hk dX2_person_69 rfl ?_
        exact t_iret (pc := 70) hk rfl dX2_person_70
      · refine g_iconst (pc := 31) (v := (-1)) hk dX2_person_31 rfl ?_
        exact t_iret (pc := 32) hk rfl dX2_person_32
def rm_isChair : Room := { frames := 1, cells := 0, slots := 0, locals := 22 }
theorem hs_isChair : yX2_isChair.cls ≠ "java/lang/invoke/MethodHandle" ∧ yX2_isChair.cls ≠ "java/lang/invoke/VarHandle" ∧ (parseMethodDescriptor yX2_isChair.desc).map (fun d => d.parameters.length) = some 1 := by decide +kernel
theorem tm_isChair (Γ : TG) (τ : TS) (v0 : Int32)  (r : Int32) (h : T_isChair v0 = some r) : TMet Γ yX2_isChair cX2_isChair 1 (some .boolean) rm_isChair [.int v0] τ (some (.int r)) τ := by
  refine t_met (view := (fun r : Int32 => (some (Value.int r), τ))) rfl rfl (ls0 := [(0, .int v0)]) rfl (fun K hk hK => ?_) r h
  unfold T_isChair
  refine g_iload_n (pc := 0) hk dX2_isChair_0 rfl ?_
  refine g_iconst (pc := 1) (v := 0) hk dX2_isChair_1 rfl ?_
  refine g_bipush (pc := 2) (v := 7) hk dX2_isChair_2 rfl ?_
  refine g_ob1 (fun r1 h2 => ?_)
  refine t_callS (pc := 4) hk hK [.int v0, .int 0, .int 7] [] (tm_isIn Γ τ v0 0 7 r1 h2) (lw_S q1477 q1478 q128 q1479) hs_isIn rfl rfl rfl dX2_isChair_4 rfl rfl ?_
  exact g_gd (fun h3 => t_zret (pc := 7) hk h3 rfl dX2_isChair_7)
def rm_other : Room := { frames := 2, cells := 0, slots := 0, locals := 42 }
theorem hv_other : yX2_other.cls = RX2 ∧ yX2_other.cls ≠ "java/lang/invoke/MethodHandle" ∧ yX2_other.cls ≠ "java/lang/invoke/VarHandle" ∧ (parseMethodDescriptor yX2_other.desc).map (fun d => d.parameters.length) = some 2 := by decide +kernel
theorem tm_other (Γ : TG) (τ : TS) (v1 : Int32) (v2 : Int32)  (r : Int32 × TS) (h : T_other τ v1 v2 = some r) : TMet Γ yX2_other cX2_other 3 (some .boolean) rm_other [.ref Γ.2.1, .int v1, .int v2] τ (some (.int r.1)) r.2 := by
  refine t_met (view := (fun r : Int32 × TS => (some (Value.int r.1), r.2))) rfl rfl (ls0 := [(0, .ref Γ.2.1), (1, .int v1), (2, .int v2)]) rfl (fun K hk hK => ?_) r h
  unfold T_other
  refine g_iload_n (pc := 0) hk dX2_other_0 rfl ?_
  refine g_ob1 (fun r1 h2 => ?_)
  refine t_callS (pc := 1) hk hK [.int v1] [] (tm_isChair Γ τ v1 r1 h2) (lw_S q1496 q1497 q128 q1498) hs_isChair rfl rfl rfl dX2_other_1 rfl rfl ?_
  refine g_if_eq (pc := 4) (tgt := 14) hk dX2_other_4 rfl ?_ ?_
  · refine g_iconst (pc := 14) (v := 0) hk dX2_other_14 rfl ?_
    exact t_zret (pc := 15) hk rfl rfl dX2_other_15
  · refine g_iload_n (pc := 7) hk dX2_other_7 rfl ?_
    refine g_ob1 (fun r3 h4 => ?_)
    refine t_callS (pc := 8) hk hK [.int v2] [] (tm_isChair Γ τ v2 r3 h4) (lw_S q1496 q1497 q128 q1498) hs_isChair rfl rfl rfl dX2_other_8 rfl rfl ?_
    refine g_if_ne (pc := 11) (tgt := 16) hk dX2_other_11 rfl ?_ ?_
    · refine g_aload_n (pc := 16) hk dX2_other_16 rfl ?_
      refine t_getR (pc := 17) hk hK tr_0 tf_0 dX2_other_17 ?_
      refine g_bipush (pc := 20) (v := 50) hk dX2_other_20 rfl ?_
      refine g_iload_n (pc := 22) hk dX2_other_22 rfl ?_
      refine g_iadd (pc := 23) hk dX2_other_23 ?_
      refine g_iload_n (pc := 24) hk dX2_other_24 rfl ?_
      refine t_iast (pc := 25) hk hK ta_0 dX2_other_25 (fun τ5 => ?_)
      refine g_iconst (pc := 26) (v := 1) hk dX2_other_26 rfl ?_
      exact t_zret (pc := 27) hk rfl rfl dX2_other_27
    · refine g_iconst (pc := 14) (v := 0) hk dX2_other_14 rfl ?_
      exact t_zret (pc := 15) hk rfl rfl dX2_other_15
def rm_four : Room := { frames := 0, cells := 0, slots := 0, locals := 0 }
theorem hv_four : yX2_four.cls = RX2 ∧ yX2_four.cls ≠ "java/lang/invoke/MethodHandle" ∧ yX2_four.cls ≠ "java/lang/invoke/VarHandle" ∧ (parseMethodDescriptor yX2_four.desc).map (fun d => d.parameters.length) = some 1 := by decide +kernel
theorem tm_four_l3 {K : KT} {Γ : TG} (hk : KOK K cX2_four 3 RX2 rm_four none) (hK : va_K Γ.1 tcl (ttys Γ) (kS K)) (v1 : Int32)   : ∀ (n : Nat) (τ : TS) (v2 : Int32), GGo K (tQ K Γ (fun r : TS => ((none : Option Value), r))) (T_four_l3 v1 n τ v2) 3 (TI Γ (kS K) τ) 0 0 3 [(0, .ref Γ.2.1), (1, .int v1), (2, .int v2)] [] := by
  intro n
  induction n with
  | zero =>
    intro τ v2
    unfold T_four_l3
    exact g_none
  | succ n ih =>
    intro τ v2
    unfold T_four_l3
    refine g_iload_n (pc := 3) hk dX2_four_3 rfl ?_
    refine g_if_lt (pc := 4) (tgt := 39) hk dX2_four_4 rfl ?_ ?_
    · exact t_vret (pc := 39) hk rfl dX2_four_39
    · refine g_aload_n (pc := 7) hk dX2_four_7 rfl ?_
      refine t_getR (pc := 8) hk hK tr_3 tf_3 dX2_four_8 ?_
      refine g_aload_n (pc := 11) hk dX2_four_11 rfl ?_
      refine t_getI (pc := 12) hk hK ti_4 tf_4 dX2_four_12 ?_
      refine g_iload_n (pc := 15) hk dX2_four_15 rfl ?_
      refine g_iload_n (pc := 16) hk dX2_four_16 rfl ?_
      refine g_ishr (pc := 17) hk dX2_four_17 ?_
      refine g_sipush (pc := 18) (v := 255) hk dX2_four_18 rfl ?_
      refine g_iand (pc := 21) hk dX2_four_21 ?_
      refine t_iast (pc := 22) hk hK ta_3 dX2_four_22 (fun τ1 => ?_)
      refine g_aload_n (pc := 23) hk dX2_four_23 rfl ?_
      refine g_dup (pc := 24) hk dX2_four_24 rfl ?_
      refine t_getI (pc := 25) hk hK ti_4 tf_4 dX2_four_25 ?_
      refine g_iconst (pc := 28) (v := 1) hk dX2_four_28 rfl ?_
      refine g_iadd (pc := 29) hk dX2_four_29 ?_
      refine t_putI (pc := 30) hk hK ti_4 tf_4 (Or.inl rfl) rfl dX2_four_30 (fun τ2 => ?_)
      refine g_iincN (pc := 33) (v := (-8)) (ls' := fun x3 => [(2, .int x3), (0, .ref Γ.2.1), (1, .int v1)]) hk dX2_four_33 rfl rfl (by decide) (fun _ => rfl) (fun x3 => ?_)
      refine g_goto (pc := 36) (tgt := 3) hk dX2_four_36 rfl ?_
      refine g_sub (ls' := [(0, .ref Γ.2.1), (1, .int v1), (2, .int x3)]) [1, 2, 0] rfl ?_
      exact ih τ2 x3
theorem tm_four (Γ : TG) (τ : TS) (v1 : Int32)  (r : TS) (h : T_four τ v1 = some r) : TMet Γ yX2_four cX2_four 3 none rm_four [.ref Γ.2.1, .int v1] τ none r := by
  refine t_met (view := (fun r : TS => ((none : Option Value), r))) rfl rfl (ls0 := [(0, .ref Γ.2.1), (1, .int v1)]) rfl (fun K hk hK => ?_) r h
  unfold T_four
  refine g_bipush (pc := 0) (v := 24) hk dX2_four_0 rfl ?_
  refine g_istore_n (pc := 2) (i := 2) (ls' := [(2, .int 24), (0, .ref Γ.2.1), (1, .int v1)]) hk dX2_four_2 rfl (by decide) rfl ?_
  refine g_sub (ls' := [(0, .ref Γ.2.1), (1, .int v1), (2, .int 24)]) [1, 2, 0] rfl ?_
  exact tm_four_l3 hk hK v1 FU τ 24
def rm_feed : Room := { frames := 1, cells := 0, slots := 0, locals := 22 }
theorem hv_feed : yX2_feed.cls = RX2 ∧ yX2_feed.cls ≠ "java/lang/invoke/MethodHandle" ∧ yX2_feed.cls ≠ "java/lang/invoke/VarHandle" ∧ (parseMethodDescriptor yX2_feed.desc).map (fun d => d.parameters.length) = some 5 := by decide +kernel
theorem tm_feed (Γ : TG) (τ : TS) (v1 : Int32) (v2 : Int32) (v3 : Int32) (v4 : Int32) (v5 : Int32)  (r : Int32 × TS) (h : T_feed τ v1 v2 v3 v4 v5 = some r) : TMet Γ yX2_feed cX2_feed 6 (some .int) rm_feed [.ref Γ.2.1, .int v1, .int v2, .int v3, .int v4, .int v5] τ (some (.int r.1)) r.2 := by
  refine t_met (view := (fun r : Int32 × TS => (some (Value.int r.1), r.2))) rfl rfl (ls0 := [(0, .ref Γ.2.1), (1, .int v1), (2, .int v2), (3, .int v3), (4, .int v4), (5, .int v5)]) rfl (fun K hk hK => ?_) r h
  unfold T_feed
  refine g_aload_n (pc := 0) hk dX2_feed_0 rfl ?_
  refine t_getI (pc := 1) hk hK ti_4 tf_4 dX2_feed_1 ?_
  refine g_bipush (pc := 4) (v := 20) hk dX2_feed_4 rfl ?_
  refine g_iadd (pc := 6) hk dX2_feed_6 ?_
  refine g_sipush (pc := 7) (v := 300) hk dX2_feed_7 rfl ?_
  refine g_icmp_le (pc := 10) (tgt := 15) hk dX2_feed_10 rfl ?_ ?_
  · refine g_aload_n (pc := 15) hk dX2_feed_15 rfl ?_
    refine g_iload_n (pc := 16) hk dX2_feed_16 rfl ?_
    refine g_ob1 (fun τ2 h1 => ?_)
    refine t_callV (pc := 17) hk hK [.int v1] [] (tm_four Γ τ v1 τ2 h1) (lw_V q1503 q1505 qs58 q128 q1506) hv_four rfl rfl rfl dX2_feed_17 rfl rfl ?_
    refine g_aload_n (pc := 20) hk dX2_feed_20 rfl ?_
    refine g_iload_n (pc := 21) hk dX2_feed_21 rfl ?_
    refine g_ob1 (fun τ4 h3 => ?_)
    refine t_callV (pc := 22) hk hK [.int v2] [] (tm_four Γ τ2 v2 τ4 h3) (lw_V q1503 q1505 qs58 q128 q1506) hv_four rfl rfl rfl dX2_feed_22 rfl rfl ?_
    refine g_aload_n (pc := 25) hk dX2_feed_25 rfl ?_
    refine g_iload_n (pc := 26) hk dX2_feed_26 rfl ?_
    refine g_ob1 (fun τ6 h5 => ?_)
    refine t_callV (pc := 27) hk hK [.int v3] [] (tm_four Γ τ4 v3 τ6 h5) (lw_V q1503 q1505 qs58 q128 q1506) hv_four rfl rfl rfl dX2_feed_27 rfl rfl ?_
    refine g_aload_n (pc := 30) hk dX2_feed_30 rfl ?_
    refine g_iload (pc := 31) hk dX2_feed_31 rfl ?_
    refine g_ob1 (fun τ8 h7 => ?_)
    refine t_callV (pc := 33) hk hK [.int v4] [] (tm_four Γ τ6 v4 τ8 h7) (lw_V q1503 q1505 qs58 q128 q1506) hv_four rfl rfl rfl dX2_feed_33 rfl rfl ?_
    refine g_aload_n (pc := 36) hk dX2_feed_36 rfl ?_
    refine g_iload (pc := 37) hk dX2_feed_37 rfl ?_
    refine g_ob1 (fun τ10 h9 => ?_)
    refine t_callV (pc := 39) hk hK [.int v5] [] (tm_four Γ τ8 v5 τ10 h9) (lw_V q1503 q1505 qs58 q128 q1506) hv_four rfl rfl rfl dX2_feed_39 rfl rfl ?_
    refine g_aload_n (pc := 42) hk dX2_feed_42 rfl ?_
    refine t_getI (pc := 43) hk hK ti_4 tf_4 dX2_feed_43 ?_
    exact t_iret (pc := 46) hk rfl dX2_feed_46
  · refine g_iconst (pc := 13) (v := (-1)) hk dX2_feed_13 rfl ?_
    exact t_iret (pc := 14) hk rfl dX2_feed_14
def rm_end : Room := { frames := 1, cells := 0, slots := 0, locals := 22 }
theorem hv_end : yX2_end.cls = RX2 ∧ yX2_end.cls ≠ "java/lang/invoke/MethodHandle" ∧ yX2_end.cls ≠ "java/lang/invoke/VarHandle" ∧ (parseMethodDescriptor yX2_end.desc).map (fun d => d.parameters.length) = some 1 := by decide +kernel
theorem tm_end (Γ : TG) (τ : TS) (v1 : Int32)  (r : Int32 × TS) (h : T_end τ v1 = some r) : TMet Γ yX2_end cX2_end 2 (some .int) rm_end [.ref Γ.2.1, .int v1] τ (some (.int r.1)) r.2 := by
  refine t_met (view := (fun r : Int32 × TS => (some (Value.int r.1), r.2))) rfl rfl (ls0 := [(0, .ref Γ.2.1), (1, .int v1)]) rfl (fun K hk hK => ?_) r h
  unfold T_end
  refine g_iload_n (pc := 0) hk dX2_end_0 rfl ?_
  refine g_iconst (pc := 1) (v := 0) hk dX2_end_1 rfl ?_
  refine g_aload_n (pc := 2) hk dX2_end_2 rfl ?_
  refine t_getI (pc := 3) hk hK ti_4 tf_4 dX2_end_3 ?_
  refine g_ob1 (fun r1 h2 => ?_)
  refine t_callS (pc := 6) hk hK [.int v1, .int 0, .int (tI τ 4)] [] (tm_isIn Γ τ v1 0 (tI τ 4) r1 h2) (lw_S q1477 q1478 q128 q1479) hs_isIn rfl rfl rfl dX2_end_6 rfl rfl ?_
  refine g_if_ne (pc := 9) (tgt := 14) hk dX2_end_9 rfl ?_ ?_
  · refine g_aload_n (pc := 14) hk dX2_end_14 rfl ?_
    refine g_iload_n (pc := 15) hk dX2_end_15 rfl ?_
    refine t_putI (pc := 16) hk hK ti_4 tf_4 (Or.inl rfl) rfl dX2_end_16 (fun τ3 => ?_)
    refine g_iload_n (pc := 19) hk dX2_end_19 rfl ?_
    exact t_iret (pc := 20) hk rfl dX2_end_20
  · refine g_iconst (pc := 12) (v := (-1)) hk dX2_end_12 rfl ?_
    exact t_iret (pc := 13) hk rfl dX2_end_13
def rm_byteAt : Room := { frames := 0, cells := 0, slots := 0, locals := 0 }
theorem hv_byteAt : yX2_byteAt.cls = RX2 ∧ yX2_byteAt.cls ≠ "java/lang/invoke/MethodHandle" ∧ yX2_byteAt.cls ≠ "java/lang/invoke/VarHandle" ∧ (parseMethodDescriptor yX2_byteAt.desc).map (fun d => d.parameters.length) = some 1 := by decide +kernel
theorem tm_byteAt (Γ : TG) (τ : TS) (v1 : Int32)  (r : Int32) (h : T_byteAt τ v1 = some r) : TMet Γ yX2_byteAt cX2_byteAt 2 (some .int) rm_byteAt [.ref Γ.2.1, .int v1] τ (some (.int r)) τ := by
  refine t_met (view := (fun r : Int32 => (some (Value.int r), τ))) rfl rfl (ls0 := [(0, .ref Γ.2.1), (1, .int v1)]) rfl (fun K hk hK => ?_) r h
  unfold T_byteAt
  refine g_iload_n (pc := 0) hk dX2_byteAt_0 rfl ?_
  refine g_aload_n (pc := 1) hk dX2_byteAt_1 rfl ?_
  refine t_getI (pc := 2) hk hK ti_4 tf_4 dX2_byteAt_2 ?_
  refine g_icmp_ge (pc := 5) (tgt := 17) hk dX2_byteAt_5 rfl ?_ ?_
  · refine g_iconst (pc := 17) (v := (-1)) hk dX2_byteAt_17 rfl ?_
    exact t_iret (pc := 18) hk rfl dX2_byteAt_18
  · refine g_aload_n (pc := 8) hk dX2_byteAt_8 rfl ?_
    refine t_getR (pc := 9) hk hK tr_3 tf_3 dX2_byteAt_9 ?_
    refine g_iload_n (pc := 12) hk dX2_byteAt_12 rfl ?_
    refine t_iald (pc := 13) hk hK ta_3 dX2_byteAt_13 ?_
    refine g_goto (pc := 14) (tgt := 18) hk dX2_byteAt_14 rfl ?_
    exact t_iret (pc := 18) hk rfl dX2_byteAt_18
def rm_isFigure : Room := { frames := 0, cells := 0, slots := 0, locals := 0 }
theorem hs_isFigure : yX2_isFigure.cls ≠ "java/lang/invoke/MethodHandle" ∧ yX2_isFigure.cls ≠ "java/lang/invoke/VarHandle" ∧ (parseMethodDescriptor yX2_isFigure.desc).map (fun d => d.parameters.length) = some 1 := by decide +kernel
theorem tm_isFigure (Γ : TG) (τ : TS) (v0 : Int32)  (r : Int32) (h : T_isFigure v0 = some r) : TMet Γ yX2_isFigure cX2_isFigure 1 (some .boolean) rm_isFigure [.int v0] τ (some (.int r)) τ := by
  refine t_met (view := (fun r : Int32 => (some (Value.int r), τ))) rfl rfl (ls0 := [(0, .int v0)]) rfl (fun K hk hK => ?_) r h
  unfold T_isFigure
  refine g_iload_n (pc := 0) hk dX2_isFigure_0 rfl ?_
  refine g_bipush (pc := 1) (v := 48) hk dX2_isFigure_1 rfl ?_
  refine g_icmp_lt (pc := 3) (tgt := 16) hk dX2_isFigure_3 rfl ?_ ?_
  · refine g_iconst (pc := 16) (v := 0) hk dX2_isFigure_16 rfl ?_
    exact t_zret (pc := 17) hk rfl rfl dX2_isFigure_17
  · refine g_iload_n (pc := 6) hk dX2_isFigure_6 rfl ?_
    refine g_bipush (pc := 7) (v := 57) hk dX2_isFigure_7 rfl ?_
    refine g_icmp_gt (pc := 9) (tgt := 16) hk dX2_isFigure_9 rfl ?_ ?_
    · refine g_iconst (pc := 16) (v := 0) hk dX2_isFigure_16 rfl ?_
      exact t_zret (pc := 17) hk rfl rfl dX2_isFigure_17
    · refine g_iconst (pc := 12) (v := 1) hk dX2_isFigure_12 rfl ?_
      refine g_goto (pc := 13) (tgt := 17) hk dX2_isFigure_13 rfl ?_
      exact t_zret (pc := 17) hk rfl rfl dX2_isFigure_17
def rm_isLetterByte : Room := { frames := 0, cells := 0, slots := 0, locals := 0 }
theorem hs_isLetterByte : yX2_isLetterByte.cls ≠ "java/lang/invoke/MethodHandle" ∧ yX2_isLetterByte.cls ≠ "java/lang/invoke/VarHandle" ∧ (parseMethodDescriptor yX2_isLetterByte.desc).map (fun d => d.parameters.length) = some 1 := by decide +kernel
theorem tm_isLetterByte_j12 {K : KT} {Γ : TG} (hk : KOK K cX2_isLetterByte 1 RX2 rm_isLetterByte (some .boolean)) (hK : va_K Γ.1 tcl (ttys Γ) (kS K)) (v0 : Int32)  (τ : TS) : GGo K (tQ K Γ (fun r : Int32 => (some (Value.int r), τ))) (T_isLetterByte_j12 v0) 1 (TI Γ (kS K) τ) 0 0 12 [(0, .int v0)] [] := by
  unfold T_isLetterByte_j12
  refine g_iload_n (pc := 12) hk dX2_isLetterByte_12 rfl ?_
  refine g_bipush (pc := 13) (v := 65) hk dX2_isLetterByte_13 rfl ?_
  refine g_icmp_lt (pc := 15) (tgt := 28) hk dX2_isLetterByte_15 rfl ?_ ?_
  · refine g_iconst (pc := 28) (v := 0) hk dX2_isLetterByte_28 rfl ?_
    exact t_zret (pc := 29) hk rfl rfl dX2_isLetterByte_29
  · refine g_iload_n (pc := 18) hk dX2_isLetterByte_18 rfl ?_
    refine g_bipush (pc := 19) (v := 90) hk dX2_isLetterByte_19 rfl ?_
    refine g_icmp_gt (pc := 21) (tgt := 28) hk dX2_isLetterByte_21 rfl ?_ ?_
    · refine g_iconst (pc := 28) (v := 0) hk dX2_isLetterByte_28 rfl ?_
      exact t_zret (pc := 29) hk rfl rfl dX2_isLetterByte_29
    · refine g_iconst (pc := 24) (v := 1) hk dX2_isLetterByte_24 rfl ?_
      refine g_goto (pc := 25) (tgt := 29) hk dX2_isLetterByte_25 rfl ?_
      exact t_zret (pc := 29) hk rfl rfl dX2_isLetterByte_29
theorem tm_isLetterByte (Γ : TG) (τ : TS) (v0 : Int32)  (r : Int32) (h : T_isLetterByte v0 = some r) : TMet Γ yX2_isLetterByte cX2_isLetterByte 1 (some .boolean) rm_isLetterByte [.int v0] τ (some (.int r)) τ := by
  refine t_met (view := (fun r : Int32 => (some (Value.int r), τ))) rfl rfl (ls0 := [(0, .int v0)]) rfl (fun K hk hK => ?_) r h
  unfold T_isLetterByte
  refine g_iload_n (pc := 0) hk dX2_isLetterByte_0 rfl ?_
  refine g_bipush (pc := 1) (v := 97) hk dX2_isLetterByte_1 rfl ?_
  refine g_icmp_lt (pc := 3) (tgt := 12) hk dX2_isLetterByte_3 rfl ?_ ?_
  · exact tm_isLetterByte_j12 hk hK v0 τ
  · refine g_iload_n (pc := 6) hk dX2_isLetterByte_6 rfl ?_
    refine g_bipush (pc := 7) (v := 122) hk dX2_isLetterByte_7 rfl ?_
    refine g_icmp_le (pc := 9) (tgt := 24) hk dX2_isLetterByte_9 rfl ?_ ?_
    · refine g_iconst (pc := 24) (v := 1) hk dX2_isLetterByte_24 rfl ?_
      refine g_goto (pc := 25) (tgt := 29) hk dX2_isLetterByte_25 rfl ?_
      exact t_zret (pc := 29) hk rfl rfl dX2_isLetterByte_29
    · exact tm_isLetterByte_j12 hk hK v0 τ
def rm_isSign : Room := { frames := 0, cells := 0, slots := 0, locals := 0 }
theorem hs_isSign : yX2_isSign.cls ≠ "java/lang/invoke/MethodHandle" ∧ yX2_isSign.cls ≠ "java/lang/invoke/VarHandle" ∧ (parseMethodDescriptor yX2_isSign.desc).map (fun d => d.parameters.length) = some 1 := by decide +kernel
theorem tm_isSign (Γ : TG) (τ : TS) (v0 : Int32)  (r : Int32) (h : T_isSign v0 = some r) : TMet Γ yX2_isSign cX2_isSign 1 (some .boolean) rm_isSign [.int v0] τ (some (.int r)) τ := by
  refine t_met (view := (fun r : Int32 => (some (Value.int r), τ))) rfl rfl (ls0 := [(0, .int v0)]) rfl (fun K hk hK => ?_) r h
  unfold T_isSign
  refine g_iload_n (pc := 0) hk dX2_isSign_0 rfl ?_
  refine g_if (fun h1 => ?_) (fun n2 => ?_)
  · refine g_look (pc := 1) (off := 115) (tgt := 116) hk dX2_isSign_1 (by decide) (by rw [h1]; first | done | rfl) rfl ?_
    refine g_iconst (pc := 116) (v := 1) hk dX2_isSign_116 rfl ?_
    exact t_zret (pc := 117) hk rfl rfl dX2_isSign_117
  · refine g_if (fun h3 => ?_) (fun n4 => ?_)
    · refine g_look (pc := 1) (off := 115) (tgt := 116) hk dX2_isSign_1 (by decide) (by rw [h3]; first | done | rfl) rfl ?_
      refine g_iconst (pc := 116) (v := 1) hk dX2_isSign_116 rfl ?_
      exact t_zret (pc := 117) hk rfl rfl dX2_isSign_117
    · refine g_if (fun h5 => ?_) (fun n6 => ?_)
      · refine g_look (pc := 1) (off := 115) (tgt := 116) hk dX2_isSign_1 (by decide) (by rw [h5]; first | done | rfl) rfl ?_
        refine g_iconst (pc := 116) (v := 1) hk dX2_isSign_116 rfl ?_
        exact t_zret (pc := 117) hk rfl rfl dX2_isSign_117
      · refine g_if (fun h7 => ?_) (fun n8 => ?_)
        · refine g_look (pc := 1) (off := 115) (tgt := 116) hk dX2_isSign_1 (by decide) (by rw [h7]; first | done | rfl) rfl ?_
          refine g_iconst (pc := 116) (v := 1) hk dX2_isSign_116 rfl ?_
          exact t_zret (pc := 117) hk rfl rfl dX2_isSign_117
        · refine g_if (fun h9 => ?_) (fun n10 => ?_)
          · refine g_look (pc := 1) (off := 115) (tgt := 116) hk dX2_isSign_1 (by decide) (by rw [h9]; first | done | rfl) rfl ?_
            refine g_iconst (pc := 116) (v := 1) hk dX2_isSign_116 rfl ?_
            exact t_zret (pc := 117) hk rfl rfl dX2_isSign_117
          · refine g_if (fun h11 => ?_) (fun n12 => ?_)
            · refine g_look (pc := 1) (off := 115) (tgt := 116) hk dX2_isSign_1 (by decide) (by rw [h11]; first | done | rfl) rfl ?_
              refine g_iconst (pc := 116) (v := 1) hk dX2_isSign_116 rfl ?_
              exact t_zret (pc := 117) hk rfl rfl dX2_isSign_117
            · refine g_if (fun h13 => ?_) (fun n14 => ?_)
              · refine g_look (pc := 1) (off := 115) (tgt := 116) hk dX2_isSign_1 (by decide) (by rw [h13]; first | done | rfl) rfl ?_
                refine g_iconst (pc := 116) (v := 1) hk dX2_isSign_116 rfl ?_
                exact t_zret (pc := 117) hk rfl rfl dX2_isSign_117
              · refine g_if (fun h15 => ?_) (fun n16 => ?_)
                · refine g_look (pc := 1) (off := 115) (tgt := 116) hk dX2_isSign_1 (by decide) (by rw [h15]; first | done | rfl) rfl ?_
                  refine g_iconst (pc := 116) (v := 1) hk dX2_isSign_116 rfl ?_
                  exact t_zret (pc := 117) hk rfl rfl dX2_isSign_117
                · refine g_if (fun h17 => ?_) (fun n18 => ?_)
                  · refine g_look (pc := 1) (off := 115) (tgt := 116) hk dX2_isSign_1 (by decide) (by rw [h17]; first | done | rfl) rfl ?_
                    refine g_iconst (pc := 116) (v := 1) hk dX2_isSign_116 rfl ?_
                    exact t_zret (pc := 117) hk rfl rfl dX2_isSign_117
                  · refine g_if (fun h19 => ?_) (fun n20 => ?_)
                    · refine g_look (pc := 1) (off := 115) (tgt := 116) hk dX2_isSign_1 (by decide) (by rw [h19]; first | done | rfl) rfl ?_
                      refine g_iconst (pc := 116) (v := 1) hk dX2_isSign_116 rfl ?_
                      exact t_zret (pc := 117) hk rfl rfl dX2_isSign_117
                    · refine g_if (fun h21 => ?_) (fun n22 => ?_)
                      · refine g_look (pc := 1) (off := 115) (tgt := 116) hk dX2_isSign_1 (by decide) (by rw [h21]; first | done | rfl) rfl ?_
                        refine g_iconst (pc := 116) (v := 1) hk dX2_isSign_116 rfl ?_
                        exact t_zret (pc := 117) hk rfl rfl dX2_isSign_117
                      · refine g_if (fun h23 => ?_) (fun n24 => ?_)
                        · refine g_look (pc := 1) (off := 115) (tgt := 116) hk dX2_isSign_1 (by decide) (by rw [h23]; first | done | rfl) rfl ?_
                          refine g_iconst (pc := 116) (v := 1) hk dX2_isSign_116 rfl ?_
                          exact t_zret (pc := 117) hk rfl rfl dX2_isSign_117
                        · refine g_if (fun h25 => ?_) (fun n26 => ?_)
                          · refine g_look (pc := 1) (off := 115) (tgt := 116) hk dX2_isSign_1 (by decide) (by rw [h25]; first | done | rfl) rfl ?_
                            refine g_iconst (pc := 116) (v := 1) hk dX2_isSign_116 rfl ?_
                            exact t_zret (pc := 117) hk rfl rfl dX2_isSign_117
                          · refine g_look (pc := 1) (off := 117) (tgt := 118) hk dX2_isSign_1 (by decide) (by have z35 := ne_toInt n2 (z := 35) rfl; have z40 := ne_toInt n4 (z := 40) rfl; have z41 := ne_toInt n6 (z := 41) rfl; have z42 := ne_toInt n8 (z := 42) rfl; have z43 := ne_toInt n10 (z := 43) rfl; have z45 := ne_toInt n12 (z := 45) rfl; have z47 := ne_toInt n14 (z := 47) rfl; have z58 := ne_toInt n16 (z := 58) rfl; have z59 := ne_toInt n18 (z := 59) rfl; have z60 := ne_toInt n20 (z := 60) rfl; have z61 := ne_toInt n22 (z := 61) rfl; have z62 := ne_toInt n24 (z := 62) rfl; have z94 := ne_toInt n26 (z := 94) rfl; simp [Op.lookupswitch.offset, Ne.symm z35, Ne.symm z40, Ne.symm z41, Ne.symm z42, Ne.symm z43, Ne.symm z45, Ne.symm z47, Ne.symm z58, Ne.symm z59, Ne.symm z60, Ne.symm z61, Ne.symm z62, Ne.symm z94]; done) rfl ?_
                            refine g_iconst (pc := 118) (v := 0) hk dX2_isSign_118 rfl ?_
                            exact t_zret (pc := 119) hk rfl rfl dX2_isSign_119
def rm_nextToken : Room := { frames := 1, cells := 0, slots := 0, locals := 21 }
theorem hv_nextToken : yX2_nextToken.cls = RX2 ∧ yX2_nextToken.cls ≠ "java/lang/invoke/MethodHandle" ∧ yX2_nextToken.cls ≠ "java/lang/invoke/VarHandle" ∧ (parseMethodDescriptor yX2_nextToken.desc).map (fun d => d.parameters.length) = some 0 := by decide +kernel
theorem tm_nextToken_j26 {K : KT} {Γ : TG} (hk : KOK K cX2_nextToken 2 RX2 rm_nextToken none) (hK : va_K Γ.1 tcl (ttys Γ) (kS K)) (τ : TS)  (k0 : TS → Option (TS)) (hk0 : ∀ (τ : TS), GGo K (tQ K Γ (fun r : TS => ((none : Option Value), r))) (k0 τ) 2 (TI Γ (kS K) τ) 0 0 0 [(0, .ref Γ.2.1)] []) : GGo K (tQ K Γ (fun r : TS => ((none : Option Value), r))) (T_nextToken_j26 k0 τ) 2 (TI Γ (kS K) τ) 0 0 26 [(0, .ref Γ.2.1)] [] := by
  unfold T_nextToken_j26
  refine g_aload_n (pc := 26) hk dX2_nextToken_26 rfl ?_
  refine g_dup (pc := 27) hk dX2_nextToken_27 rfl ?_
  refine t_getI (pc := 28) hk hK ti_7 tf_7 dX2_nextToken_28 ?_
  refine g_iconst (pc := 31) (v := 1) hk dX2_nextToken_31 rfl ?_
  refine g_iadd (pc := 32) hk dX2_nextToken_32 ?_
  refine t_putI (pc := 33) hk hK ti_7 tf_7 (Or.inl rfl) rfl dX2_nextToken_33 (fun τ3 => ?_)
  refine g_goto (pc := 36) (tgt := 0) hk dX2_nextToken_36 rfl ?_
  exact hk0 τ3
theorem tm_nextToken_j297 {K : KT} {Γ : TG} (hk : KOK K cX2_nextToken 2 RX2 rm_nextToken none) (hK : va_K Γ.1 tcl (ttys Γ) (kS K)) (τ : TS) (s1 : Int32)   : GGo K (tQ K Γ (fun r : TS => ((none : Option Value), r))) (T_nextToken_j297 τ s1) 2 (TI Γ (kS K) τ) 0 0 297 [(0, .ref Γ.2.1)] [.int s1, .ref Γ.2.1] := by
  unfold T_nextToken_j297
  refine t_putI (pc := 297) hk hK ti_9 tf_9 (Or.inl rfl) rfl dX2_nextToken_297 (fun τ19 => ?_)
  refine g_aload_n (pc := 300) hk dX2_nextToken_300 rfl ?_
  refine g_dup (pc := 301) hk dX2_nextToken_301 rfl ?_
  refine t_getI (pc := 302) hk hK ti_7 tf_7 dX2_nextToken_302 ?_
  refine g_iconst (pc := 305) (v := 1) hk dX2_nextToken_305 rfl ?_
  refine g_iadd (pc := 306) hk dX2_nextToken_306 ?_
  refine t_putI (pc := 307) hk hK ti_7 tf_7 (Or.inl rfl) rfl dX2_nextToken_307 (fun τ20 => ?_)
  exact t_vret (pc := 310) hk rfl dX2_nextToken_310
theorem tm_nextToken_j272 {K : KT} {Γ : TG} (hk : KOK K cX2_nextToken 2 RX2 rm_nextToken none) (hK : va_K Γ.1 tcl (ttys Γ) (kS K)) (τ : TS) (v1 : Int32)   : GGo K (tQ K Γ (fun r : TS => ((none : Option Value), r))) (T_nextToken_j272 τ v1) 2 (TI Γ (kS K) τ) 0 0 272 [(0, .ref Γ.2.1), (1, .int v1)] [] := by
  unfold T_nextToken_j272
  refine g_aload_n (pc := 272) hk dX2_nextToken_272 rfl ?_
  refine g_aload_n (pc := 273) hk dX2_nextToken_273 rfl ?_
  refine t_getI (pc := 274) hk hK ti_7 tf_7 dX2_nextToken_274 ?_
  refine g_ob1 (fun r17 h18 => ?_)
  refine t_callV (pc := 277) hk hK [.int (tI τ 7)] [] (tm_byteAt Γ τ (tI τ 7) r17 h18) (lw_V q1523 q1525 qs61 q128 q1526) hv_byteAt rfl rfl rfl dX2_nextToken_277 rfl rfl ?_
  refine g_bipush (pc := 280) (v := 61) hk dX2_nextToken_280 rfl ?_
  refine g_icmp_ne (pc := 282) (tgt := 310) hk dX2_nextToken_282 rfl ?_ ?_
  · exact t_vret (pc := 310) hk rfl dX2_nextToken_310
  · refine g_aload_n (pc := 285) hk dX2_nextToken_285 rfl ?_
    refine g_iload_n (pc := 286) hk dX2_nextToken_286 rfl ?_
    refine g_bipush (pc := 287) (v := 60) hk dX2_nextToken_287 rfl ?_
    refine g_icmp_ne (pc := 289) (tgt := 296) hk dX2_nextToken_289 rfl ?_ ?_
    · refine g_iconst (pc := 296) (v := 5) hk dX2_nextToken_296 rfl ?_
      refine g_sub (ls' := [(0, .ref Γ.2.1)]) [0] rfl ?_
      exact tm_nextToken_j297 hk hK τ 5
    · refine g_iconst (pc := 292) (v := 4) hk dX2_nextToken_292 rfl ?_
      refine g_goto (pc := 293) (tgt := 297) hk dX2_nextToken_293 rfl ?_
      refine g_sub (ls' := [(0, .ref Γ.2.1)]) [0] rfl ?_
      exact tm_nextToken_j297 hk hK τ 4
theorem tm_nextToken_j247 {K : KT} {Γ : TG} (hk : KOK K cX2_nextToken 2 RX2 rm_nextToken none) (hK : va_K Γ.1 tcl (ttys Γ) (kS K)) (τ : TS) (v1 : Int32) (s1 : Int32)   : GGo K (tQ K Γ (fun r : TS => ((none : Option Value), r))) (T_nextToken_j247 τ v1 s1) 2 (TI Γ (kS K) τ) 0 0 247 [(0, .ref Γ.2.1), (1, .int v1)] [.int s1, .ref Γ.2.1] := by
  unfold T_nextToken_j247
  refine t_putI (pc := 247) hk hK ti_9 tf_9 (Or.inl rfl) rfl dX2_nextToken_247 (fun τ15 => ?_)
  refine g_aload_n (pc := 250) hk dX2_nextToken_250 rfl ?_
  refine g_dup (pc := 251) hk dX2_nextToken_251 rfl ?_
  refine t_getI (pc := 252) hk hK ti_7 tf_7 dX2_nextToken_252 ?_
  refine g_iconst (pc := 255) (v := 1) hk dX2_nextToken_255 rfl ?_
  refine g_iadd (pc := 256) hk dX2_nextToken_256 ?_
  refine t_putI (pc := 257) hk hK ti_7 tf_7 (Or.inl rfl) rfl dX2_nextToken_257 (fun τ16 => ?_)
  refine g_iload_n (pc := 260) hk dX2_nextToken_260 rfl ?_
  refine g_bipush (pc := 261) (v := 60) hk dX2_nextToken_261 rfl ?_
  refine g_icmp_eq (pc := 263) (tgt := 272) hk dX2_nextToken_263 rfl ?_ ?_
  · exact tm_nextToken_j272 hk hK τ16 v1
  · refine g_iload_n (pc := 266) hk dX2_nextToken_266 rfl ?_
    refine g_bipush (pc := 267) (v := 62) hk dX2_nextToken_267 rfl ?_
    refine g_icmp_ne (pc := 269) (tgt := 310) hk dX2_nextToken_269 rfl ?_ ?_
    · exact t_vret (pc := 310) hk rfl dX2_nextToken_310
    · exact tm_nextToken_j272 hk hK τ16 v1
theorem tm_nextToken_j218 {K : KT} {Γ : TG} (hk : KOK K cX2_nextToken 2 RX2 rm_nextToken none) (hK : va_K Γ.1 tcl (ttys Γ) (kS K)) (τ : TS) (s1 : Int64)  (k168 : TS → Option (TS)) (hk168 : ∀ (τ : TS), GGo K (tQ K Γ (fun r : TS => ((none : Option Value), r))) (k168 τ) 2 (TI Γ (kS K) τ) 0 0 168 [(0, .ref Γ.2.1)] []) : GGo K (tQ K Γ (fun r : TS => ((none : Option Value), r))) (T_nextToken_j218 k168 τ s1) 2 (TI Γ (kS K) τ) 0 0 218 [(0, .ref Γ.2.1)] [.long s1, .ref Γ.2.1] := by
  unfold T_nextToken_j218
  refine t_putW (pc := 218) hk hK tf_11 dX2_nextToken_218 (fun τ29 => ?_)
  refine g_aload_n (pc := 221) hk dX2_nextToken_221 rfl ?_
  refine g_dup (pc := 222) hk dX2_nextToken_222 rfl ?_
  refine t_getI (pc := 223) hk hK ti_7 tf_7 dX2_nextToken_223 ?_
  refine g_iconst (pc := 226) (v := 1) hk dX2_nextToken_226 rfl ?_
  refine g_iadd (pc := 227) hk dX2_nextToken_227 ?_
  refine t_putI (pc := 228) hk hK ti_7 tf_7 (Or.inl rfl) rfl dX2_nextToken_228 (fun τ30 => ?_)
  refine g_goto (pc := 231) (tgt := 168) hk dX2_nextToken_231 rfl ?_
  exact hk168 τ30
theorem tm_nextToken_l168 {K : KT} {Γ : TG} (hk : KOK K cX2_nextToken 2 RX2 rm_nextToken none) (hK : va_K Γ.1 tcl (ttys Γ) (kS K))    : ∀ (n : Nat) (τ : TS), GGo K (tQ K Γ (fun r : TS => ((none : Option Value), r))) (T_nextToken_l168 n τ) 2 (TI Γ (kS K) τ) 0 0 168 [(0, .ref Γ.2.1)] [] := by
  intro n
  induction n with
  | zero =>
    intro τ
    unfold T_nextToken_l168
    exact g_none
  | succ n ih =>
    intro τ
    unfold T_nextToken_l168
    refine g_aload_n (pc := 168) hk dX2_nextToken_168 rfl ?_
    refine g_aload_n (pc := 169) hk dX2_nextToken_169 rfl ?_
    refine t_getI (pc := 170) hk hK ti_7 tf_7 dX2_nextToken_170 ?_
    refine g_ob1 (fun r23 h24 => ?_)
    refine t_callV (pc := 173) hk hK [.int (tI τ 7)] [] (tm_byteAt Γ τ (tI τ 7) r23 h24) (lw_V q1523 q1525 qs61 q128 q1526) hv_byteAt rfl rfl rfl dX2_nextToken_173 rfl rfl ?_
    refine g_ob1 (fun r25 h26 => ?_)
    refine t_callS (pc := 176) hk hK [.int r23] [] (tm_isLetterByte Γ τ r23 r25 h26) (lw_S q1531 q1532 q128 q1533) hs_isLetterByte rfl rfl rfl dX2_nextToken_176 rfl rfl ?_
    refine g_if_eq (pc := 179) (tgt := 310) hk dX2_nextToken_179 rfl ?_ ?_
    · exact t_vret (pc := 310) hk rfl dX2_nextToken_310
    · refine g_aload_n (pc := 182) hk dX2_nextToken_182 rfl ?_
      refine g_aload_n (pc := 183) hk dX2_nextToken_183 rfl ?_
      refine t_getW (pc := 184) hk hK tf_11 dX2_nextToken_184 ?_
      refine g_bipush (pc := 187) (v := 48) hk dX2_nextToken_187 rfl ?_
      refine g_lshr (pc := 189) hk dX2_nextToken_189 ?_
      refine g_lconst (pc := 190) (v := 0) hk dX2_nextToken_190 rfl ?_
      refine g_lcmp_eq (pc := 191) (tgt := 201) hk dX2_nextToken_191 dX2_nextToken_192 rfl ?_ ?_
      · refine g_aload_n (pc := 201) hk dX2_nextToken_201 rfl ?_
        refine t_getW (pc := 202) hk hK tf_11 dX2_nextToken_202 ?_
        refine g_bipush (pc := 205) (v := 8) hk dX2_nextToken_205 rfl ?_
        refine g_lshl (pc := 207) hk dX2_nextToken_207 ?_
        refine g_aload_n (pc := 208) hk dX2_nextToken_208 rfl ?_
        refine g_aload_n (pc := 209) hk dX2_nextToken_209 rfl ?_
        refine t_getI (pc := 210) hk hK ti_7 tf_7 dX2_nextToken_210 ?_
        refine g_ob1 (fun r27 h28 => ?_)
        refine t_callV (pc := 213) hk hK [.int (tI τ 7)] [.long (l_shl (tW τ) 8), .ref Γ.2.1] (tm_byteAt Γ τ (tI τ 7) r27 h28) (lw_V q1523 q1525 qs61 q128 q1526) hv_byteAt rfl rfl rfl dX2_nextToken_213 rfl rfl ?_
        refine g_i2l (pc := 216) hk dX2_nextToken_216 ?_
        refine g_lor (pc := 217) hk dX2_nextToken_217 ?_
        exact tm_nextToken_j218 hk hK τ ((l_shl (tW τ) 8) ||| (Int32.toInt64 r27)) (T_nextToken_l168 n) ih
      · refine g_ldc2 (pc := 195) (v := 1152921504606846976) hk q1534 dX2_nextToken_195 ?_
        refine g_goto (pc := 198) (tgt := 218) hk dX2_nextToken_198 rfl ?_
        exact tm_nextToken_j218 hk hK τ 1152921504606846976 (T_nextToken_l168 n) ih
theorem tm_nextToken_j135 {K : KT} {Γ : TG} (hk : KOK K cX2_nextToken 2 RX2 rm_nextToken none) (hK : va_K Γ.1 tcl (ttys Γ) (kS K)) (τ : TS) (s1 : Int32)  (k85 : TS → Option (TS)) (hk85 : ∀ (τ : TS), GGo K (tQ K Γ (fun r : TS => ((none : Option Value), r))) (k85 τ) 2 (TI Γ (kS K) τ) 0 0 85 [(0, .ref Γ.2.1)] []) : GGo K (tQ K Γ (fun r : TS => ((none : Option Value), r))) (T_nextToken_j135 k85 τ s1) 2 (TI Γ (kS K) τ) 0 0 135 [(0, .ref Γ.2.1)] [.int s1, .ref Γ.2.1] := by
  unfold T_nextToken_j135
  refine t_putI (pc := 135) hk hK ti_10 tf_10 (Or.inl rfl) rfl dX2_nextToken_135 (fun τ39 => ?_)
  refine g_aload_n (pc := 138) hk dX2_nextToken_138 rfl ?_
  refine g_dup (pc := 139) hk dX2_nextToken_139 rfl ?_
  refine t_getI (pc := 140) hk hK ti_7 tf_7 dX2_nextToken_140 ?_
  refine g_iconst (pc := 143) (v := 1) hk dX2_nextToken_143 rfl ?_
  refine g_iadd (pc := 144) hk dX2_nextToken_144 ?_
  refine t_putI (pc := 145) hk hK ti_7 tf_7 (Or.inl rfl) rfl dX2_nextToken_145 (fun τ40 => ?_)
  refine g_goto (pc := 148) (tgt := 85) hk dX2_nextToken_148 rfl ?_
  exact hk85 τ40
theorem tm_nextToken_l85 {K : KT} {Γ : TG} (hk : KOK K cX2_nextToken 2 RX2 rm_nextToken none) (hK : va_K Γ.1 tcl (ttys Γ) (kS K))    : ∀ (n : Nat) (τ : TS), GGo K (tQ K Γ (fun r : TS => ((none : Option Value), r))) (T_nextToken_l85 n τ) 2 (TI Γ (kS K) τ) 0 0 85 [(0, .ref Γ.2.1)] [] := by
  intro n
  induction n with
  | zero =>
    intro τ
    unfold T_nextToken_l85
    exact g_none
  | succ n ih =>
    intro τ
    unfold T_nextToken_l85
    refine g_aload_n (pc := 85) hk dX2_nextToken_85 rfl ?_
    refine g_aload_n (pc := 86) hk dX2_nextToken_86 rfl ?_
    refine t_getI (pc := 87) hk hK ti_7 tf_7 dX2_nextToken_87 ?_
    refine g_ob1 (fun r33 h34 => ?_)
    refine t_callV (pc := 90) hk hK [.int (tI τ 7)] [] (tm_byteAt Γ τ (tI τ 7) r33 h34) (lw_V q1523 q1525 qs61 q128 q1526) hv_byteAt rfl rfl rfl dX2_nextToken_90 rfl rfl ?_
    refine g_ob1 (fun r35 h36 => ?_)
    refine t_callS (pc := 93) hk hK [.int r33] [] (tm_isFigure Γ τ r33 r35 h36) (lw_S q1527 q1528 q128 q1529) hs_isFigure rfl rfl rfl dX2_nextToken_93 rfl rfl ?_
    refine g_if_eq (pc := 96) (tgt := 310) hk dX2_nextToken_96 rfl ?_ ?_
    · exact t_vret (pc := 310) hk rfl dX2_nextToken_310
    · refine g_aload_n (pc := 99) hk dX2_nextToken_99 rfl ?_
      refine g_aload_n (pc := 100) hk dX2_nextToken_100 rfl ?_
      refine t_getI (pc := 101) hk hK ti_10 tf_10 dX2_nextToken_101 ?_
      refine g_ldc (pc := 104) (v := 99999) hk q1530 dX2_nextToken_104 ?_
      refine g_icmp_le (pc := 106) (tgt := 116) hk dX2_nextToken_106 rfl ?_ ?_
      · refine g_bipush (pc := 116) (v := 10) hk dX2_nextToken_116 rfl ?_
        refine g_aload_n (pc := 118) hk dX2_nextToken_118 rfl ?_
        refine t_getI (pc := 119) hk hK ti_10 tf_10 dX2_nextToken_119 ?_
        refine g_imul (pc := 122) hk dX2_nextToken_122 ?_
        refine g_aload_n (pc := 123) hk dX2_nextToken_123 rfl ?_
        refine g_aload_n (pc := 124) hk dX2_nextToken_124 rfl ?_
        refine t_getI (pc := 125) hk hK ti_7 tf_7 dX2_nextToken_125 ?_
        refine g_ob1 (fun r37 h38 => ?_)
        refine t_callV (pc := 128) hk hK [.int (tI τ 7)] [.int (10 * (tI τ 10)), .ref Γ.2.1] (tm_byteAt Γ τ (tI τ 7) r37 h38) (lw_V q1523 q1525 qs61 q128 q1526) hv_byteAt rfl rfl rfl dX2_nextToken_128 rfl rfl ?_
        refine g_iadd (pc := 131) hk dX2_nextToken_131 ?_
        refine g_bipush (pc := 132) (v := 48) hk dX2_nextToken_132 rfl ?_
        refine g_isub (pc := 134) hk dX2_nextToken_134 ?_
        exact tm_nextToken_j135 hk hK τ (((10 * (tI τ 10)) + r37) - 48) (T_nextToken_l85 n) ih
      · refine g_aload_n (pc := 109) hk dX2_nextToken_109 rfl ?_
        refine t_getI (pc := 110) hk hK ti_10 tf_10 dX2_nextToken_110 ?_
        refine g_goto (pc := 113) (tgt := 135) hk dX2_nextToken_113 rfl ?_
        exact tm_nextToken_j135 hk hK τ (tI τ 10) (T_nextToken_l85 n) ih
theorem tm_nextToken_l0 {K : KT} {Γ : TG} (hk : KOK K cX2_nextToken 2 RX2 rm_nextToken none) (hK : va_K Γ.1 tcl (ttys Γ) (kS K))    : ∀ (n : Nat) (τ : TS), GGo K (tQ K Γ (fun r : TS => ((none : Option Value), r))) (T_nextToken_l0 n τ) 2 (TI Γ (kS K) τ) 0 0 0 [(0, .ref Γ.2.1)] [] := by
  intro n
  induction n with
  | zero =>
    intro τ
    unfold T_nextToken_l0
    exact g_none
  | succ n ih =>
    intro τ
    unfold T_nextToken_l0
    refine g_aload_n (pc := 0) hk dX2_nextToken_0 rfl ?_
    refine g_aload_n (pc := 1) hk dX2_nextToken_1 rfl ?_
    refine t_getI (pc := 2) hk hK ti_7 tf_7 dX2_nextToken_2 ?_
    refine g_ob1 (fun r1 h2 => ?_)
    refine t_callV (pc := 5) hk hK [.int (tI τ 7)] [] (tm_byteAt Γ τ (tI τ 7) r1 h2) (lw_V q1523 q1525 qs61 q128 q1526) hv_byteAt rfl rfl rfl dX2_nextToken_5 rfl rfl ?_
    refine g_bipush (pc := 8) (v := 32) hk dX2_nextToken_8 rfl ?_
    refine g_icmp_eq (pc := 10) (tgt := 26) hk dX2_nextToken_10 rfl ?_ ?_
    · exact tm_nextToken_j26 hk hK τ (T_nextToken_l0 n) ih
    · refine g_aload_n (pc := 13) hk dX2_nextToken_13 rfl ?_
      refine g_aload_n (pc := 14) hk dX2_nextToken_14 rfl ?_
      refine t_getI (pc := 15) hk hK ti_7 tf_7 dX2_nextToken_15 ?_
      refine g_ob1 (fun r4 h5 => ?_)
      refine t_callV (pc := 18) hk hK [.int (tI τ 7)] [] (tm_byteAt Γ τ (tI τ 7) r4 h5) (lw_V q1523 q1525 qs61 q128 q1526) hv_byteAt rfl rfl rfl dX2_nextToken_18 rfl rfl ?_
      refine g_bipush (pc := 21) (v := 10) hk dX2_nextToken_21 rfl ?_
      refine g_icmp_ne (pc := 23) (tgt := 39) hk dX2_nextToken_23 rfl ?_ ?_
      · refine g_aload_n (pc := 39) hk dX2_nextToken_39 rfl ?_
        refine g_aload_n (pc := 40) hk dX2_nextToken_40 rfl ?_
        refine t_getI (pc := 41) hk hK ti_7 tf_7 dX2_nextToken_41 ?_
        refine t_putI (pc := 44) hk hK ti_8 tf_8 (Or.inl rfl) rfl dX2_nextToken_44 (fun τ6 => ?_)
        refine g_aload_n (pc := 47) hk dX2_nextToken_47 rfl ?_
        refine g_aload_n (pc := 48) hk dX2_nextToken_48 rfl ?_
        refine t_getI (pc := 49) hk hK ti_7 tf_7 dX2_nextToken_49 ?_
        refine g_ob1 (fun r7 h8 => ?_)
        refine t_callV (pc := 52) hk hK [.int (tI τ6 7)] [] (tm_byteAt Γ τ6 (tI τ6 7) r7 h8) (lw_V q1523 q1525 qs61 q128 q1526) hv_byteAt rfl rfl rfl dX2_nextToken_52 rfl rfl ?_
        refine g_istore_n (pc := 55) (i := 1) (ls' := [(1, .int r7), (0, .ref Γ.2.1)]) hk dX2_nextToken_55 rfl (by decide) rfl ?_
        refine g_iload_n (pc := 56) hk dX2_nextToken_56 rfl ?_
        refine g_if_ge (pc := 57) (tgt := 68) hk dX2_nextToken_57 rfl ?_ ?_
        · refine g_iload_n (pc := 68) hk dX2_nextToken_68 rfl ?_
          refine g_ob1 (fun r9 h10 => ?_)
          refine t_callS (pc := 69) hk hK [.int r7] [] (tm_isFigure Γ τ6 r7 r9 h10) (lw_S q1527 q1528 q128 q1529) hs_isFigure rfl rfl rfl dX2_nextToken_69 rfl rfl ?_
          refine g_if_eq (pc := 72) (tgt := 151) hk dX2_nextToken_72 rfl ?_ ?_
          · refine g_iload_n (pc := 151) hk dX2_nextToken_151 rfl ?_
            refine g_ob1 (fun r11 h12 => ?_)
            refine t_callS (pc := 152) hk hK [.int r7] [] (tm_isLetterByte Γ τ6 r7 r11 h12) (lw_S q1531 q1532 q128 q1533) hs_isLetterByte rfl rfl rfl dX2_nextToken_152 rfl rfl ?_
            refine g_if_eq (pc := 155) (tgt := 234) hk dX2_nextToken_155 rfl ?_ ?_
            · refine g_aload_n (pc := 234) hk dX2_nextToken_234 rfl ?_
              refine g_iload_n (pc := 235) hk dX2_nextToken_235 rfl ?_
              refine g_ob1 (fun r13 h14 => ?_)
              refine t_callS (pc := 236) hk hK [.int r7] [.ref Γ.2.1] (tm_isSign Γ τ6 r7 r13 h14) (lw_S q1535 q1536 q128 q1537) hs_isSign rfl rfl rfl dX2_nextToken_236 rfl rfl ?_
              refine g_if_eq (pc := 239) (tgt := 246) hk dX2_nextToken_239 rfl ?_ ?_
              · refine g_iconst (pc := 246) (v := 3) hk dX2_nextToken_246 rfl ?_
                refine g_sub (ls' := [(0, .ref Γ.2.1), (1, .int r7)]) [1, 0] rfl ?_
                exact tm_nextToken_j247 hk hK τ6 r7 3
              · refine g_iload_n (pc := 242) hk dX2_nextToken_242 rfl ?_
                refine g_goto (pc := 243) (tgt := 247) hk dX2_nextToken_243 rfl ?_
                refine g_sub (ls' := [(0, .ref Γ.2.1), (1, .int r7)]) [1, 0] rfl ?_
                exact tm_nextToken_j247 hk hK τ6 r7 r7
            · refine g_aload_n (pc := 158) hk dX2_nextToken_158 rfl ?_
              refine g_iconst (pc := 159) (v := 2) hk dX2_nextToken_159 rfl ?_
              refine t_putI (pc := 160) hk hK ti_9 tf_9 (Or.inl rfl) rfl dX2_nextToken_160 (fun τ21 => ?_)
              refine g_aload_n (pc := 163) hk dX2_nextToken_163 rfl ?_
              refine g_lconst (pc := 164) (v := 0) hk dX2_nextToken_164 rfl ?_
              refine t_putW (pc := 165) hk hK tf_11 dX2_nextToken_165 (fun τ22 => ?_)
              refine g_sub (ls' := [(0, .ref Γ.2.1)]) [1] rfl ?_
              exact tm_nextToken_l168 hk hK FU τ22
          · refine g_aload_n (pc := 75) hk dX2_nextToken_75 rfl ?_
            refine g_iconst (pc := 76) (v := 1) hk dX2_nextToken_76 rfl ?_
            refine t_putI (pc := 77) hk hK ti_9 tf_9 (Or.inl rfl) rfl dX2_nextToken_77 (fun τ31 => ?_)
            refine g_aload_n (pc := 80) hk dX2_nextToken_80 rfl ?_
            refine g_iconst (pc := 81) (v := 0) hk dX2_nextToken_81 rfl ?_
            refine t_putI (pc := 82) hk hK ti_10 tf_10 (Or.inl rfl) rfl dX2_nextToken_82 (fun τ32 => ?_)
            refine g_sub (ls' := [(0, .ref Γ.2.1)]) [1] rfl ?_
            exact tm_nextToken_l85 hk hK FU τ32
        · refine g_aload_n (pc := 60) hk dX2_nextToken_60 rfl ?_
          refine g_iconst (pc := 61) (v := 0) hk dX2_nextToken_61 rfl ?_
          refine t_putI (pc := 62) hk hK ti_9 tf_9 (Or.inl rfl) rfl dX2_nextToken_62 (fun τ41 => ?_)
          refine g_goto (pc := 65) (tgt := 310) hk dX2_nextToken_65 rfl ?_
          exact t_vret (pc := 310) hk rfl dX2_nextToken_310
      · exact tm_nextToken_j26 hk hK τ (T_nextToken_l0 n) ih
theorem tm_nextToken (Γ : TG) (τ : TS)   (r : TS) (h : T_nextToken τ = some r) : TMet Γ yX2_nextToken cX2_nextToken 2 none rm_nextToken [.ref Γ.2.1] τ none r := by
  refine t_met (view := (fun r : TS => ((none : Option Value), r))) rfl rfl (ls0 := [(0, .ref Γ.2.1)]) rfl (fun K hk hK => ?_) r h
  unfold T_nextToken
  exact tm_nextToken_l0 hk hK FU τ
def rm_w2 : Room := { frames := 0, cells := 0, slots := 0, locals := 0 }
theorem hs_w2 : yX2_w2.cls ≠ "java/lang/invoke/MethodHandle" ∧ yX2_w2.cls ≠ "java/lang/invoke/VarHandle" ∧ (parseMethodDescriptor yX2_w2.desc).map (fun d => d.parameters.length) = some 2 := by decide +kernel
theorem tm_w2 (Γ : TG) (τ : TS) (v0 : Int32) (v1 : Int32)  (r : Int64) (h : T_w2 v0 v1 = some r) : TMet Γ yX2_w2 cX2_w2 2 (some .long) rm_w2 [.int v0, .int v1] τ (some (.long r)) τ := by
  refine t_met (view := (fun r : Int64 => (some (Value.long r), τ))) rfl rfl (ls0 := [(0, .int v0), (1, .int v1)]) rfl (fun K hk hK => ?_) r h
  unfold T_w2
  refine g_iload_n (pc := 0) hk dX2_w2_0 rfl ?_
  refine g_i2l (pc := 1) hk dX2_w2_1 ?_
  refine g_bipush (pc := 2) (v := 8) hk dX2_w2_2 rfl ?_
  refine g_lshl (pc := 4) hk dX2_w2_4 ?_
  refine g_iload_n (pc := 5) hk dX2_w2_5 rfl ?_
  refine g_i2l (pc := 6) hk dX2_w2_6 ?_
  refine g_lor (pc := 7) hk dX2_w2_7 ?_
  exact t_lret (pc := 8) hk rfl dX2_w2_8
def rm_w3 : Room := { frames := 1, cells := 0, slots := 0, locals := 21 }
theorem hs_w3 : yX2_w3.cls ≠ "java/lang/invoke/MethodHandle" ∧ yX2_w3.cls ≠ "java/lang/invoke/VarHandle" ∧ (parseMethodDescriptor yX2_w3.desc).map (fun d => d.parameters.length) = some 3 := by decide +kernel
theorem tm_w3 (Γ : TG) (τ : TS) (v0 : Int32) (v1 : Int32) (v2 : Int32)  (r : Int64) (h : T_w3 v0 v1 v2 = some r) : TMet Γ yX2_w3 cX2_w3 3 (some .long) rm_w3 [.int v0, .int v1, .int v2] τ (some (.long r)) τ := by
  refine t_met (view := (fun r : Int64 => (some (Value.long r), τ))) rfl rfl (ls0 := [(0, .int v0), (1, .int v1), (2, .int v2)]) rfl (fun K hk hK => ?_) r h
  unfold T_w3
  refine g_iload_n (pc := 0) hk dX2_w3_0 rfl ?_
  refine g_iload_n (pc := 1) hk dX2_w3_1 rfl ?_
  refine g_ob1 (fun r1 h2 => ?_)
  refine t_callS (pc := 2) hk hK [.int v0, .int v1] [] (tm_w2 Γ τ v0 v1 r1 h2) (lw_S q1555 q1556 q128 q1557) hs_w2 rfl rfl rfl dX2_w3_2 rfl rfl ?_
  refine g_bipush (pc := 5) (v := 8) hk dX2_w3_5 rfl ?_
  refine g_lshl (pc := 7) hk dX2_w3_7 ?_
  refine g_iload_n (pc := 8) hk dX2_w3_8 rfl ?_
  refine g_i2l (pc := 9) hk dX2_w3_9 ?_
  refine g_lor (pc := 10) hk dX2_w3_10 ?_
  exact t_lret (pc := 11) hk rfl dX2_w3_11
def rm_w4 : Room := { frames := 2, cells := 0, slots := 0, locals := 43 }
theorem hs_w4 : yX2_w4.cls ≠ "java/lang/invoke/MethodHandle" ∧ yX2_w4.cls ≠ "java/lang/invoke/VarHandle" ∧ (parseMethodDescriptor yX2_w4.desc).map (fun d => d.parameters.length) = some 4 := by decide +kernel
theorem tm_w4 (Γ : TG) (τ : TS) (v0 : Int32) (v1 : Int32) (v2 : Int32) (v3 : Int32)  (r : Int64) (h : T_w4 v0 v1 v2 v3 = some r) : TMet Γ yX2_w4 cX2_w4 4 (some .long) rm_w4 [.int v0, .int v1, .int v2, .int v3] τ (some (.long r)) τ := by
  refine t_met (view := (fun r : Int64 => (some (Value.long r), τ))) rfl rfl (ls0 := [(0, .int v0), (1, .int v1), (2, .int v2), (3, .int v3)]) rfl (fun K hk hK => ?_) r h
  unfold T_w4
  refine g_iload_n (pc := 0) hk dX2_w4_0 rfl ?_
  refine g_iload_n (pc := 1) hk dX2_w4_1 rfl ?_
  refine g_iload_n (pc := 2) hk dX2_w4_2 rfl ?_
  refine g_ob1 (fun r1 h2 => ?_)
  refine t_callS (pc := 3) hk hK [.int v0, .int v1, .int v2] [] (tm_w3 Γ τ v0 v1 v2 r1 h2) (lw_S q1552 q1553 q128 q1554) hs_w3 rfl rfl rfl dX2_w4_3 rfl rfl ?_
  refine g_bipush (pc := 6) (v := 8) hk dX2_w4_6 rfl ?_
  refine g_lshl (pc := 8) hk dX2_w4_8 ?_
  refine g_iload_n (pc := 9) hk dX2_w4_9 rfl ?_
  refine g_i2l (pc := 10) hk dX2_w4_10 ?_
  refine g_lor (pc := 11) hk dX2_w4_11 ?_
  exact t_lret (pc := 12) hk rfl dX2_w4_12
def rm_w5 : Room := { frames := 3, cells := 0, slots := 0, locals := 66 }
theorem hs_w5 : yX2_w5.cls ≠ "java/lang/invoke/MethodHandle" ∧ yX2_w5.cls ≠ "java/lang/invoke/VarHandle" ∧ (parseMethodDescriptor yX2_w5.desc).map (fun d => d.parameters.length) = some 5 := by decide +kernel
theorem tm_w5 (Γ : TG) (τ : TS) (v0 : Int32) (v1 : Int32) (v2 : Int32) (v3 : Int32) (v4 : Int32)  (r : Int64) (h : T_w5 v0 v1 v2 v3 v4 = some r) : TMet Γ yX2_w5 cX2_w5 5 (some .long) rm_w5 [.int v0, .int v1, .int v2, .int v3, .int v4] τ (some (.long r)) τ := by
  refine t_met (view := (fun r : Int64 => (some (Value.long r), τ))) rfl rfl (ls0 := [(0, .int v0), (1, .int v1), (2, .int v2), (3, .int v3), (4, .int v4)]) rfl (fun K hk hK => ?_) r h
  unfold T_w5
  refine g_iload_n (pc := 0) hk dX2_w5_0 rfl ?_
  refine g_iload_n (pc := 1) hk dX2_w5_1 rfl ?_
  refine g_iload_n (pc := 2) hk dX2_w5_2 rfl ?_
  refine g_iload_n (pc := 3) hk dX2_w5_3 rfl ?_
  refine g_ob1 (fun r1 h2 => ?_)
  refine t_callS (pc := 4) hk hK [.int v0, .int v1, .int v2, .int v3] [] (tm_w4 Γ τ v0 v1 v2 v3 r1 h2) (lw_S q1549 q1550 q128 q1551) hs_w4 rfl rfl rfl dX2_w5_4 rfl rfl ?_
  refine g_bipush (pc := 7) (v := 8) hk dX2_w5_7 rfl ?_
  refine g_lshl (pc := 9) hk dX2_w5_9 ?_
  refine g_iload (pc := 10) hk dX2_w5_10 rfl ?_
  refine g_i2l (pc := 12) hk dX2_w5_12 ?_
  refine g_lor (pc := 13) hk dX2_w5_13 ?_
  exact t_lret (pc := 14) hk rfl dX2_w5_14
def rm_isWord : Room := { frames := 0, cells := 0, slots := 0, locals := 0 }
theorem hv_isWord : yX2_isWord.cls = RX2 ∧ yX2_isWord.cls ≠ "java/lang/invoke/MethodHandle" ∧ yX2_isWord.cls ≠ "java/lang/invoke/VarHandle" ∧ (parseMethodDescriptor yX2_isWord.desc).map (fun d => d.parameters.length) = some 1 := by decide +kernel
theorem tm_isWord (Γ : TG) (τ : TS) (v1 : Int64)  (r : Int32) (h : T_isWord τ v1 = some r) : TMet Γ yX2_isWord cX2_isWord 3 (some .boolean) rm_isWord [.ref Γ.2.1, .long v1] τ (some (.int r)) τ := by
  refine t_met (view := (fun r : Int32 => (some (Value.int r), τ))) rfl rfl (ls0 := [(0, .ref Γ.2.1), (1, .long v1)]) rfl (fun K hk hK => ?_) r h
  unfold T_isWord
  refine g_aload_n (pc := 0) hk dX2_isWord_0 rfl ?_
  refine t_getI (pc := 1) hk hK ti_9 tf_9 dX2_isWord_1 ?_
  refine g_iconst (pc := 4) (v := 2) hk dX2_isWord_4 rfl ?_
  refine g_icmp_ne (pc := 5) (tgt := 21) hk dX2_isWord_5 rfl ?_ ?_
  · refine g_iconst (pc := 21) (v := 0) hk dX2_isWord_21 rfl ?_
    exact t_zret (pc := 22) hk rfl rfl dX2_isWord_22
  · refine g_aload_n (pc := 8) hk dX2_isWord_8 rfl ?_
    refine t_getW (pc := 9) hk hK tf_11 dX2_isWord_9 ?_
    refine g_lload_n (pc := 12) hk dX2_isWord_12 rfl ?_
    refine g_lcmp_ne (pc := 13) (tgt := 21) hk dX2_isWord_13 dX2_isWord_14 rfl ?_ ?_
    · refine g_iconst (pc := 21) (v := 0) hk dX2_isWord_21 rfl ?_
      exact t_zret (pc := 22) hk rfl rfl dX2_isWord_22
    · refine g_iconst (pc := 17) (v := 1) hk dX2_isWord_17 rfl ?_
      refine g_goto (pc := 18) (tgt := 22) hk dX2_isWord_18 rfl ?_
      exact t_zret (pc := 22) hk rfl rfl dX2_isWord_22
def rm_w6 : Room := { frames := 4, cells := 0, slots := 0, locals := 90 }
theorem hs_w6 : yX2_w6.cls ≠ "java/lang/invoke/MethodHandle" ∧ yX2_w6.cls ≠ "java/lang/invoke/VarHandle" ∧ (parseMethodDescriptor yX2_w6.desc).map (fun d => d.parameters.length) = some 6 := by decide +kernel
theorem tm_w6 (Γ : TG) (τ : TS) (v0 : Int32) (v1 : Int32) (v2 : Int32) (v3 : Int32) (v4 : Int32) (v5 : Int32)  (r : Int64) (h : T_w6 v0 v1 v2 v3 v4 v5 = some r) : TMet Γ yX2_w6 cX2_w6 6 (some .long) rm_w6 [.int v0, .int v1, .int v2, .int v3, .int v4, .int v5] τ (some (.long r)) τ := by
  refine t_met (view := (fun r : Int64 => (some (Value.long r), τ))) rfl rfl (ls0 := [(0, .int v0), (1, .int v1), (2, .int v2), (3, .int v3), (4, .int v4), (5, .int v5)]) rfl (fun K hk hK => ?_) r h
  unfold T_w6
  refine g_iload_n (pc := 0) hk dX2_w6_0 rfl ?_
  refine g_iload_n (pc := 1) hk dX2_w6_1 rfl ?_
  refine g_iload_n (pc := 2) hk dX2_w6_2 rfl ?_
  refine g_iload_n (pc := 3) hk dX2_w6_3 rfl ?_
  refine g_iload (pc := 4) hk dX2_w6_4 rfl ?_
  refine g_ob1 (fun r1 h2 => ?_)
  refine t_callS (pc := 6) hk hK [.int v0, .int v1, .int v2, .int v3, .int v4] [] (tm_w5 Γ τ v0 v1 v2 v3 v4 r1 h2) (lw_S q1546 q1547 q128 q1548) hs_w5 rfl rfl rfl dX2_w6_6 rfl rfl ?_
  refine g_bipush (pc := 9) (v := 8) hk dX2_w6_9 rfl ?_
  refine g_lshl (pc := 11) hk dX2_w6_11 ?_
  refine g_iload (pc := 12) hk dX2_w6_12 rfl ?_
  refine g_i2l (pc := 14) hk dX2_w6_14 ?_
  refine g_lor (pc := 15) hk dX2_w6_15 ?_
  exact t_lret (pc := 16) hk rfl dX2_w6_16
def rm_sortOf : Room := { frames := 5, cells := 0, slots := 0, locals := 115 }
theorem hv_sortOf : yX2_sortOf.cls = RX2 ∧ yX2_sortOf.cls ≠ "java/lang/invoke/MethodHandle" ∧ yX2_sortOf.cls ≠ "java/lang/invoke/VarHandle" ∧ (parseMethodDescriptor yX2_sortOf.desc).map (fun d => d.parameters.length) = some 0 := by decide +kernel
theorem tm_sortOf (Γ : TG) (τ : TS)   (r : Int32) (h : T_sortOf τ = some r) : TMet Γ yX2_sortOf cX2_sortOf 1 (some .int) rm_sortOf [.ref Γ.2.1] τ (some (.int r)) τ := by
  refine t_met (view := (fun r : Int32 => (some (Value.int r), τ))) rfl rfl (ls0 := [(0, .ref Γ.2.1)]) rfl (fun K hk hK => ?_) r h
  unfold T_sortOf
  refine g_aload_n (pc := 0) hk dX2_sortOf_0 rfl ?_
  refine g_bipush (pc := 1) (v := 114) hk dX2_sortOf_1 rfl ?_
  refine g_bipush (pc := 3) (v := 97) hk dX2_sortOf_3 rfl ?_
  refine g_bipush (pc := 5) (v := 122) hk dX2_sortOf_5 rfl ?_
  refine g_bipush (pc := 7) (v := 101) hk dX2_sortOf_7 rfl ?_
  refine g_bipush (pc := 9) (v := 115) hk dX2_sortOf_9 rfl ?_
  refine g_ob1 (fun r1 h2 => ?_)
  refine t_callS (pc := 11) hk hK [.int 114, .int 97, .int 122, .int 101, .int 115] [.ref Γ.2.1] (tm_w5 Γ τ 114 97 122 101 115 r1 h2) (lw_S q1546 q1547 q128 q1548) hs_w5 rfl rfl rfl dX2_sortOf_11 rfl rfl ?_
  refine g_ob1 (fun r3 h4 => ?_)
  refine t_callV (pc := 14) hk hK [.long r1] [] (tm_isWord Γ τ r1 r3 h4) (lw_V q1558 q1560 qs64 q128 q1561) hv_isWord rfl rfl rfl dX2_sortOf_14 rfl rfl ?_
  refine g_if_eq (pc := 17) (tgt := 22) hk dX2_sortOf_17 rfl ?_ ?_
  · refine g_aload_n (pc := 22) hk dX2_sortOf_22 rfl ?_
    refine g_bipush (pc := 23) (v := 115) hk dX2_sortOf_23 rfl ?_
    refine g_bipush (pc := 25) (v := 108) hk dX2_sortOf_25 rfl ?_
    refine g_bipush (pc := 27) (v := 105) hk dX2_sortOf_27 rfl ?_
    refine g_bipush (pc := 29) (v := 112) hk dX2_sortOf_29 rfl ?_
    refine g_bipush (pc := 31) (v := 115) hk dX2_sortOf_31 rfl ?_
    refine g_ob1 (fun r5 h6 => ?_)
    refine t_callS (pc := 33) hk hK [.int 115, .int 108, .int 105, .int 112, .int 115] [.ref Γ.2.1] (tm_w5 Γ τ 115 108 105 112 115 r5 h6) (lw_S q1546 q1547 q128 q1548) hs_w5 rfl rfl rfl dX2_sortOf_33 rfl rfl ?_
    refine g_ob1 (fun r7 h8 => ?_)
    refine t_callV (pc := 36) hk hK [.long r5] [] (tm_isWord Γ τ r5 r7 h8) (lw_V q1558 q1560 qs64 q128 q1561) hv_isWord rfl rfl rfl dX2_sortOf_36 rfl rfl ?_
    refine g_if_eq (pc := 39) (tgt := 44) hk dX2_sortOf_39 rfl ?_ ?_
    · refine g_aload_n (pc := 44) hk dX2_sortOf_44 rfl ?_
      refine g_bipush (pc := 45) (v := 114) hk dX2_sortOf_45 rfl ?_
      refine g_bipush (pc := 47) (v := 97) hk dX2_sortOf_47 rfl ?_
      refine g_bipush (pc := 49) (v := 116) hk dX2_sortOf_49 rfl ?_
      refine g_bipush (pc := 51) (v := 101) hk dX2_sortOf_51 rfl ?_
      refine g_bipush (pc := 53) (v := 115) hk dX2_sortOf_53 rfl ?_
      refine g_ob1 (fun r9 h10 => ?_)
      refine t_callS (pc := 55) hk hK [.int 114, .int 97, .int 116, .int 101, .int 115] [.ref Γ.2.1] (tm_w5 Γ τ 114 97 116 101 115 r9 h10) (lw_S q1546 q1547 q128 q1548) hs_w5 rfl rfl rfl dX2_sortOf_55 rfl rfl ?_
      refine g_ob1 (fun r11 h12 => ?_)
      refine t_callV (pc := 58) hk hK [.long r9] [] (tm_isWord Γ τ r9 r11 h12) (lw_V q1558 q1560 qs64 q128 q1561) hv_isWord rfl rfl rfl dX2_sortOf_58 rfl rfl ?_
      refine g_if_eq (pc := 61) (tgt := 66) hk dX2_sortOf_61 rfl ?_ ?_
      · refine g_aload_n (pc := 66) hk dX2_sortOf_66 rfl ?_
        refine g_bipush (pc := 67) (v := 112) hk dX2_sortOf_67 rfl ?_
        refine g_bipush (pc := 69) (v := 101) hk dX2_sortOf_69 rfl ?_
        refine g_bipush (pc := 71) (v := 114) hk dX2_sortOf_71 rfl ?_
        refine g_bipush (pc := 73) (v := 115) hk dX2_sortOf_73 rfl ?_
        refine g_bipush (pc := 75) (v := 111) hk dX2_sortOf_75 rfl ?_
        refine g_bipush (pc := 77) (v := 110) hk dX2_sortOf_77 rfl ?_
        refine g_ob1 (fun r13 h14 => ?_)
        refine t_callS (pc := 79) hk hK [.int 112, .int 101, .int 114, .int 115, .int 111, .int 110] [.ref Γ.2.1] (tm_w6 Γ τ 112 101 114 115 111 110 r13 h14) (lw_S q1562 q1563 q128 q1564) hs_w6 rfl rfl rfl dX2_sortOf_79 rfl rfl ?_
        refine g_ob1 (fun r15 h16 => ?_)
        refine t_callV (pc := 82) hk hK [.long r13] [] (tm_isWord Γ τ r13 r15 h16) (lw_V q1558 q1560 qs64 q128 q1561) hv_isWord rfl rfl rfl dX2_sortOf_82 rfl rfl ?_
        refine g_if_eq (pc := 85) (tgt := 90) hk dX2_sortOf_85 rfl ?_ ?_
        · refine g_aload_n (pc := 90) hk dX2_sortOf_90 rfl ?_
          refine g_bipush (pc := 91) (v := 111) hk dX2_sortOf_91 rfl ?_
          refine g_bipush (pc := 93) (v := 116) hk dX2_sortOf_93 rfl ?_
          refine g_bipush (pc := 95) (v := 104) hk dX2_sortOf_95 rfl ?_
          refine g_bipush (pc := 97) (v := 101) hk dX2_sortOf_97 rfl ?_
          refine g_bipush (pc := 99) (v := 114) hk dX2_sortOf_99 rfl ?_
          refine g_ob1 (fun r17 h18 => ?_)
          refine t_callS (pc := 101) hk hK [.int 111, .int 116, .int 104, .int 101, .int 114] [.ref Γ.2.1] (tm_w5 Γ τ 111 116 104 101 114 r17 h18) (lw_S q1546 q1547 q128 q1548) hs_w5 rfl rfl rfl dX2_sortOf_101 rfl rfl ?_
          refine g_ob1 (fun r19 h20 => ?_)
          refine t_callV (pc := 104) hk hK [.long r17] [] (tm_isWord Γ τ r17 r19 h20) (lw_V q1558 q1560 qs64 q128 q1561) hv_isWord rfl rfl rfl dX2_sortOf_104 rfl rfl ?_
          refine g_if_eq (pc := 107) (tgt := 112) hk dX2_sortOf_107 rfl ?_ ?_
          · refine g_aload_n (pc := 112) hk dX2_sortOf_112 rfl ?_
            refine g_bipush (pc := 113) (v := 115) hk dX2_sortOf_113 rfl ?_
            refine g_bipush (pc := 115) (v := 104) hk dX2_sortOf_115 rfl ?_
            refine g_bipush (pc := 117) (v := 97) hk dX2_sortOf_117 rfl ?_
            refine g_bipush (pc := 119) (v := 118) hk dX2_sortOf_119 rfl ?_
            refine g_bipush (pc := 121) (v := 101) hk dX2_sortOf_121 rfl ?_
            refine g_ob1 (fun r21 h22 => ?_)
            refine t_callS (pc := 123) hk hK [.int 115, .int 104, .int 97, .int 118, .int 101] [.ref Γ.2.1] (tm_w5 Γ τ 115 104 97 118 101 r21 h22) (lw_S q1546 q1547 q128 q1548) hs_w5 rfl rfl rfl dX2_sortOf_123 rfl rfl ?_
            refine g_ob1 (fun r23 h24 => ?_)
            refine t_callV (pc := 126) hk hK [.long r21] [] (tm_isWord Γ τ r21 r23 h24) (lw_V q1558 q1560 qs64 q128 q1561) hv_isWord rfl rfl rfl dX2_sortOf_126 rfl rfl ?_
            refine g_if_eq (pc := 129) (tgt := 134) hk dX2_sortOf_129 rfl ?_ ?_
            · refine g_aload_n (pc := 134) hk dX2_sortOf_134 rfl ?_
              refine g_bipush (pc := 135) (v := 99) hk dX2_sortOf_135 rfl ?_
              refine g_bipush (pc := 137) (v := 97) hk dX2_sortOf_137 rfl ?_
              refine g_bipush (pc := 139) (v := 108) hk dX2_sortOf_139 rfl ?_
              refine g_bipush (pc := 141) (v := 109) hk dX2_sortOf_141 rfl ?_
              refine g_ob1 (fun r25 h26 => ?_)
              refine t_callS (pc := 143) hk hK [.int 99, .int 97, .int 108, .int 109] [.ref Γ.2.1] (tm_w4 Γ τ 99 97 108 109 r25 h26) (lw_S q1549 q1550 q128 q1551) hs_w4 rfl rfl rfl dX2_sortOf_143 rfl rfl ?_
              refine g_ob1 (fun r27 h28 => ?_)
              refine t_callV (pc := 146) hk hK [.long r25] [] (tm_isWord Γ τ r25 r27 h28) (lw_V q1558 q1560 qs64 q128 q1561) hv_isWord rfl rfl rfl dX2_sortOf_146 rfl rfl ?_
              refine g_if_eq (pc := 149) (tgt := 157) hk dX2_sortOf_149 rfl ?_ ?_
              · refine g_aload_n (pc := 157) hk dX2_sortOf_157 rfl ?_
                refine g_bipush (pc := 158) (v := 100) hk dX2_sortOf_158 rfl ?_
                refine g_bipush (pc := 160) (v := 97) hk dX2_sortOf_160 rfl ?_
                refine g_bipush (pc := 162) (v := 121) hk dX2_sortOf_162 rfl ?_
                refine g_ob1 (fun r29 h30 => ?_)
                refine t_callS (pc := 164) hk hK [.int 100, .int 97, .int 121] [.ref Γ.2.1] (tm_w3 Γ τ 100 97 121 r29 h30) (lw_S q1552 q1553 q128 q1554) hs_w3 rfl rfl rfl dX2_sortOf_164 rfl rfl ?_
                refine g_ob1 (fun r31 h32 => ?_)
                refine t_callV (pc := 167) hk hK [.long r29] [] (tm_isWord Γ τ r29 r31 h32) (lw_V q1558 q1560 qs64 q128 q1561) hv_isWord rfl rfl rfl dX2_sortOf_167 rfl rfl ?_
                refine g_if_eq (pc := 170) (tgt := 178) hk dX2_sortOf_170 rfl ?_ ?_
                · refine g_iconst (pc := 178) (v := (-1)) hk dX2_sortOf_178 rfl ?_
                  exact t_iret (pc := 179) hk rfl dX2_sortOf_179
                · refine g_bipush (pc := 173) (v := 7) hk dX2_sortOf_173 rfl ?_
                  refine g_goto (pc := 175) (tgt := 179) hk dX2_sortOf_175 rfl ?_
                  exact t_iret (pc := 179) hk rfl dX2_sortOf_179
              · refine g_bipush (pc := 152) (v := 6) hk dX2_sortOf_152 rfl ?_
                refine g_goto (pc := 154) (tgt := 179) hk dX2_sortOf_154 rfl ?_
                exact t_iret (pc := 179) hk rfl dX2_sortOf_179
            · refine g_iconst (pc := 132) (v := 5) hk dX2_sortOf_132 rfl ?_
              exact t_iret (pc := 133) hk rfl dX2_sortOf_133
          · refine g_iconst (pc := 110) (v := 4) hk dX2_sortOf_110 rfl ?_
            exact t_iret (pc := 111) hk rfl dX2_sortOf_111
        · refine g_iconst (pc := 88) (v := 3) hk dX2_sortOf_88 rfl ?_
          exact t_iret (pc := 89) hk rfl dX2_sortOf_89
      · refine g_iconst (pc := 64) (v := 2) hk dX2_sortOf_64 rfl ?_
        exact t_iret (pc := 65) hk rfl dX2_sortOf_65
    · refine g_iconst (pc := 42) (v := 1) hk dX2_sortOf_42 rfl ?_
      exact t_iret (pc := 43) hk rfl dX2_sortOf_43
  · refine g_iconst (pc := 20) (v := 0) hk dX2_sortOf_20 rfl ?_
    exact t_iret (pc := 21) hk rfl dX2_sortOf_21
def rm_has : Room := { frames := 0, cells := 0, slots := 0, locals := 0 }
theorem hs_has : yX2_has.cls ≠ "java/lang/invoke/MethodHandle" ∧ yX2_has.cls ≠ "java/lang/invoke/VarHandle" ∧ (parseMethodDescriptor yX2_has.desc).map (fun d => d.parameters.length) = some 2 := by decide +kernel
theorem tm_has (Γ : TG) (τ : TS) (v0 : Int32) (v1 : Int32)  (r : Int32) (h : T_has v0 v1 = some r) : TMet Γ yX2_has cX2_has 2 (some .boolean) rm_has [.int v0, .int v1] τ (some (.int r)) τ := by
  refine t_met (view := (fun r : Int32 => (some (Value.int r), τ))) rfl rfl (ls0 := [(0, .int v0), (1, .int v1)]) rfl (fun K hk hK => ?_) r h
  unfold T_has
  refine g_iload_n (pc := 0) hk dX2_has_0 rfl ?_
  refine g_iload_n (pc := 1) hk dX2_has_1 rfl ?_
  refine g_ishr (pc := 2) hk dX2_has_2 ?_
  refine g_iconst (pc := 3) (v := 1) hk dX2_has_3 rfl ?_
  refine g_iand (pc := 4) hk dX2_has_4 ?_
  refine g_iconst (pc := 5) (v := 1) hk dX2_has_5 rfl ?_
  refine g_icmp_ne (pc := 6) (tgt := 13) hk dX2_has_6 rfl ?_ ?_
  · refine g_iconst (pc := 13) (v := 0) hk dX2_has_13 rfl ?_
    exact t_zret (pc := 14) hk rfl rfl dX2_has_14
  · refine g_iconst (pc := 9) (v := 1) hk dX2_has_9 rfl ?_
    refine g_goto (pc := 10) (tgt := 14) hk dX2_has_10 rfl ?_
    exact t_zret (pc := 14) hk rfl rfl dX2_has_14
def rm_figure : Room := { frames := 2, cells := 0, slots := 0, locals := 42 }
theorem hv_figure : yX2_figure.cls = RX2 ∧ yX2_figure.cls ≠ "java/lang/invoke/MethodHandle" ∧ yX2_figure.cls ≠ "java/lang/invoke/VarHandle" ∧ (parseMethodDescriptor yX2_figure.desc).map (fun d => d.parameters.length) = some 3 := by decide +kernel
theorem tm_figure (Γ : TG) (τ : TS) (v1 : Int32) (v2 : Int32) (v3 : Int32)  (r : Int32 × TS) (h : T_figure τ v1 v2 v3 = some r) : TMet Γ yX2_figure cX2_figure 4 (some .int) rm_figure [.ref Γ.2.1, .int v1, .int v2, .int v3] τ (some (.int r.1)) r.2 := by
  refine t_met (view := (fun r : Int32 × TS => (some (Value.int r.1), r.2))) rfl rfl (ls0 := [(0, .ref Γ.2.1), (1, .int v1), (2, .int v2), (3, .int v3)]) rfl (fun K hk hK => ?_) r h
  unfold T_figure
  refine g_aload_n (pc := 0) hk dX2_figure_0 rfl ?_
  refine t_getI (pc := 1) hk hK ti_9 tf_9 dX2_figure_1 ?_
  refine g_iconst (pc := 4) (v := 1) hk dX2_figure_4 rfl ?_
  refine g_icmp_eq (pc := 5) (tgt := 10) hk dX2_figure_5 rfl ?_ ?_
  · refine g_aload_n (pc := 10) hk dX2_figure_10 rfl ?_
    refine t_getI (pc := 11) hk hK ti_10 tf_10 dX2_figure_11 ?_
    refine g_iload_n (pc := 14) hk dX2_figure_14 rfl ?_
    refine g_iload_n (pc := 15) hk dX2_figure_15 rfl ?_
    refine g_ob1 (fun r1 h2 => ?_)
    refine t_callS (pc := 16) hk hK [.int (tI τ 10), .int v2, .int v3] [] (tm_isIn Γ τ (tI τ 10) v2 v3 r1 h2) (lw_S q1477 q1478 q128 q1479) hs_isIn rfl rfl rfl dX2_figure_16 rfl rfl ?_
    refine g_if_ne (pc := 19) (tgt := 24) hk dX2_figure_19 rfl ?_ ?_
    · refine g_aload_n (pc := 24) hk dX2_figure_24 rfl ?_
      refine t_getR (pc := 25) hk hK tr_2 tf_2 dX2_figure_25 ?_
      refine g_iload_n (pc := 28) hk dX2_figure_28 rfl ?_
      refine g_aload_n (pc := 29) hk dX2_figure_29 rfl ?_
      refine t_getI (pc := 30) hk hK ti_10 tf_10 dX2_figure_30 ?_
      refine t_iast (pc := 33) hk hK ta_2 dX2_figure_33 (fun τ3 => ?_)
      refine g_aload_n (pc := 34) hk dX2_figure_34 rfl ?_
      refine g_ob1 (fun τ5 h4 => ?_)
      refine t_callV (pc := 35) hk hK [] [] (tm_nextToken Γ τ3 τ5 h4) (lw_V q1519 q1521 qs60 q128 q1522) hv_nextToken rfl rfl rfl dX2_figure_35 rfl rfl ?_
      refine g_iconst (pc := 38) (v := 0) hk dX2_figure_38 rfl ?_
      exact t_iret (pc := 39) hk rfl dX2_figure_39
    · refine g_iconst (pc := 22) (v := 2) hk dX2_figure_22 rfl ?_
      exact t_iret (pc := 23) hk rfl dX2_figure_23
  · refine g_iconst (pc := 8) (v := 1) hk dX2_figure_8 rfl ?_
    exact t_iret (pc := 9) hk rfl dX2_figure_9
def rm_pair : Room := { frames := 3, cells := 0, slots := 0, locals := 65 }
theorem hv_pair : yX2_pair.cls = RX2 ∧ yX2_pair.cls ≠ "java/lang/invoke/MethodHandle" ∧ yX2_pair.cls ≠ "java/lang/invoke/VarHandle" ∧ (parseMethodDescriptor yX2_pair.desc).map (fun d => d.parameters.length) = some 4 := by decide +kernel
theorem tm_pair (Γ : TG) (τ : TS) (v1 : Int32) (v2 : Int32) (v3 : Int64) (v5 : Int32)  (r : Int32 × TS) (h : T_pair τ v1 v2 v3 v5 = some r) : TMet Γ yX2_pair cX2_pair 7 (some .int) rm_pair [.ref Γ.2.1, .int v1, .int v2, .long v3, .int v5] τ (some (.int r.1)) r.2 := by
  refine t_met (view := (fun r : Int32 × TS => (some (Value.int r.1), r.2))) rfl rfl (ls0 := [(0, .ref Γ.2.1), (1, .int v1), (2, .int v2), (3, .long v3), (5, .int v5)]) rfl (fun K hk hK => ?_) r h
  unfold T_pair
  refine g_aload_n (pc := 0) hk dX2_pair_0 rfl ?_
  refine g_iload_n (pc := 1) hk dX2_pair_1 rfl ?_
  refine g_iconst (pc := 2) (v := 1) hk dX2_pair_2 rfl ?_
  refine g_iadd (pc := 3) hk dX2_pair_3 ?_
  refine g_iconst (pc := 4) (v := 0) hk dX2_pair_4 rfl ?_
  refine g_iload_n (pc := 5) hk dX2_pair_5 rfl ?_
  refine g_ob2 (fun r1 τ3 h2 => ?_)
  refine t_callV (pc := 6) hk hK [.int (v1 + 1), .int 0, .int v2] [] (tm_figure Γ τ (v1 + 1) 0 v2 (r1, τ3) h2) (lw_V q1576 q1578 qs67 q128 q1579) hv_figure rfl rfl rfl dX2_pair_6 rfl rfl ?_
  refine g_istore (pc := 9) (i := 6) (ls' := [(6, .int r1), (0, .ref Γ.2.1), (1, .int v1), (2, .int v2), (3, .long v3), (5, .int v5)]) hk dX2_pair_9 (by decide) rfl ?_
  refine g_iload (pc := 11) hk dX2_pair_11 rfl ?_
  refine g_if_eq (pc := 13) (tgt := 19) hk dX2_pair_13 rfl ?_ ?_
  · refine g_aload_n (pc := 19) hk dX2_pair_19 rfl ?_
    refine g_lload_n (pc := 20) hk dX2_pair_20 rfl ?_
    refine g_ob1 (fun r4 h5 => ?_)
    refine t_callV (pc := 21) hk hK [.long v3] [] (tm_isWord Γ τ3 v3 r4 h5) (lw_V q1558 q1560 qs64 q128 q1561) hv_isWord rfl rfl rfl dX2_pair_21 rfl rfl ?_
    refine g_if_ne (pc := 24) (tgt := 29) hk dX2_pair_24 rfl ?_ ?_
    · refine g_aload_n (pc := 29) hk dX2_pair_29 rfl ?_
      refine g_ob1 (fun τ7 h6 => ?_)
      refine t_callV (pc := 30) hk hK [] [] (tm_nextToken Γ τ3 τ7 h6) (lw_V q1519 q1521 qs60 q128 q1522) hv_nextToken rfl rfl rfl dX2_pair_30 rfl rfl ?_
      refine g_aload_n (pc := 33) hk dX2_pair_33 rfl ?_
      refine g_iload_n (pc := 34) hk dX2_pair_34 rfl ?_
      refine g_iconst (pc := 35) (v := 2) hk dX2_pair_35 rfl ?_
      refine g_iadd (pc := 36) hk dX2_pair_36 ?_
      refine g_iconst (pc := 37) (v := 0) hk dX2_pair_37 rfl ?_
      refine g_iload (pc := 38) hk dX2_pair_38 rfl ?_
      refine g_ob2 (fun r8 τ10 h9 => ?_)
      refine t_callV (pc := 40) hk hK [.int (v1 + 2), .int 0, .int v5] [] (tm_figure Γ τ7 (v1 + 2) 0 v5 (r8, τ10) h9) (lw_V q1576 q1578 qs67 q128 q1579) hv_figure rfl rfl rfl dX2_pair_40 rfl rfl ?_
      exact t_iret (pc := 43) hk rfl dX2_pair_43
    · refine g_iconst (pc := 27) (v := 1) hk dX2_pair_27 rfl ?_
      exact t_iret (pc := 28) hk rfl dX2_pair_28
  · refine g_iload (pc := 16) hk dX2_pair_16 rfl ?_
    exact t_iret (pc := 18) hk rfl dX2_pair_18
def rm_openAt : Room := { frames := 0, cells := 0, slots := 0, locals := 0 }
theorem hv_openAt : yX2_openAt.cls = RX2 ∧ yX2_openAt.cls ≠ "java/lang/invoke/MethodHandle" ∧ yX2_openAt.cls ≠ "java/lang/invoke/VarHandle" ∧ (parseMethodDescriptor yX2_openAt.desc).map (fun d => d.parameters.length) = some 0 := by decide +kernel
theorem tm_openAt_l7 {K : KT} {Γ : TG} (hk : KOK K cX2_openAt 2 RX2 rm_openAt (some .int)) (hK : va_K Γ.1 tcl (ttys Γ) (kS K)) (τ : TS)   : ∀ (n : Nat) (v1 : Int32), GGo K (tQ K Γ (fun r : Int32 => (some (Value.int r), τ))) (T_openAt_l7 τ n v1) 2 (TI Γ (kS K) τ) 0 0 7 [(0, .ref Γ.2.1), (1, .int v1)] [] := by
  intro n
  induction n with
  | zero =>
    intro v1
    unfold T_openAt_l7
    exact g_none
  | succ n ih =>
    intro v1
    unfold T_openAt_l7
    refine g_iload_n (pc := 7) hk dX2_openAt_7 rfl ?_
    refine g_if_lt (pc := 8) (tgt := 28) hk dX2_openAt_8 rfl ?_ ?_
    · refine g_iload_n (pc := 28) hk dX2_openAt_28 rfl ?_
      exact t_iret (pc := 29) hk rfl dX2_openAt_29
    · refine g_aload_n (pc := 11) hk dX2_openAt_11 rfl ?_
      refine t_getR (pc := 12) hk hK tr_15 tf_15 dX2_openAt_12 ?_
      refine g_iload_n (pc := 15) hk dX2_openAt_15 rfl ?_
      refine t_iald (pc := 16) hk hK ta_15 dX2_openAt_16 ?_
      refine g_bipush (pc := 17) (v := 40) hk dX2_openAt_17 rfl ?_
      refine g_icmp_ge (pc := 19) (tgt := 28) hk dX2_openAt_19 rfl ?_ ?_
      · refine g_iload_n (pc := 28) hk dX2_openAt_28 rfl ?_
        exact t_iret (pc := 29) hk rfl dX2_openAt_29
      · refine g_iincN (pc := 22) (v := (-1)) (ls' := fun x2 => [(1, .int x2), (0, .ref Γ.2.1)]) hk dX2_openAt_22 rfl rfl (by decide) (fun _ => rfl) (fun x2 => ?_)
        refine g_goto (pc := 25) (tgt := 7) hk dX2_openAt_25 rfl ?_
        refine g_sub (ls' := [(0, .ref Γ.2.1), (1, .int x2)]) [1, 0] rfl ?_
        exact ih x2
theorem tm_openAt (Γ : TG) (τ : TS)   (r : Int32) (h : T_openAt τ = some r) : TMet Γ yX2_openAt cX2_openAt 2 (some .int) rm_openAt [.ref Γ.2.1] τ (some (.int r)) τ := by
  refine t_met (view := (fun r : Int32 => (some (Value.int r), τ))) rfl rfl (ls0 := [(0, .ref Γ.2.1)]) rfl (fun K hk hK => ?_) r h
  unfold T_openAt
  refine g_aload_n (pc := 0) hk dX2_openAt_0 rfl ?_
  refine t_getI (pc := 1) hk hK ti_16 tf_16 dX2_openAt_1 ?_
  refine g_iconst (pc := 4) (v := 1) hk dX2_openAt_4 rfl ?_
  refine g_isub (pc := 5) hk dX2_openAt_5 ?_
  refine g_istore_nN (pc := 6) (i := 1) (ls' := fun x1 => [(1, .int x1), (0, .ref Γ.2.1)]) hk dX2_openAt_6 rfl (by decide) (fun _ => rfl) (fun x1 => ?_)
  refine g_sub (ls' := [(0, .ref Γ.2.1), (1, .int x1)]) [1, 0] rfl ?_
  exact tm_openAt_l7 hk hK τ FU x1
def rm_openNow : Room := { frames := 1, cells := 0, slots := 0, locals := 21 }
theorem hv_openNow : yX2_openNow.cls = RX2 ∧ yX2_openNow.cls ≠ "java/lang/invoke/MethodHandle" ∧ yX2_openNow.cls ≠ "java/lang/invoke/VarHandle" ∧ (parseMethodDescriptor yX2_openNow.desc).map (fun d => d.parameters.length) = some 0 := by decide +kernel
theorem tm_openNow (Γ : TG) (τ : TS)   (r : Int32) (h : T_openNow τ = some r) : TMet Γ yX2_openNow cX2_openNow 1 (some .int) rm_openNow [.ref Γ.2.1] τ (some (.int r)) τ := by
  refine t_met (view := (fun r : Int32 => (some (Value.int r), τ))) rfl rfl (ls0 := [(0, .ref Γ.2.1)]) rfl (fun K hk hK => ?_) r h
  unfold T_openNow
  refine g_aload_n (pc := 0) hk dX2_openNow_0 rfl ?_
  refine g_ob1 (fun r1 h2 => ?_)
  refine t_callV (pc := 1) hk hK [] [] (tm_openAt Γ τ r1 h2) (lw_V q1600 q1602 qs73 q128 q1603) hv_openAt rfl rfl rfl dX2_openNow_1 rfl rfl ?_
  refine g_if_ge (pc := 4) (tgt := 11) hk dX2_openNow_4 rfl ?_ ?_
  · refine g_aload_n (pc := 11) hk dX2_openNow_11 rfl ?_
    refine t_getR (pc := 12) hk hK tr_15 tf_15 dX2_openNow_12 ?_
    refine g_aload_n (pc := 15) hk dX2_openNow_15 rfl ?_
    refine g_ob1 (fun r3 h4 => ?_)
    refine t_callV (pc := 16) hk hK [] [.ref (Γ.2.2.1 15)] (tm_openAt Γ τ r3 h4) (lw_V q1600 q1602 qs73 q128 q1603) hv_openAt rfl rfl rfl dX2_openNow_16 rfl rfl ?_
    refine t_iald (pc := 19) hk hK ta_15 dX2_openNow_19 ?_
    exact t_iret (pc := 20) hk rfl dX2_openNow_20
  · refine g_iconst (pc := 7) (v := (-1)) hk dX2_openNow_7 rfl ?_
    refine g_goto (pc := 8) (tgt := 20) hk dX2_openNow_8 rfl ?_
    exact t_iret (pc := 20) hk rfl dX2_openNow_20
def rm_rank : Room := { frames := 0, cells := 0, slots := 0, locals := 0 }
theorem hs_rank : yX2_rank.cls ≠ "java/lang/invoke/MethodHandle" ∧ yX2_rank.cls ≠ "java/lang/invoke/VarHandle" ∧ (parseMethodDescriptor yX2_rank.desc).map (fun d => d.parameters.length) = some 1 := by decide +kernel
theorem tm_rank (Γ : TG) (τ : TS) (v0 : Int32)  (r : Int32) (h : T_rank v0 = some r) : TMet Γ yX2_rank cX2_rank 1 (some .int) rm_rank [.int v0] τ (some (.int r)) τ := by
  refine t_met (view := (fun r : Int32 => (some (Value.int r), τ))) rfl rfl (ls0 := [(0, .int v0)]) rfl (fun K hk hK => ?_) r h
  unfold T_rank
  refine g_iload_n (pc := 0) hk dX2_rank_0 rfl ?_
  refine g_bipush (pc := 1) (v := 40) hk dX2_rank_1 rfl ?_
  refine g_icmp_lt (pc := 3) (tgt := 8) hk dX2_rank_3 rfl ?_ ?_
  · refine g_iload_n (pc := 8) hk dX2_rank_8 rfl ?_
    refine g_bipush (pc := 9) (v := 20) hk dX2_rank_9 rfl ?_
    refine g_icmp_lt (pc := 11) (tgt := 36) hk dX2_rank_11 rfl ?_ ?_
    · refine g_iload_n (pc := 36) hk dX2_rank_36 rfl ?_
      refine g_bipush (pc := 37) (v := 10) hk dX2_rank_37 rfl ?_
      refine g_icmp_lt (pc := 39) (tgt := 44) hk dX2_rank_39 rfl ?_ ?_
      · refine g_iload_n (pc := 44) hk dX2_rank_44 rfl ?_
        refine g_bipush (pc := 45) (v := 9) hk dX2_rank_45 rfl ?_
        refine g_icmp_ne (pc := 47) (tgt := 55) hk dX2_rank_47 rfl ?_ ?_
        · refine g_iload_n (pc := 55) hk dX2_rank_55 rfl ?_
          refine g_bipush (pc := 56) (v := 7) hk dX2_rank_56 rfl ?_
          refine g_icmp_lt (pc := 58) (tgt := 66) hk dX2_rank_58 rfl ?_ ?_
          · refine g_iload_n (pc := 66) hk dX2_rank_66 rfl ?_
            refine g_iconst (pc := 67) (v := 5) hk dX2_rank_67 rfl ?_
            refine g_icmp_lt (pc := 68) (tgt := 75) hk dX2_rank_68 rfl ?_ ?_
            · refine g_bipush (pc := 75) (v := 8) hk dX2_rank_75 rfl ?_
              exact t_iret (pc := 77) hk rfl dX2_rank_77
            · refine g_iconst (pc := 71) (v := 5) hk dX2_rank_71 rfl ?_
              refine g_goto (pc := 72) (tgt := 77) hk dX2_rank_72 rfl ?_
              exact t_iret (pc := 77) hk rfl dX2_rank_77
          · refine g_bipush (pc := 61) (v := 6) hk dX2_rank_61 rfl ?_
            refine g_goto (pc := 63) (tgt := 77) hk dX2_rank_63 rfl ?_
            exact t_iret (pc := 77) hk rfl dX2_rank_77
        · refine g_bipush (pc := 50) (v := 7) hk dX2_rank_50 rfl ?_
          refine g_goto (pc := 52) (tgt := 77) hk dX2_rank_52 rfl ?_
          exact t_iret (pc := 77) hk rfl dX2_rank_77
      · refine g_iconst (pc := 42) (v := 4) hk dX2_rank_42 rfl ?_
        exact t_iret (pc := 43) hk rfl dX2_rank_43
    · refine g_iload_n (pc := 14) hk dX2_rank_14 rfl ?_
      refine g_bipush (pc := 15) (v := 22) hk dX2_rank_15 rfl ?_
      refine g_icmp_ne (pc := 17) (tgt := 24) hk dX2_rank_17 rfl ?_ ?_
      · refine g_iload_n (pc := 24) hk dX2_rank_24 rfl ?_
        refine g_bipush (pc := 25) (v := 21) hk dX2_rank_25 rfl ?_
        refine g_icmp_ne (pc := 27) (tgt := 34) hk dX2_rank_27 rfl ?_ ?_
        · refine g_iconst (pc := 34) (v := 3) hk dX2_rank_34 rfl ?_
          exact t_iret (pc := 35) hk rfl dX2_rank_35
        · refine g_iconst (pc := 30) (v := 2) hk dX2_rank_30 rfl ?_
          refine g_goto (pc := 31) (tgt := 35) hk dX2_rank_31 rfl ?_
          exact t_iret (pc := 35) hk rfl dX2_rank_35
      · refine g_iconst (pc := 20) (v := 1) hk dX2_rank_20 rfl ?_
        refine g_goto (pc := 21) (tgt := 35) hk dX2_rank_21 rfl ?_
        exact t_iret (pc := 35) hk rfl dX2_rank_35
  · refine g_iconst (pc := 6) (v := 0) hk dX2_rank_6 rfl ?_
    exact t_iret (pc := 7) hk rfl dX2_rank_7
def rm_isCompared : Room := { frames := 1, cells := 0, slots := 0, locals := 20 }
theorem hv_isCompared : yX2_isCompared.cls = RX2 ∧ yX2_isCompared.cls ≠ "java/lang/invoke/MethodHandle" ∧ yX2_isCompared.cls ≠ "java/lang/invoke/VarHandle" ∧ (parseMethodDescriptor yX2_isCompared.desc).map (fun d => d.parameters.length) = some 0 := by decide +kernel
theorem tm_isCompared_j30 {K : KT} {Γ : TG} (hk : KOK K cX2_isCompared 2 RX2 rm_isCompared (some .boolean)) (hK : va_K Γ.1 tcl (ttys Γ) (kS K)) (τ : TS) (v1 : Int32)   : GGo K (tQ K Γ (fun r : Int32 => (some (Value.int r), τ))) (T_isCompared_j30 τ v1) 2 (TI Γ (kS K) τ) 0 0 30 [(0, .ref Γ.2.1), (1, .int v1)] [] := by
  unfold T_isCompared_j30
  refine g_iload_n (pc := 30) hk dX2_isCompared_30 rfl ?_
  refine g_if_lt (pc := 31) (tgt := 51) hk dX2_isCompared_31 rfl ?_ ?_
  · refine g_iconst (pc := 51) (v := 0) hk dX2_isCompared_51 rfl ?_
    exact t_zret (pc := 52) hk rfl rfl dX2_isCompared_52
  · refine g_aload_n (pc := 34) hk dX2_isCompared_34 rfl ?_
    refine t_getR (pc := 35) hk hK tr_15 tf_15 dX2_isCompared_35 ?_
    refine g_iload_n (pc := 38) hk dX2_isCompared_38 rfl ?_
    refine t_iald (pc := 39) hk hK ta_15 dX2_isCompared_39 ?_
    refine g_ob1 (fun r2 h3 => ?_)
    refine t_callS (pc := 40) hk hK [.int (tA τ 15 v1.toNatClampNeg)] [] (tm_rank Γ τ (tA τ 15 v1.toNatClampNeg) r2 h3) (lw_S q1608 q1609 q128 q1610) hs_rank rfl rfl rfl dX2_isCompared_40 rfl rfl ?_
    refine g_iconst (pc := 43) (v := 4) hk dX2_isCompared_43 rfl ?_
    refine g_icmp_ne (pc := 44) (tgt := 51) hk dX2_isCompared_44 rfl ?_ ?_
    · refine g_iconst (pc := 51) (v := 0) hk dX2_isCompared_51 rfl ?_
      exact t_zret (pc := 52) hk rfl rfl dX2_isCompared_52
    · refine g_iconst (pc := 47) (v := 1) hk dX2_isCompared_47 rfl ?_
      refine g_goto (pc := 48) (tgt := 52) hk dX2_isCompared_48 rfl ?_
      exact t_zret (pc := 52) hk rfl rfl dX2_isCompared_52
theorem tm_isCompared_l7 {K : KT} {Γ : TG} (hk : KOK K cX2_isCompared 2 RX2 rm_isCompared (some .boolean)) (hK : va_K Γ.1 tcl (ttys Γ) (kS K)) (τ : TS)   : ∀ (n : Nat) (v1 : Int32), GGo K (tQ K Γ (fun r : Int32 => (some (Value.int r), τ))) (T_isCompared_l7 τ n v1) 2 (TI Γ (kS K) τ) 0 0 7 [(0, .ref Γ.2.1), (1, .int v1)] [] := by
  intro n
  induction n with
  | zero =>
    intro v1
    unfold T_isCompared_l7
    exact g_none
  | succ n ih =>
    intro v1
    unfold T_isCompared_l7
    refine g_iload_n (pc := 7) hk dX2_isCompared_7 rfl ?_
    refine g_if_lt (pc := 8) (tgt := 30) hk dX2_isCompared_8 rfl ?_ ?_
    · exact tm_isCompared_j30 hk hK τ v1
    · refine g_aload_n (pc := 11) hk dX2_isCompared_11 rfl ?_
      refine t_getR (pc := 12) hk hK tr_15 tf_15 dX2_isCompared_12 ?_
      refine g_iload_n (pc := 15) hk dX2_isCompared_15 rfl ?_
      refine t_iald (pc := 16) hk hK ta_15 dX2_isCompared_16 ?_
      refine g_ob1 (fun r4 h5 => ?_)
      refine t_callS (pc := 17) hk hK [.int (tA τ 15 v1.toNatClampNeg)] [] (tm_rank Γ τ (tA τ 15 v1.toNatClampNeg) r4 h5) (lw_S q1608 q1609 q128 q1610) hs_rank rfl rfl rfl dX2_isCompared_17 rfl rfl ?_
      refine g_iconst (pc := 20) (v := 4) hk dX2_isCompared_20 rfl ?_
      refine g_icmp_le (pc := 21) (tgt := 30) hk dX2_isCompared_21 rfl ?_ ?_
      · exact tm_isCompared_j30 hk hK τ v1
      · refine g_iincN (pc := 24) (v := (-1)) (ls' := fun x6 => [(1, .int x6), (0, .ref Γ.2.1)]) hk dX2_isCompared_24 rfl rfl (by decide) (fun _ => rfl) (fun x6 => ?_)
        refine g_goto (pc := 27) (tgt := 7) hk dX2_isCompared_27 rfl ?_
        refine g_sub (ls' := [(0, .ref Γ.2.1), (1, .int x6)]) [1, 0] rfl ?_
        exact ih x6
theorem tm_isCompared (Γ : TG) (τ : TS)   (r : Int32) (h : T_isCompared τ = some r) : TMet Γ yX2_isCompared cX2_isCompared 2 (some .boolean) rm_isCompared [.ref Γ.2.1] τ (some (.int r)) τ := by
  refine t_met (view := (fun r : Int32 => (some (Value.int r), τ))) rfl rfl (ls0 := [(0, .ref Γ.2.1)]) rfl (fun K hk hK => ?_) r h
  unfold T_isCompared
  refine g_aload_n (pc := 0) hk dX2_isCompared_0 rfl ?_
  refine t_getI (pc := 1) hk hK ti_16 tf_16 dX2_isCompared_1 ?_
  refine g_iconst (pc := 4) (v := 1) hk dX2_isCompared_4 rfl ?_
  refine g_isub (pc := 5) hk dX2_isCompared_5 ?_
  refine g_istore_nN (pc := 6) (i := 1) (ls' := fun x1 => [(1, .int x1), (0, .ref Γ.2.1)]) hk dX2_isCompared_6 rfl (by decide) (fun _ => rfl) (fun x1 => ?_)
  refine g_sub (ls' := [(0, .ref Γ.2.1), (1, .int x1)]) [1, 0] rfl ?_
  exact tm_isCompared_l7 hk hK τ FU x1
def rm_compareOf : Room := { frames := 0, cells := 0, slots := 0, locals := 0 }
theorem hv_compareOf : yX2_compareOf.cls = RX2 ∧ yX2_compareOf.cls ≠ "java/lang/invoke/MethodHandle" ∧ yX2_compareOf.cls ≠ "java/lang/invoke/VarHandle" ∧ (parseMethodDescriptor yX2_compareOf.desc).map (fun d => d.parameters.length) = some 0 := by decide +kernel
theorem tm_compareOf (Γ : TG) (τ : TS)   (r : Int32) (h : T_compareOf τ = some r) : TMet Γ yX2_compareOf cX2_compareOf 1 (some .int) rm_compareOf [.ref Γ.2.1] τ (some (.int r)) τ := by
  refine t_met (view := (fun r : Int32 => (some (Value.int r), τ))) rfl rfl (ls0 := [(0, .ref Γ.2.1)]) rfl (fun K hk hK => ?_) r h
  unfold T_compareOf
  refine g_aload_n (pc := 0) hk dX2_compareOf_0 rfl ?_
  refine t_getI (pc := 1) hk hK ti_9 tf_9 dX2_compareOf_1 ?_
  refine g_bipush (pc := 4) (v := 60) hk dX2_compareOf_4 rfl ?_
  refine g_icmp_ne (pc := 6) (tgt := 14) hk dX2_compareOf_6 rfl ?_ ?_
  · refine g_aload_n (pc := 14) hk dX2_compareOf_14 rfl ?_
    refine t_getI (pc := 15) hk hK ti_9 tf_9 dX2_compareOf_15 ?_
    refine g_iconst (pc := 18) (v := 4) hk dX2_compareOf_18 rfl ?_
    refine g_icmp_ne (pc := 19) (tgt := 27) hk dX2_compareOf_19 rfl ?_ ?_
    · refine g_aload_n (pc := 27) hk dX2_compareOf_27 rfl ?_
      refine t_getI (pc := 28) hk hK ti_9 tf_9 dX2_compareOf_28 ?_
      refine g_bipush (pc := 31) (v := 62) hk dX2_compareOf_31 rfl ?_
      refine g_icmp_ne (pc := 33) (tgt := 41) hk dX2_compareOf_33 rfl ?_ ?_
      · refine g_aload_n (pc := 41) hk dX2_compareOf_41 rfl ?_
        refine t_getI (pc := 42) hk hK ti_9 tf_9 dX2_compareOf_42 ?_
        refine g_iconst (pc := 45) (v := 5) hk dX2_compareOf_45 rfl ?_
        refine g_icmp_ne (pc := 46) (tgt := 54) hk dX2_compareOf_46 rfl ?_ ?_
        · refine g_aload_n (pc := 54) hk dX2_compareOf_54 rfl ?_
          refine t_getI (pc := 55) hk hK ti_9 tf_9 dX2_compareOf_55 ?_
          refine g_bipush (pc := 58) (v := 61) hk dX2_compareOf_58 rfl ?_
          refine g_icmp_ne (pc := 60) (tgt := 68) hk dX2_compareOf_60 rfl ?_ ?_
          · refine g_aload_n (pc := 68) hk dX2_compareOf_68 rfl ?_
            refine t_getI (pc := 69) hk hK ti_9 tf_9 dX2_compareOf_69 ?_
            refine g_bipush (pc := 72) (v := 35) hk dX2_compareOf_72 rfl ?_
            refine g_icmp_ne (pc := 74) (tgt := 82) hk dX2_compareOf_74 rfl ?_ ?_
            · refine g_iconst (pc := 82) (v := (-1)) hk dX2_compareOf_82 rfl ?_
              exact t_iret (pc := 83) hk rfl dX2_compareOf_83
            · refine g_bipush (pc := 77) (v := 15) hk dX2_compareOf_77 rfl ?_
              refine g_goto (pc := 79) (tgt := 83) hk dX2_compareOf_79 rfl ?_
              exact t_iret (pc := 83) hk rfl dX2_compareOf_83
          · refine g_bipush (pc := 63) (v := 14) hk dX2_compareOf_63 rfl ?_
            refine g_goto (pc := 65) (tgt := 83) hk dX2_compareOf_65 rfl ?_
            exact t_iret (pc := 83) hk rfl dX2_compareOf_83
        · refine g_bipush (pc := 49) (v := 13) hk dX2_compareOf_49 rfl ?_
          refine g_goto (pc := 51) (tgt := 83) hk dX2_compareOf_51 rfl ?_
          exact t_iret (pc := 83) hk rfl dX2_compareOf_83
      · refine g_bipush (pc := 36) (v := 12) hk dX2_compareOf_36 rfl ?_
        refine g_goto (pc := 38) (tgt := 83) hk dX2_compareOf_38 rfl ?_
        exact t_iret (pc := 83) hk rfl dX2_compareOf_83
    · refine g_bipush (pc := 22) (v := 11) hk dX2_compareOf_22 rfl ?_
      refine g_goto (pc := 24) (tgt := 83) hk dX2_compareOf_24 rfl ?_
      exact t_iret (pc := 83) hk rfl dX2_compareOf_83
  · refine g_bipush (pc := 9) (v := 10) hk dX2_compareOf_9 rfl ?_
    refine g_goto (pc := 11) (tgt := 83) hk dX2_compareOf_11 rfl ?_
    exact t_iret (pc := 83) hk rfl dX2_compareOf_83
def rm_betweenOf : Room := { frames := 2, cells := 0, slots := 0, locals := 43 }
theorem hv_betweenOf : yX2_betweenOf.cls = RX2 ∧ yX2_betweenOf.cls ≠ "java/lang/invoke/MethodHandle" ∧ yX2_betweenOf.cls ≠ "java/lang/invoke/VarHandle" ∧ (parseMethodDescriptor yX2_betweenOf.desc).map (fun d => d.parameters.length) = some 0 := by decide +kernel
theorem tm_betweenOf (Γ : TG) (τ : TS)   (r : Int32) (h : T_betweenOf τ = some r) : TMet Γ yX2_betweenOf cX2_betweenOf 1 (some .int) rm_betweenOf [.ref Γ.2.1] τ (some (.int r)) τ := by
  refine t_met (view := (fun r : Int32 => (some (Value.int r), τ))) rfl rfl (ls0 := [(0, .ref Γ.2.1)]) rfl (fun K hk hK => ?_) r h
  unfold T_betweenOf
  refine g_aload_n (pc := 0) hk dX2_betweenOf_0 rfl ?_
  refine t_getI (pc := 1) hk hK ti_9 tf_9 dX2_betweenOf_1 ?_
  refine g_bipush (pc := 4) (v := 43) hk dX2_betweenOf_4 rfl ?_
  refine g_icmp_ne (pc := 6) (tgt := 11) hk dX2_betweenOf_6 rfl ?_ ?_
  · refine g_aload_n (pc := 11) hk dX2_betweenOf_11 rfl ?_
    refine t_getI (pc := 12) hk hK ti_9 tf_9 dX2_betweenOf_12 ?_
    refine g_bipush (pc := 15) (v := 45) hk dX2_betweenOf_15 rfl ?_
    refine g_icmp_ne (pc := 17) (tgt := 23) hk dX2_betweenOf_17 rfl ?_ ?_
    · refine g_aload_n (pc := 23) hk dX2_betweenOf_23 rfl ?_
      refine t_getI (pc := 24) hk hK ti_9 tf_9 dX2_betweenOf_24 ?_
      refine g_bipush (pc := 27) (v := 42) hk dX2_betweenOf_27 rfl ?_
      refine g_icmp_ne (pc := 29) (tgt := 35) hk dX2_betweenOf_29 rfl ?_ ?_
      · refine g_aload_n (pc := 35) hk dX2_betweenOf_35 rfl ?_
        refine t_getI (pc := 36) hk hK ti_9 tf_9 dX2_betweenOf_36 ?_
        refine g_bipush (pc := 39) (v := 47) hk dX2_betweenOf_39 rfl ?_
        refine g_icmp_ne (pc := 41) (tgt := 47) hk dX2_betweenOf_41 rfl ?_ ?_
        · refine g_aload_n (pc := 47) hk dX2_betweenOf_47 rfl ?_
          refine t_getI (pc := 48) hk hK ti_9 tf_9 dX2_betweenOf_48 ?_
          refine g_bipush (pc := 51) (v := 94) hk dX2_betweenOf_51 rfl ?_
          refine g_icmp_ne (pc := 53) (tgt := 59) hk dX2_betweenOf_53 rfl ?_ ?_
          · refine g_aload_n (pc := 59) hk dX2_betweenOf_59 rfl ?_
            refine g_ob1 (fun r1 h2 => ?_)
            refine t_callV (pc := 60) hk hK [] [] (tm_openNow Γ τ r1 h2) (lw_V q1596 q1598 qs72 q128 q1599) hv_openNow rfl rfl rfl dX2_betweenOf_60 rfl rfl ?_
            refine g_bipush (pc := 63) (v := 42) hk dX2_betweenOf_63 rfl ?_
            refine g_icmp_eq (pc := 65) (tgt := 70) hk dX2_betweenOf_65 rfl ?_ ?_
            · refine g_aload_n (pc := 70) hk dX2_betweenOf_70 rfl ?_
              refine g_ob1 (fun r3 h4 => ?_)
              refine t_callV (pc := 71) hk hK [] [] (tm_isCompared Γ τ r3 h4) (lw_V q1604 q1606 qs74 q128 q1607) hv_isCompared rfl rfl rfl dX2_betweenOf_71 rfl rfl ?_
              refine g_if_ne (pc := 74) (tgt := 82) hk dX2_betweenOf_74 rfl ?_ ?_
              · refine g_aload_n (pc := 82) hk dX2_betweenOf_82 rfl ?_
                refine g_bipush (pc := 83) (v := 97) hk dX2_betweenOf_83 rfl ?_
                refine g_bipush (pc := 85) (v := 110) hk dX2_betweenOf_85 rfl ?_
                refine g_bipush (pc := 87) (v := 100) hk dX2_betweenOf_87 rfl ?_
                refine g_ob1 (fun r5 h6 => ?_)
                refine t_callS (pc := 89) hk hK [.int 97, .int 110, .int 100] [.ref Γ.2.1] (tm_w3 Γ τ 97 110 100 r5 h6) (lw_S q1552 q1553 q128 q1554) hs_w3 rfl rfl rfl dX2_betweenOf_89 rfl rfl ?_
                refine g_ob1 (fun r7 h8 => ?_)
                refine t_callV (pc := 92) hk hK [.long r5] [] (tm_isWord Γ τ r5 r7 h8) (lw_V q1558 q1560 qs64 q128 q1561) hv_isWord rfl rfl rfl dX2_betweenOf_92 rfl rfl ?_
                refine g_if_eq (pc := 95) (tgt := 103) hk dX2_betweenOf_95 rfl ?_ ?_
                · refine g_aload_n (pc := 103) hk dX2_betweenOf_103 rfl ?_
                  refine g_bipush (pc := 104) (v := 111) hk dX2_betweenOf_104 rfl ?_
                  refine g_bipush (pc := 106) (v := 114) hk dX2_betweenOf_106 rfl ?_
                  refine g_ob1 (fun r9 h10 => ?_)
                  refine t_callS (pc := 108) hk hK [.int 111, .int 114] [.ref Γ.2.1] (tm_w2 Γ τ 111 114 r9 h10) (lw_S q1555 q1556 q128 q1557) hs_w2 rfl rfl rfl dX2_betweenOf_108 rfl rfl ?_
                  refine g_ob1 (fun r11 h12 => ?_)
                  refine t_callV (pc := 111) hk hK [.long r9] [] (tm_isWord Γ τ r9 r11 h12) (lw_V q1558 q1560 qs64 q128 q1561) hv_isWord rfl rfl rfl dX2_betweenOf_111 rfl rfl ?_
                  refine g_if_eq (pc := 114) (tgt := 122) hk dX2_betweenOf_114 rfl ?_ ?_
                  · refine g_iconst (pc := 122) (v := (-1)) hk dX2_betweenOf_122 rfl ?_
                    exact t_iret (pc := 123) hk rfl dX2_betweenOf_123
                  · refine g_bipush (pc := 117) (v := 22) hk dX2_betweenOf_117 rfl ?_
                    refine g_goto (pc := 119) (tgt := 123) hk dX2_betweenOf_119 rfl ?_
                    exact t_iret (pc := 123) hk rfl dX2_betweenOf_123
                · refine g_bipush (pc := 98) (v := 21) hk dX2_betweenOf_98 rfl ?_
                  refine g_goto (pc := 100) (tgt := 123) hk dX2_betweenOf_100 rfl ?_
                  exact t_iret (pc := 123) hk rfl dX2_betweenOf_123
              · refine g_aload_n (pc := 77) hk dX2_betweenOf_77 rfl ?_
                refine g_ob1 (fun r13 h14 => ?_)
                refine t_callV (pc := 78) hk hK [] [] (tm_compareOf Γ τ r13 h14) (lw_V q1611 q1613 qs75 q128 q1614) hv_compareOf rfl rfl rfl dX2_betweenOf_78 rfl rfl ?_
                exact t_iret (pc := 81) hk rfl dX2_betweenOf_81
            · refine g_iconst (pc := 68) (v := (-1)) hk dX2_betweenOf_68 rfl ?_
              exact t_iret (pc := 69) hk rfl dX2_betweenOf_69
          · refine g_bipush (pc := 56) (v := 9) hk dX2_betweenOf_56 rfl ?_
            exact t_iret (pc := 58) hk rfl dX2_betweenOf_58
        · refine g_bipush (pc := 44) (v := 8) hk dX2_betweenOf_44 rfl ?_
          exact t_iret (pc := 46) hk rfl dX2_betweenOf_46
      · refine g_bipush (pc := 32) (v := 7) hk dX2_betweenOf_32 rfl ?_
        exact t_iret (pc := 34) hk rfl dX2_betweenOf_34
    · refine g_bipush (pc := 20) (v := 6) hk dX2_betweenOf_20 rfl ?_
      exact t_iret (pc := 22) hk rfl dX2_betweenOf_22
  · refine g_iconst (pc := 9) (v := 5) hk dX2_betweenOf_9 rfl ?_
    exact t_iret (pc := 10) hk rfl dX2_betweenOf_10
def rm_emit : Room := { frames := 0, cells := 0, slots := 0, locals := 0 }
theorem hv_emit : yX2_emit.cls = RX2 ∧ yX2_emit.cls ≠ "java/lang/invoke/MethodHandle" ∧ yX2_emit.cls ≠ "java/lang/invoke/VarHandle" ∧ (parseMethodDescriptor yX2_emit.desc).map (fun d => d.parameters.length) = some 2 := by decide +kernel
theorem tm_emit (Γ : TG) (τ : TS) (v1 : Int32) (v2 : Int32)  (r : TS) (h : T_emit τ v1 v2 = some r) : TMet Γ yX2_emit cX2_emit 3 none rm_emit [.ref Γ.2.1, .int v1, .int v2] τ none r := by
  refine t_met (view := (fun r : TS => ((none : Option Value), r))) rfl rfl (ls0 := [(0, .ref Γ.2.1), (1, .int v1), (2, .int v2)]) rfl (fun K hk hK => ?_) r h
  unfold T_emit
  refine g_aload_n (pc := 0) hk dX2_emit_0 rfl ?_
  refine t_getR (pc := 1) hk hK tr_2 tf_2 dX2_emit_1 ?_
  refine g_aload_n (pc := 4) hk dX2_emit_4 rfl ?_
  refine t_getI (pc := 5) hk hK ti_12 tf_12 dX2_emit_5 ?_
  refine g_bipush (pc := 8) (v := 73) hk dX2_emit_8 rfl ?_
  refine g_iadd (pc := 10) hk dX2_emit_10 ?_
  refine g_iconst (pc := 11) (v := 2) hk dX2_emit_11 rfl ?_
  refine g_aload_n (pc := 12) hk dX2_emit_12 rfl ?_
  refine t_getI (pc := 13) hk hK ti_13 tf_13 dX2_emit_13 ?_
  refine g_imul (pc := 16) hk dX2_emit_16 ?_
  refine g_iadd (pc := 17) hk dX2_emit_17 ?_
  refine g_iload_n (pc := 18) hk dX2_emit_18 rfl ?_
  refine t_iast (pc := 19) hk hK ta_2 dX2_emit_19 (fun τ1 => ?_)
  refine g_aload_n (pc := 20) hk dX2_emit_20 rfl ?_
  refine t_getR (pc := 21) hk hK tr_2 tf_2 dX2_emit_21 ?_
  refine g_aload_n (pc := 24) hk dX2_emit_24 rfl ?_
  refine t_getI (pc := 25) hk hK ti_12 tf_12 dX2_emit_25 ?_
  refine g_bipush (pc := 28) (v := 73) hk dX2_emit_28 rfl ?_
  refine g_iadd (pc := 30) hk dX2_emit_30 ?_
  refine g_iconst (pc := 31) (v := 2) hk dX2_emit_31 rfl ?_
  refine g_aload_n (pc := 32) hk dX2_emit_32 rfl ?_
  refine t_getI (pc := 33) hk hK ti_13 tf_13 dX2_emit_33 ?_
  refine g_imul (pc := 36) hk dX2_emit_36 ?_
  refine g_iadd (pc := 37) hk dX2_emit_37 ?_
  refine g_iconst (pc := 38) (v := 1) hk dX2_emit_38 rfl ?_
  refine g_iadd (pc := 39) hk dX2_emit_39 ?_
  refine g_iload_n (pc := 40) hk dX2_emit_40 rfl ?_
  refine t_iast (pc := 41) hk hK ta_2 dX2_emit_41 (fun τ2 => ?_)
  refine g_aload_n (pc := 42) hk dX2_emit_42 rfl ?_
  refine g_dup (pc := 43) hk dX2_emit_43 rfl ?_
  refine t_getI (pc := 44) hk hK ti_13 tf_13 dX2_emit_44 ?_
  refine g_iconst (pc := 47) (v := 1) hk dX2_emit_47 rfl ?_
  refine g_iadd (pc := 48) hk dX2_emit_48 ?_
  refine t_putI (pc := 49) hk hK ti_13 tf_13 (Or.inl rfl) rfl dX2_emit_49 (fun τ3 => ?_)
  exact t_vret (pc := 52) hk rfl dX2_emit_52
def rm_settle : Room := { frames := 1, cells := 0, slots := 0, locals := 22 }
theorem hv_settle : yX2_settle.cls = RX2 ∧ yX2_settle.cls ≠ "java/lang/invoke/MethodHandle" ∧ yX2_settle.cls ≠ "java/lang/invoke/VarHandle" ∧ (parseMethodDescriptor yX2_settle.desc).map (fun d => d.parameters.length) = some 1 := by decide +kernel
theorem tm_settle_j80 {K : KT} {Γ : TG} (hk : KOK K cX2_settle 2 RX2 rm_settle none) (hK : va_K Γ.1 tcl (ttys Γ) (kS K)) (τ : TS) (v1 : Int32)  (k0 : TS → Option (TS)) (hk0 : ∀ (τ : TS), GGo K (tQ K Γ (fun r : TS => ((none : Option Value), r))) (k0 τ) 2 (TI Γ (kS K) τ) 0 0 0 [(0, .ref Γ.2.1), (1, .int v1)] []) : GGo K (tQ K Γ (fun r : TS => ((none : Option Value), r))) (T_settle_j80 k0 τ v1) 2 (TI Γ (kS K) τ) 0 0 80 [(0, .ref Γ.2.1), (1, .int v1)] [] := by
  unfold T_settle_j80
  refine g_aload_n (pc := 80) hk dX2_settle_80 rfl ?_
  refine g_dup (pc := 81) hk dX2_settle_81 rfl ?_
  refine t_getI (pc := 82) hk hK ti_17 tf_17 dX2_settle_82 ?_
  refine g_iconst (pc := 85) (v := 1) hk dX2_settle_85 rfl ?_
  refine g_isub (pc := 86) hk dX2_settle_86 ?_
  refine t_putI (pc := 87) hk hK ti_17 tf_17 (Or.inl rfl) rfl dX2_settle_87 (fun τ8 => ?_)
  refine g_goto (pc := 90) (tgt := 0) hk dX2_settle_90 rfl ?_
  exact hk0 τ8
theorem tm_settle_l0 {K : KT} {Γ : TG} (hk : KOK K cX2_settle 2 RX2 rm_settle none) (hK : va_K Γ.1 tcl (ttys Γ) (kS K)) (v1 : Int32)   : ∀ (n : Nat) (τ : TS), GGo K (tQ K Γ (fun r : TS => ((none : Option Value), r))) (T_settle_l0 v1 n τ) 2 (TI Γ (kS K) τ) 0 0 0 [(0, .ref Γ.2.1), (1, .int v1)] [] := by
  intro n
  induction n with
  | zero =>
    intro τ
    unfold T_settle_l0
    exact g_none
  | succ n ih =>
    intro τ
    unfold T_settle_l0
    refine g_aload_n (pc := 0) hk dX2_settle_0 rfl ?_
    refine t_getI (pc := 1) hk hK ti_16 tf_16 dX2_settle_1 ?_
    refine g_if_le (pc := 4) (tgt := 93) hk dX2_settle_4 rfl ?_ ?_
    · exact t_vret (pc := 93) hk rfl dX2_settle_93
    · refine g_aload_n (pc := 7) hk dX2_settle_7 rfl ?_
      refine t_getR (pc := 8) hk hK tr_15 tf_15 dX2_settle_8 ?_
      refine g_aload_n (pc := 11) hk dX2_settle_11 rfl ?_
      refine t_getI (pc := 12) hk hK ti_16 tf_16 dX2_settle_12 ?_
      refine g_iconst (pc := 15) (v := 1) hk dX2_settle_15 rfl ?_
      refine g_isub (pc := 16) hk dX2_settle_16 ?_
      refine t_iald (pc := 17) hk hK ta_15 dX2_settle_17 ?_
      refine g_ob1 (fun r1 h2 => ?_)
      refine t_callS (pc := 18) hk hK [.int (tA τ 15 ((tI τ 16) - 1).toNatClampNeg)] [] (tm_rank Γ τ (tA τ 15 ((tI τ 16) - 1).toNatClampNeg) r1 h2) (lw_S q1608 q1609 q128 q1610) hs_rank rfl rfl rfl dX2_settle_18 rfl rfl ?_
      refine g_iload_n (pc := 21) hk dX2_settle_21 rfl ?_
      refine g_icmp_lt (pc := 22) (tgt := 93) hk dX2_settle_22 rfl ?_ ?_
      · exact t_vret (pc := 93) hk rfl dX2_settle_93
      · refine g_aload_n (pc := 25) hk dX2_settle_25 rfl ?_
        refine g_dup (pc := 26) hk dX2_settle_26 rfl ?_
        refine t_getI (pc := 27) hk hK ti_16 tf_16 dX2_settle_27 ?_
        refine g_iconst (pc := 30) (v := 1) hk dX2_settle_30 rfl ?_
        refine g_isub (pc := 31) hk dX2_settle_31 ?_
        refine t_putI (pc := 32) hk hK ti_16 tf_16 (Or.inl rfl) rfl dX2_settle_32 (fun τ3 => ?_)
        refine g_aload_n (pc := 35) hk dX2_settle_35 rfl ?_
        refine g_aload_n (pc := 36) hk dX2_settle_36 rfl ?_
        refine t_getR (pc := 37) hk hK tr_15 tf_15 dX2_settle_37 ?_
        refine g_aload_n (pc := 40) hk dX2_settle_40 rfl ?_
        refine t_getI (pc := 41) hk hK ti_16 tf_16 dX2_settle_41 ?_
        refine t_iald (pc := 44) hk hK ta_15 dX2_settle_44 ?_
        refine g_iconst (pc := 45) (v := 0) hk dX2_settle_45 rfl ?_
        refine g_ob1 (fun τ5 h4 => ?_)
        refine t_callV (pc := 46) hk hK [.int (tA τ3 15 (tI τ3 16).toNatClampNeg), .int 0] [] (tm_emit Γ τ3 (tA τ3 15 (tI τ3 16).toNatClampNeg) 0 τ5 h4) (lw_V q1619 q1621 qs77 q128 q1622) hv_emit rfl rfl rfl dX2_settle_46 rfl rfl ?_
        refine g_aload_n (pc := 49) hk dX2_settle_49 rfl ?_
        refine t_getR (pc := 50) hk hK tr_15 tf_15 dX2_settle_50 ?_
        refine g_aload_n (pc := 53) hk dX2_settle_53 rfl ?_
        refine t_getI (pc := 54) hk hK ti_16 tf_16 dX2_settle_54 ?_
        refine t_iald (pc := 57) hk hK ta_15 dX2_settle_57 ?_
        refine g_ob1 (fun r6 h7 => ?_)
        refine t_callS (pc := 58) hk hK [.int (tA τ5 15 (tI τ5 16).toNatClampNeg)] [] (tm_rank Γ τ5 (tA τ5 15 (tI τ5 16).toNatClampNeg) r6 h7) (lw_S q1608 q1609 q128 q1610) hs_rank rfl rfl rfl dX2_settle_58 rfl rfl ?_
        refine g_bipush (pc := 61) (v := 8) hk dX2_settle_61 rfl ?_
        refine g_icmp_eq (pc := 63) (tgt := 80) hk dX2_settle_63 rfl ?_ ?_
        · exact tm_settle_j80 hk hK τ5 v1 (T_settle_l0 v1 n) ih
        · refine g_aload_n (pc := 66) hk dX2_settle_66 rfl ?_
          refine t_getR (pc := 67) hk hK tr_15 tf_15 dX2_settle_67 ?_
          refine g_aload_n (pc := 70) hk dX2_settle_70 rfl ?_
          refine t_getI (pc := 71) hk hK ti_16 tf_16 dX2_settle_71 ?_
          refine t_iald (pc := 74) hk hK ta_15 dX2_settle_74 ?_
          refine g_bipush (pc := 75) (v := 20) hk dX2_settle_75 rfl ?_
          refine g_icmp_ne (pc := 77) (tgt := 0) hk dX2_settle_77 rfl ?_ ?_
          · exact ih τ5
          · exact tm_settle_j80 hk hK τ5 v1 (T_settle_l0 v1 n) ih
theorem tm_settle (Γ : TG) (τ : TS) (v1 : Int32)  (r : TS) (h : T_settle τ v1 = some r) : TMet Γ yX2_settle cX2_settle 2 none rm_settle [.ref Γ.2.1, .int v1] τ none r := by
  refine t_met (view := (fun r : TS => ((none : Option Value), r))) rfl rfl (ls0 := [(0, .ref Γ.2.1), (1, .int v1)]) rfl (fun K hk hK => ?_) r h
  unfold T_settle
  exact tm_settle_l0 hk hK v1 FU τ
def rm_partOf : Room := { frames := 3, cells := 0, slots := 0, locals := 66 }
theorem hv_partOf : yX2_partOf.cls = RX2 ∧ yX2_partOf.cls ≠ "java/lang/invoke/MethodHandle" ∧ yX2_partOf.cls ≠ "java/lang/invoke/VarHandle" ∧ (parseMethodDescriptor yX2_partOf.desc).map (fun d => d.parameters.length) = some 1 := by decide +kernel
theorem tm_partOf (Γ : TG) (τ : TS) (v1 : Int32)  (r : Int32) (h : T_partOf τ v1 = some r) : TMet Γ yX2_partOf cX2_partOf 2 (some .int) rm_partOf [.ref Γ.2.1, .int v1] τ (some (.int r)) τ := by
  refine t_met (view := (fun r : Int32 => (some (Value.int r), τ))) rfl rfl (ls0 := [(0, .ref Γ.2.1), (1, .int v1)]) rfl (fun K hk hK => ?_) r h
  unfold T_partOf
  refine g_iload_n (pc := 0) hk dX2_partOf_0 rfl ?_
  refine g_if (fun h1 => ?_) (fun n2 => ?_)
  · refine g_tabIn (pc := 1) (tgt := 36) hk 40 h1 dX2_partOf_1 (by decide) (by decide) rfl rfl ?_
    refine g_aload_n (pc := 36) hk dX2_partOf_36 rfl ?_
    refine t_getI (pc := 37) hk hK ti_9 tf_9 dX2_partOf_37 ?_
    refine g_bipush (pc := 40) (v := 41) hk dX2_partOf_40 rfl ?_
    refine g_icmp_ne (pc := 42) (tgt := 49) hk dX2_partOf_42 rfl ?_ ?_
    · refine g_iconst (pc := 49) (v := (-1)) hk dX2_partOf_49 rfl ?_
      exact t_iret (pc := 50) hk rfl dX2_partOf_50
    · refine g_iconst (pc := 45) (v := 0) hk dX2_partOf_45 rfl ?_
      refine g_goto (pc := 46) (tgt := 50) hk dX2_partOf_46 rfl ?_
      exact t_iret (pc := 50) hk rfl dX2_partOf_50
  · refine g_if (fun h3 => ?_) (fun n4 => ?_)
    · refine g_tabIn (pc := 1) (tgt := 130) hk 41 h3 dX2_partOf_1 (by decide) (by decide) rfl rfl ?_
      refine g_iconst (pc := 130) (v := (-1)) hk dX2_partOf_130 rfl ?_
      exact t_iret (pc := 131) hk rfl dX2_partOf_131
    · refine g_if (fun h5 => ?_) (fun n6 => ?_)
      · refine g_tabIn (pc := 1) (tgt := 51) hk 42 h5 dX2_partOf_1 (by decide) (by decide) rfl rfl ?_
        refine g_aload_n (pc := 51) hk dX2_partOf_51 rfl ?_
        refine g_bipush (pc := 52) (v := 116) hk dX2_partOf_52 rfl ?_
        refine g_bipush (pc := 54) (v := 104) hk dX2_partOf_54 rfl ?_
        refine g_bipush (pc := 56) (v := 101) hk dX2_partOf_56 rfl ?_
        refine g_bipush (pc := 58) (v := 110) hk dX2_partOf_58 rfl ?_
        refine g_ob1 (fun r7 h8 => ?_)
        refine t_callS (pc := 60) hk hK [.int 116, .int 104, .int 101, .int 110] [.ref Γ.2.1] (tm_w4 Γ τ 116 104 101 110 r7 h8) (lw_S q1549 q1550 q128 q1551) hs_w4 rfl rfl rfl dX2_partOf_60 rfl rfl ?_
        refine g_ob1 (fun r9 h10 => ?_)
        refine t_callV (pc := 63) hk hK [.long r7] [] (tm_isWord Γ τ r7 r9 h10) (lw_V q1558 q1560 qs64 q128 q1561) hv_isWord rfl rfl rfl dX2_partOf_63 rfl rfl ?_
        refine g_if_eq (pc := 66) (tgt := 81) hk dX2_partOf_66 rfl ?_ ?_
        · refine g_iconst (pc := 81) (v := (-1)) hk dX2_partOf_81 rfl ?_
          exact t_iret (pc := 82) hk rfl dX2_partOf_82
        · refine g_aload_n (pc := 69) hk dX2_partOf_69 rfl ?_
          refine g_ob1 (fun r11 h12 => ?_)
          refine t_callV (pc := 70) hk hK [] [] (tm_isCompared Γ τ r11 h12) (lw_V q1604 q1606 qs74 q128 q1607) hv_isCompared rfl rfl rfl dX2_partOf_70 rfl rfl ?_
          refine g_if_eq (pc := 73) (tgt := 81) hk dX2_partOf_73 rfl ?_ ?_
          · refine g_iconst (pc := 81) (v := (-1)) hk dX2_partOf_81 rfl ?_
            exact t_iret (pc := 82) hk rfl dX2_partOf_82
          · refine g_bipush (pc := 76) (v := 43) hk dX2_partOf_76 rfl ?_
            refine g_goto (pc := 78) (tgt := 82) hk dX2_partOf_78 rfl ?_
            exact t_iret (pc := 82) hk rfl dX2_partOf_82
      · refine g_if (fun h13 => ?_) (fun n14 => ?_)
        · refine g_tabIn (pc := 1) (tgt := 83) hk 43 h13 dX2_partOf_1 (by decide) (by decide) rfl rfl ?_
          refine g_aload_n (pc := 83) hk dX2_partOf_83 rfl ?_
          refine g_bipush (pc := 84) (v := 101) hk dX2_partOf_84 rfl ?_
          refine g_bipush (pc := 86) (v := 108) hk dX2_partOf_86 rfl ?_
          refine g_bipush (pc := 88) (v := 115) hk dX2_partOf_88 rfl ?_
          refine g_bipush (pc := 90) (v := 101) hk dX2_partOf_90 rfl ?_
          refine g_ob1 (fun r15 h16 => ?_)
          refine t_callS (pc := 92) hk hK [.int 101, .int 108, .int 115, .int 101] [.ref Γ.2.1] (tm_w4 Γ τ 101 108 115 101 r15 h16) (lw_S q1549 q1550 q128 q1551) hs_w4 rfl rfl rfl dX2_partOf_92 rfl rfl ?_
          refine g_ob1 (fun r17 h18 => ?_)
          refine t_callV (pc := 95) hk hK [.long r15] [] (tm_isWord Γ τ r15 r17 h18) (lw_V q1558 q1560 qs64 q128 q1561) hv_isWord rfl rfl rfl dX2_partOf_95 rfl rfl ?_
          refine g_if_eq (pc := 98) (tgt := 106) hk dX2_partOf_98 rfl ?_ ?_
          · refine g_iconst (pc := 106) (v := (-1)) hk dX2_partOf_106 rfl ?_
            exact t_iret (pc := 107) hk rfl dX2_partOf_107
          · refine g_bipush (pc := 101) (v := 44) hk dX2_partOf_101 rfl ?_
            refine g_goto (pc := 103) (tgt := 107) hk dX2_partOf_103 rfl ?_
            exact t_iret (pc := 107) hk rfl dX2_partOf_107
        · refine g_if (fun h19 => ?_) (fun n20 => ?_)
          · refine g_tabIn (pc := 1) (tgt := 108) hk 44 h19 dX2_partOf_1 (by decide) (by decide) rfl rfl ?_
            refine g_aload_n (pc := 108) hk dX2_partOf_108 rfl ?_
            refine g_bipush (pc := 109) (v := 101) hk dX2_partOf_109 rfl ?_
            refine g_bipush (pc := 111) (v := 110) hk dX2_partOf_111 rfl ?_
            refine g_bipush (pc := 113) (v := 100) hk dX2_partOf_113 rfl ?_
            refine g_ob1 (fun r21 h22 => ?_)
            refine t_callS (pc := 115) hk hK [.int 101, .int 110, .int 100] [.ref Γ.2.1] (tm_w3 Γ τ 101 110 100 r21 h22) (lw_S q1552 q1553 q128 q1554) hs_w3 rfl rfl rfl dX2_partOf_115 rfl rfl ?_
            refine g_ob1 (fun r23 h24 => ?_)
            refine t_callV (pc := 118) hk hK [.long r21] [] (tm_isWord Γ τ r21 r23 h24) (lw_V q1558 q1560 qs64 q128 q1561) hv_isWord rfl rfl rfl dX2_partOf_118 rfl rfl ?_
            refine g_if_eq (pc := 121) (tgt := 128) hk dX2_partOf_121 rfl ?_ ?_
            · refine g_iconst (pc := 128) (v := (-1)) hk dX2_partOf_128 rfl ?_
              exact t_iret (pc := 129) hk rfl dX2_partOf_129
            · refine g_iconst (pc := 124) (v := 0) hk dX2_partOf_124 rfl ?_
              refine g_goto (pc := 125) (tgt := 129) hk dX2_partOf_125 rfl ?_
              exact t_iret (pc := 129) hk rfl dX2_partOf_129
          · refine g_tabOut (pc := 1) (tgt := 130) hk dX2_partOf_1 (by have z40 := ne_toInt n2 (z := 40) rfl; have z41 := ne_toInt n4 (z := 41) rfl; have z42 := ne_toInt n6 (z := 42) rfl; have z43 := ne_toInt n14 (z := 43) rfl; have z44 := ne_toInt n20 (z := 44) rfl; omega) rfl ?_
            refine g_iconst (pc := 130) (v := (-1)) hk dX2_partOf_130 rfl ?_
            exact t_iret (pc := 131) hk rfl dX2_partOf_131
def rm_endOne : Room := { frames := 2, cells := 0, slots := 0, locals := 43 }
theorem hv_endOne : yX2_endOne.cls = RX2 ∧ yX2_endOne.cls ≠ "java/lang/invoke/MethodHandle" ∧ yX2_endOne.cls ≠ "java/lang/invoke/VarHandle" ∧ (parseMethodDescriptor yX2_endOne.desc).map (fun d => d.parameters.length) = some 0 := by decide +kernel
theorem tm_endOne (Γ : TG) (τ : TS)   (r : Int32 × TS) (h : T_endOne τ = some r) : TMet Γ yX2_endOne cX2_endOne 1 (some .int) rm_endOne [.ref Γ.2.1] τ (some (.int r.1)) r.2 := by
  refine t_met (view := (fun r : Int32 × TS => (some (Value.int r.1), r.2))) rfl rfl (ls0 := [(0, .ref Γ.2.1)]) rfl (fun K hk hK => ?_) r h
  unfold T_endOne
  refine g_aload_n (pc := 0) hk dX2_endOne_0 rfl ?_
  refine g_bipush (pc := 1) (v := 8) hk dX2_endOne_1 rfl ?_
  refine g_ob1 (fun τ2 h1 => ?_)
  refine t_callV (pc := 3) hk hK [.int 8] [] (tm_settle Γ τ 8 τ2 h1) (lw_V q1615 q1617 qs76 q128 q1618) hv_settle rfl rfl rfl dX2_endOne_3 rfl rfl ?_
  refine g_aload_n (pc := 6) hk dX2_endOne_6 rfl ?_
  refine g_iconst (pc := 7) (v := 1) hk dX2_endOne_7 rfl ?_
  refine t_putI (pc := 8) hk hK ti_18 tf_18 (Or.inr ⟨rfl, rfl⟩) rfl dX2_endOne_8 (fun τ3 => ?_)
  refine g_aload_n (pc := 11) hk dX2_endOne_11 rfl ?_
  refine t_getI (pc := 12) hk hK ti_16 tf_16 dX2_endOne_12 ?_
  refine g_if_eq (pc := 15) (tgt := 34) hk dX2_endOne_15 rfl ?_ ?_
  · refine g_iconst (pc := 34) (v := 0) hk dX2_endOne_34 rfl ?_
    exact t_iret (pc := 35) hk rfl dX2_endOne_35
  · refine g_aload_n (pc := 18) hk dX2_endOne_18 rfl ?_
    refine t_getR (pc := 19) hk hK tr_15 tf_15 dX2_endOne_19 ?_
    refine g_aload_n (pc := 22) hk dX2_endOne_22 rfl ?_
    refine t_getI (pc := 23) hk hK ti_16 tf_16 dX2_endOne_23 ?_
    refine g_iconst (pc := 26) (v := 1) hk dX2_endOne_26 rfl ?_
    refine g_isub (pc := 27) hk dX2_endOne_27 ?_
    refine t_iald (pc := 28) hk hK ta_15 dX2_endOne_28 ?_
    refine g_bipush (pc := 29) (v := 41) hk dX2_endOne_29 rfl ?_
    refine g_icmp_eq (pc := 31) (tgt := 36) hk dX2_endOne_31 rfl ?_ ?_
    · refine g_aload_n (pc := 36) hk dX2_endOne_36 rfl ?_
      refine g_bipush (pc := 37) (v := 98) hk dX2_endOne_37 rfl ?_
      refine g_bipush (pc := 39) (v := 121) hk dX2_endOne_39 rfl ?_
      refine g_ob1 (fun r4 h5 => ?_)
      refine t_callS (pc := 41) hk hK [.int 98, .int 121] [.ref Γ.2.1] (tm_w2 Γ τ3 98 121 r4 h5) (lw_S q1555 q1556 q128 q1557) hs_w2 rfl rfl rfl dX2_endOne_41 rfl rfl ?_
      refine g_ob1 (fun r6 h7 => ?_)
      refine t_callV (pc := 44) hk hK [.long r4] [] (tm_isWord Γ τ3 r4 r6 h7) (lw_V q1558 q1560 qs64 q128 q1561) hv_isWord rfl rfl rfl dX2_endOne_44 rfl rfl ?_
      refine g_if_ne (pc := 47) (tgt := 52) hk dX2_endOne_47 rfl ?_ ?_
      · refine g_aload_n (pc := 52) hk dX2_endOne_52 rfl ?_
        refine g_ob1 (fun τ9 h8 => ?_)
        refine t_callV (pc := 53) hk hK [] [] (tm_nextToken Γ τ3 τ9 h8) (lw_V q1519 q1521 qs60 q128 q1522) hv_nextToken rfl rfl rfl dX2_endOne_53 rfl rfl ?_
        refine g_aload_n (pc := 56) hk dX2_endOne_56 rfl ?_
        refine t_getR (pc := 57) hk hK tr_15 tf_15 dX2_endOne_57 ?_
        refine g_aload_n (pc := 60) hk dX2_endOne_60 rfl ?_
        refine t_getI (pc := 61) hk hK ti_16 tf_16 dX2_endOne_61 ?_
        refine g_iconst (pc := 64) (v := 1) hk dX2_endOne_64 rfl ?_
        refine g_isub (pc := 65) hk dX2_endOne_65 ?_
        refine g_iconst (pc := 66) (v := 4) hk dX2_endOne_66 rfl ?_
        refine t_iast (pc := 67) hk hK ta_15 dX2_endOne_67 (fun τ10 => ?_)
        refine g_aload_n (pc := 68) hk dX2_endOne_68 rfl ?_
        refine g_iconst (pc := 69) (v := 0) hk dX2_endOne_69 rfl ?_
        refine t_putI (pc := 70) hk hK ti_18 tf_18 (Or.inr ⟨rfl, rfl⟩) rfl dX2_endOne_70 (fun τ11 => ?_)
        refine g_iconst (pc := 73) (v := 0) hk dX2_endOne_73 rfl ?_
        exact t_iret (pc := 74) hk rfl dX2_endOne_74
      · refine g_iconst (pc := 50) (v := 1) hk dX2_endOne_50 rfl ?_
        exact t_iret (pc := 51) hk rfl dX2_endOne_51
    · refine g_iconst (pc := 34) (v := 0) hk dX2_endOne_34 rfl ?_
      exact t_iret (pc := 35) hk rfl dX2_endOne_35
def rm_behindOne : Room := { frames := 4, cells := 0, slots := 0, locals := 87 }
theorem hv_behindOne : yX2_behindOne.cls = RX2 ∧ yX2_behindOne.cls ≠ "java/lang/invoke/MethodHandle" ∧ yX2_behindOne.cls ≠ "java/lang/invoke/VarHandle" ∧ (parseMethodDescriptor yX2_behindOne.desc).map (fun d => d.parameters.length) = some 0 := by decide +kernel
theorem tm_behindOne_j122 {K : KT} {Γ : TG} (hk : KOK K cX2_behindOne 4 RX2 rm_behindOne (some .int)) (hK : va_K Γ.1 tcl (ttys Γ) (kS K)) (τ : TS)   : GGo K (tQ K Γ (fun r : Int32 × TS => (some (Value.int r.1), r.2))) (T_behindOne_j122 τ) 4 (TI Γ (kS K) τ) 0 0 122 [(0, .ref Γ.2.1)] [] := by
  unfold T_behindOne_j122
  refine g_aload_n (pc := 122) hk dX2_behindOne_122 rfl ?_
  refine g_ob2 (fun r17 τ19 h18 => ?_)
  refine t_callV (pc := 123) hk hK [] [] (tm_endOne Γ τ (r17, τ19) h18) (lw_V q1627 q1629 qs79 q128 q1630) hv_endOne rfl rfl rfl dX2_behindOne_123 rfl rfl ?_
  exact t_iret (pc := 126) hk rfl dX2_behindOne_126
theorem tm_behindOne_j26 {K : KT} {Γ : TG} (hk : KOK K cX2_behindOne 4 RX2 rm_behindOne (some .int)) (hK : va_K Γ.1 tcl (ttys Γ) (kS K)) (τ : TS) (v1 : Int32) (s1 : Int32)   : GGo K (tQ K Γ (fun r : Int32 × TS => (some (Value.int r.1), r.2))) (T_behindOne_j26 τ v1 s1) 4 (TI Γ (kS K) τ) 0 0 26 [(0, .ref Γ.2.1), (1, .int v1)] [.int s1, .ref Γ.2.1] := by
  unfold T_behindOne_j26
  refine g_ob1 (fun τ27 h26 => ?_)
  refine t_callV (pc := 26) hk hK [.int s1] [] (tm_settle Γ τ s1 τ27 h26) (lw_V q1615 q1617 qs76 q128 q1618) hv_settle rfl rfl rfl dX2_behindOne_26 rfl rfl ?_
  refine g_aload_n (pc := 29) hk dX2_behindOne_29 rfl ?_
  refine t_getR (pc := 30) hk hK tr_15 tf_15 dX2_behindOne_30 ?_
  refine g_aload_n (pc := 33) hk dX2_behindOne_33 rfl ?_
  refine t_getI (pc := 34) hk hK ti_16 tf_16 dX2_behindOne_34 ?_
  refine g_iload_n (pc := 37) hk dX2_behindOne_37 rfl ?_
  refine t_iast (pc := 38) hk hK ta_15 dX2_behindOne_38 (fun τ28 => ?_)
  refine g_aload_n (pc := 39) hk dX2_behindOne_39 rfl ?_
  refine g_dup (pc := 40) hk dX2_behindOne_40 rfl ?_
  refine t_getI (pc := 41) hk hK ti_16 tf_16 dX2_behindOne_41 ?_
  refine g_iconst (pc := 44) (v := 1) hk dX2_behindOne_44 rfl ?_
  refine g_iadd (pc := 45) hk dX2_behindOne_45 ?_
  refine t_putI (pc := 46) hk hK ti_16 tf_16 (Or.inl rfl) rfl dX2_behindOne_46 (fun τ29 => ?_)
  refine g_aload_n (pc := 49) hk dX2_behindOne_49 rfl ?_
  refine g_iconst (pc := 50) (v := 0) hk dX2_behindOne_50 rfl ?_
  refine t_putI (pc := 51) hk hK ti_18 tf_18 (Or.inr ⟨rfl, rfl⟩) rfl dX2_behindOne_51 (fun τ30 => ?_)
  refine g_aload_n (pc := 54) hk dX2_behindOne_54 rfl ?_
  refine g_ob1 (fun τ32 h31 => ?_)
  refine t_callV (pc := 55) hk hK [] [] (tm_nextToken Γ τ30 τ32 h31) (lw_V q1519 q1521 qs60 q128 q1522) hv_nextToken rfl rfl rfl dX2_behindOne_55 rfl rfl ?_
  refine g_iconst (pc := 58) (v := 0) hk dX2_behindOne_58 rfl ?_
  exact t_iret (pc := 59) hk rfl dX2_behindOne_59
theorem tm_behindOne (Γ : TG) (τ : TS)   (r : Int32 × TS) (h : T_behindOne τ = some r) : TMet Γ yX2_behindOne cX2_behindOne 4 (some .int) rm_behindOne [.ref Γ.2.1] τ (some (.int r.1)) r.2 := by
  refine t_met (view := (fun r : Int32 × TS => (some (Value.int r.1), r.2))) rfl rfl (ls0 := [(0, .ref Γ.2.1)]) rfl (fun K hk hK => ?_) r h
  unfold T_behindOne
  refine g_aload_n (pc := 0) hk dX2_behindOne_0 rfl ?_
  refine g_ob1 (fun r1 h2 => ?_)
  refine t_callV (pc := 1) hk hK [] [] (tm_betweenOf Γ τ r1 h2) (lw_V q1592 q1594 qs71 q128 q1595) hv_betweenOf rfl rfl rfl dX2_behindOne_1 rfl rfl ?_
  refine g_istore_n (pc := 4) (i := 1) (ls' := [(1, .int r1), (0, .ref Γ.2.1)]) hk dX2_behindOne_4 rfl (by decide) rfl ?_
  refine g_iload_n (pc := 5) hk dX2_behindOne_5 rfl ?_
  refine g_if_lt (pc := 6) (tgt := 60) hk dX2_behindOne_6 rfl ?_ ?_
  · refine g_aload_n (pc := 60) hk dX2_behindOne_60 rfl ?_
    refine g_ob1 (fun r3 h4 => ?_)
    refine t_callV (pc := 61) hk hK [] [] (tm_openNow Γ τ r3 h4) (lw_V q1596 q1598 qs72 q128 q1599) hv_openNow rfl rfl rfl dX2_behindOne_61 rfl rfl ?_
    refine g_istore_n (pc := 64) (i := 2) (ls' := [(2, .int r3), (1, .int r1), (0, .ref Γ.2.1)]) hk dX2_behindOne_64 rfl (by decide) rfl ?_
    refine g_aload_n (pc := 65) hk dX2_behindOne_65 rfl ?_
    refine g_iload_n (pc := 66) hk dX2_behindOne_66 rfl ?_
    refine g_ob1 (fun r5 h6 => ?_)
    refine t_callV (pc := 67) hk hK [.int r3] [] (tm_partOf Γ τ r3 r5 h6) (lw_V q1623 q1625 qs78 q128 q1626) hv_partOf rfl rfl rfl dX2_behindOne_67 rfl rfl ?_
    refine g_istore_n (pc := 70) (i := 3) (ls' := [(3, .int r5), (2, .int r3), (1, .int r1), (0, .ref Γ.2.1)]) hk dX2_behindOne_70 rfl (by decide) rfl ?_
    refine g_iload_n (pc := 71) hk dX2_behindOne_71 rfl ?_
    refine g_if_ge (pc := 72) (tgt := 77) hk dX2_behindOne_72 rfl ?_ ?_
    · refine g_aload_n (pc := 77) hk dX2_behindOne_77 rfl ?_
      refine g_iconst (pc := 78) (v := 1) hk dX2_behindOne_78 rfl ?_
      refine g_ob1 (fun τ8 h7 => ?_)
      refine t_callV (pc := 79) hk hK [.int 1] [] (tm_settle Γ τ 1 τ8 h7) (lw_V q1615 q1617 qs76 q128 q1618) hv_settle rfl rfl rfl dX2_behindOne_79 rfl rfl ?_
      refine g_aload_n (pc := 82) hk dX2_behindOne_82 rfl ?_
      refine g_ob1 (fun τ10 h9 => ?_)
      refine t_callV (pc := 83) hk hK [] [] (tm_nextToken Γ τ8 τ10 h9) (lw_V q1519 q1521 qs60 q128 q1522) hv_nextToken rfl rfl rfl dX2_behindOne_83 rfl rfl ?_
      refine g_iload_n (pc := 86) hk dX2_behindOne_86 rfl ?_
      refine g_if_ne (pc := 87) (tgt := 127) hk dX2_behindOne_87 rfl ?_ ?_
      · refine g_aload_n (pc := 127) hk dX2_behindOne_127 rfl ?_
        refine t_getR (pc := 128) hk hK tr_15 tf_15 dX2_behindOne_128 ?_
        refine g_aload_n (pc := 131) hk dX2_behindOne_131 rfl ?_
        refine g_ob1 (fun r11 h12 => ?_)
        refine t_callV (pc := 132) hk hK [] [.ref (Γ.2.2.1 15)] (tm_openAt Γ τ10 r11 h12) (lw_V q1600 q1602 qs73 q128 q1603) hv_openAt rfl rfl rfl dX2_behindOne_132 rfl rfl ?_
        refine g_iload_n (pc := 135) hk dX2_behindOne_135 rfl ?_
        refine t_iast (pc := 136) hk hK ta_15 dX2_behindOne_136 (fun τ13 => ?_)
        refine g_aload_n (pc := 137) hk dX2_behindOne_137 rfl ?_
        refine g_iconst (pc := 138) (v := 0) hk dX2_behindOne_138 rfl ?_
        refine t_putI (pc := 139) hk hK ti_18 tf_18 (Or.inr ⟨rfl, rfl⟩) rfl dX2_behindOne_139 (fun τ14 => ?_)
        refine g_iconst (pc := 142) (v := 0) hk dX2_behindOne_142 rfl ?_
        exact t_iret (pc := 143) hk rfl dX2_behindOne_143
      · refine g_aload_n (pc := 90) hk dX2_behindOne_90 rfl ?_
        refine g_dup (pc := 91) hk dX2_behindOne_91 rfl ?_
        refine t_getI (pc := 92) hk hK ti_17 tf_17 dX2_behindOne_92 ?_
        refine g_iconst (pc := 95) (v := 1) hk dX2_behindOne_95 rfl ?_
        refine g_isub (pc := 96) hk dX2_behindOne_96 ?_
        refine t_putI (pc := 97) hk hK ti_17 tf_17 (Or.inl rfl) rfl dX2_behindOne_97 (fun τ15 => ?_)
        refine g_aload_n (pc := 100) hk dX2_behindOne_100 rfl ?_
        refine g_dup (pc := 101) hk dX2_behindOne_101 rfl ?_
        refine t_getI (pc := 102) hk hK ti_16 tf_16 dX2_behindOne_102 ?_
        refine g_iconst (pc := 105) (v := 1) hk dX2_behindOne_105 rfl ?_
        refine g_isub (pc := 106) hk dX2_behindOne_106 ?_
        refine t_putI (pc := 107) hk hK ti_16 tf_16 (Or.inl rfl) rfl dX2_behindOne_107 (fun τ16 => ?_)
        refine g_iload_n (pc := 110) hk dX2_behindOne_110 rfl ?_
        refine g_bipush (pc := 111) (v := 44) hk dX2_behindOne_111 rfl ?_
        refine g_icmp_ne (pc := 113) (tgt := 122) hk dX2_behindOne_113 rfl ?_ ?_
        · refine g_sub (ls' := [(0, .ref Γ.2.1)]) [3] rfl ?_
          exact tm_behindOne_j122 hk hK τ16
        · refine g_aload_n (pc := 116) hk dX2_behindOne_116 rfl ?_
          refine g_iconst (pc := 117) (v := 2) hk dX2_behindOne_117 rfl ?_
          refine g_iconst (pc := 118) (v := 0) hk dX2_behindOne_118 rfl ?_
          refine g_ob1 (fun τ21 h20 => ?_)
          refine t_callV (pc := 119) hk hK [.int 2, .int 0] [] (tm_emit Γ τ16 2 0 τ21 h20) (lw_V q1619 q1621 qs77 q128 q1622) hv_emit rfl rfl rfl dX2_behindOne_119 rfl rfl ?_
          refine g_sub (ls' := [(0, .ref Γ.2.1)]) [3] rfl ?_
          exact tm_behindOne_j122 hk hK τ21
    · refine g_iconst (pc := 75) (v := (-1)) hk dX2_behindOne_75 rfl ?_
      exact t_iret (pc := 76) hk rfl dX2_behindOne_76
  · refine g_aload_n (pc := 9) hk dX2_behindOne_9 rfl ?_
    refine g_iload_n (pc := 10) hk dX2_behindOne_10 rfl ?_
    refine g_ob1 (fun r22 h23 => ?_)
    refine t_callS (pc := 11) hk hK [.int r1] [.ref Γ.2.1] (tm_rank Γ τ r1 r22 h23) (lw_S q1608 q1609 q128 q1610) hs_rank rfl rfl rfl dX2_behindOne_11 rfl rfl ?_
    refine g_iconst (pc := 14) (v := 4) hk dX2_behindOne_14 rfl ?_
    refine g_icmp_ne (pc := 15) (tgt := 22) hk dX2_behindOne_15 rfl ?_ ?_
    · refine g_iload_n (pc := 22) hk dX2_behindOne_22 rfl ?_
      refine g_ob1 (fun r24 h25 => ?_)
      refine t_callS (pc := 23) hk hK [.int r1] [.ref Γ.2.1] (tm_rank Γ τ r1 r24 h25) (lw_S q1608 q1609 q128 q1610) hs_rank rfl rfl rfl dX2_behindOne_23 rfl rfl ?_
      refine g_sub (ls' := [(0, .ref Γ.2.1), (1, .int r1)]) [1, 0] rfl ?_
      exact tm_behindOne_j26 hk hK τ r1 r24
    · refine g_iconst (pc := 18) (v := 5) hk dX2_behindOne_18 rfl ?_
      refine g_goto (pc := 19) (tgt := 26) hk dX2_behindOne_19 rfl ?_
      refine g_sub (ls' := [(0, .ref Γ.2.1), (1, .int r1)]) [1, 0] rfl ?_
      exact tm_behindOne_j26 hk hK τ r1 5
def rm_isTakings : Room := { frames := 3, cells := 0, slots := 0, locals := 66 }
theorem hv_isTakings : yX2_isTakings.cls = RX2 ∧ yX2_isTakings.cls ≠ "java/lang/invoke/MethodHandle" ∧ yX2_isTakings.cls ≠ "java/lang/invoke/VarHandle" ∧ (parseMethodDescriptor yX2_isTakings.desc).map (fun d => d.parameters.length) = some 0 := by decide +kernel
theorem tm_isTakings (Γ : TG) (τ : TS)   (r : Int32) (h : T_isTakings τ = some r) : TMet Γ yX2_isTakings cX2_isTakings 1 (some .boolean) rm_isTakings [.ref Γ.2.1] τ (some (.int r)) τ := by
  refine t_met (view := (fun r : Int32 => (some (Value.int r), τ))) rfl rfl (ls0 := [(0, .ref Γ.2.1)]) rfl (fun K hk hK => ?_) r h
  unfold T_isTakings
  refine g_aload_n (pc := 0) hk dX2_isTakings_0 rfl ?_
  refine t_getI (pc := 1) hk hK ti_9 tf_9 dX2_isTakings_1 ?_
  refine g_iconst (pc := 4) (v := 2) hk dX2_isTakings_4 rfl ?_
  refine g_icmp_ne (pc := 5) (tgt := 129) hk dX2_isTakings_5 rfl ?_ ?_
  · refine g_iconst (pc := 129) (v := 0) hk dX2_isTakings_129 rfl ?_
    exact t_zret (pc := 130) hk rfl rfl dX2_isTakings_130
  · refine g_aload_n (pc := 8) hk dX2_isTakings_8 rfl ?_
    refine t_getI (pc := 9) hk hK ti_7 tf_7 dX2_isTakings_9 ?_
    refine g_aload_n (pc := 12) hk dX2_isTakings_12 rfl ?_
    refine t_getI (pc := 13) hk hK ti_8 tf_8 dX2_isTakings_13 ?_
    refine g_isub (pc := 16) hk dX2_isTakings_16 ?_
    refine g_bipush (pc := 17) (v := 7) hk dX2_isTakings_17 rfl ?_
    refine g_icmp_ne (pc := 19) (tgt := 129) hk dX2_isTakings_19 rfl ?_ ?_
    · refine g_iconst (pc := 129) (v := 0) hk dX2_isTakings_129 rfl ?_
      exact t_zret (pc := 130) hk rfl rfl dX2_isTakings_130
    · refine g_aload_n (pc := 22) hk dX2_isTakings_22 rfl ?_
      refine g_aload_n (pc := 23) hk dX2_isTakings_23 rfl ?_
      refine t_getI (pc := 24) hk hK ti_8 tf_8 dX2_isTakings_24 ?_
      refine g_ob1 (fun r1 h2 => ?_)
      refine t_callV (pc := 27) hk hK [.int (tI τ 8)] [] (tm_byteAt Γ τ (tI τ 8) r1 h2) (lw_V q1523 q1525 qs61 q128 q1526) hv_byteAt rfl rfl rfl dX2_isTakings_27 rfl rfl ?_
      refine g_aload_n (pc := 30) hk dX2_isTakings_30 rfl ?_
      refine g_aload_n (pc := 31) hk dX2_isTakings_31 rfl ?_
      refine t_getI (pc := 32) hk hK ti_8 tf_8 dX2_isTakings_32 ?_
      refine g_iconst (pc := 35) (v := 1) hk dX2_isTakings_35 rfl ?_
      refine g_iadd (pc := 36) hk dX2_isTakings_36 ?_
      refine g_ob1 (fun r3 h4 => ?_)
      refine t_callV (pc := 37) hk hK [.int ((tI τ 8) + 1)] [.int r1] (tm_byteAt Γ τ ((tI τ 8) + 1) r3 h4) (lw_V q1523 q1525 qs61 q128 q1526) hv_byteAt rfl rfl rfl dX2_isTakings_37 rfl rfl ?_
      refine g_aload_n (pc := 40) hk dX2_isTakings_40 rfl ?_
      refine g_aload_n (pc := 41) hk dX2_isTakings_41 rfl ?_
      refine t_getI (pc := 42) hk hK ti_8 tf_8 dX2_isTakings_42 ?_
      refine g_iconst (pc := 45) (v := 2) hk dX2_isTakings_45 rfl ?_
      refine g_iadd (pc := 46) hk dX2_isTakings_46 ?_
      refine g_ob1 (fun r5 h6 => ?_)
      refine t_callV (pc := 47) hk hK [.int ((tI τ 8) + 2)] [.int r3, .int r1] (tm_byteAt Γ τ ((tI τ 8) + 2) r5 h6) (lw_V q1523 q1525 qs61 q128 q1526) hv_byteAt rfl rfl rfl dX2_isTakings_47 rfl rfl ?_
      refine g_aload_n (pc := 50) hk dX2_isTakings_50 rfl ?_
      refine g_aload_n (pc := 51) hk dX2_isTakings_51 rfl ?_
      refine t_getI (pc := 52) hk hK ti_8 tf_8 dX2_isTakings_52 ?_
      refine g_iconst (pc := 55) (v := 3) hk dX2_isTakings_55 rfl ?_
      refine g_iadd (pc := 56) hk dX2_isTakings_56 ?_
      refine g_ob1 (fun r7 h8 => ?_)
      refine t_callV (pc := 57) hk hK [.int ((tI τ 8) + 3)] [.int r5, .int r3, .int r1] (tm_byteAt Γ τ ((tI τ 8) + 3) r7 h8) (lw_V q1523 q1525 qs61 q128 q1526) hv_byteAt rfl rfl rfl dX2_isTakings_57 rfl rfl ?_
      refine g_ob1 (fun r9 h10 => ?_)
      refine t_callS (pc := 60) hk hK [.int r1, .int r3, .int r5, .int r7] [] (tm_w4 Γ τ r1 r3 r5 r7 r9 h10) (lw_S q1549 q1550 q128 q1551) hs_w4 rfl rfl rfl dX2_isTakings_60 rfl rfl ?_
      refine g_bipush (pc := 63) (v := 116) hk dX2_isTakings_63 rfl ?_
      refine g_bipush (pc := 65) (v := 97) hk dX2_isTakings_65 rfl ?_
      refine g_bipush (pc := 67) (v := 107) hk dX2_isTakings_67 rfl ?_
      refine g_bipush (pc := 69) (v := 105) hk dX2_isTakings_69 rfl ?_
      refine g_ob1 (fun r11 h12 => ?_)
      refine t_callS (pc := 71) hk hK [.int 116, .int 97, .int 107, .int 105] [.long r9] (tm_w4 Γ τ 116 97 107 105 r11 h12) (lw_S q1549 q1550 q128 q1551) hs_w4 rfl rfl rfl dX2_isTakings_71 rfl rfl ?_
      refine g_lcmp_ne (pc := 74) (tgt := 129) hk dX2_isTakings_74 dX2_isTakings_75 rfl ?_ ?_
      · refine g_iconst (pc := 129) (v := 0) hk dX2_isTakings_129 rfl ?_
        exact t_zret (pc := 130) hk rfl rfl dX2_isTakings_130
      · refine g_aload_n (pc := 78) hk dX2_isTakings_78 rfl ?_
        refine g_aload_n (pc := 79) hk dX2_isTakings_79 rfl ?_
        refine t_getI (pc := 80) hk hK ti_8 tf_8 dX2_isTakings_80 ?_
        refine g_iconst (pc := 83) (v := 4) hk dX2_isTakings_83 rfl ?_
        refine g_iadd (pc := 84) hk dX2_isTakings_84 ?_
        refine g_ob1 (fun r13 h14 => ?_)
        refine t_callV (pc := 85) hk hK [.int ((tI τ 8) + 4)] [] (tm_byteAt Γ τ ((tI τ 8) + 4) r13 h14) (lw_V q1523 q1525 qs61 q128 q1526) hv_byteAt rfl rfl rfl dX2_isTakings_85 rfl rfl ?_
        refine g_aload_n (pc := 88) hk dX2_isTakings_88 rfl ?_
        refine g_aload_n (pc := 89) hk dX2_isTakings_89 rfl ?_
        refine t_getI (pc := 90) hk hK ti_8 tf_8 dX2_isTakings_90 ?_
        refine g_iconst (pc := 93) (v := 5) hk dX2_isTakings_93 rfl ?_
        refine g_iadd (pc := 94) hk dX2_isTakings_94 ?_
        refine g_ob1 (fun r15 h16 => ?_)
        refine t_callV (pc := 95) hk hK [.int ((tI τ 8) + 5)] [.int r13] (tm_byteAt Γ τ ((tI τ 8) + 5) r15 h16) (lw_V q1523 q1525 qs61 q128 q1526) hv_byteAt rfl rfl rfl dX2_isTakings_95 rfl rfl ?_
        refine g_aload_n (pc := 98) hk dX2_isTakings_98 rfl ?_
        refine g_aload_n (pc := 99) hk dX2_isTakings_99 rfl ?_
        refine t_getI (pc := 100) hk hK ti_8 tf_8 dX2_isTakings_100 ?_
        refine g_bipush (pc := 103) (v := 6) hk dX2_isTakings_103 rfl ?_
        refine g_iadd (pc := 105) hk dX2_isTakings_105 ?_
        refine g_ob1 (fun r17 h18 => ?_)
        refine t_callV (pc := 106) hk hK [.int ((tI τ 8) + 6)] [.int r15, .int r13] (tm_byteAt Γ τ ((tI τ 8) + 6) r17 h18) (lw_V q1523 q1525 qs61 q128 q1526) hv_byteAt rfl rfl rfl dX2_isTakings_106 rfl rfl ?_
        refine g_ob1 (fun r19 h20 => ?_)
        refine t_callS (pc := 109) hk hK [.int r13, .int r15, .int r17] [] (tm_w3 Γ τ r13 r15 r17 r19 h20) (lw_S q1552 q1553 q128 q1554) hs_w3 rfl rfl rfl dX2_isTakings_109 rfl rfl ?_
        refine g_bipush (pc := 112) (v := 110) hk dX2_isTakings_112 rfl ?_
        refine g_bipush (pc := 114) (v := 103) hk dX2_isTakings_114 rfl ?_
        refine g_bipush (pc := 116) (v := 115) hk dX2_isTakings_116 rfl ?_
        refine g_ob1 (fun r21 h22 => ?_)
        refine t_callS (pc := 118) hk hK [.int 110, .int 103, .int 115] [.long r19] (tm_w3 Γ τ 110 103 115 r21 h22) (lw_S q1552 q1553 q128 q1554) hs_w3 rfl rfl rfl dX2_isTakings_118 rfl rfl ?_
        refine g_lcmp_ne (pc := 121) (tgt := 129) hk dX2_isTakings_121 dX2_isTakings_122 rfl ?_ ?_
        · refine g_iconst (pc := 129) (v := 0) hk dX2_isTakings_129 rfl ?_
          exact t_zret (pc := 130) hk rfl rfl dX2_isTakings_130
        · refine g_iconst (pc := 125) (v := 1) hk dX2_isTakings_125 rfl ?_
          refine g_goto (pc := 126) (tgt := 130) hk dX2_isTakings_126 rfl ?_
          exact t_zret (pc := 130) hk rfl rfl dX2_isTakings_130
def rm_nameOf : Room := { frames := 4, cells := 0, slots := 0, locals := 90 }
theorem hv_nameOf : yX2_nameOf.cls = RX2 ∧ yX2_nameOf.cls ≠ "java/lang/invoke/MethodHandle" ∧ yX2_nameOf.cls ≠ "java/lang/invoke/VarHandle" ∧ (parseMethodDescriptor yX2_nameOf.desc).map (fun d => d.parameters.length) = some 0 := by decide +kernel
theorem tm_nameOf (Γ : TG) (τ : TS)   (r : Int32) (h : T_nameOf τ = some r) : TMet Γ yX2_nameOf cX2_nameOf 1 (some .int) rm_nameOf [.ref Γ.2.1] τ (some (.int r)) τ := by
  refine t_met (view := (fun r : Int32 => (some (Value.int r), τ))) rfl rfl (ls0 := [(0, .ref Γ.2.1)]) rfl (fun K hk hK => ?_) r h
  unfold T_nameOf
  refine g_aload_n (pc := 0) hk dX2_nameOf_0 rfl ?_
  refine t_getI (pc := 1) hk hK ti_9 tf_9 dX2_nameOf_1 ?_
  refine g_iconst (pc := 4) (v := 2) hk dX2_nameOf_4 rfl ?_
  refine g_icmp_eq (pc := 5) (tgt := 10) hk dX2_nameOf_5 rfl ?_ ?_
  · refine g_aload_n (pc := 10) hk dX2_nameOf_10 rfl ?_
    refine t_getW (pc := 11) hk hK tf_11 dX2_nameOf_11 ?_
    refine g_bipush (pc := 14) (v := 100) hk dX2_nameOf_14 rfl ?_
    refine g_bipush (pc := 16) (v := 97) hk dX2_nameOf_16 rfl ?_
    refine g_bipush (pc := 18) (v := 121) hk dX2_nameOf_18 rfl ?_
    refine g_ob1 (fun r1 h2 => ?_)
    refine t_callS (pc := 20) hk hK [.int 100, .int 97, .int 121] [.long (tW τ)] (tm_w3 Γ τ 100 97 121 r1 h2) (lw_S q1552 q1553 q128 q1554) hs_w3 rfl rfl rfl dX2_nameOf_20 rfl rfl ?_
    refine g_lcmp_ne (pc := 23) (tgt := 29) hk dX2_nameOf_23 dX2_nameOf_24 rfl ?_ ?_
    · refine g_aload_n (pc := 29) hk dX2_nameOf_29 rfl ?_
      refine t_getW (pc := 30) hk hK tf_11 dX2_nameOf_30 ?_
      refine g_bipush (pc := 33) (v := 99) hk dX2_nameOf_33 rfl ?_
      refine g_bipush (pc := 35) (v := 104) hk dX2_nameOf_35 rfl ?_
      refine g_bipush (pc := 37) (v := 97) hk dX2_nameOf_37 rfl ?_
      refine g_bipush (pc := 39) (v := 105) hk dX2_nameOf_39 rfl ?_
      refine g_bipush (pc := 41) (v := 114) hk dX2_nameOf_41 rfl ?_
      refine g_ob1 (fun r3 h4 => ?_)
      refine t_callS (pc := 43) hk hK [.int 99, .int 104, .int 97, .int 105, .int 114] [.long (tW τ)] (tm_w5 Γ τ 99 104 97 105 114 r3 h4) (lw_S q1546 q1547 q128 q1548) hs_w5 rfl rfl rfl dX2_nameOf_43 rfl rfl ?_
      refine g_lcmp_ne (pc := 46) (tgt := 52) hk dX2_nameOf_46 dX2_nameOf_47 rfl ?_ ?_
      · refine g_aload_n (pc := 52) hk dX2_nameOf_52 rfl ?_
        refine t_getW (pc := 53) hk hK tf_11 dX2_nameOf_53 ?_
        refine g_bipush (pc := 56) (v := 110) hk dX2_nameOf_56 rfl ?_
        refine g_bipush (pc := 58) (v := 101) hk dX2_nameOf_58 rfl ?_
        refine g_bipush (pc := 60) (v := 114) hk dX2_nameOf_60 rfl ?_
        refine g_bipush (pc := 62) (v := 118) hk dX2_nameOf_62 rfl ?_
        refine g_bipush (pc := 64) (v := 101) hk dX2_nameOf_64 rfl ?_
        refine g_ob1 (fun r5 h6 => ?_)
        refine t_callS (pc := 66) hk hK [.int 110, .int 101, .int 114, .int 118, .int 101] [.long (tW τ)] (tm_w5 Γ τ 110 101 114 118 101 r5 h6) (lw_S q1546 q1547 q128 q1548) hs_w5 rfl rfl rfl dX2_nameOf_66 rfl rfl ?_
        refine g_lcmp_ne (pc := 69) (tgt := 75) hk dX2_nameOf_69 dX2_nameOf_70 rfl ?_ ?_
        · refine g_aload_n (pc := 75) hk dX2_nameOf_75 rfl ?_
          refine t_getW (pc := 76) hk hK tf_11 dX2_nameOf_76 ?_
          refine g_bipush (pc := 79) (v := 111) hk dX2_nameOf_79 rfl ?_
          refine g_bipush (pc := 81) (v := 116) hk dX2_nameOf_81 rfl ?_
          refine g_bipush (pc := 83) (v := 104) hk dX2_nameOf_83 rfl ?_
          refine g_bipush (pc := 85) (v := 101) hk dX2_nameOf_85 rfl ?_
          refine g_bipush (pc := 87) (v := 114) hk dX2_nameOf_87 rfl ?_
          refine g_ob1 (fun r7 h8 => ?_)
          refine t_callS (pc := 89) hk hK [.int 111, .int 116, .int 104, .int 101, .int 114] [.long (tW τ)] (tm_w5 Γ τ 111 116 104 101 114 r7 h8) (lw_S q1546 q1547 q128 q1548) hs_w5 rfl rfl rfl dX2_nameOf_89 rfl rfl ?_
          refine g_lcmp_ne (pc := 92) (tgt := 98) hk dX2_nameOf_92 dX2_nameOf_93 rfl ?_ ?_
          · refine g_aload_n (pc := 98) hk dX2_nameOf_98 rfl ?_
            refine t_getW (pc := 99) hk hK tf_11 dX2_nameOf_99 ?_
            refine g_bipush (pc := 102) (v := 115) hk dX2_nameOf_102 rfl ?_
            refine g_bipush (pc := 104) (v := 99) hk dX2_nameOf_104 rfl ?_
            refine g_bipush (pc := 106) (v := 97) hk dX2_nameOf_106 rfl ?_
            refine g_bipush (pc := 108) (v := 114) hk dX2_nameOf_108 rfl ?_
            refine g_bipush (pc := 110) (v := 115) hk dX2_nameOf_110 rfl ?_
            refine g_ob1 (fun r9 h10 => ?_)
            refine t_callS (pc := 112) hk hK [.int 115, .int 99, .int 97, .int 114, .int 115] [.long (tW τ)] (tm_w5 Γ τ 115 99 97 114 115 r9 h10) (lw_S q1546 q1547 q128 q1548) hs_w5 rfl rfl rfl dX2_nameOf_112 rfl rfl ?_
            refine g_lcmp_ne (pc := 115) (tgt := 121) hk dX2_nameOf_115 dX2_nameOf_116 rfl ?_ ?_
            · refine g_aload_n (pc := 121) hk dX2_nameOf_121 rfl ?_
              refine t_getW (pc := 122) hk hK tf_11 dX2_nameOf_122 ?_
              refine g_bipush (pc := 125) (v := 98) hk dX2_nameOf_125 rfl ?_
              refine g_bipush (pc := 127) (v := 101) hk dX2_nameOf_127 rfl ?_
              refine g_bipush (pc := 129) (v := 97) hk dX2_nameOf_129 rfl ?_
              refine g_bipush (pc := 131) (v := 114) hk dX2_nameOf_131 rfl ?_
              refine g_bipush (pc := 133) (v := 100) hk dX2_nameOf_133 rfl ?_
              refine g_ob1 (fun r11 h12 => ?_)
              refine t_callS (pc := 135) hk hK [.int 98, .int 101, .int 97, .int 114, .int 100] [.long (tW τ)] (tm_w5 Γ τ 98 101 97 114 100 r11 h12) (lw_S q1546 q1547 q128 q1548) hs_w5 rfl rfl rfl dX2_nameOf_135 rfl rfl ?_
              refine g_lcmp_ne (pc := 138) (tgt := 146) hk dX2_nameOf_138 dX2_nameOf_139 rfl ?_ ?_
              · refine g_aload_n (pc := 146) hk dX2_nameOf_146 rfl ?_
                refine g_ob1 (fun r13 h14 => ?_)
                refine t_callV (pc := 147) hk hK [] [] (tm_isTakings Γ τ r13 h14) (lw_V q1639 q1641 qs82 q128 q1642) hv_isTakings rfl rfl rfl dX2_nameOf_147 rfl rfl ?_
                refine g_if_eq (pc := 150) (tgt := 158) hk dX2_nameOf_150 rfl ?_ ?_
                · refine g_iconst (pc := 158) (v := (-1)) hk dX2_nameOf_158 rfl ?_
                  exact t_iret (pc := 159) hk rfl dX2_nameOf_159
                · refine g_bipush (pc := 153) (v := 6) hk dX2_nameOf_153 rfl ?_
                  refine g_goto (pc := 155) (tgt := 159) hk dX2_nameOf_155 rfl ?_
                  exact t_iret (pc := 159) hk rfl dX2_nameOf_159
              · refine g_iconst (pc := 142) (v := 5) hk dX2_nameOf_142 rfl ?_
                refine g_goto (pc := 143) (tgt := 159) hk dX2_nameOf_143 rfl ?_
                exact t_iret (pc := 159) hk rfl dX2_nameOf_159
            · refine g_iconst (pc := 119) (v := 4) hk dX2_nameOf_119 rfl ?_
              exact t_iret (pc := 120) hk rfl dX2_nameOf_120
          · refine g_iconst (pc := 96) (v := 3) hk dX2_nameOf_96 rfl ?_
            exact t_iret (pc := 97) hk rfl dX2_nameOf_97
        · refine g_iconst (pc := 73) (v := 2) hk dX2_nameOf_73 rfl ?_
          exact t_iret (pc := 74) hk rfl dX2_nameOf_74
      · refine g_iconst (pc := 50) (v := 1) hk dX2_nameOf_50 rfl ?_
        exact t_iret (pc := 51) hk rfl dX2_nameOf_51
    · refine g_iconst (pc := 27) (v := 0) hk dX2_nameOf_27 rfl ?_
      exact t_iret (pc := 28) hk rfl dX2_nameOf_28
  · refine g_iconst (pc := 8) (v := (-1)) hk dX2_nameOf_8 rfl ?_
    exact t_iret (pc := 9) hk rfl dX2_nameOf_9
def rm_isOf : Room := { frames := 0, cells := 0, slots := 0, locals := 0 }
theorem hv_isOf : yX2_isOf.cls = RX2 ∧ yX2_isOf.cls ≠ "java/lang/invoke/MethodHandle" ∧ yX2_isOf.cls ≠ "java/lang/invoke/VarHandle" ∧ (parseMethodDescriptor yX2_isOf.desc).map (fun d => d.parameters.length) = some 1 := by decide +kernel
theorem tm_isOf (Γ : TG) (τ : TS) (v1 : Int32)  (r : Int32) (h : T_isOf τ v1 = some r) : TMet Γ yX2_isOf cX2_isOf 2 (some .boolean) rm_isOf [.ref Γ.2.1, .int v1] τ (some (.int r)) τ := by
  refine t_met (view := (fun r : Int32 => (some (Value.int r), τ))) rfl rfl (ls0 := [(0, .ref Γ.2.1), (1, .int v1)]) rfl (fun K hk hK => ?_) r h
  unfold T_isOf
  refine g_iload_n (pc := 0) hk dX2_isOf_0 rfl ?_
  refine g_iconst (pc := 1) (v := 5) hk dX2_isOf_1 rfl ?_
  refine g_icmp_lt (pc := 2) (tgt := 29) hk dX2_isOf_2 rfl ?_ ?_
  · refine g_iconst (pc := 29) (v := 1) hk dX2_isOf_29 rfl ?_
    refine g_goto (pc := 30) (tgt := 34) hk dX2_isOf_30 rfl ?_
    exact t_zret (pc := 34) hk rfl rfl dX2_isOf_34
  · refine g_iload_n (pc := 5) hk dX2_isOf_5 rfl ?_
    refine g_iconst (pc := 6) (v := 5) hk dX2_isOf_6 rfl ?_
    refine g_icmp_ne (pc := 7) (tgt := 21) hk dX2_isOf_7 rfl ?_ ?_
    · refine g_aload_n (pc := 21) hk dX2_isOf_21 rfl ?_
      refine t_getI (pc := 22) hk hK ti_14 tf_14 dX2_isOf_22 ?_
      refine g_iconst (pc := 25) (v := 2) hk dX2_isOf_25 rfl ?_
      refine g_icmp_ne (pc := 26) (tgt := 33) hk dX2_isOf_26 rfl ?_ ?_
      · refine g_iconst (pc := 33) (v := 0) hk dX2_isOf_33 rfl ?_
        exact t_zret (pc := 34) hk rfl rfl dX2_isOf_34
      · refine g_iconst (pc := 29) (v := 1) hk dX2_isOf_29 rfl ?_
        refine g_goto (pc := 30) (tgt := 34) hk dX2_isOf_30 rfl ?_
        exact t_zret (pc := 34) hk rfl rfl dX2_isOf_34
    · refine g_aload_n (pc := 10) hk dX2_isOf_10 rfl ?_
      refine t_getI (pc := 11) hk hK ti_14 tf_14 dX2_isOf_11 ?_
      refine g_iconst (pc := 14) (v := 2) hk dX2_isOf_14 rfl ?_
      refine g_icmp_eq (pc := 15) (tgt := 33) hk dX2_isOf_15 rfl ?_ ?_
      · refine g_iconst (pc := 33) (v := 0) hk dX2_isOf_33 rfl ?_
        exact t_zret (pc := 34) hk rfl rfl dX2_isOf_34
      · refine g_goto (pc := 18) (tgt := 29) hk dX2_isOf_18 rfl ?_
        refine g_iconst (pc := 29) (v := 1) hk dX2_isOf_29 rfl ?_
        refine g_goto (pc := 30) (tgt := 34) hk dX2_isOf_30 rfl ?_
        exact t_zret (pc := 34) hk rfl rfl dX2_isOf_34
def rm_opened : Room := { frames := 2, cells := 0, slots := 0, locals := 42 }
theorem hv_opened : yX2_opened.cls = RX2 ∧ yX2_opened.cls ≠ "java/lang/invoke/MethodHandle" ∧ yX2_opened.cls ≠ "java/lang/invoke/VarHandle" ∧ (parseMethodDescriptor yX2_opened.desc).map (fun d => d.parameters.length) = some 1 := by decide +kernel
theorem tm_opened (Γ : TG) (τ : TS) (v1 : Int32)  (r : Int32 × TS) (h : T_opened τ v1 = some r) : TMet Γ yX2_opened cX2_opened 2 (some .int) rm_opened [.ref Γ.2.1, .int v1] τ (some (.int r.1)) r.2 := by
  refine t_met (view := (fun r : Int32 × TS => (some (Value.int r.1), r.2))) rfl rfl (ls0 := [(0, .ref Γ.2.1), (1, .int v1)]) rfl (fun K hk hK => ?_) r h
  unfold T_opened
  refine g_aload_n (pc := 0) hk dX2_opened_0 rfl ?_
  refine t_getI (pc := 1) hk hK ti_17 tf_17 dX2_opened_1 ?_
  refine g_bipush (pc := 4) (v := 8) hk dX2_opened_4 rfl ?_
  refine g_icmp_ne (pc := 6) (tgt := 11) hk dX2_opened_6 rfl ?_ ?_
  · refine g_aload_n (pc := 11) hk dX2_opened_11 rfl ?_
    refine g_dup (pc := 12) hk dX2_opened_12 rfl ?_
    refine t_getI (pc := 13) hk hK ti_17 tf_17 dX2_opened_13 ?_
    refine g_iconst (pc := 16) (v := 1) hk dX2_opened_16 rfl ?_
    refine g_iadd (pc := 17) hk dX2_opened_17 ?_
    refine t_putI (pc := 18) hk hK ti_17 tf_17 (Or.inl rfl) rfl dX2_opened_18 (fun τ1 => ?_)
    refine g_aload_n (pc := 21) hk dX2_opened_21 rfl ?_
    refine t_getR (pc := 22) hk hK tr_15 tf_15 dX2_opened_22 ?_
    refine g_aload_n (pc := 25) hk dX2_opened_25 rfl ?_
    refine t_getI (pc := 26) hk hK ti_16 tf_16 dX2_opened_26 ?_
    refine g_iload_n (pc := 29) hk dX2_opened_29 rfl ?_
    refine t_iast (pc := 30) hk hK ta_15 dX2_opened_30 (fun τ2 => ?_)
    refine g_aload_n (pc := 31) hk dX2_opened_31 rfl ?_
    refine g_dup (pc := 32) hk dX2_opened_32 rfl ?_
    refine t_getI (pc := 33) hk hK ti_16 tf_16 dX2_opened_33 ?_
    refine g_iconst (pc := 36) (v := 1) hk dX2_opened_36 rfl ?_
    refine g_iadd (pc := 37) hk dX2_opened_37 ?_
    refine t_putI (pc := 38) hk hK ti_16 tf_16 (Or.inl rfl) rfl dX2_opened_38 (fun τ3 => ?_)
    refine g_aload_n (pc := 41) hk dX2_opened_41 rfl ?_
    refine g_ob1 (fun τ5 h4 => ?_)
    refine t_callV (pc := 42) hk hK [] [] (tm_nextToken Γ τ3 τ5 h4) (lw_V q1519 q1521 qs60 q128 q1522) hv_nextToken rfl rfl rfl dX2_opened_42 rfl rfl ?_
    refine g_iconst (pc := 45) (v := 0) hk dX2_opened_45 rfl ?_
    exact t_iret (pc := 46) hk rfl dX2_opened_46
  · refine g_iconst (pc := 9) (v := 3) hk dX2_opened_9 rfl ?_
    exact t_iret (pc := 10) hk rfl dX2_opened_10
def rm_isAskAhead : Room := { frames := 2, cells := 0, slots := 0, locals := 41 }
theorem hv_isAskAhead : yX2_isAskAhead.cls = RX2 ∧ yX2_isAskAhead.cls ≠ "java/lang/invoke/MethodHandle" ∧ yX2_isAskAhead.cls ≠ "java/lang/invoke/VarHandle" ∧ (parseMethodDescriptor yX2_isAskAhead.desc).map (fun d => d.parameters.length) = some 0 := by decide +kernel
theorem tm_isAskAhead (Γ : TG) (τ : TS)   (r : Int32) (h : T_isAskAhead τ = some r) : TMet Γ yX2_isAskAhead cX2_isAskAhead 1 (some .boolean) rm_isAskAhead [.ref Γ.2.1] τ (some (.int r)) τ := by
  refine t_met (view := (fun r : Int32 => (some (Value.int r), τ))) rfl rfl (ls0 := [(0, .ref Γ.2.1)]) rfl (fun K hk hK => ?_) r h
  unfold T_isAskAhead
  refine g_aload_n (pc := 0) hk dX2_isAskAhead_0 rfl ?_
  refine g_ob1 (fun r1 h2 => ?_)
  refine t_callV (pc := 1) hk hK [] [] (tm_openNow Γ τ r1 h2) (lw_V q1596 q1598 qs72 q128 q1599) hv_openNow rfl rfl rfl dX2_isAskAhead_1 rfl rfl ?_
  refine g_bipush (pc := 4) (v := 42) hk dX2_isAskAhead_4 rfl ?_
  refine g_icmp_ne (pc := 6) (tgt := 51) hk dX2_isAskAhead_6 rfl ?_ ?_
  · refine g_iconst (pc := 51) (v := 0) hk dX2_isAskAhead_51 rfl ?_
    exact t_zret (pc := 52) hk rfl rfl dX2_isAskAhead_52
  · refine g_aload_n (pc := 9) hk dX2_isAskAhead_9 rfl ?_
    refine t_getR (pc := 10) hk hK tr_15 tf_15 dX2_isAskAhead_10 ?_
    refine g_aload_n (pc := 13) hk dX2_isAskAhead_13 rfl ?_
    refine t_getI (pc := 14) hk hK ti_16 tf_16 dX2_isAskAhead_14 ?_
    refine g_iconst (pc := 17) (v := 1) hk dX2_isAskAhead_17 rfl ?_
    refine g_isub (pc := 18) hk dX2_isAskAhead_18 ?_
    refine t_iald (pc := 19) hk hK ta_15 dX2_isAskAhead_19 ?_
    refine g_bipush (pc := 20) (v := 40) hk dX2_isAskAhead_20 rfl ?_
    refine g_icmp_ge (pc := 22) (tgt := 47) hk dX2_isAskAhead_22 rfl ?_ ?_
    · refine g_iconst (pc := 47) (v := 1) hk dX2_isAskAhead_47 rfl ?_
      refine g_goto (pc := 48) (tgt := 52) hk dX2_isAskAhead_48 rfl ?_
      exact t_zret (pc := 52) hk rfl rfl dX2_isAskAhead_52
    · refine g_aload_n (pc := 25) hk dX2_isAskAhead_25 rfl ?_
      refine t_getR (pc := 26) hk hK tr_15 tf_15 dX2_isAskAhead_26 ?_
      refine g_aload_n (pc := 29) hk dX2_isAskAhead_29 rfl ?_
      refine t_getI (pc := 30) hk hK ti_16 tf_16 dX2_isAskAhead_30 ?_
      refine g_iconst (pc := 33) (v := 1) hk dX2_isAskAhead_33 rfl ?_
      refine g_isub (pc := 34) hk dX2_isAskAhead_34 ?_
      refine t_iald (pc := 35) hk hK ta_15 dX2_isAskAhead_35 ?_
      refine g_ob1 (fun r3 h4 => ?_)
      refine t_callS (pc := 36) hk hK [.int (tA τ 15 ((tI τ 16) - 1).toNatClampNeg)] [] (tm_rank Γ τ (tA τ 15 ((tI τ 16) - 1).toNatClampNeg) r3 h4) (lw_S q1608 q1609 q128 q1610) hs_rank rfl rfl rfl dX2_isAskAhead_36 rfl rfl ?_
      refine g_iconst (pc := 39) (v := 1) hk dX2_isAskAhead_39 rfl ?_
      refine g_iconst (pc := 40) (v := 3) hk dX2_isAskAhead_40 rfl ?_
      refine g_ob1 (fun r5 h6 => ?_)
      refine t_callS (pc := 41) hk hK [.int r3, .int 1, .int 3] [] (tm_isIn Γ τ r3 1 3 r5 h6) (lw_S q1477 q1478 q128 q1479) hs_isIn rfl rfl rfl dX2_isAskAhead_41 rfl rfl ?_
      refine g_if_eq (pc := 44) (tgt := 51) hk dX2_isAskAhead_44 rfl ?_ ?_
      · refine g_iconst (pc := 51) (v := 0) hk dX2_isAskAhead_51 rfl ?_
        exact t_zret (pc := 52) hk rfl rfl dX2_isAskAhead_52
      · refine g_iconst (pc := 47) (v := 1) hk dX2_isAskAhead_47 rfl ?_
        refine g_goto (pc := 48) (tgt := 52) hk dX2_isAskAhead_48 rfl ?_
        exact t_zret (pc := 52) hk rfl rfl dX2_isAskAhead_52
def rm_beginOne : Room := { frames := 5, cells := 0, slots := 0, locals := 110 }
theorem hv_beginOne : yX2_beginOne.cls = RX2 ∧ yX2_beginOne.cls ≠ "java/lang/invoke/MethodHandle" ∧ yX2_beginOne.cls ≠ "java/lang/invoke/VarHandle" ∧ (parseMethodDescriptor yX2_beginOne.desc).map (fun d => d.parameters.length) = some 0 := by decide +kernel
theorem tm_beginOne_j81 {K : KT} {Γ : TG} (hk : KOK K cX2_beginOne 2 RX2 rm_beginOne (some .int)) (hK : va_K Γ.1 tcl (ttys Γ) (kS K)) (τ : TS) (s1 : Int32) (s2 : Int32)   : GGo K (tQ K Γ (fun r : Int32 × TS => (some (Value.int r.1), r.2))) (T_beginOne_j81 τ s1 s2) 2 (TI Γ (kS K) τ) 0 0 81 [(0, .ref Γ.2.1)] [.int s2, .int s1, .ref Γ.2.1] := by
  unfold T_beginOne_j81
  refine g_ob1 (fun τ4 h3 => ?_)
  refine t_callV (pc := 81) hk hK [.int s1, .int s2] [] (tm_emit Γ τ s1 s2 τ4 h3) (lw_V q1619 q1621 qs77 q128 q1622) hv_emit rfl rfl rfl dX2_beginOne_81 rfl rfl ?_
  refine g_aload_n (pc := 84) hk dX2_beginOne_84 rfl ?_
  refine g_ob1 (fun τ6 h5 => ?_)
  refine t_callV (pc := 85) hk hK [] [] (tm_nextToken Γ τ4 τ6 h5) (lw_V q1519 q1521 qs60 q128 q1522) hv_nextToken rfl rfl rfl dX2_beginOne_85 rfl rfl ?_
  refine g_aload_n (pc := 88) hk dX2_beginOne_88 rfl ?_
  refine g_ob2 (fun r7 τ9 h8 => ?_)
  refine t_callV (pc := 89) hk hK [] [] (tm_endOne Γ τ6 (r7, τ9) h8) (lw_V q1627 q1629 qs79 q128 q1630) hv_endOne rfl rfl rfl dX2_beginOne_89 rfl rfl ?_
  exact t_iret (pc := 92) hk rfl dX2_beginOne_92
theorem tm_beginOne_j65 {K : KT} {Γ : TG} (hk : KOK K cX2_beginOne 2 RX2 rm_beginOne (some .int)) (hK : va_K Γ.1 tcl (ttys Γ) (kS K)) (τ : TS) (v1 : Int32) (s1 : Int32)   : GGo K (tQ K Γ (fun r : Int32 × TS => (some (Value.int r.1), r.2))) (T_beginOne_j65 τ v1 s1) 2 (TI Γ (kS K) τ) 0 0 65 [(0, .ref Γ.2.1), (1, .int v1)] [.int s1, .ref Γ.2.1] := by
  unfold T_beginOne_j65
  refine g_aload_n (pc := 65) hk dX2_beginOne_65 rfl ?_
  refine t_getI (pc := 66) hk hK ti_9 tf_9 dX2_beginOne_66 ?_
  refine g_iconst (pc := 69) (v := 1) hk dX2_beginOne_69 rfl ?_
  refine g_icmp_ne (pc := 70) (tgt := 80) hk dX2_beginOne_70 rfl ?_ ?_
  · refine g_iload_n (pc := 80) hk dX2_beginOne_80 rfl ?_
    refine g_sub (ls' := [(0, .ref Γ.2.1)]) [0] rfl ?_
    exact tm_beginOne_j81 hk hK τ s1 v1
  · refine g_aload_n (pc := 73) hk dX2_beginOne_73 rfl ?_
    refine t_getI (pc := 74) hk hK ti_10 tf_10 dX2_beginOne_74 ?_
    refine g_goto (pc := 77) (tgt := 81) hk dX2_beginOne_77 rfl ?_
    refine g_sub (ls' := [(0, .ref Γ.2.1)]) [0] rfl ?_
    exact tm_beginOne_j81 hk hK τ s1 (tI τ 10)
theorem tm_beginOne_j51 {K : KT} {Γ : TG} (hk : KOK K cX2_beginOne 2 RX2 rm_beginOne (some .int)) (hK : va_K Γ.1 tcl (ttys Γ) (kS K)) (τ : TS) (v1 : Int32)   : GGo K (tQ K Γ (fun r : Int32 × TS => (some (Value.int r.1), r.2))) (T_beginOne_j51 τ v1) 2 (TI Γ (kS K) τ) 0 0 51 [(0, .ref Γ.2.1), (1, .int v1)] [] := by
  unfold T_beginOne_j51
  refine g_aload_n (pc := 51) hk dX2_beginOne_51 rfl ?_
  refine g_aload_n (pc := 52) hk dX2_beginOne_52 rfl ?_
  refine t_getI (pc := 53) hk hK ti_9 tf_9 dX2_beginOne_53 ?_
  refine g_iconst (pc := 56) (v := 1) hk dX2_beginOne_56 rfl ?_
  refine g_icmp_ne (pc := 57) (tgt := 64) hk dX2_beginOne_57 rfl ?_ ?_
  · refine g_iconst (pc := 64) (v := 1) hk dX2_beginOne_64 rfl ?_
    exact tm_beginOne_j65 hk hK τ v1 1
  · refine g_iconst (pc := 60) (v := 0) hk dX2_beginOne_60 rfl ?_
    refine g_goto (pc := 61) (tgt := 65) hk dX2_beginOne_61 rfl ?_
    exact tm_beginOne_j65 hk hK τ v1 0
theorem tm_beginOne_j39 {K : KT} {Γ : TG} (hk : KOK K cX2_beginOne 2 RX2 rm_beginOne (some .int)) (hK : va_K Γ.1 tcl (ttys Γ) (kS K)) (τ : TS) (v1 : Int32)   : GGo K (tQ K Γ (fun r : Int32 × TS => (some (Value.int r.1), r.2))) (T_beginOne_j39 τ v1) 2 (TI Γ (kS K) τ) 0 0 39 [(0, .ref Γ.2.1), (1, .int v1)] [] := by
  unfold T_beginOne_j39
  refine g_aload_n (pc := 39) hk dX2_beginOne_39 rfl ?_
  refine t_getI (pc := 40) hk hK ti_9 tf_9 dX2_beginOne_40 ?_
  refine g_iconst (pc := 43) (v := 1) hk dX2_beginOne_43 rfl ?_
  refine g_icmp_eq (pc := 44) (tgt := 51) hk dX2_beginOne_44 rfl ?_ ?_
  · exact tm_beginOne_j51 hk hK τ v1
  · refine g_iload_n (pc := 47) hk dX2_beginOne_47 rfl ?_
    refine g_if_lt (pc := 48) (tgt := 93) hk dX2_beginOne_48 rfl ?_ ?_
    · refine g_aload_n (pc := 93) hk dX2_beginOne_93 rfl ?_
      refine t_getI (pc := 94) hk hK ti_9 tf_9 dX2_beginOne_94 ?_
      refine g_bipush (pc := 97) (v := 40) hk dX2_beginOne_97 rfl ?_
      refine g_icmp_ne (pc := 99) (tgt := 109) hk dX2_beginOne_99 rfl ?_ ?_
      · refine g_aload_n (pc := 109) hk dX2_beginOne_109 rfl ?_
        refine t_getI (pc := 110) hk hK ti_9 tf_9 dX2_beginOne_110 ?_
        refine g_bipush (pc := 113) (v := 45) hk dX2_beginOne_113 rfl ?_
        refine g_icmp_ne (pc := 115) (tgt := 124) hk dX2_beginOne_115 rfl ?_ ?_
        · refine g_aload_n (pc := 124) hk dX2_beginOne_124 rfl ?_
          refine g_bipush (pc := 125) (v := 97) hk dX2_beginOne_125 rfl ?_
          refine g_bipush (pc := 127) (v := 102) hk dX2_beginOne_127 rfl ?_
          refine g_bipush (pc := 129) (v := 116) hk dX2_beginOne_129 rfl ?_
          refine g_bipush (pc := 131) (v := 101) hk dX2_beginOne_131 rfl ?_
          refine g_bipush (pc := 133) (v := 114) hk dX2_beginOne_133 rfl ?_
          refine g_ob1 (fun r10 h11 => ?_)
          refine t_callS (pc := 135) hk hK [.int 97, .int 102, .int 116, .int 101, .int 114] [.ref Γ.2.1] (tm_w5 Γ τ 97 102 116 101 114 r10 h11) (lw_S q1546 q1547 q128 q1548) hs_w5 rfl rfl rfl dX2_beginOne_135 rfl rfl ?_
          refine g_ob1 (fun r12 h13 => ?_)
          refine t_callV (pc := 138) hk hK [.long r10] [] (tm_isWord Γ τ r10 r12 h13) (lw_V q1558 q1560 qs64 q128 q1561) hv_isWord rfl rfl rfl dX2_beginOne_138 rfl rfl ?_
          refine g_if_eq (pc := 141) (tgt := 151) hk dX2_beginOne_141 rfl ?_ ?_
          · refine g_aload_n (pc := 151) hk dX2_beginOne_151 rfl ?_
            refine g_bipush (pc := 152) (v := 105) hk dX2_beginOne_152 rfl ?_
            refine g_bipush (pc := 154) (v := 102) hk dX2_beginOne_154 rfl ?_
            refine g_ob1 (fun r14 h15 => ?_)
            refine t_callS (pc := 156) hk hK [.int 105, .int 102] [.ref Γ.2.1] (tm_w2 Γ τ 105 102 r14 h15) (lw_S q1555 q1556 q128 q1557) hs_w2 rfl rfl rfl dX2_beginOne_156 rfl rfl ?_
            refine g_ob1 (fun r16 h17 => ?_)
            refine t_callV (pc := 159) hk hK [.long r14] [] (tm_isWord Γ τ r14 r16 h17) (lw_V q1558 q1560 qs64 q128 q1561) hv_isWord rfl rfl rfl dX2_beginOne_159 rfl rfl ?_
            refine g_if_eq (pc := 162) (tgt := 172) hk dX2_beginOne_162 rfl ?_ ?_
            · refine g_aload_n (pc := 172) hk dX2_beginOne_172 rfl ?_
              refine g_bipush (pc := 173) (v := 110) hk dX2_beginOne_173 rfl ?_
              refine g_bipush (pc := 175) (v := 111) hk dX2_beginOne_175 rfl ?_
              refine g_bipush (pc := 177) (v := 116) hk dX2_beginOne_177 rfl ?_
              refine g_ob1 (fun r18 h19 => ?_)
              refine t_callS (pc := 179) hk hK [.int 110, .int 111, .int 116] [.ref Γ.2.1] (tm_w3 Γ τ 110 111 116 r18 h19) (lw_S q1552 q1553 q128 q1554) hs_w3 rfl rfl rfl dX2_beginOne_179 rfl rfl ?_
              refine g_ob1 (fun r20 h21 => ?_)
              refine t_callV (pc := 182) hk hK [.long r18] [] (tm_isWord Γ τ r18 r20 h21) (lw_V q1558 q1560 qs64 q128 q1561) hv_isWord rfl rfl rfl dX2_beginOne_182 rfl rfl ?_
              refine g_if_eq (pc := 185) (tgt := 204) hk dX2_beginOne_185 rfl ?_ ?_
              · refine g_iconst (pc := 204) (v := 1) hk dX2_beginOne_204 rfl ?_
                exact t_iret (pc := 205) hk rfl dX2_beginOne_205
              · refine g_aload_n (pc := 188) hk dX2_beginOne_188 rfl ?_
                refine g_ob1 (fun r22 h23 => ?_)
                refine t_callV (pc := 189) hk hK [] [] (tm_isAskAhead Γ τ r22 h23) (lw_V q1651 q1653 qs85 q128 q1654) hv_isAskAhead rfl rfl rfl dX2_beginOne_189 rfl rfl ?_
                refine g_if_eq (pc := 192) (tgt := 204) hk dX2_beginOne_192 rfl ?_ ?_
                · refine g_iconst (pc := 204) (v := 1) hk dX2_beginOne_204 rfl ?_
                  exact t_iret (pc := 205) hk rfl dX2_beginOne_205
                · refine g_aload_n (pc := 195) hk dX2_beginOne_195 rfl ?_
                  refine g_bipush (pc := 196) (v := 20) hk dX2_beginOne_196 rfl ?_
                  refine g_ob2 (fun r24 τ26 h25 => ?_)
                  refine t_callV (pc := 198) hk hK [.int 20] [] (tm_opened Γ τ 20 (r24, τ26) h25) (lw_V q1647 q1649 qs84 q128 q1650) hv_opened rfl rfl rfl dX2_beginOne_198 rfl rfl ?_
                  refine g_goto (pc := 201) (tgt := 205) hk dX2_beginOne_201 rfl ?_
                  exact t_iret (pc := 205) hk rfl dX2_beginOne_205
            · refine g_aload_n (pc := 165) hk dX2_beginOne_165 rfl ?_
              refine g_bipush (pc := 166) (v := 42) hk dX2_beginOne_166 rfl ?_
              refine g_ob2 (fun r27 τ29 h28 => ?_)
              refine t_callV (pc := 168) hk hK [.int 42] [] (tm_opened Γ τ 42 (r27, τ29) h28) (lw_V q1647 q1649 qs84 q128 q1650) hv_opened rfl rfl rfl dX2_beginOne_168 rfl rfl ?_
              exact t_iret (pc := 171) hk rfl dX2_beginOne_171
          · refine g_aload_n (pc := 144) hk dX2_beginOne_144 rfl ?_
            refine g_bipush (pc := 145) (v := 41) hk dX2_beginOne_145 rfl ?_
            refine g_ob2 (fun r30 τ32 h31 => ?_)
            refine t_callV (pc := 147) hk hK [.int 41] [] (tm_opened Γ τ 41 (r30, τ32) h31) (lw_V q1647 q1649 qs84 q128 q1650) hv_opened rfl rfl rfl dX2_beginOne_147 rfl rfl ?_
            exact t_iret (pc := 150) hk rfl dX2_beginOne_150
        · refine g_aload_n (pc := 118) hk dX2_beginOne_118 rfl ?_
          refine g_iconst (pc := 119) (v := 3) hk dX2_beginOne_119 rfl ?_
          refine g_ob2 (fun r33 τ35 h34 => ?_)
          refine t_callV (pc := 120) hk hK [.int 3] [] (tm_opened Γ τ 3 (r33, τ35) h34) (lw_V q1647 q1649 qs84 q128 q1650) hv_opened rfl rfl rfl dX2_beginOne_120 rfl rfl ?_
          exact t_iret (pc := 123) hk rfl dX2_beginOne_123
      · refine g_aload_n (pc := 102) hk dX2_beginOne_102 rfl ?_
        refine g_bipush (pc := 103) (v := 40) hk dX2_beginOne_103 rfl ?_
        refine g_ob2 (fun r36 τ38 h37 => ?_)
        refine t_callV (pc := 105) hk hK [.int 40] [] (tm_opened Γ τ 40 (r36, τ38) h37) (lw_V q1647 q1649 qs84 q128 q1650) hv_opened rfl rfl rfl dX2_beginOne_105 rfl rfl ?_
        exact t_iret (pc := 108) hk rfl dX2_beginOne_108
    · exact tm_beginOne_j51 hk hK τ v1
theorem tm_beginOne_j20 {K : KT} {Γ : TG} (hk : KOK K cX2_beginOne 2 RX2 rm_beginOne (some .int)) (hK : va_K Γ.1 tcl (ttys Γ) (kS K)) (τ : TS)   : GGo K (tQ K Γ (fun r : Int32 × TS => (some (Value.int r.1), r.2))) (T_beginOne_j20 τ) 2 (TI Γ (kS K) τ) 0 0 20 [(0, .ref Γ.2.1)] [] := by
  unfold T_beginOne_j20
  refine g_aload_n (pc := 20) hk dX2_beginOne_20 rfl ?_
  refine g_ob1 (fun r1 h2 => ?_)
  refine t_callV (pc := 21) hk hK [] [] (tm_nameOf Γ τ r1 h2) (lw_V q1635 q1637 qs81 q128 q1638) hv_nameOf rfl rfl rfl dX2_beginOne_21 rfl rfl ?_
  refine g_istore_n (pc := 24) (i := 1) (ls' := [(1, .int r1), (0, .ref Γ.2.1)]) hk dX2_beginOne_24 rfl (by decide) rfl ?_
  refine g_iload_n (pc := 25) hk dX2_beginOne_25 rfl ?_
  refine g_if_lt (pc := 26) (tgt := 39) hk dX2_beginOne_26 rfl ?_ ?_
  · refine g_sub (ls' := [(0, .ref Γ.2.1), (1, .int r1)]) [1, 0] rfl ?_
    exact tm_beginOne_j39 hk hK τ r1
  · refine g_aload_n (pc := 29) hk dX2_beginOne_29 rfl ?_
    refine g_iload_n (pc := 30) hk dX2_beginOne_30 rfl ?_
    refine g_ob1 (fun r39 h40 => ?_)
    refine t_callV (pc := 31) hk hK [.int r1] [] (tm_isOf Γ τ r1 r39 h40) (lw_V q1643 q1645 qs83 q128 q1646) hv_isOf rfl rfl rfl dX2_beginOne_31 rfl rfl ?_
    refine g_if_ne (pc := 34) (tgt := 39) hk dX2_beginOne_34 rfl ?_ ?_
    · refine g_sub (ls' := [(0, .ref Γ.2.1), (1, .int r1)]) [1, 0] rfl ?_
      exact tm_beginOne_j39 hk hK τ r1
    · refine g_iconst (pc := 37) (v := 5) hk dX2_beginOne_37 rfl ?_
      exact t_iret (pc := 38) hk rfl dX2_beginOne_38
theorem tm_beginOne (Γ : TG) (τ : TS)   (r : Int32 × TS) (h : T_beginOne τ = some r) : TMet Γ yX2_beginOne cX2_beginOne 2 (some .int) rm_beginOne [.ref Γ.2.1] τ (some (.int r.1)) r.2 := by
  refine t_met (view := (fun r : Int32 × TS => (some (Value.int r.1), r.2))) rfl rfl (ls0 := [(0, .ref Γ.2.1)]) rfl (fun K hk hK => ?_) r h
  unfold T_beginOne
  refine g_aload_n (pc := 0) hk dX2_beginOne_0 rfl ?_
  refine t_getI (pc := 1) hk hK ti_9 tf_9 dX2_beginOne_1 ?_
  refine g_iconst (pc := 4) (v := 1) hk dX2_beginOne_4 rfl ?_
  refine g_icmp_ne (pc := 5) (tgt := 20) hk dX2_beginOne_5 rfl ?_ ?_
  · exact tm_beginOne_j20 hk hK τ
  · refine g_aload_n (pc := 8) hk dX2_beginOne_8 rfl ?_
    refine t_getI (pc := 9) hk hK ti_10 tf_10 dX2_beginOne_9 ?_
    refine g_sipush (pc := 12) (v := 9999) hk dX2_beginOne_12 rfl ?_
    refine g_icmp_le (pc := 15) (tgt := 20) hk dX2_beginOne_15 rfl ?_ ?_
    · exact tm_beginOne_j20 hk hK τ
    · refine g_iconst (pc := 18) (v := 2) hk dX2_beginOne_18 rfl ?_
      exact t_iret (pc := 19) hk rfl dX2_beginOne_19
