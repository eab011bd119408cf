/-! WALKS of the twin's methods, by program (wip: gen.py) -/
set_option maxRecDepth 100000
def rm_isWithin : Room := { frames := 0, cells := 0, slots := 0, locals := 0 }
theorem hs_isWithin : yX2_isWithin.cls ≠ "java/lang/invoke/MethodHandle" ∧ yX2_isWithin.cls ≠ "java/lang/invoke/VarHandle" ∧ (parseMethodDescriptor yX2_isWithin.desc).map (fun d => d.parameters.length) = some 2 := by decide +kernel
theorem tm_isWithin_l2 {K : KT} {Γ : TG} (hk : KOK K cX2_isWithin 3 RX2 rm_isWithin (some .boolean)) (hK : va_K Γ.1 tcl (ttys Γ) (kS K)) (v0 : Int32) (v1 : Int32)  (τ : TS) : ∀ (n : Nat) (v2 : Int32), GGo K (tQ K Γ (fun r : Int32 => (some (Value.int r), τ))) (T_isWithin_l2 v0 v1 n v2) 3 (TI Γ (kS K) τ) 0 0 2 [(0, .int v0), (1, .int v1), (2, .int v2)] [] := by
  intro n
  induction n with
  | zero =>
    intro v2
    unfold T_isWithin_l2
    exact g_none
  | succ n ih =>
    intro v2
    unfold T_isWithin_l2
    refine g_iload_n (pc := 2) hk dX2_isWithin_2 rfl ?_
    refine g_bipush (pc := 3) (v := 8) hk dX2_isWithin_3 rfl ?_
    refine g_icmp_ge (pc := 5) (tgt := 33) hk dX2_isWithin_5 rfl ?_ ?_
    · refine g_iconst (pc := 33) (v := 1) hk dX2_isWithin_33 rfl ?_
      exact t_zret (pc := 34) hk rfl rfl dX2_isWithin_34
    · refine g_iload_n (pc := 8) hk dX2_isWithin_8 rfl ?_
      refine g_iconst (pc := 9) (v := 2) hk dX2_isWithin_9 rfl ?_
      refine g_iload_n (pc := 10) hk dX2_isWithin_10 rfl ?_
      refine g_imul (pc := 11) hk dX2_isWithin_11 ?_
      refine g_ishr (pc := 12) hk dX2_isWithin_12 ?_
      refine g_iconst (pc := 13) (v := 3) hk dX2_isWithin_13 rfl ?_
      refine g_iand (pc := 14) hk dX2_isWithin_14 ?_
      refine g_iload_n (pc := 15) hk dX2_isWithin_15 rfl ?_
      refine g_iconst (pc := 16) (v := 2) hk dX2_isWithin_16 rfl ?_
      refine g_iload_n (pc := 17) hk dX2_isWithin_17 rfl ?_
      refine g_imul (pc := 18) hk dX2_isWithin_18 ?_
      refine g_ishr (pc := 19) hk dX2_isWithin_19 ?_
      refine g_iconst (pc := 20) (v := 3) hk dX2_isWithin_20 rfl ?_
      refine g_iand (pc := 21) hk dX2_isWithin_21 ?_
      refine g_icmp_le (pc := 22) (tgt := 27) hk dX2_isWithin_22 rfl ?_ ?_
      · refine g_iincN (pc := 27) (v := 1) (ls' := fun x1 => [(2, .int x1), (0, .int v0), (1, .int v1)]) hk dX2_isWithin_27 rfl rfl (by decide) (fun _ => rfl) (fun x1 => ?_)
        refine g_goto (pc := 30) (tgt := 2) hk dX2_isWithin_30 rfl ?_
        refine g_sub (ls' := [(0, .int v0), (1, .int v1), (2, .int x1)]) [1, 2, 0] rfl ?_
        exact ih x1
      · refine g_iconst (pc := 25) (v := 0) hk dX2_isWithin_25 rfl ?_
        exact t_zret (pc := 26) hk rfl rfl dX2_isWithin_26
theorem tm_isWithin (Γ : TG) (τ : TS) (v0 : Int32) (v1 : Int32)  (r : Int32) (h : T_isWithin v0 v1 = some r) : TMet Γ yX2_isWithin cX2_isWithin 3 (some .boolean) rm_isWithin [.int v0, .int v1] τ (some (.int r)) τ := by
  refine t_met (view := (fun r : Int32 => (some (Value.int r), τ))) rfl rfl (ls0 := [(0, .int v0), (1, .int v1)]) rfl (fun K hk hK => ?_) r h
  unfold T_isWithin
  refine g_iconst (pc := 0) (v := 0) hk dX2_isWithin_0 rfl ?_
  refine g_istore_n (pc := 1) (i := 2) (ls' := [(2, .int 0), (0, .int v0), (1, .int v1)]) hk dX2_isWithin_1 rfl (by decide) rfl ?_
  refine g_sub (ls' := [(0, .int v0), (1, .int v1), (2, .int 0)]) [1, 2, 0] rfl ?_
  exact tm_isWithin_l2 hk hK v0 v1 τ FU 0
def rm_lessBy : Room := { frames := 0, cells := 0, slots := 0, locals := 0 }
theorem hs_lessBy : yX2_lessBy.cls ≠ "java/lang/invoke/MethodHandle" ∧ yX2_lessBy.cls ≠ "java/lang/invoke/VarHandle" ∧ (parseMethodDescriptor yX2_lessBy.desc).map (fun d => d.parameters.length) = some 2 := by decide +kernel
theorem tm_lessBy (Γ : TG) (τ : TS) (v0 : Int32) (v1 : Int32)  (r : Int32) (h : T_lessBy v0 v1 = some r) : TMet Γ yX2_lessBy cX2_lessBy 2 (some .int) rm_lessBy [.int v0, .int v1] τ (some (.int r)) τ := by
  refine t_met (view := (fun r : Int32 => (some (Value.int r), τ))) rfl rfl (ls0 := [(0, .int v0), (1, .int v1)]) rfl (fun K hk hK => ?_) r h
  unfold T_lessBy
  refine g_iload_n (pc := 0) hk dX2_lessBy_0 rfl ?_
  refine g_iconst (pc := 1) (v := 2) hk dX2_lessBy_1 rfl ?_
  refine g_iload_n (pc := 2) hk dX2_lessBy_2 rfl ?_
  refine g_imul (pc := 3) hk dX2_lessBy_3 ?_
  refine g_ishr (pc := 4) hk dX2_lessBy_4 ?_
  refine g_iconst (pc := 5) (v := 3) hk dX2_lessBy_5 rfl ?_
  refine g_iand (pc := 6) hk dX2_lessBy_6 ?_
  refine g_if_ne (pc := 7) (tgt := 14) hk dX2_lessBy_7 rfl ?_ ?_
  · refine g_iload_n (pc := 14) hk dX2_lessBy_14 rfl ?_
    refine g_iconst (pc := 15) (v := 1) hk dX2_lessBy_15 rfl ?_
    refine g_iconst (pc := 16) (v := 2) hk dX2_lessBy_16 rfl ?_
    refine g_iload_n (pc := 17) hk dX2_lessBy_17 rfl ?_
    refine g_imul (pc := 18) hk dX2_lessBy_18 ?_
    refine g_ishl (pc := 19) hk dX2_lessBy_19 ?_
    refine g_isub (pc := 20) hk dX2_lessBy_20 ?_
    exact t_iret (pc := 21) hk rfl dX2_lessBy_21
  · refine g_iload_n (pc := 10) hk dX2_lessBy_10 rfl ?_
    refine g_goto (pc := 11) (tgt := 21) hk dX2_lessBy_11 rfl ?_
    exact t_iret (pc := 21) hk rfl dX2_lessBy_21
def rm_behindSitting : Room := { frames := 1, cells := 0, slots := 0, locals := 21 }
theorem hv_behindSitting : yX2_behindSitting.cls = RX2 ∧ yX2_behindSitting.cls ≠ "java/lang/invoke/MethodHandle" ∧ yX2_behindSitting.cls ≠ "java/lang/invoke/VarHandle" ∧ (parseMethodDescriptor yX2_behindSitting.desc).map (fun d => d.parameters.length) = some 2 := by decide +kernel
theorem tm_behindSitting (Γ : TG) (τ : TS) (v1 : Int32) (v2 : Int32)  (r : Int32) (h : T_behindSitting τ v1 v2 = some r) : TMet Γ yX2_behindSitting cX2_behindSitting 5 (some .int) rm_behindSitting [.ref Γ.2.1, .int v1, .int v2] τ (some (.int r)) τ := by
  refine t_met (view := (fun r : Int32 => (some (Value.int r), τ))) rfl rfl (ls0 := [(0, .ref Γ.2.1), (1, .int v1), (2, .int v2)]) rfl (fun K hk hK => ?_) r h
  unfold T_behindSitting
  refine g_aload_n (pc := 0) hk dX2_behindSitting_0 rfl ?_
  refine g_iload_n (pc := 1) hk dX2_behindSitting_1 rfl ?_
  refine g_ob1 (fun r1 h2 => ?_)
  refine t_callV (pc := 2) hk hK [.int v2] [] (tm_otherOf Γ τ v2 r1 h2) (lw_V q1691 q1693 qs91 q128 q1694) hv_otherOf rfl rfl rfl dX2_behindSitting_2 rfl rfl ?_
  refine g_istore_n (pc := 5) (i := 3) (ls' := [(3, .int r1), (0, .ref Γ.2.1), (1, .int v1), (2, .int v2)]) hk dX2_behindSitting_5 rfl (by decide) rfl ?_
  refine g_iload_n (pc := 6) hk dX2_behindSitting_6 rfl ?_
  refine g_iload_n (pc := 7) hk dX2_behindSitting_7 rfl ?_
  refine g_ob1 (fun r3 h4 => ?_)
  refine t_callS (pc := 8) hk hK [.int v1, .int r1] [] (tm_lessBy Γ τ v1 r1 r3 h4) (lw_S q1947 q1948 q128 q1949) hs_lessBy rfl rfl rfl dX2_behindSitting_8 rfl rfl ?_
  refine g_istore (pc := 11) (i := 4) (ls' := [(4, .int r3), (3, .int r1), (0, .ref Γ.2.1), (1, .int v1), (2, .int v2)]) hk dX2_behindSitting_11 (by decide) rfl ?_
  refine g_aload_n (pc := 13) hk dX2_behindSitting_13 rfl ?_
  refine g_iload_n (pc := 14) hk dX2_behindSitting_14 rfl ?_
  refine g_ob1 (fun r5 h6 => ?_)
  refine t_callV (pc := 15) hk hK [.int r1] [] (tm_otherOf Γ τ r1 r5 h6) (lw_V q1691 q1693 qs91 q128 q1694) hv_otherOf rfl rfl rfl dX2_behindSitting_15 rfl rfl ?_
  refine g_iload_n (pc := 18) hk dX2_behindSitting_18 rfl ?_
  refine g_icmp_ne (pc := 19) (tgt := 27) hk dX2_behindSitting_19 rfl ?_ ?_
  · refine g_iload (pc := 27) hk dX2_behindSitting_27 rfl ?_
    refine g_aload_n (pc := 29) hk dX2_behindSitting_29 rfl ?_
    refine g_iload_n (pc := 30) hk dX2_behindSitting_30 rfl ?_
    refine g_ob1 (fun r7 h8 => ?_)
    refine t_callV (pc := 31) hk hK [.int r1] [.int r3] (tm_otherOf Γ τ r1 r7 h8) (lw_V q1691 q1693 qs91 q128 q1694) hv_otherOf rfl rfl rfl dX2_behindSitting_31 rfl rfl ?_
    refine g_ob1 (fun r9 h10 => ?_)
    refine t_callS (pc := 34) hk hK [.int r3, .int r7] [] (tm_lessBy Γ τ r3 r7 r9 h10) (lw_S q1947 q1948 q128 q1949) hs_lessBy rfl rfl rfl dX2_behindSitting_34 rfl rfl ?_
    exact t_iret (pc := 37) hk rfl dX2_behindSitting_37
  · refine g_iload (pc := 22) hk dX2_behindSitting_22 rfl ?_
    refine g_goto (pc := 24) (tgt := 37) hk dX2_behindSitting_24 rfl ?_
    exact t_iret (pc := 37) hk rfl dX2_behindSitting_37
def rm_laySittings : Room := { frames := 2, cells := 0, slots := 0, locals := 45 }
theorem hv_laySittings : yX2_laySittings.cls = RX2 ∧ yX2_laySittings.cls ≠ "java/lang/invoke/MethodHandle" ∧ yX2_laySittings.cls ≠ "java/lang/invoke/VarHandle" ∧ (parseMethodDescriptor yX2_laySittings.desc).map (fun d => d.parameters.length) = some 0 := by decide +kernel
theorem tm_laySittings_j135 {K : KT} {Γ : TG} (hk : KOK K cX2_laySittings 6 RX2 rm_laySittings (some .int)) (hK : va_K Γ.1 tcl (ttys Γ) (kS K)) (τ : TS) (v1 : Int32) (v2 : Int32)  (k41 : TS → Int32 → Option (Int32 × TS)) (hk41 : ∀ (τ : TS) (v2 : Int32), GGo K (tQ K Γ (fun r : Int32 × TS => (some (Value.int r.1), r.2))) (k41 τ v2) 6 (TI Γ (kS K) τ) 0 0 41 [(0, .ref Γ.2.1), (1, .int v1), (2, .int v2)] []) : GGo K (tQ K Γ (fun r : Int32 × TS => (some (Value.int r.1), r.2))) (T_laySittings_j135 k41 τ v1 v2) 6 (TI Γ (kS K) τ) 0 0 135 [(0, .ref Γ.2.1), (1, .int v1), (2, .int v2)] [] := by
  unfold T_laySittings_j135
  refine g_iincN (pc := 135) (v := 1) (ls' := fun x5 => [(2, .int x5), (0, .ref Γ.2.1), (1, .int v1)]) hk dX2_laySittings_135 rfl rfl (by decide) (fun _ => rfl) (fun x5 => ?_)
  refine g_goto (pc := 138) (tgt := 41) hk dX2_laySittings_138 rfl ?_
  refine g_sub (ls' := [(0, .ref Γ.2.1), (1, .int v1), (2, .int x5)]) [1, 2, 0] rfl ?_
  exact hk41 τ x5
theorem tm_laySittings_j134 {K : KT} {Γ : TG} (hk : KOK K cX2_laySittings 6 RX2 rm_laySittings (some .int)) (hK : va_K Γ.1 tcl (ttys Γ) (kS K)) (τ : TS) (v1 : Int32) (v2 : Int32) (s1 : Int32) (s2 : Int32)  (k41 : TS → Int32 → Option (Int32 × TS)) (hk41 : ∀ (τ : TS) (v2 : Int32), GGo K (tQ K Γ (fun r : Int32 × TS => (some (Value.int r.1), r.2))) (k41 τ v2) 6 (TI Γ (kS K) τ) 0 0 41 [(0, .ref Γ.2.1), (1, .int v1), (2, .int v2)] []) : GGo K (tQ K Γ (fun r : Int32 × TS => (some (Value.int r.1), r.2))) (T_laySittings_j134 k41 τ v1 v2 s1 s2) 6 (TI Γ (kS K) τ) 0 0 134 [(0, .ref Γ.2.1), (1, .int v1), (2, .int v2)] [.int s2, .int s1, .ref (Γ.2.2.1 26)] := by
  unfold T_laySittings_j134
  refine t_iast (pc := 134) hk hK ta_26 dX2_laySittings_134 (fun τ4 => ?_)
  exact tm_laySittings_j135 hk hK τ4 v1 v2 k41 hk41
theorem tm_laySittings_j109 {K : KT} {Γ : TG} (hk : KOK K cX2_laySittings 6 RX2 rm_laySittings (some .int)) (hK : va_K Γ.1 tcl (ttys Γ) (kS K)) (τ : TS) (v1 : Int32) (v2 : Int32) (v3 : Int32) (v4 : Int32)  (k41 : TS → Int32 → Option (Int32 × TS)) (k64 : Int32 → Int32 → Option (Int32 × TS)) (hk41 : ∀ (τ : TS) (v2 : Int32), GGo K (tQ K Γ (fun r : Int32 × TS => (some (Value.int r.1), r.2))) (k41 τ v2) 6 (TI Γ (kS K) τ) 0 0 41 [(0, .ref Γ.2.1), (1, .int v1), (2, .int v2)] []) (hk64 : ∀ (v3 : Int32) (v4 : Int32), GGo K (tQ K Γ (fun r : Int32 × TS => (some (Value.int r.1), r.2))) (k64 v3 v4) 6 (TI Γ (kS K) τ) 0 0 64 [(0, .ref Γ.2.1), (1, .int v1), (2, .int v2), (3, .int v3), (4, .int v4)] []) : GGo K (tQ K Γ (fun r : Int32 × TS => (some (Value.int r.1), r.2))) (T_laySittings_j109 k41 k64 τ v1 v2 v3 v4) 6 (TI Γ (kS K) τ) 0 0 109 [(0, .ref Γ.2.1), (1, .int v1), (2, .int v2), (3, .int v3), (4, .int v4)] [] := by
  unfold T_laySittings_j109
  refine g_iincN (pc := 109) (v := 1) (ls' := fun x8 => [(4, .int x8), (0, .ref Γ.2.1), (1, .int v1), (2, .int v2), (3, .int v3)]) hk dX2_laySittings_109 rfl rfl (by decide) (fun _ => rfl) (fun x8 => ?_)
  refine g_goto (pc := 112) (tgt := 64) hk dX2_laySittings_112 rfl ?_
  refine g_sub (ls' := [(0, .ref Γ.2.1), (1, .int v1), (2, .int v2), (3, .int v3), (4, .int x8)]) [1, 2, 3, 4, 0] rfl ?_
  exact hk64 v3 x8
theorem tm_laySittings_l64 {K : KT} {Γ : TG} (hk : KOK K cX2_laySittings 6 RX2 rm_laySittings (some .int)) (hK : va_K Γ.1 tcl (ttys Γ) (kS K)) (τ : TS) (v1 : Int32) (v2 : Int32)  (k41 : TS → Int32 → Option (Int32 × TS)) (hk41 : ∀ (τ : TS) (v2 : Int32), GGo K (tQ K Γ (fun r : Int32 × TS => (some (Value.int r.1), r.2))) (k41 τ v2) 6 (TI Γ (kS K) τ) 0 0 41 [(0, .ref Γ.2.1), (1, .int v1), (2, .int v2)] []) : ∀ (n : Nat) (v3 : Int32) (v4 : Int32), GGo K (tQ K Γ (fun r : Int32 × TS => (some (Value.int r.1), r.2))) (T_laySittings_l64 k41 τ v1 v2 n v3 v4) 6 (TI Γ (kS K) τ) 0 0 64 [(0, .ref Γ.2.1), (1, .int v1), (2, .int v2), (3, .int v3), (4, .int v4)] [] := by
  intro n
  induction n with
  | zero =>
    intro v3 v4
    unfold T_laySittings_l64
    exact g_none
  | succ n ih =>
    intro v3 v4
    unfold T_laySittings_l64
    refine g_iload (pc := 64) hk dX2_laySittings_64 rfl ?_
    refine g_bipush (pc := 66) (v := 8) hk dX2_laySittings_66 rfl ?_
    refine g_icmp_ge (pc := 68) (tgt := 115) hk dX2_laySittings_68 rfl ?_ ?_
    · refine g_aload_n (pc := 115) hk dX2_laySittings_115 rfl ?_
      refine t_getR (pc := 116) hk hK tr_26 tf_26 dX2_laySittings_116 ?_
      refine g_iload_n (pc := 119) hk dX2_laySittings_119 rfl ?_
      refine g_iload_n (pc := 120) hk dX2_laySittings_120 rfl ?_
      refine g_ldcw (pc := 121) (v := 1000000) hk q1942 dX2_laySittings_121 ?_
      refine g_icmp_le (pc := 124) (tgt := 133) hk dX2_laySittings_124 rfl ?_ ?_
      · refine g_iload_n (pc := 133) hk dX2_laySittings_133 rfl ?_
        refine g_sub (ls' := [(0, .ref Γ.2.1), (1, .int v1), (2, .int v2)]) [0, 1, 2] rfl ?_
        exact tm_laySittings_j134 hk hK τ v1 v2 v2 v3 k41 hk41
      · refine g_ldcw (pc := 127) (v := 1000000) hk q1942 dX2_laySittings_127 ?_
        refine g_goto (pc := 130) (tgt := 134) hk dX2_laySittings_130 rfl ?_
        refine g_sub (ls' := [(0, .ref Γ.2.1), (1, .int v1), (2, .int v2)]) [0, 1, 2] rfl ?_
        exact tm_laySittings_j134 hk hK τ v1 v2 v2 1000000 k41 hk41
    · refine g_aload_n (pc := 71) hk dX2_laySittings_71 rfl ?_
      refine g_iload_n (pc := 72) hk dX2_laySittings_72 rfl ?_
      refine g_iload (pc := 73) hk dX2_laySittings_73 rfl ?_
      refine g_ob1 (fun r6 h7 => ?_)
      refine t_callV (pc := 75) hk hK [.int v2, .int v4] [] (tm_behindSitting Γ τ v2 v4 r6 h7) (lw_V q1943 q1945 qs117 q128 q1946) hv_behindSitting rfl rfl rfl dX2_laySittings_75 rfl rfl ?_
      refine g_istore (pc := 78) (i := 5) (ls' := [(5, .int r6), (0, .ref Γ.2.1), (1, .int v1), (2, .int v2), (3, .int v3), (4, .int v4)]) hk dX2_laySittings_78 (by decide) rfl ?_
      refine g_iload (pc := 80) hk dX2_laySittings_80 rfl ?_
      refine g_iload_n (pc := 82) hk dX2_laySittings_82 rfl ?_
      refine g_icmp_eq (pc := 83) (tgt := 109) hk dX2_laySittings_83 rfl ?_ ?_
      · refine g_sub (ls' := [(0, .ref Γ.2.1), (1, .int v1), (2, .int v2), (3, .int v3), (4, .int v4)]) [1, 2, 3, 4, 5] rfl ?_
        exact tm_laySittings_j109 hk hK τ v1 v2 v3 v4 k41 (T_laySittings_l64 k41 τ v1 v2 n) hk41 ih
      · refine g_aload_n (pc := 86) hk dX2_laySittings_86 rfl ?_
        refine t_getR (pc := 87) hk hK tr_26 tf_26 dX2_laySittings_87 ?_
        refine g_iload (pc := 90) hk dX2_laySittings_90 rfl ?_
        refine t_iald (pc := 92) hk hK ta_26 dX2_laySittings_92 ?_
        refine g_iconst (pc := 93) (v := 1) hk dX2_laySittings_93 rfl ?_
        refine g_iadd (pc := 94) hk dX2_laySittings_94 ?_
        refine g_iload_n (pc := 95) hk dX2_laySittings_95 rfl ?_
        refine g_icmp_ge (pc := 96) (tgt := 109) hk dX2_laySittings_96 rfl ?_ ?_
        · refine g_sub (ls' := [(0, .ref Γ.2.1), (1, .int v1), (2, .int v2), (3, .int v3), (4, .int v4)]) [1, 2, 3, 4, 5] rfl ?_
          exact tm_laySittings_j109 hk hK τ v1 v2 v3 v4 k41 (T_laySittings_l64 k41 τ v1 v2 n) hk41 ih
        · refine g_aload_n (pc := 99) hk dX2_laySittings_99 rfl ?_
          refine t_getR (pc := 100) hk hK tr_26 tf_26 dX2_laySittings_100 ?_
          refine g_iload (pc := 103) hk dX2_laySittings_103 rfl ?_
          refine t_iald (pc := 105) hk hK ta_26 dX2_laySittings_105 ?_
          refine g_iconst (pc := 106) (v := 1) hk dX2_laySittings_106 rfl ?_
          refine g_iadd (pc := 107) hk dX2_laySittings_107 ?_
          refine g_istore_nN (pc := 108) (i := 3) (ls' := fun x9 => [(3, .int x9), (5, .int r6), (0, .ref Γ.2.1), (1, .int v1), (2, .int v2), (4, .int v4)]) hk dX2_laySittings_108 rfl (by decide) (fun _ => rfl) (fun x9 => ?_)
          refine g_sub (ls' := [(0, .ref Γ.2.1), (1, .int v1), (2, .int v2), (3, .int x9), (4, .int v4)]) [2, 3, 4, 0, 5] rfl ?_
          exact tm_laySittings_j109 hk hK τ v1 v2 x9 v4 k41 (T_laySittings_l64 k41 τ v1 v2 n) hk41 ih
theorem tm_laySittings_l41 {K : KT} {Γ : TG} (hk : KOK K cX2_laySittings 6 RX2 rm_laySittings (some .int)) (hK : va_K Γ.1 tcl (ttys Γ) (kS K)) (v1 : Int32)   : ∀ (n : Nat) (τ : TS) (v2 : Int32), GGo K (tQ K Γ (fun r : Int32 × TS => (some (Value.int r.1), r.2))) (T_laySittings_l41 v1 n τ v2) 6 (TI Γ (kS K) τ) 0 0 41 [(0, .ref Γ.2.1), (1, .int v1), (2, .int v2)] [] := by
  intro n
  induction n with
  | zero =>
    intro τ v2
    unfold T_laySittings_l41
    exact g_none
  | succ n ih =>
    intro τ v2
    unfold T_laySittings_l41
    refine g_iload_n (pc := 41) hk dX2_laySittings_41 rfl ?_
    refine g_iload_n (pc := 42) hk dX2_laySittings_42 rfl ?_
    refine g_icmp_gt (pc := 43) (tgt := 141) hk dX2_laySittings_43 rfl ?_ ?_
    · refine g_iload_n (pc := 141) hk dX2_laySittings_141 rfl ?_
      exact t_iret (pc := 142) hk rfl dX2_laySittings_142
    · refine g_iload_n (pc := 46) hk dX2_laySittings_46 rfl ?_
      refine g_iload_n (pc := 47) hk dX2_laySittings_47 rfl ?_
      refine g_ob1 (fun r2 h3 => ?_)
      refine t_callS (pc := 48) hk hK [.int v2, .int v1] [] (tm_isWithin Γ τ v2 v1 r2 h3) (lw_S q1939 q1940 q128 q1941) hs_isWithin rfl rfl rfl dX2_laySittings_48 rfl rfl ?_
      refine g_if_ne (pc := 51) (tgt := 57) hk dX2_laySittings_51 rfl ?_ ?_
      · refine g_ldcw (pc := 57) (v := 1000000) hk q1942 dX2_laySittings_57 ?_
        refine g_istore_n (pc := 60) (i := 3) (ls' := [(3, .int 1000000), (0, .ref Γ.2.1), (1, .int v1), (2, .int v2)]) hk dX2_laySittings_60 rfl (by decide) rfl ?_
        refine g_iconst (pc := 61) (v := 0) hk dX2_laySittings_61 rfl ?_
        refine g_istore (pc := 62) (i := 4) (ls' := [(4, .int 0), (3, .int 1000000), (0, .ref Γ.2.1), (1, .int v1), (2, .int v2)]) hk dX2_laySittings_62 (by decide) rfl ?_
        refine g_sub (ls' := [(0, .ref Γ.2.1), (1, .int v1), (2, .int v2), (3, .int 1000000), (4, .int 0)]) [2, 3, 4, 1, 0] rfl ?_
        exact tm_laySittings_l64 hk hK τ v1 v2 (T_laySittings_l41 v1 n) ih FU 1000000 0
      · refine g_goto (pc := 54) (tgt := 135) hk dX2_laySittings_54 rfl ?_
        exact tm_laySittings_j135 hk hK τ v1 v2 (T_laySittings_l41 v1 n) ih
theorem tm_laySittings_l4 {K : KT} {Γ : TG} (hk : KOK K cX2_laySittings 6 RX2 rm_laySittings (some .int)) (hK : va_K Γ.1 tcl (ttys Γ) (kS K)) (τ : TS)   : ∀ (n : Nat) (v1 : Int32) (v2 : Int32), GGo K (tQ K Γ (fun r : Int32 × TS => (some (Value.int r.1), r.2))) (T_laySittings_l4 τ n v1 v2) 6 (TI Γ (kS K) τ) 0 0 4 [(0, .ref Γ.2.1), (1, .int v1), (2, .int v2)] [] := by
  intro n
  induction n with
  | zero =>
    intro v1 v2
    unfold T_laySittings_l4
    exact g_none
  | succ n ih =>
    intro v1 v2
    unfold T_laySittings_l4
    refine g_iload_n (pc := 4) hk dX2_laySittings_4 rfl ?_
    refine g_bipush (pc := 5) (v := 8) hk dX2_laySittings_5 rfl ?_
    refine g_icmp_ge (pc := 7) (tgt := 32) hk dX2_laySittings_7 rfl ?_ ?_
    · refine g_aload_n (pc := 32) hk dX2_laySittings_32 rfl ?_
      refine t_getR (pc := 33) hk hK tr_26 tf_26 dX2_laySittings_33 ?_
      refine g_iconst (pc := 36) (v := 0) hk dX2_laySittings_36 rfl ?_
      refine g_iconst (pc := 37) (v := 0) hk dX2_laySittings_37 rfl ?_
      refine t_iastC (pc := 38) (j := 0) hk hK ta_26 rfl rfl dX2_laySittings_38 (fun τ1 => ?_)
      refine g_iconst (pc := 39) (v := 1) hk dX2_laySittings_39 rfl ?_
      refine g_istore_n (pc := 40) (i := 2) (ls' := [(2, .int 1), (0, .ref Γ.2.1), (1, .int v1)]) hk dX2_laySittings_40 rfl (by decide) rfl ?_
      refine g_sub (ls' := [(0, .ref Γ.2.1), (1, .int v1), (2, .int 1)]) [1, 2, 0] rfl ?_
      exact tm_laySittings_l41 hk hK v1 FU τ1 1
    · refine g_iload_n (pc := 10) hk dX2_laySittings_10 rfl ?_
      refine g_aload_n (pc := 11) hk dX2_laySittings_11 rfl ?_
      refine t_getR (pc := 12) hk hK tr_0 tf_0 dX2_laySittings_12 ?_
      refine g_bipush (pc := 15) (v := 58) hk dX2_laySittings_15 rfl ?_
      refine g_iload_n (pc := 17) hk dX2_laySittings_17 rfl ?_
      refine g_iadd (pc := 18) hk dX2_laySittings_18 ?_
      refine t_iald (pc := 19) hk hK ta_0 dX2_laySittings_19 ?_
      refine g_iconst (pc := 20) (v := 2) hk dX2_laySittings_20 rfl ?_
      refine g_iload_n (pc := 21) hk dX2_laySittings_21 rfl ?_
      refine g_imul (pc := 22) hk dX2_laySittings_22 ?_
      refine g_ishl (pc := 23) hk dX2_laySittings_23 ?_
      refine g_ior (pc := 24) hk dX2_laySittings_24 ?_
      refine g_istore_nN (pc := 25) (i := 1) (ls' := fun x10 => [(1, .int x10), (0, .ref Γ.2.1), (2, .int v2)]) hk dX2_laySittings_25 rfl (by decide) (fun _ => rfl) (fun x10 => ?_)
      refine g_iincN (pc := 26) (v := 1) (ls' := fun x11 => [(2, .int x11), (1, .int x10), (0, .ref Γ.2.1)]) hk dX2_laySittings_26 rfl rfl (by decide) (fun _ => rfl) (fun x11 => ?_)
      refine g_goto (pc := 29) (tgt := 4) hk dX2_laySittings_29 rfl ?_
      refine g_sub (ls' := [(0, .ref Γ.2.1), (1, .int x10), (2, .int x11)]) [2, 1, 0] rfl ?_
      exact ih x10 x11
theorem tm_laySittings (Γ : TG) (τ : TS)   (r : Int32 × TS) (h : T_laySittings τ = some r) : TMet Γ yX2_laySittings cX2_laySittings 6 (some .int) rm_laySittings [.ref Γ.2.1] τ (some (.int r.1)) r.2 := by
  refine t_met (view := (fun r : Int32 × TS => (some (Value.int r.1), r.2))) rfl rfl (ls0 := [(0, .ref Γ.2.1)]) rfl (fun K hk hK => ?_) r h
  unfold T_laySittings
  refine g_iconst (pc := 0) (v := 0) hk dX2_laySittings_0 rfl ?_
  refine g_istore_n (pc := 1) (i := 1) (ls' := [(1, .int 0), (0, .ref Γ.2.1)]) hk dX2_laySittings_1 rfl (by decide) rfl ?_
  refine g_iconst (pc := 2) (v := 0) hk dX2_laySittings_2 rfl ?_
  refine g_istore_n (pc := 3) (i := 2) (ls' := [(2, .int 0), (1, .int 0), (0, .ref Γ.2.1)]) hk dX2_laySittings_3 rfl (by decide) rfl ?_
  refine g_sub (ls' := [(0, .ref Γ.2.1), (1, .int 0), (2, .int 0)]) [2, 1, 0] rfl ?_
  exact tm_laySittings_l4 hk hK τ FU 0 0
def rm_booking : Room := { frames := 3, cells := 0, slots := 0, locals := 70 }
theorem hv_booking : yX2_booking.cls = RX2 ∧ yX2_booking.cls ≠ "java/lang/invoke/MethodHandle" ∧ yX2_booking.cls ≠ "java/lang/invoke/VarHandle" ∧ (parseMethodDescriptor yX2_booking.desc).map (fun d => d.parameters.length) = some 1 := by decide +kernel
theorem tm_booking_j87 {K : KT} {Γ : TG} (hk : KOK K cX2_booking 6 RX2 rm_booking (some .int)) (hK : va_K Γ.1 tcl (ttys Γ) (kS K)) (τ : TS) (v1 : Int32) (v2 : Int32) (v3 : Int32) (v4 : Int32) (v5 : Int32)  (k46 : Int32 → Int32 → Int32 → Option (Int32 × TS)) (k55 : Int32 → Option (Int32 × TS)) (hk46 : ∀ (v2 : Int32) (v4 : Int32) (v5 : Int32), GGo K (tQ K Γ (fun r : Int32 × TS => (some (Value.int r.1), r.2))) (k46 v2 v4 v5) 6 (TI Γ (kS K) τ) 0 0 46 [(0, .ref Γ.2.1), (1, .int v1), (2, .int v2), (3, .int v3), (4, .int v4), (5, .int v5)] []) (hk55 : ∀ (v4 : Int32), GGo K (tQ K Γ (fun r : Int32 × TS => (some (Value.int r.1), r.2))) (k55 v4) 6 (TI Γ (kS K) τ) 0 0 55 [(0, .ref Γ.2.1), (1, .int v1), (2, .int v2), (3, .int v3), (4, .int v4), (5, .int v5)] []) : GGo K (tQ K Γ (fun r : Int32 × TS => (some (Value.int r.1), r.2))) (T_booking_j87 k46 k55 τ v1 v2 v3 v4 v5) 6 (TI Γ (kS K) τ) 0 0 87 [(0, .ref Γ.2.1), (1, .int v1), (2, .int v2), (3, .int v3), (4, .int v4), (5, .int v5)] [] := by
  unfold T_booking_j87
  refine g_iincN (pc := 87) (v := 1) (ls' := fun x9 => [(4, .int x9), (0, .ref Γ.2.1), (1, .int v1), (2, .int v2), (3, .int v3), (5, .int v5)]) hk dX2_booking_87 rfl rfl (by decide) (fun _ => rfl) (fun x9 => ?_)
  refine g_goto (pc := 90) (tgt := 55) hk dX2_booking_90 rfl ?_
  refine g_sub (ls' := [(0, .ref Γ.2.1), (1, .int v1), (2, .int v2), (3, .int v3), (4, .int x9), (5, .int v5)]) [1, 2, 3, 4, 0, 5] rfl ?_
  exact hk55 x9
theorem tm_booking_l55 {K : KT} {Γ : TG} (hk : KOK K cX2_booking 6 RX2 rm_booking (some .int)) (hK : va_K Γ.1 tcl (ttys Γ) (kS K)) (τ : TS) (v1 : Int32) (v2 : Int32) (v3 : Int32) (v5 : Int32)  (k46 : Int32 → Int32 → Int32 → Option (Int32 × TS)) (hk46 : ∀ (v2 : Int32) (v4 : Int32) (v5 : Int32), GGo K (tQ K Γ (fun r : Int32 × TS => (some (Value.int r.1), r.2))) (k46 v2 v4 v5) 6 (TI Γ (kS K) τ) 0 0 46 [(0, .ref Γ.2.1), (1, .int v1), (2, .int v2), (3, .int v3), (4, .int v4), (5, .int v5)] []) : ∀ (n : Nat) (v4 : Int32), GGo K (tQ K Γ (fun r : Int32 × TS => (some (Value.int r.1), r.2))) (T_booking_l55 k46 τ v1 v2 v3 v5 n v4) 6 (TI Γ (kS K) τ) 0 0 55 [(0, .ref Γ.2.1), (1, .int v1), (2, .int v2), (3, .int v3), (4, .int v4), (5, .int v5)] [] := by
  intro n
  induction n with
  | zero =>
    intro v4
    unfold T_booking_l55
    exact g_none
  | succ n ih =>
    intro v4
    unfold T_booking_l55
    refine g_aload_n (pc := 55) hk dX2_booking_55 rfl ?_
    refine g_iload_n (pc := 56) hk dX2_booking_56 rfl ?_
    refine g_iload (pc := 57) hk dX2_booking_57 rfl ?_
    refine g_ob1 (fun r7 h8 => ?_)
    refine t_callV (pc := 59) hk hK [.int v2, .int v4] [] (tm_behindSitting Γ τ v2 v4 r7 h8) (lw_V q1943 q1945 qs117 q128 q1946) hv_behindSitting rfl rfl rfl dX2_booking_59 rfl rfl ?_
    refine g_iload_n (pc := 62) hk dX2_booking_62 rfl ?_
    refine g_icmp_eq (pc := 63) (tgt := 87) hk dX2_booking_63 rfl ?_ ?_
    · exact tm_booking_j87 hk hK τ v1 v2 v3 v4 v5 k46 (T_booking_l55 k46 τ v1 v2 v3 v5 n) hk46 ih
    · refine g_aload_n (pc := 66) hk dX2_booking_66 rfl ?_
      refine t_getR (pc := 67) hk hK tr_26 tf_26 dX2_booking_67 ?_
      refine g_aload_n (pc := 70) hk dX2_booking_70 rfl ?_
      refine g_iload_n (pc := 71) hk dX2_booking_71 rfl ?_
      refine g_iload (pc := 72) hk dX2_booking_72 rfl ?_
      refine g_ob1 (fun r10 h11 => ?_)
      refine t_callV (pc := 74) hk hK [.int v2, .int v4] [.ref (Γ.2.2.1 26)] (tm_behindSitting Γ τ v2 v4 r10 h11) (lw_V q1943 q1945 qs117 q128 q1946) hv_behindSitting rfl rfl rfl dX2_booking_74 rfl rfl ?_
      refine t_iald (pc := 77) hk hK ta_26 dX2_booking_77 ?_
      refine g_iload_n (pc := 78) hk dX2_booking_78 rfl ?_
      refine g_iload (pc := 79) hk dX2_booking_79 rfl ?_
      refine g_isub (pc := 81) hk dX2_booking_81 ?_
      refine g_iconst (pc := 82) (v := 1) hk dX2_booking_82 rfl ?_
      refine g_isub (pc := 83) hk dX2_booking_83 ?_
      refine g_icmp_eq (pc := 84) (tgt := 93) hk dX2_booking_84 rfl ?_ ?_
      · refine g_aload_n (pc := 93) hk dX2_booking_93 rfl ?_
        refine g_iload_n (pc := 94) hk dX2_booking_94 rfl ?_
        refine g_iload (pc := 95) hk dX2_booking_95 rfl ?_
        refine g_ob1 (fun r12 h13 => ?_)
        refine t_callV (pc := 97) hk hK [.int v2, .int v4] [] (tm_behindSitting Γ τ v2 v4 r12 h13) (lw_V q1943 q1945 qs117 q128 q1946) hv_behindSitting rfl rfl rfl dX2_booking_97 rfl rfl ?_
        refine g_istore_n (pc := 100) (i := 2) (ls' := [(2, .int r12), (0, .ref Γ.2.1), (1, .int v1), (3, .int v3), (4, .int v4), (5, .int v5)]) hk dX2_booking_100 rfl (by decide) rfl ?_
        refine g_iincN (pc := 101) (v := 1) (ls' := fun x14 => [(5, .int x14), (2, .int r12), (0, .ref Γ.2.1), (1, .int v1), (3, .int v3), (4, .int v4)]) hk dX2_booking_101 rfl rfl (by decide) (fun _ => rfl) (fun x14 => ?_)
        refine g_goto (pc := 104) (tgt := 46) hk dX2_booking_104 rfl ?_
        refine g_sub (ls' := [(0, .ref Γ.2.1), (1, .int v1), (2, .int r12), (3, .int v3), (4, .int v4), (5, .int x14)]) [2, 3, 1, 4, 5, 0] rfl ?_
        exact hk46 r12 v4 x14
      · exact tm_booking_j87 hk hK τ v1 v2 v3 v4 v5 k46 (T_booking_l55 k46 τ v1 v2 v3 v5 n) hk46 ih
theorem tm_booking_l46 {K : KT} {Γ : TG} (hk : KOK K cX2_booking 6 RX2 rm_booking (some .int)) (hK : va_K Γ.1 tcl (ttys Γ) (kS K)) (τ : TS) (v1 : Int32) (v3 : Int32)   : ∀ (n : Nat) (v2 : Int32) (v4 : Int32) (v5 : Int32), GGo K (tQ K Γ (fun r : Int32 × TS => (some (Value.int r.1), r.2))) (T_booking_l46 τ v1 v3 n v2 v4 v5) 6 (TI Γ (kS K) τ) 0 0 46 [(0, .ref Γ.2.1), (1, .int v1), (2, .int v2), (3, .int v3), (4, .int v4), (5, .int v5)] [] := by
  intro n
  induction n with
  | zero =>
    intro v2 v4 v5
    unfold T_booking_l46
    exact g_none
  | succ n ih =>
    intro v2 v4 v5
    unfold T_booking_l46
    refine g_iload (pc := 46) hk dX2_booking_46 rfl ?_
    refine g_iload_n (pc := 48) hk dX2_booking_48 rfl ?_
    refine g_icmp_gt (pc := 49) (tgt := 107) hk dX2_booking_49 rfl ?_ ?_
    · refine g_iload (pc := 107) hk dX2_booking_107 rfl ?_
      exact t_iret (pc := 109) hk rfl dX2_booking_109
    · refine g_iconst (pc := 52) (v := 0) hk dX2_booking_52 rfl ?_
      refine g_istore (pc := 53) (i := 4) (ls' := [(4, .int 0), (0, .ref Γ.2.1), (1, .int v1), (2, .int v2), (3, .int v3), (5, .int v5)]) hk dX2_booking_53 (by decide) rfl ?_
      refine g_sub (ls' := [(0, .ref Γ.2.1), (1, .int v1), (2, .int v2), (3, .int v3), (4, .int 0), (5, .int v5)]) [1, 2, 3, 4, 0, 5] rfl ?_
      exact tm_booking_l55 hk hK τ v1 v2 v3 v5 (T_booking_l46 τ v1 v3 n) ih FU 0
theorem tm_booking (Γ : TG) (τ : TS) (v1 : Int32)  (r : Int32 × TS) (h : T_booking τ v1 = some r) : TMet Γ yX2_booking cX2_booking 6 (some .int) rm_booking [.ref Γ.2.1, .int v1] τ (some (.int r.1)) r.2 := by
  refine t_met (view := (fun r : Int32 × TS => (some (Value.int r.1), r.2))) rfl rfl (ls0 := [(0, .ref Γ.2.1), (1, .int v1)]) rfl (fun K hk hK => ?_) r h
  unfold T_booking
  refine g_aload_n (pc := 0) hk dX2_booking_0 rfl ?_
  refine g_ob2 (fun r1 τ3 h2 => ?_)
  refine t_callV (pc := 1) hk hK [] [] (tm_laySittings Γ τ (r1, τ3) h2) (lw_V q1935 q1937 qs116 q128 q1938) hv_laySittings rfl rfl rfl dX2_booking_1 rfl rfl ?_
  refine g_istore_n (pc := 4) (i := 2) (ls' := [(2, .int r1), (0, .ref Γ.2.1), (1, .int v1)]) hk dX2_booking_4 rfl (by decide) rfl ?_
  refine g_aload_n (pc := 5) hk dX2_booking_5 rfl ?_
  refine t_getR (pc := 6) hk hK tr_26 tf_26 dX2_booking_6 ?_
  refine g_iload_n (pc := 9) hk dX2_booking_9 rfl ?_
  refine t_iald (pc := 10) hk hK ta_26 dX2_booking_10 ?_
  refine g_istore_nN (pc := 11) (i := 3) (ls' := fun x4 => [(3, .int x4), (2, .int r1), (0, .ref Γ.2.1), (1, .int v1)]) hk dX2_booking_11 rfl (by decide) (fun _ => rfl) (fun x4 => ?_)
  refine g_iload_n (pc := 12) hk dX2_booking_12 rfl ?_
  refine g_ldcw (pc := 13) (v := 1000000) hk q1942 dX2_booking_13 ?_
  refine g_icmp_eq (pc := 16) (tgt := 30) hk dX2_booking_16 rfl ?_ ?_
  · refine g_bipush (pc := 30) (v := (-2)) hk dX2_booking_30 rfl ?_
    exact t_iret (pc := 32) hk rfl dX2_booking_32
  · refine g_iload_n (pc := 19) hk dX2_booking_19 rfl ?_
    refine g_iconst (pc := 20) (v := (-1)) hk dX2_booking_20 rfl ?_
    refine g_iload_n (pc := 21) hk dX2_booking_21 rfl ?_
    refine g_iconst (pc := 22) (v := 1) hk dX2_booking_22 rfl ?_
    refine g_isub (pc := 23) hk dX2_booking_23 ?_
    refine g_ob1 (fun r5 h6 => ?_)
    refine t_callS (pc := 24) hk hK [.int v1, .int (-1), .int (x4 - 1)] [] (tm_isIn Γ τ3 v1 (-1) (x4 - 1) r5 h6) (lw_S q1477 q1478 q128 q1479) hs_isIn rfl rfl rfl dX2_booking_24 rfl rfl ?_
    refine g_if_ne (pc := 27) (tgt := 33) hk dX2_booking_27 rfl ?_ ?_
    · refine g_iload_n (pc := 33) hk dX2_booking_33 rfl ?_
      refine g_iconst (pc := 34) (v := (-1)) hk dX2_booking_34 rfl ?_
      refine g_icmp_ne (pc := 35) (tgt := 40) hk dX2_booking_35 rfl ?_ ?_
      · refine g_iconst (pc := 40) (v := 0) hk dX2_booking_40 rfl ?_
        refine g_istore (pc := 41) (i := 4) (ls' := [(4, .int 0), (3, .int x4), (2, .int r1), (0, .ref Γ.2.1), (1, .int v1)]) hk dX2_booking_41 (by decide) rfl ?_
        refine g_iconst (pc := 43) (v := 0) hk dX2_booking_43 rfl ?_
        refine g_istore (pc := 44) (i := 5) (ls' := [(5, .int 0), (4, .int 0), (3, .int x4), (2, .int r1), (0, .ref Γ.2.1), (1, .int v1)]) hk dX2_booking_44 (by decide) rfl ?_
        refine g_sub (ls' := [(0, .ref Γ.2.1), (1, .int v1), (2, .int r1), (3, .int x4), (4, .int 0), (5, .int 0)]) [4, 5, 3, 2, 1, 0] rfl ?_
        exact tm_booking_l46 hk hK τ3 v1 x4 FU r1 0 0
      · refine g_iload_n (pc := 38) hk dX2_booking_38 rfl ?_
        exact t_iret (pc := 39) hk rfl dX2_booking_39
    · refine g_bipush (pc := 30) (v := (-2)) hk dX2_booking_30 rfl ?_
      exact t_iret (pc := 32) hk rfl dX2_booking_32
def rm_seen : Room := { frames := 1, cells := 0, slots := 0, locals := 22 }
theorem hv_seen : yX2_seen.cls = RX2 ∧ yX2_seen.cls ≠ "java/lang/invoke/MethodHandle" ∧ yX2_seen.cls ≠ "java/lang/invoke/VarHandle" ∧ (parseMethodDescriptor yX2_seen.desc).map (fun d => d.parameters.length) = some 2 := by decide +kernel
theorem tm_seen (Γ : TG) (τ : TS) (v1 : Int32) (v2 : Int32)  (r : Int32 × TS) (h : T_seen τ v1 v2 = some r) : TMet Γ yX2_seen cX2_seen 3 (some .int) rm_seen [.ref Γ.2.1, .int v1, .int v2] τ (some (.int r.1)) r.2 := by
  refine t_met (view := (fun r : Int32 × TS => (some (Value.int r.1), r.2))) rfl rfl (ls0 := [(0, .ref Γ.2.1), (1, .int v1), (2, .int v2)]) rfl (fun K hk hK => ?_) r h
  unfold T_seen
  refine g_iload_n (pc := 0) hk dX2_seen_0 rfl ?_
  refine g_iconst (pc := 1) (v := (-1)) hk dX2_seen_1 rfl ?_
  refine g_icmp_ne (pc := 2) (tgt := 14) hk dX2_seen_2 rfl ?_ ?_
  · refine g_iload_n (pc := 14) hk dX2_seen_14 rfl ?_
    refine g_iconst (pc := 15) (v := 1) hk dX2_seen_15 rfl ?_
    refine g_sipush (pc := 16) (v := 255) hk dX2_seen_16 rfl ?_
    refine g_ob1 (fun r1 h2 => ?_)
    refine t_callS (pc := 19) hk hK [.int v1, .int 1, .int 255] [] (tm_isIn Γ τ v1 1 255 r1 h2) (lw_S q1477 q1478 q128 q1479) hs_isIn rfl rfl rfl dX2_seen_19 rfl rfl ?_
    refine g_if_eq (pc := 22) (tgt := 47) hk dX2_seen_22 rfl ?_ ?_
    · refine g_bipush (pc := 47) (v := (-2)) hk dX2_seen_47 rfl ?_
      exact t_iret (pc := 49) hk rfl dX2_seen_49
    · refine g_iload_n (pc := 25) hk dX2_seen_25 rfl ?_
      refine g_iconst (pc := 26) (v := 0) hk dX2_seen_26 rfl ?_
      refine g_sipush (pc := 27) (v := 255) hk dX2_seen_27 rfl ?_
      refine g_ob1 (fun r3 h4 => ?_)
      refine t_callS (pc := 30) hk hK [.int v2, .int 0, .int 255] [] (tm_isIn Γ τ v2 0 255 r3 h4) (lw_S q1477 q1478 q128 q1479) hs_isIn rfl rfl rfl dX2_seen_30 rfl rfl ?_
      refine g_if_eq (pc := 33) (tgt := 47) hk dX2_seen_33 rfl ?_ ?_
      · refine g_bipush (pc := 47) (v := (-2)) hk dX2_seen_47 rfl ?_
        exact t_iret (pc := 49) hk rfl dX2_seen_49
      · refine g_aload_n (pc := 36) hk dX2_seen_36 rfl ?_
        refine t_getR (pc := 37) hk hK tr_0 tf_0 dX2_seen_37 ?_
        refine g_iconst (pc := 40) (v := 4) hk dX2_seen_40 rfl ?_
        refine t_ialdC (pc := 41) (j := 4) hk hK ta_0 rfl rfl dX2_seen_41 ?_
        refine g_bipush (pc := 42) (v := 6) hk dX2_seen_42 rfl ?_
        refine g_icmp_ne (pc := 44) (tgt := 50) hk dX2_seen_44 rfl ?_ ?_
        · refine g_aload_n (pc := 50) hk dX2_seen_50 rfl ?_
          refine t_getR (pc := 51) hk hK tr_0 tf_0 dX2_seen_51 ?_
          refine g_bipush (pc := 54) (v := 66) hk dX2_seen_54 rfl ?_
          refine g_iconst (pc := 56) (v := 2) hk dX2_seen_56 rfl ?_
          refine g_aload_n (pc := 57) hk dX2_seen_57 rfl ?_
          refine t_getR (pc := 58) hk hK tr_0 tf_0 dX2_seen_58 ?_
          refine g_iconst (pc := 61) (v := 4) hk dX2_seen_61 rfl ?_
          refine t_ialdC (pc := 62) (j := 4) hk hK ta_0 rfl rfl dX2_seen_62 ?_
          refine g_imul (pc := 63) hk dX2_seen_63 ?_
          refine g_iadd (pc := 64) hk dX2_seen_64 ?_
          refine g_iload_n (pc := 65) hk dX2_seen_65 rfl ?_
          refine t_iast (pc := 66) hk hK ta_0 dX2_seen_66 (fun τ5 => ?_)
          refine g_aload_n (pc := 67) hk dX2_seen_67 rfl ?_
          refine t_getR (pc := 68) hk hK tr_0 tf_0 dX2_seen_68 ?_
          refine g_bipush (pc := 71) (v := 66) hk dX2_seen_71 rfl ?_
          refine g_iconst (pc := 73) (v := 2) hk dX2_seen_73 rfl ?_
          refine g_aload_n (pc := 74) hk dX2_seen_74 rfl ?_
          refine t_getR (pc := 75) hk hK tr_0 tf_0 dX2_seen_75 ?_
          refine g_iconst (pc := 78) (v := 4) hk dX2_seen_78 rfl ?_
          refine t_ialdC (pc := 79) (j := 4) hk hK ta_0 rfl rfl dX2_seen_79 ?_
          refine g_imul (pc := 80) hk dX2_seen_80 ?_
          refine g_iadd (pc := 81) hk dX2_seen_81 ?_
          refine g_iconst (pc := 82) (v := 1) hk dX2_seen_82 rfl ?_
          refine g_iadd (pc := 83) hk dX2_seen_83 ?_
          refine g_iload_n (pc := 84) hk dX2_seen_84 rfl ?_
          refine t_iast (pc := 85) hk hK ta_0 dX2_seen_85 (fun τ6 => ?_)
          refine g_aload_n (pc := 86) hk dX2_seen_86 rfl ?_
          refine t_getR (pc := 87) hk hK tr_0 tf_0 dX2_seen_87 ?_
          refine g_iconst (pc := 90) (v := 4) hk dX2_seen_90 rfl ?_
          refine g_dup2 (pc := 91) hk dX2_seen_91 rfl rfl ?_
          refine t_ialdC (pc := 92) (j := 4) hk hK ta_0 rfl rfl dX2_seen_92 ?_
          refine g_iconst (pc := 93) (v := 1) hk dX2_seen_93 rfl ?_
          refine g_iadd (pc := 94) hk dX2_seen_94 ?_
          refine t_iastC (pc := 95) (j := 4) hk hK ta_0 rfl rfl dX2_seen_95 (fun τ7 => ?_)
          refine g_aload_n (pc := 96) hk dX2_seen_96 rfl ?_
          refine t_getR (pc := 97) hk hK tr_0 tf_0 dX2_seen_97 ?_
          refine g_iconst (pc := 100) (v := 4) hk dX2_seen_100 rfl ?_
          refine t_ialdC (pc := 101) (j := 4) hk hK ta_0 rfl rfl dX2_seen_101 ?_
          exact t_iret (pc := 102) hk rfl dX2_seen_102
        · refine g_bipush (pc := 47) (v := (-2)) hk dX2_seen_47 rfl ?_
          exact t_iret (pc := 49) hk rfl dX2_seen_49
  · refine g_aload_n (pc := 5) hk dX2_seen_5 rfl ?_
    refine t_getR (pc := 6) hk hK tr_0 tf_0 dX2_seen_6 ?_
    refine g_iconst (pc := 9) (v := 4) hk dX2_seen_9 rfl ?_
    refine g_iconst (pc := 10) (v := 0) hk dX2_seen_10 rfl ?_
    refine t_iastC (pc := 11) (j := 4) hk hK ta_0 rfl rfl dX2_seen_11 (fun τ8 => ?_)
    refine g_iconst (pc := 12) (v := 0) hk dX2_seen_12 rfl ?_
    exact t_iret (pc := 13) hk rfl dX2_seen_13
def rm_digitOf : Room := { frames := 0, cells := 0, slots := 0, locals := 0 }
theorem hs_digitOf : yX2_digitOf.cls ≠ "java/lang/invoke/MethodHandle" ∧ yX2_digitOf.cls ≠ "java/lang/invoke/VarHandle" ∧ (parseMethodDescriptor yX2_digitOf.desc).map (fun d => d.parameters.length) = some 3 := by decide +kernel
theorem tm_digitOf_l5 {K : KT} {Γ : TG} (hk : KOK K cX2_digitOf 5 RX2 rm_digitOf (some .int)) (hK : va_K Γ.1 tcl (ttys Γ) (kS K)) (v1 : Int32) (v2 : Int32)  (τ : TS) : ∀ (n : Nat) (v3 : Int32) (v4 : Int32), GGo K (tQ K Γ (fun r : Int32 => (some (Value.int r), τ))) (T_digitOf_l5 v1 v2 n v3 v4) 5 (TI Γ (kS K) τ) 0 0 5 [(1, .int v1), (2, .int v2), (3, .int v3), (4, .int v4)] [] := by
  intro n
  induction n with
  | zero =>
    intro v3 v4
    unfold T_digitOf_l5
    exact g_none
  | succ n ih =>
    intro v3 v4
    unfold T_digitOf_l5
    refine g_iload (pc := 5) hk dX2_digitOf_5 rfl ?_
    refine g_iload_n (pc := 7) hk dX2_digitOf_7 rfl ?_
    refine g_icmp_ge (pc := 8) (tgt := 21) hk dX2_digitOf_8 rfl ?_ ?_
    · refine g_iload_n (pc := 21) hk dX2_digitOf_21 rfl ?_
      refine g_iload_n (pc := 22) hk dX2_digitOf_22 rfl ?_
      refine g_iremG (pc := 23) hk dX2_digitOf_23 (fun _ => ?_)
      exact t_iret (pc := 24) hk rfl dX2_digitOf_24
    · refine g_iload_n (pc := 11) hk dX2_digitOf_11 rfl ?_
      refine g_iload_n (pc := 12) hk dX2_digitOf_12 rfl ?_
      refine g_idivG (pc := 13) hk dX2_digitOf_13 (fun _ => ?_)
      refine g_istore_nN (pc := 14) (i := 3) (ls' := fun x1 => [(3, .int x1), (1, .int v1), (2, .int v2), (4, .int v4)]) hk dX2_digitOf_14 rfl (by decide) (fun _ => rfl) (fun x1 => ?_)
      refine g_iincN (pc := 15) (v := 1) (ls' := fun x2 => [(4, .int x2), (3, .int x1), (1, .int v1), (2, .int v2)]) hk dX2_digitOf_15 rfl rfl (by decide) (fun _ => rfl) (fun x2 => ?_)
      refine g_goto (pc := 18) (tgt := 5) hk dX2_digitOf_18 rfl ?_
      refine g_sub (ls' := [(1, .int v1), (2, .int v2), (3, .int x1), (4, .int x2)]) [2, 3, 1, 0] rfl ?_
      exact ih x1 x2
theorem tm_digitOf (Γ : TG) (τ : TS) (v0 : Int32) (v1 : Int32) (v2 : Int32)  (r : Int32) (h : T_digitOf v0 v1 v2 = some r) : TMet Γ yX2_digitOf cX2_digitOf 5 (some .int) rm_digitOf [.int v0, .int v1, .int v2] τ (some (.int r)) τ := by
  refine t_met (view := (fun r : Int32 => (some (Value.int r), τ))) rfl rfl (ls0 := [(0, .int v0), (1, .int v1), (2, .int v2)]) rfl (fun K hk hK => ?_) r h
  unfold T_digitOf
  refine g_iload_n (pc := 0) hk dX2_digitOf_0 rfl ?_
  refine g_istore_n (pc := 1) (i := 3) (ls' := [(3, .int v0), (0, .int v0), (1, .int v1), (2, .int v2)]) hk dX2_digitOf_1 rfl (by decide) rfl ?_
  refine g_iconst (pc := 2) (v := 0) hk dX2_digitOf_2 rfl ?_
  refine g_istore (pc := 3) (i := 4) (ls' := [(4, .int 0), (3, .int v0), (0, .int v0), (1, .int v1), (2, .int v2)]) hk dX2_digitOf_3 (by decide) rfl ?_
  refine g_sub (ls' := [(1, .int v1), (2, .int v2), (3, .int v0), (4, .int 0)]) [3, 4, 1, 0] rfl ?_
  exact tm_digitOf_l5 hk hK v1 v2 τ FU v0 0
def rm_isSeenBy : Room := { frames := 1, cells := 0, slots := 0, locals := 24 }
theorem hv_isSeenBy : yX2_isSeenBy.cls = RX2 ∧ yX2_isSeenBy.cls ≠ "java/lang/invoke/MethodHandle" ∧ yX2_isSeenBy.cls ≠ "java/lang/invoke/VarHandle" ∧ (parseMethodDescriptor yX2_isSeenBy.desc).map (fun d => d.parameters.length) = some 2 := by decide +kernel
theorem tm_isSeenBy_j71 {K : KT} {Γ : TG} (hk : KOK K cX2_isSeenBy 7 RX2 rm_isSeenBy (some .boolean)) (hK : va_K Γ.1 tcl (ttys Γ) (kS K)) (τ : TS) (v1 : Int32) (v2 : Int32) (v3 : Int32) (v4 : Int32) (v6 : Int32) (s0 : Int32) (s1 : Int32)  (k2 : Int32 → Option (Int32)) (k40 : Int32 → Int32 → Option (Int32)) (hk2 : ∀ (v3 : Int32), GGo K (tQ K Γ (fun r : Int32 => (some (Value.int r), τ))) (k2 v3) 7 (TI Γ (kS K) τ) 0 0 2 [(0, .ref Γ.2.1), (1, .int v1), (2, .int v2), (3, .int v3)] []) (hk40 : ∀ (v5 : Int32) (v6 : Int32), GGo K (tQ K Γ (fun r : Int32 => (some (Value.int r), τ))) (k40 v5 v6) 7 (TI Γ (kS K) τ) 0 0 40 [(0, .ref Γ.2.1), (1, .int v1), (2, .int v2), (3, .int v3), (4, .int v4), (5, .int v5), (6, .int v6)] []) : GGo K (tQ K Γ (fun r : Int32 => (some (Value.int r), τ))) (T_isSeenBy_j71 k2 k40 τ v1 v2 v3 v4 v6 s0 s1) 7 (TI Γ (kS K) τ) 0 0 71 [(0, .ref Γ.2.1), (1, .int v1), (2, .int v2), (3, .int v3), (4, .int v4), (6, .int v6)] [.int s1, .int s0] := by
  unfold T_isSeenBy_j71
  refine g_ior (pc := 71) hk dX2_isSeenBy_71 ?_
  refine g_istoreN (pc := 72) (i := 5) (ls' := fun x5 => [(5, .int x5), (0, .ref Γ.2.1), (1, .int v1), (2, .int v2), (3, .int v3), (4, .int v4), (6, .int v6)]) hk dX2_isSeenBy_72 (by decide) (fun _ => rfl) (fun x5 => ?_)
  refine g_iincN (pc := 74) (v := 1) (ls' := fun x6 => [(6, .int x6), (5, .int x5), (0, .ref Γ.2.1), (1, .int v1), (2, .int v2), (3, .int v3), (4, .int v4)]) hk dX2_isSeenBy_74 rfl rfl (by decide) (fun _ => rfl) (fun x6 => ?_)
  refine g_goto (pc := 77) (tgt := 40) hk dX2_isSeenBy_77 rfl ?_
  refine g_sub (ls' := [(0, .ref Γ.2.1), (1, .int v1), (2, .int v2), (3, .int v3), (4, .int v4), (5, .int x5), (6, .int x6)]) [2, 3, 4, 5, 6, 1, 0] rfl ?_
  exact hk40 x5 x6
theorem tm_isSeenBy_l40 {K : KT} {Γ : TG} (hk : KOK K cX2_isSeenBy 7 RX2 rm_isSeenBy (some .boolean)) (hK : va_K Γ.1 tcl (ttys Γ) (kS K)) (τ : TS) (v1 : Int32) (v2 : Int32) (v3 : Int32) (v4 : Int32)  (k2 : Int32 → Option (Int32)) (hk2 : ∀ (v3 : Int32), GGo K (tQ K Γ (fun r : Int32 => (some (Value.int r), τ))) (k2 v3) 7 (TI Γ (kS K) τ) 0 0 2 [(0, .ref Γ.2.1), (1, .int v1), (2, .int v2), (3, .int v3)] []) : ∀ (n : Nat) (v5 : Int32) (v6 : Int32), GGo K (tQ K Γ (fun r : Int32 => (some (Value.int r), τ))) (T_isSeenBy_l40 k2 τ v1 v2 v3 v4 n v5 v6) 7 (TI Γ (kS K) τ) 0 0 40 [(0, .ref Γ.2.1), (1, .int v1), (2, .int v2), (3, .int v3), (4, .int v4), (5, .int v5), (6, .int v6)] [] := by
  intro n
  induction n with
  | zero =>
    intro v5 v6
    unfold T_isSeenBy_l40
    exact g_none
  | succ n ih =>
    intro v5 v6
    unfold T_isSeenBy_l40
    refine g_iload (pc := 40) hk dX2_isSeenBy_40 rfl ?_
    refine g_iload_n (pc := 42) hk dX2_isSeenBy_42 rfl ?_
    refine g_icmp_ge (pc := 43) (tgt := 80) hk dX2_isSeenBy_43 rfl ?_ ?_
    · refine g_iload (pc := 80) hk dX2_isSeenBy_80 rfl ?_
      refine g_aload_n (pc := 82) hk dX2_isSeenBy_82 rfl ?_
      refine t_getR (pc := 83) hk hK tr_0 tf_0 dX2_isSeenBy_83 ?_
      refine g_bipush (pc := 86) (v := 66) hk dX2_isSeenBy_86 rfl ?_
      refine g_iconst (pc := 88) (v := 2) hk dX2_isSeenBy_88 rfl ?_
      refine g_iload_n (pc := 89) hk dX2_isSeenBy_89 rfl ?_
      refine g_imul (pc := 90) hk dX2_isSeenBy_90 ?_
      refine g_iadd (pc := 91) hk dX2_isSeenBy_91 ?_
      refine g_iconst (pc := 92) (v := 1) hk dX2_isSeenBy_92 rfl ?_
      refine g_iadd (pc := 93) hk dX2_isSeenBy_93 ?_
      refine t_iald (pc := 94) hk hK ta_0 dX2_isSeenBy_94 ?_
      refine g_icmp_eq (pc := 95) (tgt := 100) hk dX2_isSeenBy_95 rfl ?_ ?_
      · refine g_iincN (pc := 100) (v := 1) (ls' := fun x2 => [(3, .int x2), (0, .ref Γ.2.1), (1, .int v1), (2, .int v2), (4, .int v4), (5, .int v5), (6, .int v6)]) hk dX2_isSeenBy_100 rfl rfl (by decide) (fun _ => rfl) (fun x2 => ?_)
        refine g_goto (pc := 103) (tgt := 2) hk dX2_isSeenBy_103 rfl ?_
        refine g_sub (ls' := [(0, .ref Γ.2.1), (1, .int v1), (2, .int v2), (3, .int x2)]) [1, 2, 3, 0] rfl ?_
        exact hk2 x2
      · refine g_iconst (pc := 98) (v := 0) hk dX2_isSeenBy_98 rfl ?_
        exact t_zret (pc := 99) hk rfl rfl dX2_isSeenBy_99
    · refine g_iload (pc := 46) hk dX2_isSeenBy_46 rfl ?_
      refine g_iload (pc := 48) hk dX2_isSeenBy_48 rfl ?_
      refine g_iload (pc := 50) hk dX2_isSeenBy_50 rfl ?_
      refine g_ob1 (fun r3 h4 => ?_)
      refine t_callS (pc := 52) hk hK [.int v4, .int v6] [.int v5] (tm_has Γ τ v4 v6 r3 h4) (lw_S q1565 q1566 q128 q1567) hs_has rfl rfl rfl dX2_isSeenBy_52 rfl rfl ?_
      refine g_if_eq (pc := 55) (tgt := 70) hk dX2_isSeenBy_55 rfl ?_ ?_
      · refine g_iconst (pc := 70) (v := 0) hk dX2_isSeenBy_70 rfl ?_
        refine g_sub (ls' := [(0, .ref Γ.2.1), (1, .int v1), (2, .int v2), (3, .int v3), (4, .int v4), (6, .int v6)]) [0, 1, 2, 3, 4, 6] rfl ?_
        exact tm_isSeenBy_j71 hk hK τ v1 v2 v3 v4 v6 v5 0 k2 (T_isSeenBy_l40 k2 τ v1 v2 v3 v4 n) hk2 ih
      · refine g_iconst (pc := 58) (v := 1) hk dX2_isSeenBy_58 rfl ?_
        refine g_iload_n (pc := 59) hk dX2_isSeenBy_59 rfl ?_
        refine g_iload_n (pc := 60) hk dX2_isSeenBy_60 rfl ?_
        refine g_iload (pc := 61) hk dX2_isSeenBy_61 rfl ?_
        refine g_ob1 (fun r7 h8 => ?_)
        refine t_callS (pc := 63) hk hK [.int v1, .int v2, .int v6] [.int 1, .int v5] (tm_digitOf Γ τ v1 v2 v6 r7 h8) (lw_S q1966 q1967 q128 q1968) hs_digitOf rfl rfl rfl dX2_isSeenBy_63 rfl rfl ?_
        refine g_ishl (pc := 66) hk dX2_isSeenBy_66 ?_
        refine g_goto (pc := 67) (tgt := 71) hk dX2_isSeenBy_67 rfl ?_
        refine g_sub (ls' := [(0, .ref Γ.2.1), (1, .int v1), (2, .int v2), (3, .int v3), (4, .int v4), (6, .int v6)]) [0, 1, 2, 3, 4, 6] rfl ?_
        exact tm_isSeenBy_j71 hk hK τ v1 v2 v3 v4 v6 v5 (i_shl 1 r7) k2 (T_isSeenBy_l40 k2 τ v1 v2 v3 v4 n) hk2 ih
theorem tm_isSeenBy_l2 {K : KT} {Γ : TG} (hk : KOK K cX2_isSeenBy 7 RX2 rm_isSeenBy (some .boolean)) (hK : va_K Γ.1 tcl (ttys Γ) (kS K)) (τ : TS) (v1 : Int32) (v2 : Int32)   : ∀ (n : Nat) (v3 : Int32), GGo K (tQ K Γ (fun r : Int32 => (some (Value.int r), τ))) (T_isSeenBy_l2 τ v1 v2 n v3) 7 (TI Γ (kS K) τ) 0 0 2 [(0, .ref Γ.2.1), (1, .int v1), (2, .int v2), (3, .int v3)] [] := by
  intro n
  induction n with
  | zero =>
    intro v3
    unfold T_isSeenBy_l2
    exact g_none
  | succ n ih =>
    intro v3
    unfold T_isSeenBy_l2
    refine g_iload_n (pc := 2) hk dX2_isSeenBy_2 rfl ?_
    refine g_aload_n (pc := 3) hk dX2_isSeenBy_3 rfl ?_
    refine t_getR (pc := 4) hk hK tr_0 tf_0 dX2_isSeenBy_4 ?_
    refine g_iconst (pc := 7) (v := 4) hk dX2_isSeenBy_7 rfl ?_
    refine t_ialdC (pc := 8) (j := 4) hk hK ta_0 rfl rfl dX2_isSeenBy_8 ?_
    refine g_icmp_ge (pc := 9) (tgt := 106) hk dX2_isSeenBy_9 rfl ?_ ?_
    · refine g_iconst (pc := 106) (v := 1) hk dX2_isSeenBy_106 rfl ?_
      exact t_zret (pc := 107) hk rfl rfl dX2_isSeenBy_107
    · refine g_aload_n (pc := 12) hk dX2_isSeenBy_12 rfl ?_
      refine t_getR (pc := 13) hk hK tr_0 tf_0 dX2_isSeenBy_13 ?_
      refine g_bipush (pc := 16) (v := 66) hk dX2_isSeenBy_16 rfl ?_
      refine g_iconst (pc := 18) (v := 2) hk dX2_isSeenBy_18 rfl ?_
      refine g_iload_n (pc := 19) hk dX2_isSeenBy_19 rfl ?_
      refine g_imul (pc := 20) hk dX2_isSeenBy_20 ?_
      refine g_iadd (pc := 21) hk dX2_isSeenBy_21 ?_
      refine t_iald (pc := 22) hk hK ta_0 dX2_isSeenBy_22 ?_
      refine g_istoreN (pc := 23) (i := 4) (ls' := fun x1 => [(4, .int x1), (0, .ref Γ.2.1), (1, .int v1), (2, .int v2), (3, .int v3)]) hk dX2_isSeenBy_23 (by decide) (fun _ => rfl) (fun x1 => ?_)
      refine g_iconst (pc := 25) (v := 0) hk dX2_isSeenBy_25 rfl ?_
      refine g_istore (pc := 26) (i := 5) (ls' := [(5, .int 0), (4, .int x1), (0, .ref Γ.2.1), (1, .int v1), (2, .int v2), (3, .int v3)]) hk dX2_isSeenBy_26 (by decide) rfl ?_
      refine g_iload (pc := 28) hk dX2_isSeenBy_28 rfl ?_
      refine g_iload_n (pc := 30) hk dX2_isSeenBy_30 rfl ?_
      refine g_ishr (pc := 31) hk dX2_isSeenBy_31 ?_
      refine g_if_eq (pc := 32) (tgt := 37) hk dX2_isSeenBy_32 rfl ?_ ?_
      · refine g_iconst (pc := 37) (v := 0) hk dX2_isSeenBy_37 rfl ?_
        refine g_istore (pc := 38) (i := 6) (ls' := [(6, .int 0), (5, .int 0), (4, .int x1), (0, .ref Γ.2.1), (1, .int v1), (2, .int v2), (3, .int v3)]) hk dX2_isSeenBy_38 (by decide) rfl ?_
        refine g_sub (ls' := [(0, .ref Γ.2.1), (1, .int v1), (2, .int v2), (3, .int v3), (4, .int x1), (5, .int 0), (6, .int 0)]) [3, 4, 5, 6, 2, 1, 0] rfl ?_
        exact tm_isSeenBy_l40 hk hK τ v1 v2 v3 x1 (T_isSeenBy_l2 τ v1 v2 n) ih FU 0 0
      · refine g_iconst (pc := 35) (v := 0) hk dX2_isSeenBy_35 rfl ?_
        exact t_zret (pc := 36) hk rfl rfl dX2_isSeenBy_36
theorem tm_isSeenBy (Γ : TG) (τ : TS) (v1 : Int32) (v2 : Int32)  (r : Int32) (h : T_isSeenBy τ v1 v2 = some r) : TMet Γ yX2_isSeenBy cX2_isSeenBy 7 (some .boolean) rm_isSeenBy [.ref Γ.2.1, .int v1, .int v2] τ (some (.int r)) τ := by
  refine t_met (view := (fun r : Int32 => (some (Value.int r), τ))) rfl rfl (ls0 := [(0, .ref Γ.2.1), (1, .int v1), (2, .int v2)]) rfl (fun K hk hK => ?_) r h
  unfold T_isSeenBy
  refine g_iconst (pc := 0) (v := 0) hk dX2_isSeenBy_0 rfl ?_
  refine g_istore_n (pc := 1) (i := 3) (ls' := [(3, .int 0), (0, .ref Γ.2.1), (1, .int v1), (2, .int v2)]) hk dX2_isSeenBy_1 rfl (by decide) rfl ?_
  refine g_sub (ls' := [(0, .ref Γ.2.1), (1, .int v1), (2, .int v2), (3, .int 0)]) [1, 2, 3, 0] rfl ?_
  exact tm_isSeenBy_l2 hk hK τ v1 v2 FU 0
def rm_layWays : Room := { frames := 2, cells := 0, slots := 0, locals := 50 }
theorem hv_layWays : yX2_layWays.cls = RX2 ∧ yX2_layWays.cls ≠ "java/lang/invoke/MethodHandle" ∧ yX2_layWays.cls ≠ "java/lang/invoke/VarHandle" ∧ (parseMethodDescriptor yX2_layWays.desc).map (fun d => d.parameters.length) = some 1 := by decide +kernel
theorem tm_layWays_j107 {K : KT} {Γ : TG} (hk : KOK K cX2_layWays 5 RX2 rm_layWays none) (hK : va_K Γ.1 tcl (ttys Γ) (kS K)) (τ : TS) (v1 : Int32) (v2 : Int32) (v3 : Int32)  (k46 : TS → Int32 → Option (TS)) (hk46 : ∀ (τ : TS) (v3 : Int32), GGo K (tQ K Γ (fun r : TS => ((none : Option Value), r))) (k46 τ v3) 5 (TI Γ (kS K) τ) 0 0 46 [(0, .ref Γ.2.1), (1, .int v1), (2, .int v2), (3, .int v3)] []) : GGo K (tQ K Γ (fun r : TS => ((none : Option Value), r))) (T_layWays_j107 k46 τ v1 v2 v3) 5 (TI Γ (kS K) τ) 0 0 107 [(0, .ref Γ.2.1), (1, .int v1), (2, .int v2), (3, .int v3)] [] := by
  unfold T_layWays_j107
  refine g_iincN (pc := 107) (v := 1) (ls' := fun x5 => [(3, .int x5), (0, .ref Γ.2.1), (1, .int v1), (2, .int v2)]) hk dX2_layWays_107 rfl rfl (by decide) (fun _ => rfl) (fun x5 => ?_)
  refine g_goto (pc := 110) (tgt := 46) hk dX2_layWays_110 rfl ?_
  refine g_sub (ls' := [(0, .ref Γ.2.1), (1, .int v1), (2, .int v2), (3, .int x5)]) [1, 2, 3, 0] rfl ?_
  exact hk46 τ x5
theorem tm_layWays_l76 {K : KT} {Γ : TG} (hk : KOK K cX2_layWays 5 RX2 rm_layWays none) (hK : va_K Γ.1 tcl (ttys Γ) (kS K)) (v1 : Int32) (v2 : Int32) (v3 : Int32)  (k46 : TS → Int32 → Option (TS)) (hk46 : ∀ (τ : TS) (v3 : Int32), GGo K (tQ K Γ (fun r : TS => ((none : Option Value), r))) (k46 τ v3) 5 (TI Γ (kS K) τ) 0 0 46 [(0, .ref Γ.2.1), (1, .int v1), (2, .int v2), (3, .int v3)] []) : ∀ (n : Nat) (τ : TS) (v4 : Int32), GGo K (tQ K Γ (fun r : TS => ((none : Option Value), r))) (T_layWays_l76 k46 v1 v2 v3 n τ v4) 5 (TI Γ (kS K) τ) 0 0 76 [(0, .ref Γ.2.1), (1, .int v1), (2, .int v2), (3, .int v3), (4, .int v4)] [] := by
  intro n
  induction n with
  | zero =>
    intro τ v4
    unfold T_layWays_l76
    exact g_none
  | succ n ih =>
    intro τ v4
    unfold T_layWays_l76
    refine g_iload (pc := 76) hk dX2_layWays_76 rfl ?_
    refine g_iload_n (pc := 78) hk dX2_layWays_78 rfl ?_
    refine g_icmp_ge (pc := 79) (tgt := 107) hk dX2_layWays_79 rfl ?_ ?_
    · refine g_sub (ls' := [(0, .ref Γ.2.1), (1, .int v1), (2, .int v2), (3, .int v3)]) [0, 1, 2, 3] rfl ?_
      exact tm_layWays_j107 hk hK τ v1 v2 v3 k46 hk46
    · refine g_aload_n (pc := 82) hk dX2_layWays_82 rfl ?_
      refine t_getR (pc := 83) hk hK tr_28 tf_28 dX2_layWays_83 ?_
      refine g_iload (pc := 86) hk dX2_layWays_86 rfl ?_
      refine g_dup2 (pc := 88) hk dX2_layWays_88 rfl rfl ?_
      refine t_iald (pc := 89) hk hK ta_28 dX2_layWays_89 ?_
      refine g_iconst (pc := 90) (v := 1) hk dX2_layWays_90 rfl ?_
      refine g_iload_n (pc := 91) hk dX2_layWays_91 rfl ?_
      refine g_iload_n (pc := 92) hk dX2_layWays_92 rfl ?_
      refine g_iload (pc := 93) hk dX2_layWays_93 rfl ?_
      refine g_ob1 (fun r6 h7 => ?_)
      refine t_callS (pc := 95) hk hK [.int v3, .int v1, .int v4] [.int 1, .int (tA τ 28 v4.toNatClampNeg), .int v4, .ref (Γ.2.2.1 28)] (tm_digitOf Γ τ v3 v1 v4 r6 h7) (lw_S q1966 q1967 q128 q1968) hs_digitOf rfl rfl rfl dX2_layWays_95 rfl rfl ?_
      refine g_ishl (pc := 98) hk dX2_layWays_98 ?_
      refine g_ior (pc := 99) hk dX2_layWays_99 ?_
      refine t_iast (pc := 100) hk hK ta_28 dX2_layWays_100 (fun τ8 => ?_)
      refine g_iincN (pc := 101) (v := 1) (ls' := fun x9 => [(4, .int x9), (0, .ref Γ.2.1), (1, .int v1), (2, .int v2), (3, .int v3)]) hk dX2_layWays_101 rfl rfl (by decide) (fun _ => rfl) (fun x9 => ?_)
      refine g_goto (pc := 104) (tgt := 76) hk dX2_layWays_104 rfl ?_
      refine g_sub (ls' := [(0, .ref Γ.2.1), (1, .int v1), (2, .int v2), (3, .int v3), (4, .int x9)]) [1, 2, 3, 4, 0] rfl ?_
      exact ih τ8 x9
theorem tm_layWays_l46 {K : KT} {Γ : TG} (hk : KOK K cX2_layWays 5 RX2 rm_layWays none) (hK : va_K Γ.1 tcl (ttys Γ) (kS K)) (v1 : Int32) (v2 : Int32)   : ∀ (n : Nat) (τ : TS) (v3 : Int32), GGo K (tQ K Γ (fun r : TS => ((none : Option Value), r))) (T_layWays_l46 v1 v2 n τ v3) 5 (TI Γ (kS K) τ) 0 0 46 [(0, .ref Γ.2.1), (1, .int v1), (2, .int v2), (3, .int v3)] [] := by
  intro n
  induction n with
  | zero =>
    intro τ v3
    unfold T_layWays_l46
    exact g_none
  | succ n ih =>
    intro τ v3
    unfold T_layWays_l46
    refine g_iload_n (pc := 46) hk dX2_layWays_46 rfl ?_
    refine g_iload_n (pc := 47) hk dX2_layWays_47 rfl ?_
    refine g_icmp_ge (pc := 48) (tgt := 113) hk dX2_layWays_48 rfl ?_ ?_
    · exact t_vret (pc := 113) hk rfl dX2_layWays_113
    · refine g_aload_n (pc := 51) hk dX2_layWays_51 rfl ?_
      refine g_iload_n (pc := 52) hk dX2_layWays_52 rfl ?_
      refine g_iload_n (pc := 53) hk dX2_layWays_53 rfl ?_
      refine g_ob1 (fun r2 h3 => ?_)
      refine t_callV (pc := 54) hk hK [.int v3, .int v1] [] (tm_isSeenBy Γ τ v3 v1 r2 h3) (lw_V q1962 q1964 qs119 q128 q1965) hv_isSeenBy rfl rfl rfl dX2_layWays_54 rfl rfl ?_
      refine g_if_ne (pc := 57) (tgt := 63) hk dX2_layWays_57 rfl ?_ ?_
      · refine g_aload_n (pc := 63) hk dX2_layWays_63 rfl ?_
        refine g_dup (pc := 64) hk dX2_layWays_64 rfl ?_
        refine t_getI (pc := 65) hk hK ti_27 tf_27 dX2_layWays_65 ?_
        refine g_iconst (pc := 68) (v := 1) hk dX2_layWays_68 rfl ?_
        refine g_iadd (pc := 69) hk dX2_layWays_69 ?_
        refine t_putI (pc := 70) hk hK ti_27 tf_27 (Or.inl rfl) rfl dX2_layWays_70 (fun τ4 => ?_)
        refine g_iconst (pc := 73) (v := 0) hk dX2_layWays_73 rfl ?_
        refine g_istore (pc := 74) (i := 4) (ls' := [(4, .int 0), (0, .ref Γ.2.1), (1, .int v1), (2, .int v2), (3, .int v3)]) hk dX2_layWays_74 (by decide) rfl ?_
        refine g_sub (ls' := [(0, .ref Γ.2.1), (1, .int v1), (2, .int v2), (3, .int v3), (4, .int 0)]) [1, 2, 3, 4, 0] rfl ?_
        exact tm_layWays_l76 hk hK v1 v2 v3 (T_layWays_l46 v1 v2 n) ih FU τ4 0
      · refine g_goto (pc := 60) (tgt := 107) hk dX2_layWays_60 rfl ?_
        exact tm_layWays_j107 hk hK τ v1 v2 v3 (T_layWays_l46 v1 v2 n) ih
theorem tm_layWays_l26 {K : KT} {Γ : TG} (hk : KOK K cX2_layWays 5 RX2 rm_layWays none) (hK : va_K Γ.1 tcl (ttys Γ) (kS K)) (v1 : Int32) (v2 : Int32)   : ∀ (n : Nat) (τ : TS) (v3 : Int32), GGo K (tQ K Γ (fun r : TS => ((none : Option Value), r))) (T_layWays_l26 v1 v2 n τ v3) 5 (TI Γ (kS K) τ) 0 0 26 [(0, .ref Γ.2.1), (1, .int v1), (2, .int v2), (3, .int v3)] [] := by
  intro n
  induction n with
  | zero =>
    intro τ v3
    unfold T_layWays_l26
    exact g_none
  | succ n ih =>
    intro τ v3
    unfold T_layWays_l26
    refine g_iload_n (pc := 26) hk dX2_layWays_26 rfl ?_
    refine g_iconst (pc := 27) (v := 5) hk dX2_layWays_27 rfl ?_
    refine g_icmp_ge (pc := 28) (tgt := 44) hk dX2_layWays_28 rfl ?_ ?_
    · refine g_iconst (pc := 44) (v := 0) hk dX2_layWays_44 rfl ?_
      refine g_istore_n (pc := 45) (i := 3) (ls' := [(3, .int 0), (0, .ref Γ.2.1), (1, .int v1), (2, .int v2)]) hk dX2_layWays_45 rfl (by decide) rfl ?_
      refine g_sub (ls' := [(0, .ref Γ.2.1), (1, .int v1), (2, .int v2), (3, .int 0)]) [1, 2, 3, 0] rfl ?_
      exact tm_layWays_l46 hk hK v1 v2 FU τ 0
    · refine g_aload_n (pc := 31) hk dX2_layWays_31 rfl ?_
      refine t_getR (pc := 32) hk hK tr_28 tf_28 dX2_layWays_32 ?_
      refine g_iload_n (pc := 35) hk dX2_layWays_35 rfl ?_
      refine g_iconst (pc := 36) (v := 0) hk dX2_layWays_36 rfl ?_
      refine t_iast (pc := 37) hk hK ta_28 dX2_layWays_37 (fun τ10 => ?_)
      refine g_iincN (pc := 38) (v := 1) (ls' := fun x11 => [(3, .int x11), (0, .ref Γ.2.1), (1, .int v1), (2, .int v2)]) hk dX2_layWays_38 rfl rfl (by decide) (fun _ => rfl) (fun x11 => ?_)
      refine g_goto (pc := 41) (tgt := 26) hk dX2_layWays_41 rfl ?_
      refine g_sub (ls' := [(0, .ref Γ.2.1), (1, .int v1), (2, .int v2), (3, .int x11)]) [1, 2, 3, 0] rfl ?_
      exact ih τ10 x11
theorem tm_layWays_l4 {K : KT} {Γ : TG} (hk : KOK K cX2_layWays 5 RX2 rm_layWays none) (hK : va_K Γ.1 tcl (ttys Γ) (kS K)) (τ : TS) (v1 : Int32)   : ∀ (n : Nat) (v2 : Int32) (v3 : Int32), GGo K (tQ K Γ (fun r : TS => ((none : Option Value), r))) (T_layWays_l4 τ v1 n v2 v3) 5 (TI Γ (kS K) τ) 0 0 4 [(0, .ref Γ.2.1), (1, .int v1), (2, .int v2), (3, .int v3)] [] := by
  intro n
  induction n with
  | zero =>
    intro v2 v3
    unfold T_layWays_l4
    exact g_none
  | succ n ih =>
    intro v2 v3
    unfold T_layWays_l4
    refine g_iload_n (pc := 4) hk dX2_layWays_4 rfl ?_
    refine g_iload_n (pc := 5) hk dX2_layWays_5 rfl ?_
    refine g_icmp_ge (pc := 6) (tgt := 19) hk dX2_layWays_6 rfl ?_ ?_
    · refine g_aload_n (pc := 19) hk dX2_layWays_19 rfl ?_
      refine g_iconst (pc := 20) (v := 0) hk dX2_layWays_20 rfl ?_
      refine t_putI (pc := 21) hk hK ti_27 tf_27 (Or.inl rfl) rfl dX2_layWays_21 (fun τ1 => ?_)
      refine g_iconst (pc := 24) (v := 0) hk dX2_layWays_24 rfl ?_
      refine g_istore_n (pc := 25) (i := 3) (ls' := [(3, .int 0), (0, .ref Γ.2.1), (1, .int v1), (2, .int v2)]) hk dX2_layWays_25 rfl (by decide) rfl ?_
      refine g_sub (ls' := [(0, .ref Γ.2.1), (1, .int v1), (2, .int v2), (3, .int 0)]) [1, 2, 3, 0] rfl ?_
      exact tm_layWays_l26 hk hK v1 v2 FU τ1 0
    · refine g_iload_n (pc := 9) hk dX2_layWays_9 rfl ?_
      refine g_iload_n (pc := 10) hk dX2_layWays_10 rfl ?_
      refine g_imul (pc := 11) hk dX2_layWays_11 ?_
      refine g_istore_nN (pc := 12) (i := 2) (ls' := fun x12 => [(2, .int x12), (0, .ref Γ.2.1), (1, .int v1), (3, .int v3)]) hk dX2_layWays_12 rfl (by decide) (fun _ => rfl) (fun x12 => ?_)
      refine g_iincN (pc := 13) (v := 1) (ls' := fun x13 => [(3, .int x13), (2, .int x12), (0, .ref Γ.2.1), (1, .int v1)]) hk dX2_layWays_13 rfl rfl (by decide) (fun _ => rfl) (fun x13 => ?_)
      refine g_goto (pc := 16) (tgt := 4) hk dX2_layWays_16 rfl ?_
      refine g_sub (ls' := [(0, .ref Γ.2.1), (1, .int v1), (2, .int x12), (3, .int x13)]) [2, 3, 1, 0] rfl ?_
      exact ih x12 x13
theorem tm_layWays (Γ : TG) (τ : TS) (v1 : Int32)  (r : TS) (h : T_layWays τ v1 = some r) : TMet Γ yX2_layWays cX2_layWays 5 none rm_layWays [.ref Γ.2.1, .int v1] τ none r := by
  refine t_met (view := (fun r : TS => ((none : Option Value), r))) rfl rfl (ls0 := [(0, .ref Γ.2.1), (1, .int v1)]) rfl (fun K hk hK => ?_) r h
  unfold T_layWays
  refine g_iconst (pc := 0) (v := 1) hk dX2_layWays_0 rfl ?_
  refine g_istore_n (pc := 1) (i := 2) (ls' := [(2, .int 1), (0, .ref Γ.2.1), (1, .int v1)]) hk dX2_layWays_1 rfl (by decide) rfl ?_
  refine g_iconst (pc := 2) (v := 0) hk dX2_layWays_2 rfl ?_
  refine g_istore_n (pc := 3) (i := 3) (ls' := [(3, .int 0), (2, .int 1), (0, .ref Γ.2.1), (1, .int v1)]) hk dX2_layWays_3 rfl (by decide) rfl ?_
  refine g_sub (ls' := [(0, .ref Γ.2.1), (1, .int v1), (2, .int 1), (3, .int 0)]) [2, 3, 1, 0] rfl ?_
  exact tm_layWays_l4 hk hK τ v1 FU 1 0
def rm_fits : Room := { frames := 3, cells := 0, slots := 0, locals := 74 }
theorem hv_fits : yX2_fits.cls = RX2 ∧ yX2_fits.cls ≠ "java/lang/invoke/MethodHandle" ∧ yX2_fits.cls ≠ "java/lang/invoke/VarHandle" ∧ (parseMethodDescriptor yX2_fits.desc).map (fun d => d.parameters.length) = some 1 := by decide +kernel
theorem tm_fits (Γ : TG) (τ : TS) (v1 : Int32)  (r : Int32 × TS) (h : T_fits τ v1 = some r) : TMet Γ yX2_fits cX2_fits 2 (some .int) rm_fits [.ref Γ.2.1, .int v1] τ (some (.int r.1)) r.2 := by
  refine t_met (view := (fun r : Int32 × TS => (some (Value.int r.1), r.2))) rfl rfl (ls0 := [(0, .ref Γ.2.1), (1, .int v1)]) rfl (fun K hk hK => ?_) r h
  unfold T_fits
  refine g_iload_n (pc := 0) hk dX2_fits_0 rfl ?_
  refine g_iconst (pc := 1) (v := 1) hk dX2_fits_1 rfl ?_
  refine g_iconst (pc := 2) (v := 5) hk dX2_fits_2 rfl ?_
  refine g_ob1 (fun r1 h2 => ?_)
  refine t_callS (pc := 3) hk hK [.int v1, .int 1, .int 5] [] (tm_isIn Γ τ v1 1 5 r1 h2) (lw_S q1477 q1478 q128 q1479) hs_isIn rfl rfl rfl dX2_fits_3 rfl rfl ?_
  refine g_if_ne (pc := 6) (tgt := 11) hk dX2_fits_6 rfl ?_ ?_
  · refine g_aload_n (pc := 11) hk dX2_fits_11 rfl ?_
    refine g_iload_n (pc := 12) hk dX2_fits_12 rfl ?_
    refine g_ob1 (fun τ4 h3 => ?_)
    refine t_callV (pc := 13) hk hK [.int v1] [] (tm_layWays Γ τ v1 τ4 h3) (lw_V q1958 q1960 qs118 q128 q1961) hv_layWays rfl rfl rfl dX2_fits_13 rfl rfl ?_
    refine g_aload_n (pc := 16) hk dX2_fits_16 rfl ?_
    refine t_getI (pc := 17) hk hK ti_27 tf_27 dX2_fits_17 ?_
    exact t_iret (pc := 20) hk rfl dX2_fits_20
  · refine g_iconst (pc := 9) (v := (-1)) hk dX2_fits_9 rfl ?_
    exact t_iret (pc := 10) hk rfl dX2_fits_10
def rm_whose : Room := { frames := 3, cells := 0, slots := 0, locals := 74 }
theorem hv_whose : yX2_whose.cls = RX2 ∧ yX2_whose.cls ≠ "java/lang/invoke/MethodHandle" ∧ yX2_whose.cls ≠ "java/lang/invoke/VarHandle" ∧ (parseMethodDescriptor yX2_whose.desc).map (fun d => d.parameters.length) = some 2 := by decide +kernel
theorem tm_whose (Γ : TG) (τ : TS) (v1 : Int32) (v2 : Int32)  (r : Int32 × TS) (h : T_whose τ v1 v2 = some r) : TMet Γ yX2_whose cX2_whose 3 (some .int) rm_whose [.ref Γ.2.1, .int v1, .int v2] τ (some (.int r.1)) r.2 := by
  refine t_met (view := (fun r : Int32 × TS => (some (Value.int r.1), r.2))) rfl rfl (ls0 := [(0, .ref Γ.2.1), (1, .int v1), (2, .int v2)]) rfl (fun K hk hK => ?_) r h
  unfold T_whose
  refine g_iload_n (pc := 0) hk dX2_whose_0 rfl ?_
  refine g_iconst (pc := 1) (v := 1) hk dX2_whose_1 rfl ?_
  refine g_iconst (pc := 2) (v := 5) hk dX2_whose_2 rfl ?_
  refine g_ob1 (fun r1 h2 => ?_)
  refine t_callS (pc := 3) hk hK [.int v1, .int 1, .int 5] [] (tm_isIn Γ τ v1 1 5 r1 h2) (lw_S q1477 q1478 q128 q1479) hs_isIn rfl rfl rfl dX2_whose_3 rfl rfl ?_
  refine g_if_eq (pc := 6) (tgt := 20) hk dX2_whose_6 rfl ?_ ?_
  · refine g_iconst (pc := 20) (v := (-1)) hk dX2_whose_20 rfl ?_
    exact t_iret (pc := 21) hk rfl dX2_whose_21
  · refine g_iload_n (pc := 9) hk dX2_whose_9 rfl ?_
    refine g_iconst (pc := 10) (v := 0) hk dX2_whose_10 rfl ?_
    refine g_iload_n (pc := 11) hk dX2_whose_11 rfl ?_
    refine g_iconst (pc := 12) (v := 1) hk dX2_whose_12 rfl ?_
    refine g_isub (pc := 13) hk dX2_whose_13 ?_
    refine g_ob1 (fun r3 h4 => ?_)
    refine t_callS (pc := 14) hk hK [.int v2, .int 0, .int (v1 - 1)] [] (tm_isIn Γ τ v2 0 (v1 - 1) r3 h4) (lw_S q1477 q1478 q128 q1479) hs_isIn rfl rfl rfl dX2_whose_14 rfl rfl ?_
    refine g_if_ne (pc := 17) (tgt := 22) hk dX2_whose_17 rfl ?_ ?_
    · refine g_aload_n (pc := 22) hk dX2_whose_22 rfl ?_
      refine g_iload_n (pc := 23) hk dX2_whose_23 rfl ?_
      refine g_ob1 (fun τ6 h5 => ?_)
      refine t_callV (pc := 24) hk hK [.int v1] [] (tm_layWays Γ τ v1 τ6 h5) (lw_V q1958 q1960 qs118 q128 q1961) hv_layWays rfl rfl rfl dX2_whose_24 rfl rfl ?_
      refine g_aload_n (pc := 27) hk dX2_whose_27 rfl ?_
      refine t_getR (pc := 28) hk hK tr_28 tf_28 dX2_whose_28 ?_
      refine g_iload_n (pc := 31) hk dX2_whose_31 rfl ?_
      refine t_iald (pc := 32) hk hK ta_28 dX2_whose_32 ?_
      exact t_iret (pc := 33) hk rfl dX2_whose_33
    · refine g_iconst (pc := 20) (v := (-1)) hk dX2_whose_20 rfl ?_
      exact t_iret (pc := 21) hk rfl dX2_whose_21
def rm_next : Room := { frames := 3, cells := 0, slots := 0, locals := 74 }
theorem hv_next : yX2_next.cls = RX2 ∧ yX2_next.cls ≠ "java/lang/invoke/MethodHandle" ∧ yX2_next.cls ≠ "java/lang/invoke/VarHandle" ∧ (parseMethodDescriptor yX2_next.desc).map (fun d => d.parameters.length) = some 1 := by decide +kernel
theorem tm_next_j60 {K : KT} {Γ : TG} (hk : KOK K cX2_next 5 RX2 rm_next (some .int)) (hK : va_K Γ.1 tcl (ttys Γ) (kS K)) (τ : TS) (v1 : Int32) (v2 : Int32) (v3 : Int32) (v4 : Int32)  (k23 : Int32 → Int32 → Int32 → Option (Int32 × TS)) (hk23 : ∀ (v2 : Int32) (v3 : Int32) (v4 : Int32), GGo K (tQ K Γ (fun r : Int32 × TS => (some (Value.int r.1), r.2))) (k23 v2 v3 v4) 5 (TI Γ (kS K) τ) 0 0 23 [(0, .ref Γ.2.1), (1, .int v1), (2, .int v2), (3, .int v3), (4, .int v4)] []) : GGo K (tQ K Γ (fun r : Int32 × TS => (some (Value.int r.1), r.2))) (T_next_j60 k23 τ v1 v2 v3 v4) 5 (TI Γ (kS K) τ) 0 0 60 [(0, .ref Γ.2.1), (1, .int v1), (2, .int v2), (3, .int v3), (4, .int v4)] [] := by
  unfold T_next_j60
  refine g_iincN (pc := 60) (v := 1) (ls' := fun x9 => [(4, .int x9), (0, .ref Γ.2.1), (1, .int v1), (2, .int v2), (3, .int v3)]) hk dX2_next_60 rfl rfl (by decide) (fun _ => rfl) (fun x9 => ?_)
  refine g_goto (pc := 63) (tgt := 23) hk dX2_next_63 rfl ?_
  refine g_sub (ls' := [(0, .ref Γ.2.1), (1, .int v1), (2, .int v2), (3, .int v3), (4, .int x9)]) [1, 2, 3, 4, 0] rfl ?_
  exact hk23 v2 v3 x9
theorem tm_next_l23 {K : KT} {Γ : TG} (hk : KOK K cX2_next 5 RX2 rm_next (some .int)) (hK : va_K Γ.1 tcl (ttys Γ) (kS K)) (τ : TS) (v1 : Int32)   : ∀ (n : Nat) (v2 : Int32) (v3 : Int32) (v4 : Int32), GGo K (tQ K Γ (fun r : Int32 × TS => (some (Value.int r.1), r.2))) (T_next_l23 τ v1 n v2 v3 v4) 5 (TI Γ (kS K) τ) 0 0 23 [(0, .ref Γ.2.1), (1, .int v1), (2, .int v2), (3, .int v3), (4, .int v4)] [] := by
  intro n
  induction n with
  | zero =>
    intro v2 v3 v4
    unfold T_next_l23
    exact g_none
  | succ n ih =>
    intro v2 v3 v4
    unfold T_next_l23
    refine g_iload (pc := 23) hk dX2_next_23 rfl ?_
    refine g_iload_n (pc := 25) hk dX2_next_25 rfl ?_
    refine g_icmp_ge (pc := 26) (tgt := 66) hk dX2_next_26 rfl ?_ ?_
    · refine g_iload_n (pc := 66) hk dX2_next_66 rfl ?_
      exact t_iret (pc := 67) hk rfl dX2_next_67
    · refine g_aload_n (pc := 29) hk dX2_next_29 rfl ?_
      refine t_getR (pc := 30) hk hK tr_28 tf_28 dX2_next_30 ?_
      refine g_iload (pc := 33) hk dX2_next_33 rfl ?_
      refine t_iald (pc := 35) hk hK ta_28 dX2_next_35 ?_
      refine g_ob1 (fun r5 h6 => ?_)
      refine t_callS (pc := 36) hk hK [.int (tA τ 28 v4.toNatClampNeg)] [] (tm_bits Γ τ (tA τ 28 v4.toNatClampNeg) r5 h6) (lw_S q1865 q1866 q128 q1867) hs_bits rfl rfl rfl dX2_next_36 rfl rfl ?_
      refine g_iload_n (pc := 39) hk dX2_next_39 rfl ?_
      refine g_icmp_gt (pc := 40) (tgt := 46) hk dX2_next_40 rfl ?_ ?_
      · refine g_aload_n (pc := 46) hk dX2_next_46 rfl ?_
        refine t_getR (pc := 47) hk hK tr_28 tf_28 dX2_next_47 ?_
        refine g_iload (pc := 50) hk dX2_next_50 rfl ?_
        refine t_iald (pc := 52) hk hK ta_28 dX2_next_52 ?_
        refine g_ob1 (fun r7 h8 => ?_)
        refine t_callS (pc := 53) hk hK [.int (tA τ 28 v4.toNatClampNeg)] [] (tm_bits Γ τ (tA τ 28 v4.toNatClampNeg) r7 h8) (lw_S q1865 q1866 q128 q1867) hs_bits rfl rfl rfl dX2_next_53 rfl rfl ?_
        refine g_istore_n (pc := 56) (i := 3) (ls' := [(3, .int r7), (0, .ref Γ.2.1), (1, .int v1), (2, .int v2), (4, .int v4)]) hk dX2_next_56 rfl (by decide) rfl ?_
        refine g_iload (pc := 57) hk dX2_next_57 rfl ?_
        refine g_istore_n (pc := 59) (i := 2) (ls' := [(2, .int v4), (3, .int r7), (0, .ref Γ.2.1), (1, .int v1), (4, .int v4)]) hk dX2_next_59 rfl (by decide) rfl ?_
        refine g_sub (ls' := [(0, .ref Γ.2.1), (1, .int v1), (2, .int v4), (3, .int r7), (4, .int v4)]) [2, 3, 0, 1, 4] rfl ?_
        exact tm_next_j60 hk hK τ v1 v4 r7 v4 (T_next_l23 τ v1 n) ih
      · refine g_goto (pc := 43) (tgt := 60) hk dX2_next_43 rfl ?_
        exact tm_next_j60 hk hK τ v1 v2 v3 v4 (T_next_l23 τ v1 n) ih
theorem tm_next (Γ : TG) (τ : TS) (v1 : Int32)  (r : Int32 × TS) (h : T_next τ v1 = some r) : TMet Γ yX2_next cX2_next 5 (some .int) rm_next [.ref Γ.2.1, .int v1] τ (some (.int r.1)) r.2 := by
  refine t_met (view := (fun r : Int32 × TS => (some (Value.int r.1), r.2))) rfl rfl (ls0 := [(0, .ref Γ.2.1), (1, .int v1)]) rfl (fun K hk hK => ?_) r h
  unfold T_next
  refine g_iload_n (pc := 0) hk dX2_next_0 rfl ?_
  refine g_iconst (pc := 1) (v := 1) hk dX2_next_1 rfl ?_
  refine g_iconst (pc := 2) (v := 5) hk dX2_next_2 rfl ?_
  refine g_ob1 (fun r1 h2 => ?_)
  refine t_callS (pc := 3) hk hK [.int v1, .int 1, .int 5] [] (tm_isIn Γ τ v1 1 5 r1 h2) (lw_S q1477 q1478 q128 q1479) hs_isIn rfl rfl rfl dX2_next_3 rfl rfl ?_
  refine g_if_ne (pc := 6) (tgt := 11) hk dX2_next_6 rfl ?_ ?_
  · refine g_aload_n (pc := 11) hk dX2_next_11 rfl ?_
    refine g_iload_n (pc := 12) hk dX2_next_12 rfl ?_
    refine g_ob1 (fun τ4 h3 => ?_)
    refine t_callV (pc := 13) hk hK [.int v1] [] (tm_layWays Γ τ v1 τ4 h3) (lw_V q1958 q1960 qs118 q128 q1961) hv_layWays rfl rfl rfl dX2_next_13 rfl rfl ?_
    refine g_iconst (pc := 16) (v := (-1)) hk dX2_next_16 rfl ?_
    refine g_istore_n (pc := 17) (i := 2) (ls' := [(2, .int (-1)), (0, .ref Γ.2.1), (1, .int v1)]) hk dX2_next_17 rfl (by decide) rfl ?_
    refine g_iconst (pc := 18) (v := 0) hk dX2_next_18 rfl ?_
    refine g_istore_n (pc := 19) (i := 3) (ls' := [(3, .int 0), (2, .int (-1)), (0, .ref Γ.2.1), (1, .int v1)]) hk dX2_next_19 rfl (by decide) rfl ?_
    refine g_iconst (pc := 20) (v := 0) hk dX2_next_20 rfl ?_
    refine g_istore (pc := 21) (i := 4) (ls' := [(4, .int 0), (3, .int 0), (2, .int (-1)), (0, .ref Γ.2.1), (1, .int v1)]) hk dX2_next_21 (by decide) rfl ?_
    refine g_sub (ls' := [(0, .ref Γ.2.1), (1, .int v1), (2, .int (-1)), (3, .int 0), (4, .int 0)]) [3, 4, 2, 1, 0] rfl ?_
    exact tm_next_l23 hk hK τ4 v1 FU (-1) 0 0
  · refine g_iconst (pc := 9) (v := (-1)) hk dX2_next_9 rfl ?_
    exact t_iret (pc := 10) hk rfl dX2_next_10
def rm_cut : Room := { frames := 2, cells := 0, slots := 0, locals := 42 }
theorem hv_cut : yX2_cut.cls = RX2 ∧ yX2_cut.cls ≠ "java/lang/invoke/MethodHandle" ∧ yX2_cut.cls ≠ "java/lang/invoke/VarHandle" ∧ (parseMethodDescriptor yX2_cut.desc).map (fun d => d.parameters.length) = some 3 := by decide +kernel
theorem tm_cut (Γ : TG) (τ : TS) (v1 : Int32) (v2 : Int32) (v3 : Int32)  (r : Int32 × TS) (h : T_cut τ v1 v2 v3 = some r) : TMet Γ yX2_cut cX2_cut 4 (some .boolean) rm_cut [.ref Γ.2.1, .int v1, .int v2, .int v3] τ (some (.int r.1)) r.2 := by
  refine t_met (view := (fun r : Int32 × TS => (some (Value.int r.1), r.2))) rfl rfl (ls0 := [(0, .ref Γ.2.1), (1, .int v1), (2, .int v2), (3, .int v3)]) rfl (fun K hk hK => ?_) r h
  unfold T_cut
  refine g_iload_n (pc := 0) hk dX2_cut_0 rfl ?_
  refine g_ob1 (fun r1 h2 => ?_)
  refine t_callS (pc := 1) hk hK [.int v1] [] (tm_isChair Γ τ v1 r1 h2) (lw_S q1496 q1497 q128 q1498) hs_isChair rfl rfl rfl dX2_cut_1 rfl rfl ?_
  refine g_if_eq (pc := 4) (tgt := 29) hk dX2_cut_4 rfl ?_ ?_
  · refine g_iconst (pc := 29) (v := 0) hk dX2_cut_29 rfl ?_
    exact t_zret (pc := 30) hk rfl rfl dX2_cut_30
  · refine g_iload_n (pc := 7) hk dX2_cut_7 rfl ?_
    refine g_ob1 (fun r3 h4 => ?_)
    refine t_callS (pc := 8) hk hK [.int v2] [] (tm_isChair Γ τ v2 r3 h4) (lw_S q1496 q1497 q128 q1498) hs_isChair rfl rfl rfl dX2_cut_8 rfl rfl ?_
    refine g_if_eq (pc := 11) (tgt := 29) hk dX2_cut_11 rfl ?_ ?_
    · refine g_iconst (pc := 29) (v := 0) hk dX2_cut_29 rfl ?_
      exact t_zret (pc := 30) hk rfl rfl dX2_cut_30
    · refine g_iload_n (pc := 14) hk dX2_cut_14 rfl ?_
      refine g_iload_n (pc := 15) hk dX2_cut_15 rfl ?_
      refine g_icmp_eq (pc := 16) (tgt := 29) hk dX2_cut_16 rfl ?_ ?_
      · refine g_iconst (pc := 29) (v := 0) hk dX2_cut_29 rfl ?_
        exact t_zret (pc := 30) hk rfl rfl dX2_cut_30
      · refine g_iload_n (pc := 19) hk dX2_cut_19 rfl ?_
        refine g_iconst (pc := 20) (v := 0) hk dX2_cut_20 rfl ?_
        refine g_bipush (pc := 21) (v := 99) hk dX2_cut_21 rfl ?_
        refine g_ob1 (fun r5 h6 => ?_)
        refine t_callS (pc := 23) hk hK [.int v3, .int 0, .int 99] [] (tm_isIn Γ τ v3 0 99 r5 h6) (lw_S q1477 q1478 q128 q1479) hs_isIn rfl rfl rfl dX2_cut_23 rfl rfl ?_
        refine g_if_ne (pc := 26) (tgt := 31) hk dX2_cut_26 rfl ?_ ?_
        · refine g_aload_n (pc := 31) hk dX2_cut_31 rfl ?_
          refine t_getR (pc := 32) hk hK tr_0 tf_0 dX2_cut_32 ?_
          refine g_bipush (pc := 35) (v := 78) hk dX2_cut_35 rfl ?_
          refine g_bipush (pc := 37) (v := 8) hk dX2_cut_37 rfl ?_
          refine g_iload_n (pc := 39) hk dX2_cut_39 rfl ?_
          refine g_imul (pc := 40) hk dX2_cut_40 ?_
          refine g_iadd (pc := 41) hk dX2_cut_41 ?_
          refine g_iload_n (pc := 42) hk dX2_cut_42 rfl ?_
          refine g_iadd (pc := 43) hk dX2_cut_43 ?_
          refine g_iload_n (pc := 44) hk dX2_cut_44 rfl ?_
          refine t_iast (pc := 45) hk hK ta_0 dX2_cut_45 (fun τ7 => ?_)
          refine g_aload_n (pc := 46) hk dX2_cut_46 rfl ?_
          refine t_getR (pc := 47) hk hK tr_0 tf_0 dX2_cut_47 ?_
          refine g_bipush (pc := 50) (v := 78) hk dX2_cut_50 rfl ?_
          refine g_bipush (pc := 52) (v := 8) hk dX2_cut_52 rfl ?_
          refine g_iload_n (pc := 54) hk dX2_cut_54 rfl ?_
          refine g_imul (pc := 55) hk dX2_cut_55 ?_
          refine g_iadd (pc := 56) hk dX2_cut_56 ?_
          refine g_iload_n (pc := 57) hk dX2_cut_57 rfl ?_
          refine g_iadd (pc := 58) hk dX2_cut_58 ?_
          refine g_iload_n (pc := 59) hk dX2_cut_59 rfl ?_
          refine t_iast (pc := 60) hk hK ta_0 dX2_cut_60 (fun τ8 => ?_)
          refine g_iconst (pc := 61) (v := 1) hk dX2_cut_61 rfl ?_
          exact t_zret (pc := 62) hk rfl rfl dX2_cut_62
        · refine g_iconst (pc := 29) (v := 0) hk dX2_cut_29 rfl ?_
          exact t_zret (pc := 30) hk rfl rfl dX2_cut_30
def rm_lowestOf : Room := { frames := 1, cells := 0, slots := 0, locals := 21 }
theorem hs_lowestOf : yX2_lowestOf.cls ≠ "java/lang/invoke/MethodHandle" ∧ yX2_lowestOf.cls ≠ "java/lang/invoke/VarHandle" ∧ (parseMethodDescriptor yX2_lowestOf.desc).map (fun d => d.parameters.length) = some 1 := by decide +kernel
theorem tm_lowestOf_l2 {K : KT} {Γ : TG} (hk : KOK K cX2_lowestOf 2 RX2 rm_lowestOf (some .int)) (hK : va_K Γ.1 tcl (ttys Γ) (kS K)) (v0 : Int32)  (τ : TS) : ∀ (n : Nat) (v1 : Int32), GGo K (tQ K Γ (fun r : Int32 => (some (Value.int r), τ))) (T_lowestOf_l2 v0 n v1) 2 (TI Γ (kS K) τ) 0 0 2 [(0, .int v0), (1, .int v1)] [] := by
  intro n
  induction n with
  | zero =>
    intro v1
    unfold T_lowestOf_l2
    exact g_none
  | succ n ih =>
    intro v1
    unfold T_lowestOf_l2
    refine g_iload_n (pc := 2) hk dX2_lowestOf_2 rfl ?_
    refine g_iload_n (pc := 3) hk dX2_lowestOf_3 rfl ?_
    refine g_ob1 (fun r1 h2 => ?_)
    refine t_callS (pc := 4) hk hK [.int v0, .int v1] [] (tm_has Γ τ v0 v1 r1 h2) (lw_S q1565 q1566 q128 q1567) hs_has rfl rfl rfl dX2_lowestOf_4 rfl rfl ?_
    refine g_if_ne (pc := 7) (tgt := 16) hk dX2_lowestOf_7 rfl ?_ ?_
    · refine g_iload_n (pc := 16) hk dX2_lowestOf_16 rfl ?_
      exact t_iret (pc := 17) hk rfl dX2_lowestOf_17
    · refine g_iincN (pc := 10) (v := 1) (ls' := fun x3 => [(1, .int x3), (0, .int v0)]) hk dX2_lowestOf_10 rfl rfl (by decide) (fun _ => rfl) (fun x3 => ?_)
      refine g_goto (pc := 13) (tgt := 2) hk dX2_lowestOf_13 rfl ?_
      refine g_sub (ls' := [(0, .int v0), (1, .int x3)]) [1, 0] rfl ?_
      exact ih x3
theorem tm_lowestOf (Γ : TG) (τ : TS) (v0 : Int32)  (r : Int32) (h : T_lowestOf v0 = some r) : TMet Γ yX2_lowestOf cX2_lowestOf 2 (some .int) rm_lowestOf [.int v0] τ (some (.int r)) τ := by
  refine t_met (view := (fun r : Int32 => (some (Value.int r), τ))) rfl rfl (ls0 := [(0, .int v0)]) rfl (fun K hk hK => ?_) r h
  unfold T_lowestOf
  refine g_iconst (pc := 0) (v := 0) hk dX2_lowestOf_0 rfl ?_
  refine g_istore_n (pc := 1) (i := 1) (ls' := [(1, .int 0), (0, .int v0)]) hk dX2_lowestOf_1 rfl (by decide) rfl ?_
  refine g_sub (ls' := [(0, .int v0), (1, .int 0)]) [1, 0] rfl ?_
  exact tm_lowestOf_l2 hk hK v0 τ FU 0
def rm_withPair : Room := { frames := 2, cells := 0, slots := 0, locals := 42 }
theorem hv_withPair : yX2_withPair.cls = RX2 ∧ yX2_withPair.cls ≠ "java/lang/invoke/MethodHandle" ∧ yX2_withPair.cls ≠ "java/lang/invoke/VarHandle" ∧ (parseMethodDescriptor yX2_withPair.desc).map (fun d => d.parameters.length) = some 2 := by decide +kernel
theorem tm_withPair (Γ : TG) (τ : TS) (v1 : Int32) (v2 : Int32)  (r : Int32) (h : T_withPair τ v1 v2 = some r) : TMet Γ yX2_withPair cX2_withPair 4 (some .int) rm_withPair [.ref Γ.2.1, .int v1, .int v2] τ (some (.int r)) τ := by
  refine t_met (view := (fun r : Int32 => (some (Value.int r), τ))) rfl rfl (ls0 := [(0, .ref Γ.2.1), (1, .int v1), (2, .int v2)]) rfl (fun K hk hK => ?_) r h
  unfold T_withPair
  refine g_iload_n (pc := 0) hk dX2_withPair_0 rfl ?_
  refine g_ob1 (fun r1 h2 => ?_)
  refine t_callS (pc := 1) hk hK [.int v1] [] (tm_lowestOf Γ τ v1 r1 h2) (lw_S q1985 q1986 q128 q1987) hs_lowestOf rfl rfl rfl dX2_withPair_1 rfl rfl ?_
  refine g_istore_n (pc := 4) (i := 3) (ls' := [(3, .int r1), (0, .ref Γ.2.1), (1, .int v1), (2, .int v2)]) hk dX2_withPair_4 rfl (by decide) rfl ?_
  refine g_aload_n (pc := 5) hk dX2_withPair_5 rfl ?_
  refine t_getR (pc := 6) hk hK tr_0 tf_0 dX2_withPair_6 ?_
  refine g_bipush (pc := 9) (v := 78) hk dX2_withPair_9 rfl ?_
  refine g_bipush (pc := 11) (v := 8) hk dX2_withPair_11 rfl ?_
  refine g_iload_n (pc := 13) hk dX2_withPair_13 rfl ?_
  refine g_imul (pc := 14) hk dX2_withPair_14 ?_
  refine g_iadd (pc := 15) hk dX2_withPair_15 ?_
  refine g_iload_n (pc := 16) hk dX2_withPair_16 rfl ?_
  refine g_iadd (pc := 17) hk dX2_withPair_17 ?_
  refine t_iald (pc := 18) hk hK ta_0 dX2_withPair_18 ?_
  refine g_aload_n (pc := 19) hk dX2_withPair_19 rfl ?_
  refine t_getR (pc := 20) hk hK tr_29 tf_29 dX2_withPair_20 ?_
  refine g_iload_n (pc := 23) hk dX2_withPair_23 rfl ?_
  refine g_iconst (pc := 24) (v := 1) hk dX2_withPair_24 rfl ?_
  refine g_iload_n (pc := 25) hk dX2_withPair_25 rfl ?_
  refine g_ishl (pc := 26) hk dX2_withPair_26 ?_
  refine g_iconst (pc := 27) (v := (-1)) hk dX2_withPair_27 rfl ?_
  refine g_ixor (pc := 28) hk dX2_withPair_28 ?_
  refine g_iand (pc := 29) hk dX2_withPair_29 ?_
  refine g_iconst (pc := 30) (v := 1) hk dX2_withPair_30 rfl ?_
  refine g_iload_n (pc := 31) hk dX2_withPair_31 rfl ?_
  refine g_ishl (pc := 32) hk dX2_withPair_32 ?_
  refine g_iconst (pc := 33) (v := (-1)) hk dX2_withPair_33 rfl ?_
  refine g_ixor (pc := 34) hk dX2_withPair_34 ?_
  refine g_iand (pc := 35) hk dX2_withPair_35 ?_
  refine t_iald (pc := 36) hk hK ta_29 dX2_withPair_36 ?_
  refine g_iadd (pc := 37) hk dX2_withPair_37 ?_
  exact t_iret (pc := 38) hk rfl dX2_withPair_38
def rm_pairs : Room := { frames := 3, cells := 0, slots := 0, locals := 65 }
theorem hv_pairs : yX2_pairs.cls = RX2 ∧ yX2_pairs.cls ≠ "java/lang/invoke/MethodHandle" ∧ yX2_pairs.cls ≠ "java/lang/invoke/VarHandle" ∧ (parseMethodDescriptor yX2_pairs.desc).map (fun d => d.parameters.length) = some 2 := by decide +kernel
theorem tm_pairs_j179 {K : KT} {Γ : TG} (hk : KOK K cX2_pairs 6 RX2 rm_pairs (some .int)) (hK : va_K Γ.1 tcl (ttys Γ) (kS K)) (τ : TS) (v2 : Int32) (v3 : Int32) (v4 : Int32) (v5 : Int32)  (k142 : Int32 → Option (Int32 × TS)) (k154 : Int32 → Option (Int32 × TS)) (hk142 : ∀ (v3 : Int32), GGo K (tQ K Γ (fun r : Int32 × TS => (some (Value.int r.1), r.2))) (k142 v3) 6 (TI Γ (kS K) τ) 0 0 142 [(0, .ref Γ.2.1), (2, .int v2), (3, .int v3)] []) (hk154 : ∀ (v5 : Int32), GGo K (tQ K Γ (fun r : Int32 × TS => (some (Value.int r.1), r.2))) (k154 v5) 6 (TI Γ (kS K) τ) 0 0 154 [(0, .ref Γ.2.1), (2, .int v2), (3, .int v3), (4, .int v4), (5, .int v5)] []) : GGo K (tQ K Γ (fun r : Int32 × TS => (some (Value.int r.1), r.2))) (T_pairs_j179 k142 k154 τ v2 v3 v4 v5) 6 (TI Γ (kS K) τ) 0 0 179 [(0, .ref Γ.2.1), (2, .int v2), (3, .int v3), (4, .int v4), (5, .int v5)] [] := by
  unfold T_pairs_j179
  refine g_iincN (pc := 179) (v := 1) (ls' := fun x10 => [(5, .int x10), (0, .ref Γ.2.1), (2, .int v2), (3, .int v3), (4, .int v4)]) hk dX2_pairs_179 rfl rfl (by decide) (fun _ => rfl) (fun x10 => ?_)
  refine g_goto (pc := 182) (tgt := 154) hk dX2_pairs_182 rfl ?_
  refine g_sub (ls' := [(0, .ref Γ.2.1), (2, .int v2), (3, .int v3), (4, .int v4), (5, .int x10)]) [1, 2, 3, 4, 0] rfl ?_
  exact hk154 x10
theorem tm_pairs_l154 {K : KT} {Γ : TG} (hk : KOK K cX2_pairs 6 RX2 rm_pairs (some .int)) (hK : va_K Γ.1 tcl (ttys Γ) (kS K)) (τ : TS) (v2 : Int32) (v3 : Int32) (v4 : Int32)  (k142 : Int32 → Option (Int32 × TS)) (hk142 : ∀ (v3 : Int32), GGo K (tQ K Γ (fun r : Int32 × TS => (some (Value.int r.1), r.2))) (k142 v3) 6 (TI Γ (kS K) τ) 0 0 142 [(0, .ref Γ.2.1), (2, .int v2), (3, .int v3)] []) : ∀ (n : Nat) (v5 : Int32), GGo K (tQ K Γ (fun r : Int32 × TS => (some (Value.int r.1), r.2))) (T_pairs_l154 k142 τ v2 v3 v4 n v5) 6 (TI Γ (kS K) τ) 0 0 154 [(0, .ref Γ.2.1), (2, .int v2), (3, .int v3), (4, .int v4), (5, .int v5)] [] := by
  intro n
  induction n with
  | zero =>
    intro v5
    unfold T_pairs_l154
    exact g_none
  | succ n ih =>
    intro v5
    unfold T_pairs_l154
    refine g_iload_n (pc := 154) hk dX2_pairs_154 rfl ?_
    refine g_iload (pc := 155) hk dX2_pairs_155 rfl ?_
    refine g_ob1 (fun r8 h9 => ?_)
    refine t_callS (pc := 157) hk hK [.int v3, .int v5] [] (tm_has Γ τ v3 v5 r8 h9) (lw_S q1565 q1566 q128 q1567) hs_has rfl rfl rfl dX2_pairs_157 rfl rfl ?_
    refine g_if_eq (pc := 160) (tgt := 179) hk dX2_pairs_160 rfl ?_ ?_
    · exact tm_pairs_j179 hk hK τ v2 v3 v4 v5 k142 (T_pairs_l154 k142 τ v2 v3 v4 n) hk142 ih
    · refine g_aload_n (pc := 163) hk dX2_pairs_163 rfl ?_
      refine g_iload_n (pc := 164) hk dX2_pairs_164 rfl ?_
      refine g_iload (pc := 165) hk dX2_pairs_165 rfl ?_
      refine g_ob1 (fun r11 h12 => ?_)
      refine t_callV (pc := 167) hk hK [.int v3, .int v5] [] (tm_withPair Γ τ v3 v5 r11 h12) (lw_V q1988 q1990 qs120 q128 q1991) hv_withPair rfl rfl rfl dX2_pairs_167 rfl rfl ?_
      refine g_aload_n (pc := 170) hk dX2_pairs_170 rfl ?_
      refine t_getR (pc := 171) hk hK tr_29 tf_29 dX2_pairs_171 ?_
      refine g_iload_n (pc := 174) hk dX2_pairs_174 rfl ?_
      refine t_iald (pc := 175) hk hK ta_29 dX2_pairs_175 ?_
      refine g_icmp_eq (pc := 176) (tgt := 185) hk dX2_pairs_176 rfl ?_ ?_
      · refine g_iload (pc := 185) hk dX2_pairs_185 rfl ?_
        refine g_iload_n (pc := 187) hk dX2_pairs_187 rfl ?_
        refine g_icmp_ne (pc := 188) (tgt := 194) hk dX2_pairs_188 rfl ?_ ?_
        · refine g_iload (pc := 194) hk dX2_pairs_194 rfl ?_
          refine g_iload_n (pc := 196) hk dX2_pairs_196 rfl ?_
          refine g_icmp_ne (pc := 197) (tgt := 203) hk dX2_pairs_197 rfl ?_ ?_
          · refine g_iload_n (pc := 203) hk dX2_pairs_203 rfl ?_
            refine g_iconst (pc := 204) (v := 1) hk dX2_pairs_204 rfl ?_
            refine g_iload (pc := 205) hk dX2_pairs_205 rfl ?_
            refine g_ishl (pc := 207) hk dX2_pairs_207 ?_
            refine g_iconst (pc := 208) (v := (-1)) hk dX2_pairs_208 rfl ?_
            refine g_ixor (pc := 209) hk dX2_pairs_209 ?_
            refine g_iconst (pc := 210) (v := 1) hk dX2_pairs_210 rfl ?_
            refine g_iload (pc := 211) hk dX2_pairs_211 rfl ?_
            refine g_ishl (pc := 213) hk dX2_pairs_213 ?_
            refine g_iconst (pc := 214) (v := (-1)) hk dX2_pairs_214 rfl ?_
            refine g_ixor (pc := 215) hk dX2_pairs_215 ?_
            refine g_iand (pc := 216) hk dX2_pairs_216 ?_
            refine g_iand (pc := 217) hk dX2_pairs_217 ?_
            refine g_istore_nN (pc := 218) (i := 3) (ls' := fun x13 => [(3, .int x13), (0, .ref Γ.2.1), (2, .int v2), (4, .int v4), (5, .int v5)]) hk dX2_pairs_218 rfl (by decide) (fun _ => rfl) (fun x13 => ?_)
            refine g_goto (pc := 219) (tgt := 142) hk dX2_pairs_219 rfl ?_
            refine g_sub (ls' := [(0, .ref Γ.2.1), (2, .int v2), (3, .int x13)]) [1, 2, 0] rfl ?_
            exact hk142 x13
          · refine g_iload (pc := 200) hk dX2_pairs_200 rfl ?_
            exact t_iret (pc := 202) hk rfl dX2_pairs_202
        · refine g_iload (pc := 191) hk dX2_pairs_191 rfl ?_
          exact t_iret (pc := 193) hk rfl dX2_pairs_193
      · exact tm_pairs_j179 hk hK τ v2 v3 v4 v5 k142 (T_pairs_l154 k142 τ v2 v3 v4 n) hk142 ih
theorem tm_pairs_l142 {K : KT} {Γ : TG} (hk : KOK K cX2_pairs 6 RX2 rm_pairs (some .int)) (hK : va_K Γ.1 tcl (ttys Γ) (kS K)) (τ : TS) (v2 : Int32)   : ∀ (n : Nat) (v3 : Int32), GGo K (tQ K Γ (fun r : Int32 × TS => (some (Value.int r.1), r.2))) (T_pairs_l142 τ v2 n v3) 6 (TI Γ (kS K) τ) 0 0 142 [(0, .ref Γ.2.1), (2, .int v2), (3, .int v3)] [] := by
  intro n
  induction n with
  | zero =>
    intro v3
    unfold T_pairs_l142
    exact g_none
  | succ n ih =>
    intro v3
    unfold T_pairs_l142
    refine g_iload_n (pc := 142) hk dX2_pairs_142 rfl ?_
    refine g_ob1 (fun r5 h6 => ?_)
    refine t_callS (pc := 143) hk hK [.int v3] [] (tm_lowestOf Γ τ v3 r5 h6) (lw_S q1985 q1986 q128 q1987) hs_lowestOf rfl rfl rfl dX2_pairs_143 rfl rfl ?_
    refine g_istore (pc := 146) (i := 4) (ls' := [(4, .int r5), (0, .ref Γ.2.1), (2, .int v2), (3, .int v3)]) hk dX2_pairs_146 (by decide) rfl ?_
    refine g_iload (pc := 148) hk dX2_pairs_148 rfl ?_
    refine g_iconst (pc := 150) (v := 1) hk dX2_pairs_150 rfl ?_
    refine g_iadd (pc := 151) hk dX2_pairs_151 ?_
    refine g_istoreN (pc := 152) (i := 5) (ls' := fun x7 => [(5, .int x7), (4, .int r5), (0, .ref Γ.2.1), (2, .int v2), (3, .int v3)]) hk dX2_pairs_152 (by decide) (fun _ => rfl) (fun x7 => ?_)
    refine g_sub (ls' := [(0, .ref Γ.2.1), (2, .int v2), (3, .int v3), (4, .int r5), (5, .int x7)]) [2, 3, 4, 1, 0] rfl ?_
    exact tm_pairs_l154 hk hK τ v2 v3 r5 (T_pairs_l142 τ v2 n) ih FU x7
theorem tm_pairs_j112 {K : KT} {Γ : TG} (hk : KOK K cX2_pairs 6 RX2 rm_pairs (some .int)) (hK : va_K Γ.1 tcl (ttys Γ) (kS K)) (τ : TS) (v1 : Int32) (v2 : Int32) (v3 : Int32) (v4 : Int32)  (k44 : TS → Int32 → Option (Int32 × TS)) (k68 : TS → Int32 → Option (Int32 × TS)) (hk44 : ∀ (τ : TS) (v3 : Int32), GGo K (tQ K Γ (fun r : Int32 × TS => (some (Value.int r.1), r.2))) (k44 τ v3) 6 (TI Γ (kS K) τ) 0 0 44 [(0, .ref Γ.2.1), (1, .int v1), (2, .int v2), (3, .int v3)] []) (hk68 : ∀ (τ : TS) (v4 : Int32), GGo K (tQ K Γ (fun r : Int32 × TS => (some (Value.int r.1), r.2))) (k68 τ v4) 6 (TI Γ (kS K) τ) 0 0 68 [(0, .ref Γ.2.1), (1, .int v1), (2, .int v2), (3, .int v3), (4, .int v4)] []) : GGo K (tQ K Γ (fun r : Int32 × TS => (some (Value.int r.1), r.2))) (T_pairs_j112 k44 k68 τ v1 v2 v3 v4) 6 (TI Γ (kS K) τ) 0 0 112 [(0, .ref Γ.2.1), (1, .int v1), (2, .int v2), (3, .int v3), (4, .int v4)] [] := by
  unfold T_pairs_j112
  refine g_iincN (pc := 112) (v := 1) (ls' := fun x21 => [(4, .int x21), (0, .ref Γ.2.1), (1, .int v1), (2, .int v2), (3, .int v3)]) hk dX2_pairs_112 rfl rfl (by decide) (fun _ => rfl) (fun x21 => ?_)
  refine g_goto (pc := 115) (tgt := 68) hk dX2_pairs_115 rfl ?_
  refine g_sub (ls' := [(0, .ref Γ.2.1), (1, .int v1), (2, .int v2), (3, .int v3), (4, .int x21)]) [1, 2, 3, 4, 0] rfl ?_
  exact hk68 τ x21
theorem tm_pairs_l68 {K : KT} {Γ : TG} (hk : KOK K cX2_pairs 6 RX2 rm_pairs (some .int)) (hK : va_K Γ.1 tcl (ttys Γ) (kS K)) (v1 : Int32) (v2 : Int32) (v3 : Int32)  (k44 : TS → Int32 → Option (Int32 × TS)) (hk44 : ∀ (τ : TS) (v3 : Int32), GGo K (tQ K Γ (fun r : Int32 × TS => (some (Value.int r.1), r.2))) (k44 τ v3) 6 (TI Γ (kS K) τ) 0 0 44 [(0, .ref Γ.2.1), (1, .int v1), (2, .int v2), (3, .int v3)] []) : ∀ (n : Nat) (τ : TS) (v4 : Int32), GGo K (tQ K Γ (fun r : Int32 × TS => (some (Value.int r.1), r.2))) (T_pairs_l68 k44 v1 v2 v3 n τ v4) 6 (TI Γ (kS K) τ) 0 0 68 [(0, .ref Γ.2.1), (1, .int v1), (2, .int v2), (3, .int v3), (4, .int v4)] [] := by
  intro n
  induction n with
  | zero =>
    intro τ v4
    unfold T_pairs_l68
    exact g_none
  | succ n ih =>
    intro τ v4
    unfold T_pairs_l68
    refine g_iload (pc := 68) hk dX2_pairs_68 rfl ?_
    refine g_iload_n (pc := 70) hk dX2_pairs_70 rfl ?_
    refine g_icmp_ge (pc := 71) (tgt := 118) hk dX2_pairs_71 rfl ?_ ?_
    · refine g_iincN (pc := 118) (v := 1) (ls' := fun x18 => [(3, .int x18), (0, .ref Γ.2.1), (1, .int v1), (2, .int v2), (4, .int v4)]) hk dX2_pairs_118 rfl rfl (by decide) (fun _ => rfl) (fun x18 => ?_)
      refine g_goto (pc := 121) (tgt := 44) hk dX2_pairs_121 rfl ?_
      refine g_sub (ls' := [(0, .ref Γ.2.1), (1, .int v1), (2, .int v2), (3, .int x18)]) [1, 2, 3, 0] rfl ?_
      exact hk44 τ x18
    · refine g_iload_n (pc := 74) hk dX2_pairs_74 rfl ?_
      refine g_iload (pc := 75) hk dX2_pairs_75 rfl ?_
      refine g_ob1 (fun r19 h20 => ?_)
      refine t_callS (pc := 77) hk hK [.int v3, .int v4] [] (tm_has Γ τ v3 v4 r19 h20) (lw_S q1565 q1566 q128 q1567) hs_has rfl rfl rfl dX2_pairs_77 rfl rfl ?_
      refine g_if_eq (pc := 80) (tgt := 112) hk dX2_pairs_80 rfl ?_ ?_
      · exact tm_pairs_j112 hk hK τ v1 v2 v3 v4 k44 (T_pairs_l68 k44 v1 v2 v3 n) hk44 ih
      · refine g_aload_n (pc := 83) hk dX2_pairs_83 rfl ?_
        refine g_iload_n (pc := 84) hk dX2_pairs_84 rfl ?_
        refine g_iload (pc := 85) hk dX2_pairs_85 rfl ?_
        refine g_ob1 (fun r22 h23 => ?_)
        refine t_callV (pc := 87) hk hK [.int v3, .int v4] [] (tm_withPair Γ τ v3 v4 r22 h23) (lw_V q1988 q1990 qs120 q128 q1991) hv_withPair rfl rfl rfl dX2_pairs_87 rfl rfl ?_
        refine g_aload_n (pc := 90) hk dX2_pairs_90 rfl ?_
        refine t_getR (pc := 91) hk hK tr_29 tf_29 dX2_pairs_91 ?_
        refine g_iload_n (pc := 94) hk dX2_pairs_94 rfl ?_
        refine t_iald (pc := 95) hk hK ta_29 dX2_pairs_95 ?_
        refine g_icmp_ge (pc := 96) (tgt := 112) hk dX2_pairs_96 rfl ?_ ?_
        · exact tm_pairs_j112 hk hK τ v1 v2 v3 v4 k44 (T_pairs_l68 k44 v1 v2 v3 n) hk44 ih
        · refine g_aload_n (pc := 99) hk dX2_pairs_99 rfl ?_
          refine t_getR (pc := 100) hk hK tr_29 tf_29 dX2_pairs_100 ?_
          refine g_iload_n (pc := 103) hk dX2_pairs_103 rfl ?_
          refine g_aload_n (pc := 104) hk dX2_pairs_104 rfl ?_
          refine g_iload_n (pc := 105) hk dX2_pairs_105 rfl ?_
          refine g_iload (pc := 106) hk dX2_pairs_106 rfl ?_
          refine g_ob1 (fun r24 h25 => ?_)
          refine t_callV (pc := 108) hk hK [.int v3, .int v4] [.int v3, .ref (Γ.2.2.1 29)] (tm_withPair Γ τ v3 v4 r24 h25) (lw_V q1988 q1990 qs120 q128 q1991) hv_withPair rfl rfl rfl dX2_pairs_108 rfl rfl ?_
          refine t_iast (pc := 111) hk hK ta_29 dX2_pairs_111 (fun τ26 => ?_)
          exact tm_pairs_j112 hk hK τ26 v1 v2 v3 v4 k44 (T_pairs_l68 k44 v1 v2 v3 n) hk44 ih
theorem tm_pairs_l44 {K : KT} {Γ : TG} (hk : KOK K cX2_pairs 6 RX2 rm_pairs (some .int)) (hK : va_K Γ.1 tcl (ttys Γ) (kS K)) (v1 : Int32) (v2 : Int32)   : ∀ (n : Nat) (τ : TS) (v3 : Int32), GGo K (tQ K Γ (fun r : Int32 × TS => (some (Value.int r.1), r.2))) (T_pairs_l44 v1 v2 n τ v3) 6 (TI Γ (kS K) τ) 0 0 44 [(0, .ref Γ.2.1), (1, .int v1), (2, .int v2), (3, .int v3)] [] := by
  intro n
  induction n with
  | zero =>
    intro τ v3
    unfold T_pairs_l44
    exact g_none
  | succ n ih =>
    intro τ v3
    unfold T_pairs_l44
    refine g_iload_n (pc := 44) hk dX2_pairs_44 rfl ?_
    refine g_iconst (pc := 45) (v := 1) hk dX2_pairs_45 rfl ?_
    refine g_iload_n (pc := 46) hk dX2_pairs_46 rfl ?_
    refine g_ishl (pc := 47) hk dX2_pairs_47 ?_
    refine g_icmp_ge (pc := 48) (tgt := 124) hk dX2_pairs_48 rfl ?_ ?_
    · refine g_iconst (pc := 124) (v := 1) hk dX2_pairs_124 rfl ?_
      refine g_iload_n (pc := 125) hk dX2_pairs_125 rfl ?_
      refine g_ishl (pc := 126) hk dX2_pairs_126 ?_
      refine g_iconst (pc := 127) (v := 1) hk dX2_pairs_127 rfl ?_
      refine g_isub (pc := 128) hk dX2_pairs_128 ?_
      refine g_istore_nN (pc := 129) (i := 3) (ls' := fun x4 => [(3, .int x4), (0, .ref Γ.2.1), (1, .int v1), (2, .int v2)]) hk dX2_pairs_129 rfl (by decide) (fun _ => rfl) (fun x4 => ?_)
      refine g_iload_n (pc := 130) hk dX2_pairs_130 rfl ?_
      refine g_iconst (pc := 131) (v := (-1)) hk dX2_pairs_131 rfl ?_
      refine g_icmp_ne (pc := 132) (tgt := 142) hk dX2_pairs_132 rfl ?_ ?_
      · refine g_sub (ls' := [(0, .ref Γ.2.1), (2, .int v2), (3, .int x4)]) [1, 3, 0] rfl ?_
        exact tm_pairs_l142 hk hK τ v2 FU x4
      · refine g_aload_n (pc := 135) hk dX2_pairs_135 rfl ?_
        refine t_getR (pc := 136) hk hK tr_29 tf_29 dX2_pairs_136 ?_
        refine g_iload_n (pc := 139) hk dX2_pairs_139 rfl ?_
        refine t_iald (pc := 140) hk hK ta_29 dX2_pairs_140 ?_
        exact t_iret (pc := 141) hk rfl dX2_pairs_141
    · refine g_aload_n (pc := 51) hk dX2_pairs_51 rfl ?_
      refine t_getR (pc := 52) hk hK tr_29 tf_29 dX2_pairs_52 ?_
      refine g_iload_n (pc := 55) hk dX2_pairs_55 rfl ?_
      refine g_ldcw (pc := 56) (v := 1000000) hk q1942 dX2_pairs_56 ?_
      refine t_iast (pc := 59) hk hK ta_29 dX2_pairs_59 (fun τ14 => ?_)
      refine g_iload_n (pc := 60) hk dX2_pairs_60 rfl ?_
      refine g_ob1 (fun r15 h16 => ?_)
      refine t_callS (pc := 61) hk hK [.int v3] [] (tm_lowestOf Γ τ14 v3 r15 h16) (lw_S q1985 q1986 q128 q1987) hs_lowestOf rfl rfl rfl dX2_pairs_61 rfl rfl ?_
      refine g_iconst (pc := 64) (v := 1) hk dX2_pairs_64 rfl ?_
      refine g_iadd (pc := 65) hk dX2_pairs_65 ?_
      refine g_istoreN (pc := 66) (i := 4) (ls' := fun x17 => [(4, .int x17), (0, .ref Γ.2.1), (1, .int v1), (2, .int v2), (3, .int v3)]) hk dX2_pairs_66 (by decide) (fun _ => rfl) (fun x17 => ?_)
      refine g_sub (ls' := [(0, .ref Γ.2.1), (1, .int v1), (2, .int v2), (3, .int v3), (4, .int x17)]) [1, 2, 3, 4, 0] rfl ?_
      exact tm_pairs_l68 hk hK v1 v2 v3 (T_pairs_l44 v1 v2 n) ih FU τ14 x17
theorem tm_pairs_j22 {K : KT} {Γ : TG} (hk : KOK K cX2_pairs 6 RX2 rm_pairs (some .int)) (hK : va_K Γ.1 tcl (ttys Γ) (kS K)) (τ : TS) (v1 : Int32) (v2 : Int32)   : GGo K (tQ K Γ (fun r : Int32 × TS => (some (Value.int r.1), r.2))) (T_pairs_j22 τ v1 v2) 6 (TI Γ (kS K) τ) 0 0 22 [(0, .ref Γ.2.1), (1, .int v1), (2, .int v2)] [] := by
  unfold T_pairs_j22
  refine g_iload_n (pc := 22) hk dX2_pairs_22 rfl ?_
  refine g_iconst (pc := 23) (v := (-1)) hk dX2_pairs_23 rfl ?_
  refine g_iload_n (pc := 24) hk dX2_pairs_24 rfl ?_
  refine g_iconst (pc := 25) (v := 1) hk dX2_pairs_25 rfl ?_
  refine g_isub (pc := 26) hk dX2_pairs_26 ?_
  refine g_ob1 (fun r1 h2 => ?_)
  refine t_callS (pc := 27) hk hK [.int v2, .int (-1), .int (v1 - 1)] [] (tm_isIn Γ τ v2 (-1) (v1 - 1) r1 h2) (lw_S q1477 q1478 q128 q1479) hs_isIn rfl rfl rfl dX2_pairs_27 rfl rfl ?_
  refine g_if_ne (pc := 30) (tgt := 35) hk dX2_pairs_30 rfl ?_ ?_
  · refine g_aload_n (pc := 35) hk dX2_pairs_35 rfl ?_
    refine t_getR (pc := 36) hk hK tr_29 tf_29 dX2_pairs_36 ?_
    refine g_iconst (pc := 39) (v := 0) hk dX2_pairs_39 rfl ?_
    refine g_iconst (pc := 40) (v := 0) hk dX2_pairs_40 rfl ?_
    refine t_iastC (pc := 41) (j := 0) hk hK ta_29 rfl rfl dX2_pairs_41 (fun τ3 => ?_)
    refine g_iconst (pc := 42) (v := 1) hk dX2_pairs_42 rfl ?_
    refine g_istore_n (pc := 43) (i := 3) (ls' := [(3, .int 1), (0, .ref Γ.2.1), (1, .int v1), (2, .int v2)]) hk dX2_pairs_43 rfl (by decide) rfl ?_
    refine g_sub (ls' := [(0, .ref Γ.2.1), (1, .int v1), (2, .int v2), (3, .int 1)]) [1, 2, 3, 0] rfl ?_
    exact tm_pairs_l44 hk hK v1 v2 FU τ3 1
  · refine g_iconst (pc := 33) (v := (-1)) hk dX2_pairs_33 rfl ?_
    exact t_iret (pc := 34) hk rfl dX2_pairs_34
theorem tm_pairs (Γ : TG) (τ : TS) (v1 : Int32) (v2 : Int32)  (r : Int32 × TS) (h : T_pairs τ v1 v2 = some r) : TMet Γ yX2_pairs cX2_pairs 6 (some .int) rm_pairs [.ref Γ.2.1, .int v1, .int v2] τ (some (.int r.1)) r.2 := by
  refine t_met (view := (fun r : Int32 × TS => (some (Value.int r.1), r.2))) rfl rfl (ls0 := [(0, .ref Γ.2.1), (1, .int v1), (2, .int v2)]) rfl (fun K hk hK => ?_) r h
  unfold T_pairs
  refine g_iload_n (pc := 0) hk dX2_pairs_0 rfl ?_
  refine g_iconst (pc := 1) (v := 2) hk dX2_pairs_1 rfl ?_
  refine g_icmp_eq (pc := 2) (tgt := 22) hk dX2_pairs_2 rfl ?_ ?_
  · exact tm_pairs_j22 hk hK τ v1 v2
  · refine g_iload_n (pc := 5) hk dX2_pairs_5 rfl ?_
    refine g_iconst (pc := 6) (v := 4) hk dX2_pairs_6 rfl ?_
    refine g_icmp_eq (pc := 7) (tgt := 22) hk dX2_pairs_7 rfl ?_ ?_
    · exact tm_pairs_j22 hk hK τ v1 v2
    · refine g_iload_n (pc := 10) hk dX2_pairs_10 rfl ?_
      refine g_bipush (pc := 11) (v := 6) hk dX2_pairs_11 rfl ?_
      refine g_icmp_eq (pc := 13) (tgt := 22) hk dX2_pairs_13 rfl ?_ ?_
      · exact tm_pairs_j22 hk hK τ v1 v2
      · refine g_iload_n (pc := 16) hk dX2_pairs_16 rfl ?_
        refine g_bipush (pc := 17) (v := 8) hk dX2_pairs_17 rfl ?_
        refine g_icmp_ne (pc := 19) (tgt := 33) hk dX2_pairs_19 rfl ?_ ?_
        · refine g_iconst (pc := 33) (v := (-1)) hk dX2_pairs_33 rfl ?_
          exact t_iret (pc := 34) hk rfl dX2_pairs_34
        · exact tm_pairs_j22 hk hK τ v1 v2
def rm_likes : Room := { frames := 2, cells := 0, slots := 0, locals := 42 }
theorem hv_likes : yX2_likes.cls = RX2 ∧ yX2_likes.cls ≠ "java/lang/invoke/MethodHandle" ∧ yX2_likes.cls ≠ "java/lang/invoke/VarHandle" ∧ (parseMethodDescriptor yX2_likes.desc).map (fun d => d.parameters.length) = some 3 := by decide +kernel
theorem tm_likes (Γ : TG) (τ : TS) (v1 : Int32) (v2 : Int32) (v3 : Int32)  (r : Int32 × TS) (h : T_likes τ v1 v2 v3 = some r) : TMet Γ yX2_likes cX2_likes 4 (some .boolean) rm_likes [.ref Γ.2.1, .int v1, .int v2, .int v3] τ (some (.int r.1)) r.2 := by
  refine t_met (view := (fun r : Int32 × TS => (some (Value.int r.1), r.2))) rfl rfl (ls0 := [(0, .ref Γ.2.1), (1, .int v1), (2, .int v2), (3, .int v3)]) rfl (fun K hk hK => ?_) r h
  unfold T_likes
  refine g_iload_n (pc := 0) hk dX2_likes_0 rfl ?_
  refine g_ob1 (fun r1 h2 => ?_)
  refine t_callS (pc := 1) hk hK [.int v1] [] (tm_isChair Γ τ v1 r1 h2) (lw_S q1496 q1497 q128 q1498) hs_isChair rfl rfl rfl dX2_likes_1 rfl rfl ?_
  refine g_if_eq (pc := 4) (tgt := 24) hk dX2_likes_4 rfl ?_ ?_
  · refine g_iconst (pc := 24) (v := 0) hk dX2_likes_24 rfl ?_
    exact t_zret (pc := 25) hk rfl rfl dX2_likes_25
  · refine g_iload_n (pc := 7) hk dX2_likes_7 rfl ?_
    refine g_ob1 (fun r3 h4 => ?_)
    refine t_callS (pc := 8) hk hK [.int v2] [] (tm_isChair Γ τ v2 r3 h4) (lw_S q1496 q1497 q128 q1498) hs_isChair rfl rfl rfl dX2_likes_8 rfl rfl ?_
    refine g_if_eq (pc := 11) (tgt := 24) hk dX2_likes_11 rfl ?_ ?_
    · refine g_iconst (pc := 24) (v := 0) hk dX2_likes_24 rfl ?_
      exact t_zret (pc := 25) hk rfl rfl dX2_likes_25
    · refine g_iload_n (pc := 14) hk dX2_likes_14 rfl ?_
      refine g_iconst (pc := 15) (v := 0) hk dX2_likes_15 rfl ?_
      refine g_bipush (pc := 16) (v := 9) hk dX2_likes_16 rfl ?_
      refine g_ob1 (fun r5 h6 => ?_)
      refine t_callS (pc := 18) hk hK [.int v3, .int 0, .int 9] [] (tm_isIn Γ τ v3 0 9 r5 h6) (lw_S q1477 q1478 q128 q1479) hs_isIn rfl rfl rfl dX2_likes_18 rfl rfl ?_
      refine g_if_ne (pc := 21) (tgt := 26) hk dX2_likes_21 rfl ?_ ?_
      · refine g_aload_n (pc := 26) hk dX2_likes_26 rfl ?_
        refine t_getR (pc := 27) hk hK tr_0 tf_0 dX2_likes_27 ?_
        refine g_sipush (pc := 30) (v := 142) hk dX2_likes_30 rfl ?_
        refine g_bipush (pc := 33) (v := 8) hk dX2_likes_33 rfl ?_
        refine g_iload_n (pc := 35) hk dX2_likes_35 rfl ?_
        refine g_imul (pc := 36) hk dX2_likes_36 ?_
        refine g_iadd (pc := 37) hk dX2_likes_37 ?_
        refine g_iload_n (pc := 38) hk dX2_likes_38 rfl ?_
        refine g_iadd (pc := 39) hk dX2_likes_39 ?_
        refine g_iload_n (pc := 40) hk dX2_likes_40 rfl ?_
        refine t_iast (pc := 41) hk hK ta_0 dX2_likes_41 (fun τ7 => ?_)
        refine g_iconst (pc := 42) (v := 1) hk dX2_likes_42 rfl ?_
        exact t_zret (pc := 43) hk rfl rfl dX2_likes_43
      · refine g_iconst (pc := 24) (v := 0) hk dX2_likes_24 rfl ?_
        exact t_zret (pc := 25) hk rfl rfl dX2_likes_25
def rm_bestOf : Room := { frames := 1, cells := 0, slots := 0, locals := 21 }
theorem hv_bestOf : yX2_bestOf.cls = RX2 ∧ yX2_bestOf.cls ≠ "java/lang/invoke/MethodHandle" ∧ yX2_bestOf.cls ≠ "java/lang/invoke/VarHandle" ∧ (parseMethodDescriptor yX2_bestOf.desc).map (fun d => d.parameters.length) = some 2 := by decide +kernel
theorem tm_bestOf_j63 {K : KT} {Γ : TG} (hk : KOK K cX2_bestOf 5 RX2 rm_bestOf (some .int)) (hK : va_K Γ.1 tcl (ttys Γ) (kS K)) (τ : TS) (v1 : Int32) (v2 : Int32) (v3 : Int32) (v4 : Int32)  (k5 : Int32 → Int32 → Option (Int32)) (hk5 : ∀ (v3 : Int32) (v4 : Int32), GGo K (tQ K Γ (fun r : Int32 => (some (Value.int r), τ))) (k5 v3 v4) 5 (TI Γ (kS K) τ) 0 0 5 [(0, .ref Γ.2.1), (1, .int v1), (2, .int v2), (3, .int v3), (4, .int v4)] []) : GGo K (tQ K Γ (fun r : Int32 => (some (Value.int r), τ))) (T_bestOf_j63 k5 τ v1 v2 v3 v4) 5 (TI Γ (kS K) τ) 0 0 63 [(0, .ref Γ.2.1), (1, .int v1), (2, .int v2), (3, .int v3), (4, .int v4)] [] := by
  unfold T_bestOf_j63
  refine g_iincN (pc := 63) (v := 1) (ls' := fun x3 => [(4, .int x3), (0, .ref Γ.2.1), (1, .int v1), (2, .int v2), (3, .int v3)]) hk dX2_bestOf_63 rfl rfl (by decide) (fun _ => rfl) (fun x3 => ?_)
  refine g_goto (pc := 66) (tgt := 5) hk dX2_bestOf_66 rfl ?_
  refine g_sub (ls' := [(0, .ref Γ.2.1), (1, .int v1), (2, .int v2), (3, .int v3), (4, .int x3)]) [1, 2, 3, 4, 0] rfl ?_
  exact hk5 v3 x3
theorem tm_bestOf_j60 {K : KT} {Γ : TG} (hk : KOK K cX2_bestOf 5 RX2 rm_bestOf (some .int)) (hK : va_K Γ.1 tcl (ttys Γ) (kS K)) (τ : TS) (v1 : Int32) (v2 : Int32) (v4 : Int32)  (k5 : Int32 → Int32 → Option (Int32)) (hk5 : ∀ (v3 : Int32) (v4 : Int32), GGo K (tQ K Γ (fun r : Int32 => (some (Value.int r), τ))) (k5 v3 v4) 5 (TI Γ (kS K) τ) 0 0 5 [(0, .ref Γ.2.1), (1, .int v1), (2, .int v2), (3, .int v3), (4, .int v4)] []) : GGo K (tQ K Γ (fun r : Int32 => (some (Value.int r), τ))) (T_bestOf_j60 k5 τ v1 v2 v4) 5 (TI Γ (kS K) τ) 0 0 60 [(0, .ref Γ.2.1), (1, .int v1), (2, .int v2), (4, .int v4)] [] := by
  unfold T_bestOf_j60
  refine g_iload (pc := 60) hk dX2_bestOf_60 rfl ?_
  refine g_istore_n (pc := 62) (i := 3) (ls' := [(3, .int v4), (0, .ref Γ.2.1), (1, .int v1), (2, .int v2), (4, .int v4)]) hk dX2_bestOf_62 rfl (by decide) rfl ?_
  refine g_sub (ls' := [(0, .ref Γ.2.1), (1, .int v1), (2, .int v2), (3, .int v4), (4, .int v4)]) [1, 2, 3, 0, 4] rfl ?_
  exact tm_bestOf_j63 hk hK τ v1 v2 v4 v4 k5 hk5
theorem tm_bestOf_l5 {K : KT} {Γ : TG} (hk : KOK K cX2_bestOf 5 RX2 rm_bestOf (some .int)) (hK : va_K Γ.1 tcl (ttys Γ) (kS K)) (τ : TS) (v1 : Int32) (v2 : Int32)   : ∀ (n : Nat) (v3 : Int32) (v4 : Int32), GGo K (tQ K Γ (fun r : Int32 => (some (Value.int r), τ))) (T_bestOf_l5 τ v1 v2 n v3 v4) 5 (TI Γ (kS K) τ) 0 0 5 [(0, .ref Γ.2.1), (1, .int v1), (2, .int v2), (3, .int v3), (4, .int v4)] [] := by
  intro n
  induction n with
  | zero =>
    intro v3 v4
    unfold T_bestOf_l5
    exact g_none
  | succ n ih =>
    intro v3 v4
    unfold T_bestOf_l5
    refine g_iload (pc := 5) hk dX2_bestOf_5 rfl ?_
    refine g_bipush (pc := 7) (v := 8) hk dX2_bestOf_7 rfl ?_
    refine g_icmp_ge (pc := 9) (tgt := 69) hk dX2_bestOf_9 rfl ?_ ?_
    · refine g_iload_n (pc := 69) hk dX2_bestOf_69 rfl ?_
      exact t_iret (pc := 70) hk rfl dX2_bestOf_70
    · refine g_iload_n (pc := 12) hk dX2_bestOf_12 rfl ?_
      refine g_iload (pc := 13) hk dX2_bestOf_13 rfl ?_
      refine g_ob1 (fun r1 h2 => ?_)
      refine t_callS (pc := 15) hk hK [.int v2, .int v4] [] (tm_has Γ τ v2 v4 r1 h2) (lw_S q1565 q1566 q128 q1567) hs_has rfl rfl rfl dX2_bestOf_15 rfl rfl ?_
      refine g_if_eq (pc := 18) (tgt := 63) hk dX2_bestOf_18 rfl ?_ ?_
      · exact tm_bestOf_j63 hk hK τ v1 v2 v3 v4 (T_bestOf_l5 τ v1 v2 n) ih
      · refine g_iload_n (pc := 21) hk dX2_bestOf_21 rfl ?_
        refine g_iconst (pc := 22) (v := (-1)) hk dX2_bestOf_22 rfl ?_
        refine g_icmp_eq (pc := 23) (tgt := 60) hk dX2_bestOf_23 rfl ?_ ?_
        · refine g_sub (ls' := [(0, .ref Γ.2.1), (1, .int v1), (2, .int v2), (4, .int v4)]) [0, 1, 2, 4] rfl ?_
          exact tm_bestOf_j60 hk hK τ v1 v2 v4 (T_bestOf_l5 τ v1 v2 n) ih
        · refine g_aload_n (pc := 26) hk dX2_bestOf_26 rfl ?_
          refine t_getR (pc := 27) hk hK tr_0 tf_0 dX2_bestOf_27 ?_
          refine g_sipush (pc := 30) (v := 142) hk dX2_bestOf_30 rfl ?_
          refine g_bipush (pc := 33) (v := 8) hk dX2_bestOf_33 rfl ?_
          refine g_iload_n (pc := 35) hk dX2_bestOf_35 rfl ?_
          refine g_imul (pc := 36) hk dX2_bestOf_36 ?_
          refine g_iadd (pc := 37) hk dX2_bestOf_37 ?_
          refine g_iload (pc := 38) hk dX2_bestOf_38 rfl ?_
          refine g_iadd (pc := 40) hk dX2_bestOf_40 ?_
          refine t_iald (pc := 41) hk hK ta_0 dX2_bestOf_41 ?_
          refine g_aload_n (pc := 42) hk dX2_bestOf_42 rfl ?_
          refine t_getR (pc := 43) hk hK tr_0 tf_0 dX2_bestOf_43 ?_
          refine g_sipush (pc := 46) (v := 142) hk dX2_bestOf_46 rfl ?_
          refine g_bipush (pc := 49) (v := 8) hk dX2_bestOf_49 rfl ?_
          refine g_iload_n (pc := 51) hk dX2_bestOf_51 rfl ?_
          refine g_imul (pc := 52) hk dX2_bestOf_52 ?_
          refine g_iadd (pc := 53) hk dX2_bestOf_53 ?_
          refine g_iload_n (pc := 54) hk dX2_bestOf_54 rfl ?_
          refine g_iadd (pc := 55) hk dX2_bestOf_55 ?_
          refine t_iald (pc := 56) hk hK ta_0 dX2_bestOf_56 ?_
          refine g_icmp_ge (pc := 57) (tgt := 63) hk dX2_bestOf_57 rfl ?_ ?_
          · exact tm_bestOf_j63 hk hK τ v1 v2 v3 v4 (T_bestOf_l5 τ v1 v2 n) ih
          · refine g_sub (ls' := [(0, .ref Γ.2.1), (1, .int v1), (2, .int v2), (4, .int v4)]) [0, 1, 2, 4] rfl ?_
            exact tm_bestOf_j60 hk hK τ v1 v2 v4 (T_bestOf_l5 τ v1 v2 n) ih
theorem tm_bestOf (Γ : TG) (τ : TS) (v1 : Int32) (v2 : Int32)  (r : Int32) (h : T_bestOf τ v1 v2 = some r) : TMet Γ yX2_bestOf cX2_bestOf 5 (some .int) rm_bestOf [.ref Γ.2.1, .int v1, .int v2] τ (some (.int r)) τ := by
  refine t_met (view := (fun r : Int32 => (some (Value.int r), τ))) rfl rfl (ls0 := [(0, .ref Γ.2.1), (1, .int v1), (2, .int v2)]) rfl (fun K hk hK => ?_) r h
  unfold T_bestOf
  refine g_iconst (pc := 0) (v := (-1)) hk dX2_bestOf_0 rfl ?_
  refine g_istore_n (pc := 1) (i := 3) (ls' := [(3, .int (-1)), (0, .ref Γ.2.1), (1, .int v1), (2, .int v2)]) hk dX2_bestOf_1 rfl (by decide) rfl ?_
  refine g_iconst (pc := 2) (v := 0) hk dX2_bestOf_2 rfl ?_
  refine g_istore (pc := 3) (i := 4) (ls' := [(4, .int 0), (3, .int (-1)), (0, .ref Γ.2.1), (1, .int v1), (2, .int v2)]) hk dX2_bestOf_3 (by decide) rfl ?_
  refine g_sub (ls' := [(0, .ref Γ.2.1), (1, .int v1), (2, .int v2), (3, .int (-1)), (4, .int 0)]) [2, 3, 4, 1, 0] rfl ?_
  exact tm_bestOf_l5 hk hK τ v1 v2 FU (-1) 0
def rm_layTrades : Room := { frames := 2, cells := 0, slots := 0, locals := 45 }
theorem hv_layTrades : yX2_layTrades.cls = RX2 ∧ yX2_layTrades.cls ≠ "java/lang/invoke/MethodHandle" ∧ yX2_layTrades.cls ≠ "java/lang/invoke/VarHandle" ∧ (parseMethodDescriptor yX2_layTrades.desc).map (fun d => d.parameters.length) = some 1 := by decide +kernel
theorem tm_layTrades_l40 {K : KT} {Γ : TG} (hk : KOK K cX2_layTrades 5 RX2 rm_layTrades none) (hK : va_K Γ.1 tcl (ttys Γ) (kS K)) (v1 : Int32) (v2 : Int32)  (k6 : TS → Int32 → Option (TS)) (hk6 : ∀ (τ : TS) (v2 : Int32), GGo K (tQ K Γ (fun r : TS => ((none : Option Value), r))) (k6 τ v2) 5 (TI Γ (kS K) τ) 0 0 6 [(0, .ref Γ.2.1), (1, .int v1), (2, .int v2)] []) : ∀ (n : Nat) (τ : TS) (v3 : Int32) (v4 : Int32), GGo K (tQ K Γ (fun r : TS => ((none : Option Value), r))) (T_layTrades_l40 k6 v1 v2 n τ v3 v4) 5 (TI Γ (kS K) τ) 0 0 40 [(0, .ref Γ.2.1), (1, .int v1), (2, .int v2), (3, .int v3), (4, .int v4)] [] := by
  intro n
  induction n with
  | zero =>
    intro τ v3 v4
    unfold T_layTrades_l40
    exact g_none
  | succ n ih =>
    intro τ v3 v4
    unfold T_layTrades_l40
    refine g_iload (pc := 40) hk dX2_layTrades_40 rfl ?_
    refine g_iload_n (pc := 42) hk dX2_layTrades_42 rfl ?_
    refine g_ob1 (fun r4 h5 => ?_)
    refine t_callS (pc := 43) hk hK [.int v4, .int v3] [] (tm_has Γ τ v4 v3 r4 h5) (lw_S q1565 q1566 q128 q1567) hs_has rfl rfl rfl dX2_layTrades_43 rfl rfl ?_
    refine g_if_ne (pc := 46) (tgt := 79) hk dX2_layTrades_46 rfl ?_ ?_
    · refine g_iload_n (pc := 79) hk dX2_layTrades_79 rfl ?_
      refine g_iload (pc := 80) hk dX2_layTrades_80 rfl ?_
      refine g_iconst (pc := 82) (v := (-1)) hk dX2_layTrades_82 rfl ?_
      refine g_ixor (pc := 83) hk dX2_layTrades_83 ?_
      refine g_iand (pc := 84) hk dX2_layTrades_84 ?_
      refine g_istore_nN (pc := 85) (i := 2) (ls' := fun x6 => [(2, .int x6), (0, .ref Γ.2.1), (1, .int v1), (3, .int v3), (4, .int v4)]) hk dX2_layTrades_85 rfl (by decide) (fun _ => rfl) (fun x6 => ?_)
      refine g_goto (pc := 86) (tgt := 6) hk dX2_layTrades_86 rfl ?_
      refine g_sub (ls' := [(0, .ref Γ.2.1), (1, .int v1), (2, .int x6)]) [1, 2, 0] rfl ?_
      exact hk6 τ x6
    · refine g_iload (pc := 49) hk dX2_layTrades_49 rfl ?_
      refine g_iconst (pc := 51) (v := 1) hk dX2_layTrades_51 rfl ?_
      refine g_iload_n (pc := 52) hk dX2_layTrades_52 rfl ?_
      refine g_ishl (pc := 53) hk dX2_layTrades_53 ?_
      refine g_ior (pc := 54) hk dX2_layTrades_54 ?_
      refine g_istoreN (pc := 55) (i := 4) (ls' := fun x7 => [(4, .int x7), (0, .ref Γ.2.1), (1, .int v1), (2, .int v2), (3, .int v3)]) hk dX2_layTrades_55 (by decide) (fun _ => rfl) (fun x7 => ?_)
      refine g_aload_n (pc := 57) hk dX2_layTrades_57 rfl ?_
      refine t_getR (pc := 58) hk hK tr_30 tf_30 dX2_layTrades_58 ?_
      refine g_iload_n (pc := 61) hk dX2_layTrades_61 rfl ?_
      refine g_aload_n (pc := 62) hk dX2_layTrades_62 rfl ?_
      refine g_iload_n (pc := 63) hk dX2_layTrades_63 rfl ?_
      refine g_iload_n (pc := 64) hk dX2_layTrades_64 rfl ?_
      refine g_ob1 (fun r8 h9 => ?_)
      refine t_callV (pc := 65) hk hK [.int v3, .int v2] [.int v3, .ref (Γ.2.2.1 30)] (tm_bestOf Γ τ v3 v2 r8 h9) (lw_V q2004 q2006 qs122 q128 q2007) hv_bestOf rfl rfl rfl dX2_layTrades_65 rfl rfl ?_
      refine t_iast (pc := 68) hk hK ta_30 dX2_layTrades_68 (fun τ10 => ?_)
      refine g_aload_n (pc := 69) hk dX2_layTrades_69 rfl ?_
      refine t_getR (pc := 70) hk hK tr_30 tf_30 dX2_layTrades_70 ?_
      refine g_iload_n (pc := 73) hk dX2_layTrades_73 rfl ?_
      refine t_iald (pc := 74) hk hK ta_30 dX2_layTrades_74 ?_
      refine g_istore_nN (pc := 75) (i := 3) (ls' := fun x11 => [(3, .int x11), (4, .int x7), (0, .ref Γ.2.1), (1, .int v1), (2, .int v2)]) hk dX2_layTrades_75 rfl (by decide) (fun _ => rfl) (fun x11 => ?_)
      refine g_goto (pc := 76) (tgt := 40) hk dX2_layTrades_76 rfl ?_
      refine g_sub (ls' := [(0, .ref Γ.2.1), (1, .int v1), (2, .int v2), (3, .int x11), (4, .int x7)]) [2, 3, 4, 0, 1] rfl ?_
      exact ih τ10 x11 x7
theorem tm_layTrades_l18 {K : KT} {Γ : TG} (hk : KOK K cX2_layTrades 5 RX2 rm_layTrades none) (hK : va_K Γ.1 tcl (ttys Γ) (kS K)) (τ : TS) (v1 : Int32) (v2 : Int32)  (k6 : TS → Int32 → Option (TS)) (hk6 : ∀ (τ : TS) (v2 : Int32), GGo K (tQ K Γ (fun r : TS => ((none : Option Value), r))) (k6 τ v2) 5 (TI Γ (kS K) τ) 0 0 6 [(0, .ref Γ.2.1), (1, .int v1), (2, .int v2)] []) : ∀ (n : Nat) (v3 : Int32) (v4 : Int32), GGo K (tQ K Γ (fun r : TS => ((none : Option Value), r))) (T_layTrades_l18 k6 τ v1 v2 n v3 v4) 5 (TI Γ (kS K) τ) 0 0 18 [(0, .ref Γ.2.1), (1, .int v1), (2, .int v2), (3, .int v3), (4, .int v4)] [] := by
  intro n
  induction n with
  | zero =>
    intro v3 v4
    unfold T_layTrades_l18
    exact g_none
  | succ n ih =>
    intro v3 v4
    unfold T_layTrades_l18
    refine g_iload (pc := 18) hk dX2_layTrades_18 rfl ?_
    refine g_iload_n (pc := 20) hk dX2_layTrades_20 rfl ?_
    refine g_icmp_ge (pc := 21) (tgt := 37) hk dX2_layTrades_21 rfl ?_ ?_
    · refine g_iconst (pc := 37) (v := 0) hk dX2_layTrades_37 rfl ?_
      refine g_istore (pc := 38) (i := 4) (ls' := [(4, .int 0), (0, .ref Γ.2.1), (1, .int v1), (2, .int v2), (3, .int v3)]) hk dX2_layTrades_38 (by decide) rfl ?_
      refine g_sub (ls' := [(0, .ref Γ.2.1), (1, .int v1), (2, .int v2), (3, .int v3), (4, .int 0)]) [1, 2, 3, 4, 0] rfl ?_
      exact tm_layTrades_l40 hk hK v1 v2 k6 hk6 FU τ v3 0
    · refine g_aload_n (pc := 24) hk dX2_layTrades_24 rfl ?_
      refine g_iload_n (pc := 25) hk dX2_layTrades_25 rfl ?_
      refine g_iload_n (pc := 26) hk dX2_layTrades_26 rfl ?_
      refine g_ob1 (fun r12 h13 => ?_)
      refine t_callV (pc := 27) hk hK [.int v3, .int v2] [] (tm_bestOf Γ τ v3 v2 r12 h13) (lw_V q2004 q2006 qs122 q128 q2007) hv_bestOf rfl rfl rfl dX2_layTrades_27 rfl rfl ?_
      refine g_istore_n (pc := 30) (i := 3) (ls' := [(3, .int r12), (0, .ref Γ.2.1), (1, .int v1), (2, .int v2), (4, .int v4)]) hk dX2_layTrades_30 rfl (by decide) rfl ?_
      refine g_iincN (pc := 31) (v := 1) (ls' := fun x14 => [(4, .int x14), (3, .int r12), (0, .ref Γ.2.1), (1, .int v1), (2, .int v2)]) hk dX2_layTrades_31 rfl rfl (by decide) (fun _ => rfl) (fun x14 => ?_)
      refine g_goto (pc := 34) (tgt := 18) hk dX2_layTrades_34 rfl ?_
      refine g_sub (ls' := [(0, .ref Γ.2.1), (1, .int v1), (2, .int v2), (3, .int r12), (4, .int x14)]) [2, 3, 4, 1, 0] rfl ?_
      exact ih r12 x14
theorem tm_layTrades_l6 {K : KT} {Γ : TG} (hk : KOK K cX2_layTrades 5 RX2 rm_layTrades none) (hK : va_K Γ.1 tcl (ttys Γ) (kS K)) (v1 : Int32)   : ∀ (n : Nat) (τ : TS) (v2 : Int32), GGo K (tQ K Γ (fun r : TS => ((none : Option Value), r))) (T_layTrades_l6 v1 n τ v2) 5 (TI Γ (kS K) τ) 0 0 6 [(0, .ref Γ.2.1), (1, .int v1), (2, .int v2)] [] := by
  intro n
  induction n with
  | zero =>
    intro τ v2
    unfold T_layTrades_l6
    exact g_none
  | succ n ih =>
    intro τ v2
    unfold T_layTrades_l6
    refine g_iload_n (pc := 6) hk dX2_layTrades_6 rfl ?_
    refine g_if_eq (pc := 7) (tgt := 89) hk dX2_layTrades_7 rfl ?_ ?_
    · exact t_vret (pc := 89) hk rfl dX2_layTrades_89
    · refine g_iload_n (pc := 10) hk dX2_layTrades_10 rfl ?_
      refine g_ob1 (fun r2 h3 => ?_)
      refine t_callS (pc := 11) hk hK [.int v2] [] (tm_lowestOf Γ τ v2 r2 h3) (lw_S q1985 q1986 q128 q1987) hs_lowestOf rfl rfl rfl dX2_layTrades_11 rfl rfl ?_
      refine g_istore_n (pc := 14) (i := 3) (ls' := [(3, .int r2), (0, .ref Γ.2.1), (1, .int v1), (2, .int v2)]) hk dX2_layTrades_14 rfl (by decide) rfl ?_
      refine g_iconst (pc := 15) (v := 0) hk dX2_layTrades_15 rfl ?_
      refine g_istore (pc := 16) (i := 4) (ls' := [(4, .int 0), (3, .int r2), (0, .ref Γ.2.1), (1, .int v1), (2, .int v2)]) hk dX2_layTrades_16 (by decide) rfl ?_
      refine g_sub (ls' := [(0, .ref Γ.2.1), (1, .int v1), (2, .int v2), (3, .int r2), (4, .int 0)]) [2, 3, 4, 1, 0] rfl ?_
      exact tm_layTrades_l18 hk hK τ v1 v2 (T_layTrades_l6 v1 n) ih FU r2 0
theorem tm_layTrades (Γ : TG) (τ : TS) (v1 : Int32)  (r : TS) (h : T_layTrades τ v1 = some r) : TMet Γ yX2_layTrades cX2_layTrades 5 none rm_layTrades [.ref Γ.2.1, .int v1] τ none r := by
  refine t_met (view := (fun r : TS => ((none : Option Value), r))) rfl rfl (ls0 := [(0, .ref Γ.2.1), (1, .int v1)]) rfl (fun K hk hK => ?_) r h
  unfold T_layTrades
  refine g_iconst (pc := 0) (v := 1) hk dX2_layTrades_0 rfl ?_
  refine g_iload_n (pc := 1) hk dX2_layTrades_1 rfl ?_
  refine g_ishl (pc := 2) hk dX2_layTrades_2 ?_
  refine g_iconst (pc := 3) (v := 1) hk dX2_layTrades_3 rfl ?_
  refine g_isub (pc := 4) hk dX2_layTrades_4 ?_
  refine g_istore_nN (pc := 5) (i := 2) (ls' := fun x1 => [(2, .int x1), (0, .ref Γ.2.1), (1, .int v1)]) hk dX2_layTrades_5 rfl (by decide) (fun _ => rfl) (fun x1 => ?_)
  refine g_sub (ls' := [(0, .ref Γ.2.1), (1, .int v1), (2, .int x1)]) [1, 2, 0] rfl ?_
  exact tm_layTrades_l6 hk hK v1 FU τ x1
def rm_traded : Room := { frames := 3, cells := 0, slots := 0, locals := 69 }
theorem hv_traded : yX2_traded.cls = RX2 ∧ yX2_traded.cls ≠ "java/lang/invoke/MethodHandle" ∧ yX2_traded.cls ≠ "java/lang/invoke/VarHandle" ∧ (parseMethodDescriptor yX2_traded.desc).map (fun d => d.parameters.length) = some 2 := by decide +kernel
theorem tm_traded (Γ : TG) (τ : TS) (v1 : Int32) (v2 : Int32)  (r : Int32 × TS) (h : T_traded τ v1 v2 = some r) : TMet Γ yX2_traded cX2_traded 3 (some .int) rm_traded [.ref Γ.2.1, .int v1, .int v2] τ (some (.int r.1)) r.2 := by
  refine t_met (view := (fun r : Int32 × TS => (some (Value.int r.1), r.2))) rfl rfl (ls0 := [(0, .ref Γ.2.1), (1, .int v1), (2, .int v2)]) rfl (fun K hk hK => ?_) r h
  unfold T_traded
  refine g_iload_n (pc := 0) hk dX2_traded_0 rfl ?_
  refine g_iconst (pc := 1) (v := 1) hk dX2_traded_1 rfl ?_
  refine g_bipush (pc := 2) (v := 8) hk dX2_traded_2 rfl ?_
  refine g_ob1 (fun r1 h2 => ?_)
  refine t_callS (pc := 4) hk hK [.int v1, .int 1, .int 8] [] (tm_isIn Γ τ v1 1 8 r1 h2) (lw_S q1477 q1478 q128 q1479) hs_isIn rfl rfl rfl dX2_traded_4 rfl rfl ?_
  refine g_if_eq (pc := 7) (tgt := 21) hk dX2_traded_7 rfl ?_ ?_
  · refine g_iconst (pc := 21) (v := (-1)) hk dX2_traded_21 rfl ?_
    exact t_iret (pc := 22) hk rfl dX2_traded_22
  · refine g_iload_n (pc := 10) hk dX2_traded_10 rfl ?_
    refine g_iconst (pc := 11) (v := 0) hk dX2_traded_11 rfl ?_
    refine g_iload_n (pc := 12) hk dX2_traded_12 rfl ?_
    refine g_iconst (pc := 13) (v := 1) hk dX2_traded_13 rfl ?_
    refine g_isub (pc := 14) hk dX2_traded_14 ?_
    refine g_ob1 (fun r3 h4 => ?_)
    refine t_callS (pc := 15) hk hK [.int v2, .int 0, .int (v1 - 1)] [] (tm_isIn Γ τ v2 0 (v1 - 1) r3 h4) (lw_S q1477 q1478 q128 q1479) hs_isIn rfl rfl rfl dX2_traded_15 rfl rfl ?_
    refine g_if_ne (pc := 18) (tgt := 23) hk dX2_traded_18 rfl ?_ ?_
    · refine g_aload_n (pc := 23) hk dX2_traded_23 rfl ?_
      refine g_iload_n (pc := 24) hk dX2_traded_24 rfl ?_
      refine g_ob1 (fun τ6 h5 => ?_)
      refine t_callV (pc := 25) hk hK [.int v1] [] (tm_layTrades Γ τ v1 τ6 h5) (lw_V q2000 q2002 qs121 q128 q2003) hv_layTrades rfl rfl rfl dX2_traded_25 rfl rfl ?_
      refine g_aload_n (pc := 28) hk dX2_traded_28 rfl ?_
      refine t_getR (pc := 29) hk hK tr_30 tf_30 dX2_traded_29 ?_
      refine g_iload_n (pc := 32) hk dX2_traded_32 rfl ?_
      refine t_iald (pc := 33) hk hK ta_30 dX2_traded_33 ?_
      exact t_iret (pc := 34) hk rfl dX2_traded_34
    · refine g_iconst (pc := 21) (v := (-1)) hk dX2_traded_21 rfl ?_
      exact t_iret (pc := 22) hk rfl dX2_traded_22
def rm_rather : Room := { frames := 3, cells := 0, slots := 0, locals := 69 }
theorem hv_rather : yX2_rather.cls = RX2 ∧ yX2_rather.cls ≠ "java/lang/invoke/MethodHandle" ∧ yX2_rather.cls ≠ "java/lang/invoke/VarHandle" ∧ (parseMethodDescriptor yX2_rather.desc).map (fun d => d.parameters.length) = some 1 := by decide +kernel
theorem tm_rather_j44 {K : KT} {Γ : TG} (hk : KOK K cX2_rather 4 RX2 rm_rather (some .int)) (hK : va_K Γ.1 tcl (ttys Γ) (kS K)) (τ : TS) (v1 : Int32) (v3 : Int32) (s0 : Int32) (s1 : Int32)  (k21 : Int32 → Int32 → Option (Int32 × TS)) (hk21 : ∀ (v2 : Int32) (v3 : Int32), GGo K (tQ K Γ (fun r : Int32 × TS => (some (Value.int r.1), r.2))) (k21 v2 v3) 4 (TI Γ (kS K) τ) 0 0 21 [(0, .ref Γ.2.1), (1, .int v1), (2, .int v2), (3, .int v3)] []) : GGo K (tQ K Γ (fun r : Int32 × TS => (some (Value.int r.1), r.2))) (T_rather_j44 k21 τ v1 v3 s0 s1) 4 (TI Γ (kS K) τ) 0 0 44 [(0, .ref Γ.2.1), (1, .int v1), (3, .int v3)] [.int s1, .int s0] := by
  unfold T_rather_j44
  refine g_ior (pc := 44) hk dX2_rather_44 ?_
  refine g_istore_nN (pc := 45) (i := 2) (ls' := fun x5 => [(2, .int x5), (0, .ref Γ.2.1), (1, .int v1), (3, .int v3)]) hk dX2_rather_45 rfl (by decide) (fun _ => rfl) (fun x5 => ?_)
  refine g_iincN (pc := 46) (v := 1) (ls' := fun x6 => [(3, .int x6), (2, .int x5), (0, .ref Γ.2.1), (1, .int v1)]) hk dX2_rather_46 rfl rfl (by decide) (fun _ => rfl) (fun x6 => ?_)
  refine g_goto (pc := 49) (tgt := 21) hk dX2_rather_49 rfl ?_
  refine g_sub (ls' := [(0, .ref Γ.2.1), (1, .int v1), (2, .int x5), (3, .int x6)]) [2, 3, 1, 0] rfl ?_
  exact hk21 x5 x6
theorem tm_rather_l21 {K : KT} {Γ : TG} (hk : KOK K cX2_rather 4 RX2 rm_rather (some .int)) (hK : va_K Γ.1 tcl (ttys Γ) (kS K)) (τ : TS) (v1 : Int32)   : ∀ (n : Nat) (v2 : Int32) (v3 : Int32), GGo K (tQ K Γ (fun r : Int32 × TS => (some (Value.int r.1), r.2))) (T_rather_l21 τ v1 n v2 v3) 4 (TI Γ (kS K) τ) 0 0 21 [(0, .ref Γ.2.1), (1, .int v1), (2, .int v2), (3, .int v3)] [] := by
  intro n
  induction n with
  | zero =>
    intro v2 v3
    unfold T_rather_l21
    exact g_none
  | succ n ih =>
    intro v2 v3
    unfold T_rather_l21
    refine g_iload_n (pc := 21) hk dX2_rather_21 rfl ?_
    refine g_iload_n (pc := 22) hk dX2_rather_22 rfl ?_
    refine g_icmp_ge (pc := 23) (tgt := 52) hk dX2_rather_23 rfl ?_ ?_
    · refine g_iload_n (pc := 52) hk dX2_rather_52 rfl ?_
      exact t_iret (pc := 53) hk rfl dX2_rather_53
    · refine g_iload_n (pc := 26) hk dX2_rather_26 rfl ?_
      refine g_aload_n (pc := 27) hk dX2_rather_27 rfl ?_
      refine t_getR (pc := 28) hk hK tr_30 tf_30 dX2_rather_28 ?_
      refine g_iload_n (pc := 31) hk dX2_rather_31 rfl ?_
      refine t_iald (pc := 32) hk hK ta_30 dX2_rather_32 ?_
      refine g_iload_n (pc := 33) hk dX2_rather_33 rfl ?_
      refine g_icmp_eq (pc := 34) (tgt := 43) hk dX2_rather_34 rfl ?_ ?_
      · refine g_iconst (pc := 43) (v := 0) hk dX2_rather_43 rfl ?_
        refine g_sub (ls' := [(0, .ref Γ.2.1), (1, .int v1), (3, .int v3)]) [0, 1, 3] rfl ?_
        exact tm_rather_j44 hk hK τ v1 v3 v2 0 (T_rather_l21 τ v1 n) ih
      · refine g_iconst (pc := 37) (v := 1) hk dX2_rather_37 rfl ?_
        refine g_iload_n (pc := 38) hk dX2_rather_38 rfl ?_
        refine g_ishl (pc := 39) hk dX2_rather_39 ?_
        refine g_goto (pc := 40) (tgt := 44) hk dX2_rather_40 rfl ?_
        refine g_sub (ls' := [(0, .ref Γ.2.1), (1, .int v1), (3, .int v3)]) [0, 1, 3] rfl ?_
        exact tm_rather_j44 hk hK τ v1 v3 v2 (i_shl 1 v3) (T_rather_l21 τ v1 n) ih
theorem tm_rather (Γ : TG) (τ : TS) (v1 : Int32)  (r : Int32 × TS) (h : T_rather τ v1 = some r) : TMet Γ yX2_rather cX2_rather 4 (some .int) rm_rather [.ref Γ.2.1, .int v1] τ (some (.int r.1)) r.2 := by
  refine t_met (view := (fun r : Int32 × TS => (some (Value.int r.1), r.2))) rfl rfl (ls0 := [(0, .ref Γ.2.1), (1, .int v1)]) rfl (fun K hk hK => ?_) r h
  unfold T_rather
  refine g_iload_n (pc := 0) hk dX2_rather_0 rfl ?_
  refine g_iconst (pc := 1) (v := 1) hk dX2_rather_1 rfl ?_
  refine g_bipush (pc := 2) (v := 8) hk dX2_rather_2 rfl ?_
  refine g_ob1 (fun r1 h2 => ?_)
  refine t_callS (pc := 4) hk hK [.int v1, .int 1, .int 8] [] (tm_isIn Γ τ v1 1 8 r1 h2) (lw_S q1477 q1478 q128 q1479) hs_isIn rfl rfl rfl dX2_rather_4 rfl rfl ?_
  refine g_if_ne (pc := 7) (tgt := 12) hk dX2_rather_7 rfl ?_ ?_
  · refine g_aload_n (pc := 12) hk dX2_rather_12 rfl ?_
    refine g_iload_n (pc := 13) hk dX2_rather_13 rfl ?_
    refine g_ob1 (fun τ4 h3 => ?_)
    refine t_callV (pc := 14) hk hK [.int v1] [] (tm_layTrades Γ τ v1 τ4 h3) (lw_V q2000 q2002 qs121 q128 q2003) hv_layTrades rfl rfl rfl dX2_rather_14 rfl rfl ?_
    refine g_iconst (pc := 17) (v := 0) hk dX2_rather_17 rfl ?_
    refine g_istore_n (pc := 18) (i := 2) (ls' := [(2, .int 0), (0, .ref Γ.2.1), (1, .int v1)]) hk dX2_rather_18 rfl (by decide) rfl ?_
    refine g_iconst (pc := 19) (v := 0) hk dX2_rather_19 rfl ?_
    refine g_istore_n (pc := 20) (i := 3) (ls' := [(3, .int 0), (2, .int 0), (0, .ref Γ.2.1), (1, .int v1)]) hk dX2_rather_20 rfl (by decide) rfl ?_
    refine g_sub (ls' := [(0, .ref Γ.2.1), (1, .int v1), (2, .int 0), (3, .int 0)]) [2, 3, 1, 0] rfl ?_
    exact tm_rather_l21 hk hK τ4 v1 FU 0 0
  · refine g_iconst (pc := 10) (v := (-1)) hk dX2_rather_10 rfl ?_
    exact t_iret (pc := 11) hk rfl dX2_rather_11
def rm_slip : Room := { frames := 2, cells := 0, slots := 0, locals := 42 }
theorem hv_slip : yX2_slip.cls = RX2 ∧ yX2_slip.cls ≠ "java/lang/invoke/MethodHandle" ∧ yX2_slip.cls ≠ "java/lang/invoke/VarHandle" ∧ (parseMethodDescriptor yX2_slip.desc).map (fun d => d.parameters.length) = some 2 := by decide +kernel
theorem tm_slip (Γ : TG) (τ : TS) (v1 : Int32) (v2 : Int32)  (r : Int32 × TS) (h : T_slip τ v1 v2 = some r) : TMet Γ yX2_slip cX2_slip 3 (some .boolean) rm_slip [.ref Γ.2.1, .int v1, .int v2] τ (some (.int r.1)) r.2 := by
  refine t_met (view := (fun r : Int32 × TS => (some (Value.int r.1), r.2))) rfl rfl (ls0 := [(0, .ref Γ.2.1), (1, .int v1), (2, .int v2)]) rfl (fun K hk hK => ?_) r h
  unfold T_slip
  refine g_iload_n (pc := 0) hk dX2_slip_0 rfl ?_
  refine g_ob1 (fun r1 h2 => ?_)
  refine t_callS (pc := 1) hk hK [.int v1] [] (tm_isChair Γ τ v1 r1 h2) (lw_S q1496 q1497 q128 q1498) hs_isChair rfl rfl rfl dX2_slip_1 rfl rfl ?_
  refine g_if_eq (pc := 4) (tgt := 17) hk dX2_slip_4 rfl ?_ ?_
  · refine g_iconst (pc := 17) (v := 0) hk dX2_slip_17 rfl ?_
    exact t_zret (pc := 18) hk rfl rfl dX2_slip_18
  · refine g_iload_n (pc := 7) hk dX2_slip_7 rfl ?_
    refine g_iconst (pc := 8) (v := 0) hk dX2_slip_8 rfl ?_
    refine g_bipush (pc := 9) (v := 10) hk dX2_slip_9 rfl ?_
    refine g_ob1 (fun r3 h4 => ?_)
    refine t_callS (pc := 11) hk hK [.int v2, .int 0, .int 10] [] (tm_isIn Γ τ v2 0 10 r3 h4) (lw_S q1477 q1478 q128 q1479) hs_isIn rfl rfl rfl dX2_slip_11 rfl rfl ?_
    refine g_if_ne (pc := 14) (tgt := 19) hk dX2_slip_14 rfl ?_ ?_
    · refine g_aload_n (pc := 19) hk dX2_slip_19 rfl ?_
      refine t_getR (pc := 20) hk hK tr_0 tf_0 dX2_slip_20 ?_
      refine g_sipush (pc := 23) (v := 206) hk dX2_slip_23 rfl ?_
      refine g_iload_n (pc := 26) hk dX2_slip_26 rfl ?_
      refine g_iadd (pc := 27) hk dX2_slip_27 ?_
      refine g_iload_n (pc := 28) hk dX2_slip_28 rfl ?_
      refine t_iast (pc := 29) hk hK ta_0 dX2_slip_29 (fun τ5 => ?_)
      refine g_iconst (pc := 30) (v := 1) hk dX2_slip_30 rfl ?_
      exact t_zret (pc := 31) hk rfl rfl dX2_slip_31
    · refine g_iconst (pc := 17) (v := 0) hk dX2_slip_17 rfl ?_
      exact t_zret (pc := 18) hk rfl rfl dX2_slip_18
def rm_scars : Room := { frames := 1, cells := 0, slots := 0, locals := 29 }
theorem hv_scars : yX2_scars.cls = RX2 ∧ yX2_scars.cls ≠ "java/lang/invoke/MethodHandle" ∧ yX2_scars.cls ≠ "java/lang/invoke/VarHandle" ∧ (parseMethodDescriptor yX2_scars.desc).map (fun d => d.parameters.length) = some 3 := by decide +kernel
theorem tm_scars_j21 {K : KT} {Γ : TG} (hk : KOK K cX2_scars 8 RX2 rm_scars (some .long)) (hK : va_K Γ.1 tcl (ttys Γ) (kS K)) (τ : TS)   : GGo K (tQ K Γ (fun r : Int64 × TS => (some (Value.long r.1), r.2))) (T_scars_j21 τ) 8 (TI Γ (kS K) τ) 0 0 21 [] [] := by
  unfold T_scars_j21
  refine g_ldc2 (pc := 21) (v := (-1)) hk q2020 dX2_scars_21 ?_
  exact t_lret (pc := 24) hk rfl dX2_scars_24
theorem tm_scars_j189 {K : KT} {Γ : TG} (hk : KOK K cX2_scars 8 RX2 rm_scars (some .long)) (hK : va_K Γ.1 tcl (ttys Γ) (kS K)) (τ : TS) (v2 : Int32) (v4 : Int64) (s0 : Int64)   : GGo K (tQ K Γ (fun r : Int64 × TS => (some (Value.long r.1), r.2))) (T_scars_j189 τ v2 v4 s0) 8 (TI Γ (kS K) τ) 0 0 189 [(0, .ref Γ.2.1), (2, .int v2), (4, .long v4)] [.long s0] := by
  unfold T_scars_j189
  refine g_aload_n (pc := 189) hk dX2_scars_189 rfl ?_
  refine t_getR (pc := 190) hk hK tr_31 tf_31 dX2_scars_190 ?_
  refine g_iload_n (pc := 193) hk dX2_scars_193 rfl ?_
  refine t_lald (pc := 194) hk hK ta_31 dX2_scars_194 ?_
  refine g_lload (pc := 195) hk dX2_scars_195 rfl ?_
  refine g_ob1 (fun r5 h6 => ?_)
  refine t_callS (pc := 197) hk hK [.long (tL τ 31 v2.toNatClampNeg), .long v4] [.long s0] (tm_divisor Γ τ (tL τ 31 v2.toNatClampNeg) v4 r5 h6) (lw_S q1876 q1877 q128 q1878) hs_divisor rfl rfl rfl dX2_scars_197 rfl rfl ?_
  refine g_ldivG (pc := 200) hk dX2_scars_200 (fun _ => ?_)
  exact t_lret (pc := 201) hk rfl dX2_scars_201
theorem tm_scars_j168 {K : KT} {Γ : TG} (hk : KOK K cX2_scars 8 RX2 rm_scars (some .long)) (hK : va_K Γ.1 tcl (ttys Γ) (kS K)) (τ : TS) (v1 : Int32) (v2 : Int32) (v3 : Int32) (v4 : Int64) (v6 : Int32)  (k64 : TS → Int64 → Int32 → Option (Int64 × TS)) (hk64 : ∀ (τ : TS) (v4 : Int64) (v6 : Int32), GGo K (tQ K Γ (fun r : Int64 × TS => (some (Value.long r.1), r.2))) (k64 τ v4 v6) 8 (TI Γ (kS K) τ) 0 0 64 [(0, .ref Γ.2.1), (1, .int v1), (2, .int v2), (3, .int v3), (4, .long v4), (6, .int v6)] []) : GGo K (tQ K Γ (fun r : Int64 × TS => (some (Value.long r.1), r.2))) (T_scars_j168 k64 τ v1 v2 v3 v4 v6) 8 (TI Γ (kS K) τ) 0 0 168 [(0, .ref Γ.2.1), (1, .int v1), (2, .int v2), (3, .int v3), (4, .long v4), (6, .int v6)] [] := by
  unfold T_scars_j168
  refine g_iincN (pc := 168) (v := 1) (ls' := fun x10 => [(6, .int x10), (0, .ref Γ.2.1), (1, .int v1), (2, .int v2), (3, .int v3), (4, .long v4)]) hk dX2_scars_168 rfl rfl (by decide) (fun _ => rfl) (fun x10 => ?_)
  refine g_goto (pc := 171) (tgt := 64) hk dX2_scars_171 rfl ?_
  refine g_sub (ls' := [(0, .ref Γ.2.1), (1, .int v1), (2, .int v2), (3, .int v3), (4, .long v4), (6, .int x10)]) [1, 2, 3, 4, 5, 0] rfl ?_
  exact hk64 τ v4 x10
theorem tm_scars_j152 {K : KT} {Γ : TG} (hk : KOK K cX2_scars 8 RX2 rm_scars (some .long)) (hK : va_K Γ.1 tcl (ttys Γ) (kS K)) (τ : TS) (v1 : Int32) (v2 : Int32) (v3 : Int32) (v4 : Int64) (v6 : Int32) (v7 : Int32) (s1 : Int32) (s2 : Int64) (s3 : Int64)  (k64 : TS → Int64 → Int32 → Option (Int64 × TS)) (k87 : TS → Int32 → Option (Int64 × TS)) (hk64 : ∀ (τ : TS) (v4 : Int64) (v6 : Int32), GGo K (tQ K Γ (fun r : Int64 × TS => (some (Value.long r.1), r.2))) (k64 τ v4 v6) 8 (TI Γ (kS K) τ) 0 0 64 [(0, .ref Γ.2.1), (1, .int v1), (2, .int v2), (3, .int v3), (4, .long v4), (6, .int v6)] []) (hk87 : ∀ (τ : TS) (v7 : Int32), GGo K (tQ K Γ (fun r : Int64 × TS => (some (Value.long r.1), r.2))) (k87 τ v7) 8 (TI Γ (kS K) τ) 0 0 87 [(0, .ref Γ.2.1), (1, .int v1), (2, .int v2), (3, .int v3), (4, .long v4), (6, .int v6), (7, .int v7)] []) : GGo K (tQ K Γ (fun r : Int64 × TS => (some (Value.long r.1), r.2))) (T_scars_j152 k64 k87 τ v1 v2 v3 v4 v6 v7 s1 s2 s3) 8 (TI Γ (kS K) τ) 0 0 152 [(0, .ref Γ.2.1), (1, .int v1), (2, .int v2), (3, .int v3), (4, .long v4), (6, .int v6), (7, .int v7)] [.long s3, .long s2, .int s1, .ref (Γ.2.2.1 31)] := by
  unfold T_scars_j152
  refine g_ladd (pc := 152) hk dX2_scars_152 ?_
  refine t_last (pc := 153) hk hK ta_31 dX2_scars_153 (fun τ11 => ?_)
  refine g_iincN (pc := 154) (v := (-1)) (ls' := fun x12 => [(7, .int x12), (0, .ref Γ.2.1), (1, .int v1), (2, .int v2), (3, .int v3), (4, .long v4), (6, .int v6)]) hk dX2_scars_154 rfl rfl (by decide) (fun _ => rfl) (fun x12 => ?_)
  refine g_goto (pc := 157) (tgt := 87) hk dX2_scars_157 rfl ?_
  refine g_sub (ls' := [(0, .ref Γ.2.1), (1, .int v1), (2, .int v2), (3, .int v3), (4, .long v4), (6, .int v6), (7, .int x12)]) [1, 2, 3, 4, 5, 6, 0] rfl ?_
  exact hk87 τ11 x12
theorem tm_scars_l87 {K : KT} {Γ : TG} (hk : KOK K cX2_scars 8 RX2 rm_scars (some .long)) (hK : va_K Γ.1 tcl (ttys Γ) (kS K)) (v1 : Int32) (v2 : Int32) (v3 : Int32) (v4 : Int64) (v6 : Int32)  (k64 : TS → Int64 → Int32 → Option (Int64 × TS)) (hk64 : ∀ (τ : TS) (v4 : Int64) (v6 : Int32), GGo K (tQ K Γ (fun r : Int64 × TS => (some (Value.long r.1), r.2))) (k64 τ v4 v6) 8 (TI Γ (kS K) τ) 0 0 64 [(0, .ref Γ.2.1), (1, .int v1), (2, .int v2), (3, .int v3), (4, .long v4), (6, .int v6)] []) : ∀ (n : Nat) (τ : TS) (v7 : Int32), GGo K (tQ K Γ (fun r : Int64 × TS => (some (Value.long r.1), r.2))) (T_scars_l87 k64 v1 v2 v3 v4 v6 n τ v7) 8 (TI Γ (kS K) τ) 0 0 87 [(0, .ref Γ.2.1), (1, .int v1), (2, .int v2), (3, .int v3), (4, .long v4), (6, .int v6), (7, .int v7)] [] := by
  intro n
  induction n with
  | zero =>
    intro τ v7
    unfold T_scars_l87
    exact g_none
  | succ n ih =>
    intro τ v7
    unfold T_scars_l87
    refine g_iload (pc := 87) hk dX2_scars_87 rfl ?_
    refine g_if_lt (pc := 89) (tgt := 160) hk dX2_scars_89 rfl ?_ ?_
    · refine g_lload (pc := 160) hk dX2_scars_160 rfl ?_
      refine g_ldc2 (pc := 162) (v := 10) hk q2021 dX2_scars_162 ?_
      refine g_lmul (pc := 165) hk dX2_scars_165 ?_
      refine g_lstoreN (pc := 166) (i := 4) (ls' := fun x9 => [(4, .long x9), (0, .ref Γ.2.1), (1, .int v1), (2, .int v2), (3, .int v3), (6, .int v6), (7, .int v7)]) hk dX2_scars_166 (by decide) (fun _ => rfl) (fun x9 => ?_)
      refine g_sub (ls' := [(0, .ref Γ.2.1), (1, .int v1), (2, .int v2), (3, .int v3), (4, .long x9), (6, .int v6)]) [1, 2, 3, 4, 0, 5] rfl ?_
      exact tm_scars_j168 hk hK τ v1 v2 v3 x9 v6 k64 hk64
    · refine g_aload_n (pc := 92) hk dX2_scars_92 rfl ?_
      refine t_getR (pc := 93) hk hK tr_31 tf_31 dX2_scars_93 ?_
      refine g_iload (pc := 96) hk dX2_scars_96 rfl ?_
      refine g_aload_n (pc := 98) hk dX2_scars_98 rfl ?_
      refine t_getR (pc := 99) hk hK tr_31 tf_31 dX2_scars_99 ?_
      refine g_iload (pc := 102) hk dX2_scars_102 rfl ?_
      refine t_lald (pc := 104) hk hK ta_31 dX2_scars_104 ?_
      refine g_bipush (pc := 105) (v := 10) hk dX2_scars_105 rfl ?_
      refine g_aload_n (pc := 107) hk dX2_scars_107 rfl ?_
      refine t_getR (pc := 108) hk hK tr_0 tf_0 dX2_scars_108 ?_
      refine g_sipush (pc := 111) (v := 206) hk dX2_scars_111 rfl ?_
      refine g_iload (pc := 114) hk dX2_scars_114 rfl ?_
      refine g_iadd (pc := 116) hk dX2_scars_116 ?_
      refine t_iald (pc := 117) hk hK ta_0 dX2_scars_117 ?_
      refine g_isub (pc := 118) hk dX2_scars_118 ?_
      refine g_i2l (pc := 119) hk dX2_scars_119 ?_
      refine g_lmul (pc := 120) hk dX2_scars_120 ?_
      refine g_iload (pc := 121) hk dX2_scars_121 rfl ?_
      refine g_if_le (pc := 123) (tgt := 151) hk dX2_scars_123 rfl ?_ ?_
      · refine g_lconst (pc := 151) (v := 0) hk dX2_scars_151 rfl ?_
        exact tm_scars_j152 hk hK τ v1 v2 v3 v4 v6 v7 v7 ((tL τ 31 v7.toNatClampNeg) * (Int32.toInt64 (10 - (tA τ 0 (206 + v6).toNatClampNeg)))) 0 k64 (T_scars_l87 k64 v1 v2 v3 v4 v6 n) hk64 ih
      · refine g_aload_n (pc := 126) hk dX2_scars_126 rfl ?_
        refine t_getR (pc := 127) hk hK tr_31 tf_31 dX2_scars_127 ?_
        refine g_iload (pc := 130) hk dX2_scars_130 rfl ?_
        refine g_iconst (pc := 132) (v := 1) hk dX2_scars_132 rfl ?_
        refine g_isub (pc := 133) hk dX2_scars_133 ?_
        refine t_lald (pc := 134) hk hK ta_31 dX2_scars_134 ?_
        refine g_aload_n (pc := 135) hk dX2_scars_135 rfl ?_
        refine t_getR (pc := 136) hk hK tr_0 tf_0 dX2_scars_136 ?_
        refine g_sipush (pc := 139) (v := 206) hk dX2_scars_139 rfl ?_
        refine g_iload (pc := 142) hk dX2_scars_142 rfl ?_
        refine g_iadd (pc := 144) hk dX2_scars_144 ?_
        refine t_iald (pc := 145) hk hK ta_0 dX2_scars_145 ?_
        refine g_i2l (pc := 146) hk dX2_scars_146 ?_
        refine g_lmul (pc := 147) hk dX2_scars_147 ?_
        refine g_goto (pc := 148) (tgt := 152) hk dX2_scars_148 rfl ?_
        exact tm_scars_j152 hk hK τ v1 v2 v3 v4 v6 v7 v7 ((tL τ 31 v7.toNatClampNeg) * (Int32.toInt64 (10 - (tA τ 0 (206 + v6).toNatClampNeg)))) ((tL τ 31 (v7 - 1).toNatClampNeg) * (Int32.toInt64 (tA τ 0 (206 + v6).toNatClampNeg))) k64 (T_scars_l87 k64 v1 v2 v3 v4 v6 n) hk64 ih
theorem tm_scars_l64 {K : KT} {Γ : TG} (hk : KOK K cX2_scars 8 RX2 rm_scars (some .long)) (hK : va_K Γ.1 tcl (ttys Γ) (kS K)) (v1 : Int32) (v2 : Int32) (v3 : Int32)   : ∀ (n : Nat) (τ : TS) (v4 : Int64) (v6 : Int32), GGo K (tQ K Γ (fun r : Int64 × TS => (some (Value.long r.1), r.2))) (T_scars_l64 v1 v2 v3 n τ v4 v6) 8 (TI Γ (kS K) τ) 0 0 64 [(0, .ref Γ.2.1), (1, .int v1), (2, .int v2), (3, .int v3), (4, .long v4), (6, .int v6)] [] := by
  intro n
  induction n with
  | zero =>
    intro τ v4 v6
    unfold T_scars_l64
    exact g_none
  | succ n ih =>
    intro τ v4 v6
    unfold T_scars_l64
    refine g_iload (pc := 64) hk dX2_scars_64 rfl ?_
    refine g_bipush (pc := 66) (v := 8) hk dX2_scars_66 rfl ?_
    refine g_icmp_ge (pc := 68) (tgt := 174) hk dX2_scars_68 rfl ?_ ?_
    · refine g_iload_n (pc := 174) hk dX2_scars_174 rfl ?_
      refine g_if_eq (pc := 175) (tgt := 183) hk dX2_scars_175 rfl ?_ ?_
      · refine g_aload_n (pc := 183) hk dX2_scars_183 rfl ?_
        refine t_getR (pc := 184) hk hK tr_31 tf_31 dX2_scars_184 ?_
        refine g_iload_n (pc := 187) hk dX2_scars_187 rfl ?_
        refine t_lald (pc := 188) hk hK ta_31 dX2_scars_188 ?_
        refine g_sub (ls' := [(0, .ref Γ.2.1), (2, .int v2), (4, .long v4)]) [0, 2, 4] rfl ?_
        exact tm_scars_j189 hk hK τ v2 v4 (tL τ 31 v2.toNatClampNeg)
      · refine g_lload (pc := 178) hk dX2_scars_178 rfl ?_
        refine g_goto (pc := 180) (tgt := 189) hk dX2_scars_180 rfl ?_
        refine g_sub (ls' := [(0, .ref Γ.2.1), (2, .int v2), (4, .long v4)]) [0, 2, 4] rfl ?_
        exact tm_scars_j189 hk hK τ v2 v4 v4
    · refine g_iload_n (pc := 71) hk dX2_scars_71 rfl ?_
      refine g_iload (pc := 72) hk dX2_scars_72 rfl ?_
      refine g_ob1 (fun r7 h8 => ?_)
      refine t_callS (pc := 74) hk hK [.int v1, .int v6] [] (tm_has Γ τ v1 v6 r7 h8) (lw_S q1565 q1566 q128 q1567) hs_has rfl rfl rfl dX2_scars_74 rfl rfl ?_
      refine g_if_ne (pc := 77) (tgt := 83) hk dX2_scars_77 rfl ?_ ?_
      · refine g_bipush (pc := 83) (v := 8) hk dX2_scars_83 rfl ?_
        refine g_istore (pc := 85) (i := 7) (ls' := [(7, .int 8), (0, .ref Γ.2.1), (1, .int v1), (2, .int v2), (3, .int v3), (4, .long v4), (6, .int v6)]) hk dX2_scars_85 (by decide) rfl ?_
        refine g_sub (ls' := [(0, .ref Γ.2.1), (1, .int v1), (2, .int v2), (3, .int v3), (4, .long v4), (6, .int v6), (7, .int 8)]) [1, 2, 3, 4, 5, 6, 0] rfl ?_
        exact tm_scars_l87 hk hK v1 v2 v3 v4 v6 (T_scars_l64 v1 v2 v3 n) ih FU τ 8
      · refine g_goto (pc := 80) (tgt := 168) hk dX2_scars_80 rfl ?_
        exact tm_scars_j168 hk hK τ v1 v2 v3 v4 v6 (T_scars_l64 v1 v2 v3 n) ih
theorem tm_scars_j54 {K : KT} {Γ : TG} (hk : KOK K cX2_scars 8 RX2 rm_scars (some .long)) (hK : va_K Γ.1 tcl (ttys Γ) (kS K)) (τ : TS) (v1 : Int32) (v2 : Int32) (v3 : Int32) (v4 : Int64) (v6 : Int32) (s1 : Int32) (s2 : Int64)  (k31 : TS → Int32 → Option (Int64 × TS)) (hk31 : ∀ (τ : TS) (v6 : Int32), GGo K (tQ K Γ (fun r : Int64 × TS => (some (Value.long r.1), r.2))) (k31 τ v6) 8 (TI Γ (kS K) τ) 0 0 31 [(0, .ref Γ.2.1), (1, .int v1), (2, .int v2), (3, .int v3), (4, .long v4), (6, .int v6)] []) : GGo K (tQ K Γ (fun r : Int64 × TS => (some (Value.long r.1), r.2))) (T_scars_j54 k31 τ v1 v2 v3 v4 v6 s1 s2) 8 (TI Γ (kS K) τ) 0 0 54 [(0, .ref Γ.2.1), (1, .int v1), (2, .int v2), (3, .int v3), (4, .long v4), (6, .int v6)] [.long s2, .int s1, .ref (Γ.2.2.1 31)] := by
  unfold T_scars_j54
  refine t_last (pc := 54) hk hK ta_31 dX2_scars_54 (fun τ13 => ?_)
  refine g_iincN (pc := 55) (v := 1) (ls' := fun x14 => [(6, .int x14), (0, .ref Γ.2.1), (1, .int v1), (2, .int v2), (3, .int v3), (4, .long v4)]) hk dX2_scars_55 rfl rfl (by decide) (fun _ => rfl) (fun x14 => ?_)
  refine g_goto (pc := 58) (tgt := 31) hk dX2_scars_58 rfl ?_
  refine g_sub (ls' := [(0, .ref Γ.2.1), (1, .int v1), (2, .int v2), (3, .int v3), (4, .long v4), (6, .int x14)]) [1, 2, 3, 4, 5, 0] rfl ?_
  exact hk31 τ13 x14
theorem tm_scars_l31 {K : KT} {Γ : TG} (hk : KOK K cX2_scars 8 RX2 rm_scars (some .long)) (hK : va_K Γ.1 tcl (ttys Γ) (kS K)) (v1 : Int32) (v2 : Int32) (v3 : Int32) (v4 : Int64)   : ∀ (n : Nat) (τ : TS) (v6 : Int32), GGo K (tQ K Γ (fun r : Int64 × TS => (some (Value.long r.1), r.2))) (T_scars_l31 v1 v2 v3 v4 n τ v6) 8 (TI Γ (kS K) τ) 0 0 31 [(0, .ref Γ.2.1), (1, .int v1), (2, .int v2), (3, .int v3), (4, .long v4), (6, .int v6)] [] := by
  intro n
  induction n with
  | zero =>
    intro τ v6
    unfold T_scars_l31
    exact g_none
  | succ n ih =>
    intro τ v6
    unfold T_scars_l31
    refine g_iload (pc := 31) hk dX2_scars_31 rfl ?_
    refine g_bipush (pc := 33) (v := 9) hk dX2_scars_33 rfl ?_
    refine g_icmp_ge (pc := 35) (tgt := 61) hk dX2_scars_35 rfl ?_ ?_
    · refine g_iconst (pc := 61) (v := 0) hk dX2_scars_61 rfl ?_
      refine g_istore (pc := 62) (i := 6) (ls' := [(6, .int 0), (0, .ref Γ.2.1), (1, .int v1), (2, .int v2), (3, .int v3), (4, .long v4)]) hk dX2_scars_62 (by decide) rfl ?_
      refine g_sub (ls' := [(0, .ref Γ.2.1), (1, .int v1), (2, .int v2), (3, .int v3), (4, .long v4), (6, .int 0)]) [1, 2, 3, 4, 5, 0] rfl ?_
      exact tm_scars_l64 hk hK v1 v2 v3 FU τ v4 0
    · refine g_aload_n (pc := 38) hk dX2_scars_38 rfl ?_
      refine t_getR (pc := 39) hk hK tr_31 tf_31 dX2_scars_39 ?_
      refine g_iload (pc := 42) hk dX2_scars_42 rfl ?_
      refine g_iload (pc := 44) hk dX2_scars_44 rfl ?_
      refine g_if_ne (pc := 46) (tgt := 53) hk dX2_scars_46 rfl ?_ ?_
      · refine g_lconst (pc := 53) (v := 0) hk dX2_scars_53 rfl ?_
        exact tm_scars_j54 hk hK τ v1 v2 v3 v4 v6 v6 0 (T_scars_l31 v1 v2 v3 v4 n) ih
      · refine g_lconst (pc := 49) (v := 1) hk dX2_scars_49 rfl ?_
        refine g_goto (pc := 50) (tgt := 54) hk dX2_scars_50 rfl ?_
        exact tm_scars_j54 hk hK τ v1 v2 v3 v4 v6 v6 1 (T_scars_l31 v1 v2 v3 v4 n) ih
theorem tm_scars (Γ : TG) (τ : TS) (v1 : Int32) (v2 : Int32) (v3 : Int32)  (r : Int64 × TS) (h : T_scars τ v1 v2 v3 = some r) : TMet Γ yX2_scars cX2_scars 8 (some .long) rm_scars [.ref Γ.2.1, .int v1, .int v2, .int v3] τ (some (.long r.1)) r.2 := by
  refine t_met (view := (fun r : Int64 × TS => (some (Value.long r.1), r.2))) rfl rfl (ls0 := [(0, .ref Γ.2.1), (1, .int v1), (2, .int v2), (3, .int v3)]) rfl (fun K hk hK => ?_) r h
  unfold T_scars
  refine g_iload_n (pc := 0) hk dX2_scars_0 rfl ?_
  refine g_iconst (pc := 1) (v := 1) hk dX2_scars_1 rfl ?_
  refine g_sipush (pc := 2) (v := 255) hk dX2_scars_2 rfl ?_
  refine g_ob1 (fun r1 h2 => ?_)
  refine t_callS (pc := 5) hk hK [.int v1, .int 1, .int 255] [] (tm_isIn Γ τ v1 1 255 r1 h2) (lw_S q1477 q1478 q128 q1479) hs_isIn rfl rfl rfl dX2_scars_5 rfl rfl ?_
  refine g_if_eq (pc := 8) (tgt := 21) hk dX2_scars_8 rfl ?_ ?_
  · refine g_sub (ls' := []) [] rfl ?_
    exact tm_scars_j21 hk hK τ
  · refine g_iload_n (pc := 11) hk dX2_scars_11 rfl ?_
    refine g_iconst (pc := 12) (v := 0) hk dX2_scars_12 rfl ?_
    refine g_bipush (pc := 13) (v := 8) hk dX2_scars_13 rfl ?_
    refine g_ob1 (fun r3 h4 => ?_)
    refine t_callS (pc := 15) hk hK [.int v2, .int 0, .int 8] [] (tm_isIn Γ τ v2 0 8 r3 h4) (lw_S q1477 q1478 q128 q1479) hs_isIn rfl rfl rfl dX2_scars_15 rfl rfl ?_
    refine g_if_ne (pc := 18) (tgt := 25) hk dX2_scars_18 rfl ?_ ?_
    · refine g_lconst (pc := 25) (v := 1) hk dX2_scars_25 rfl ?_
      refine g_lstore (pc := 26) (i := 4) (ls' := [(4, .long 1), (0, .ref Γ.2.1), (1, .int v1), (2, .int v2), (3, .int v3)]) hk dX2_scars_26 (by decide) rfl ?_
      refine g_iconst (pc := 28) (v := 0) hk dX2_scars_28 rfl ?_
      refine g_istore (pc := 29) (i := 6) (ls' := [(6, .int 0), (4, .long 1), (0, .ref Γ.2.1), (1, .int v1), (2, .int v2), (3, .int v3)]) hk dX2_scars_29 (by decide) rfl ?_
      refine g_sub (ls' := [(0, .ref Γ.2.1), (1, .int v1), (2, .int v2), (3, .int v3), (4, .long 1), (6, .int 0)]) [2, 3, 4, 5, 1, 0] rfl ?_
      exact tm_scars_l31 hk hK v1 v2 v3 1 FU τ 0
    · refine g_sub (ls' := []) [] rfl ?_
      exact tm_scars_j21 hk hK τ
def rm_rate : Room := { frames := 2, cells := 0, slots := 0, locals := 43 }
theorem hv_rate : yX2_rate.cls = RX2 ∧ yX2_rate.cls ≠ "java/lang/invoke/MethodHandle" ∧ yX2_rate.cls ≠ "java/lang/invoke/VarHandle" ∧ (parseMethodDescriptor yX2_rate.desc).map (fun d => d.parameters.length) = some 2 := by decide +kernel
theorem tm_rate (Γ : TG) (τ : TS) (v1 : Int32) (v2 : Int32)  (r : Int32 × TS) (h : T_rate τ v1 v2 = some r) : TMet Γ yX2_rate cX2_rate 3 (some .int) rm_rate [.ref Γ.2.1, .int v1, .int v2] τ (some (.int r.1)) r.2 := by
  refine t_met (view := (fun r : Int32 × TS => (some (Value.int r.1), r.2))) rfl rfl (ls0 := [(0, .ref Γ.2.1), (1, .int v1), (2, .int v2)]) rfl (fun K hk hK => ?_) r h
  unfold T_rate
  refine g_iload_n (pc := 0) hk dX2_rate_0 rfl ?_
  refine g_iconst (pc := 1) (v := (-1)) hk dX2_rate_1 rfl ?_
  refine g_icmp_ne (pc := 2) (tgt := 14) hk dX2_rate_2 rfl ?_ ?_
  · refine g_aload_n (pc := 14) hk dX2_rate_14 rfl ?_
    refine g_iload_n (pc := 15) hk dX2_rate_15 rfl ?_
    refine g_ob1 (fun r1 h2 => ?_)
    refine t_callV (pc := 16) hk hK [.int v1] [] (tm_isPerson Γ τ v1 r1 h2) (lw_V q1671 q1673 qs86 q128 q1674) hv_isPerson rfl rfl rfl dX2_rate_16 rfl rfl ?_
    refine g_if_eq (pc := 19) (tgt := 43) hk dX2_rate_19 rfl ?_ ?_
    · refine g_bipush (pc := 43) (v := (-2)) hk dX2_rate_43 rfl ?_
      exact t_iret (pc := 45) hk rfl dX2_rate_45
    · refine g_iload_n (pc := 22) hk dX2_rate_22 rfl ?_
      refine g_iconst (pc := 23) (v := 0) hk dX2_rate_23 rfl ?_
      refine g_bipush (pc := 24) (v := 99) hk dX2_rate_24 rfl ?_
      refine g_ob1 (fun r3 h4 => ?_)
      refine t_callS (pc := 26) hk hK [.int v2, .int 0, .int 99] [] (tm_isIn Γ τ v2 0 99 r3 h4) (lw_S q1477 q1478 q128 q1479) hs_isIn rfl rfl rfl dX2_rate_26 rfl rfl ?_
      refine g_if_eq (pc := 29) (tgt := 43) hk dX2_rate_29 rfl ?_ ?_
      · refine g_bipush (pc := 43) (v := (-2)) hk dX2_rate_43 rfl ?_
        exact t_iret (pc := 45) hk rfl dX2_rate_45
      · refine g_aload_n (pc := 32) hk dX2_rate_32 rfl ?_
        refine t_getR (pc := 33) hk hK tr_0 tf_0 dX2_rate_33 ?_
        refine g_iconst (pc := 36) (v := 5) hk dX2_rate_36 rfl ?_
        refine t_ialdC (pc := 37) (j := 5) hk hK ta_0 rfl rfl dX2_rate_37 ?_
        refine g_bipush (pc := 38) (v := 8) hk dX2_rate_38 rfl ?_
        refine g_icmp_ne (pc := 40) (tgt := 46) hk dX2_rate_40 rfl ?_ ?_
        · refine g_aload_n (pc := 46) hk dX2_rate_46 rfl ?_
          refine t_getR (pc := 47) hk hK tr_0 tf_0 dX2_rate_47 ?_
          refine g_sipush (pc := 50) (v := 214) hk dX2_rate_50 rfl ?_
          refine g_iconst (pc := 53) (v := 2) hk dX2_rate_53 rfl ?_
          refine g_aload_n (pc := 54) hk dX2_rate_54 rfl ?_
          refine t_getR (pc := 55) hk hK tr_0 tf_0 dX2_rate_55 ?_
          refine g_iconst (pc := 58) (v := 5) hk dX2_rate_58 rfl ?_
          refine t_ialdC (pc := 59) (j := 5) hk hK ta_0 rfl rfl dX2_rate_59 ?_
          refine g_imul (pc := 60) hk dX2_rate_60 ?_
          refine g_iadd (pc := 61) hk dX2_rate_61 ?_
          refine g_iload_n (pc := 62) hk dX2_rate_62 rfl ?_
          refine t_iast (pc := 63) hk hK ta_0 dX2_rate_63 (fun τ5 => ?_)
          refine g_aload_n (pc := 64) hk dX2_rate_64 rfl ?_
          refine t_getR (pc := 65) hk hK tr_0 tf_0 dX2_rate_65 ?_
          refine g_sipush (pc := 68) (v := 214) hk dX2_rate_68 rfl ?_
          refine g_iconst (pc := 71) (v := 2) hk dX2_rate_71 rfl ?_
          refine g_aload_n (pc := 72) hk dX2_rate_72 rfl ?_
          refine t_getR (pc := 73) hk hK tr_0 tf_0 dX2_rate_73 ?_
          refine g_iconst (pc := 76) (v := 5) hk dX2_rate_76 rfl ?_
          refine t_ialdC (pc := 77) (j := 5) hk hK ta_0 rfl rfl dX2_rate_77 ?_
          refine g_imul (pc := 78) hk dX2_rate_78 ?_
          refine g_iadd (pc := 79) hk dX2_rate_79 ?_
          refine g_iconst (pc := 80) (v := 1) hk dX2_rate_80 rfl ?_
          refine g_iadd (pc := 81) hk dX2_rate_81 ?_
          refine g_iload_n (pc := 82) hk dX2_rate_82 rfl ?_
          refine t_iast (pc := 83) hk hK ta_0 dX2_rate_83 (fun τ6 => ?_)
          refine g_aload_n (pc := 84) hk dX2_rate_84 rfl ?_
          refine t_getR (pc := 85) hk hK tr_0 tf_0 dX2_rate_85 ?_
          refine g_iconst (pc := 88) (v := 5) hk dX2_rate_88 rfl ?_
          refine g_dup2 (pc := 89) hk dX2_rate_89 rfl rfl ?_
          refine t_ialdC (pc := 90) (j := 5) hk hK ta_0 rfl rfl dX2_rate_90 ?_
          refine g_iconst (pc := 91) (v := 1) hk dX2_rate_91 rfl ?_
          refine g_iadd (pc := 92) hk dX2_rate_92 ?_
          refine t_iastC (pc := 93) (j := 5) hk hK ta_0 rfl rfl dX2_rate_93 (fun τ7 => ?_)
          refine g_aload_n (pc := 94) hk dX2_rate_94 rfl ?_
          refine t_getR (pc := 95) hk hK tr_0 tf_0 dX2_rate_95 ?_
          refine g_iconst (pc := 98) (v := 5) hk dX2_rate_98 rfl ?_
          refine t_ialdC (pc := 99) (j := 5) hk hK ta_0 rfl rfl dX2_rate_99 ?_
          exact t_iret (pc := 100) hk rfl dX2_rate_100
        · refine g_bipush (pc := 43) (v := (-2)) hk dX2_rate_43 rfl ?_
          exact t_iret (pc := 45) hk rfl dX2_rate_45
  · refine g_aload_n (pc := 5) hk dX2_rate_5 rfl ?_
    refine t_getR (pc := 6) hk hK tr_0 tf_0 dX2_rate_6 ?_
    refine g_iconst (pc := 9) (v := 5) hk dX2_rate_9 rfl ?_
    refine g_iconst (pc := 10) (v := 0) hk dX2_rate_10 rfl ?_
    refine t_iastC (pc := 11) (j := 5) hk hK ta_0 rfl rfl dX2_rate_11 (fun τ8 => ?_)
    refine g_iconst (pc := 12) (v := 0) hk dX2_rate_12 rfl ?_
    exact t_iret (pc := 13) hk rfl dX2_rate_13
def rm_law : Room := { frames := 7, cells := 0, slots := 0, locals := 171 }
theorem hv_law : yX2_law.cls = RX2 ∧ yX2_law.cls ≠ "java/lang/invoke/MethodHandle" ∧ yX2_law.cls ≠ "java/lang/invoke/VarHandle" ∧ (parseMethodDescriptor yX2_law.desc).map (fun d => d.parameters.length) = some 0 := by decide +kernel
theorem tm_law_j94 {K : KT} {Γ : TG} (hk : KOK K cX2_law 5 RX2 rm_law (some .int)) (hK : va_K Γ.1 tcl (ttys Γ) (kS K)) (τ : TS) (v2 : Int32) (s0 : Int32) (s1 : Int32)  (k4 : TS → Int32 → Int32 → Option (Int32 × TS)) (hk4 : ∀ (τ : TS) (v1 : Int32) (v2 : Int32), GGo K (tQ K Γ (fun r : Int32 × TS => (some (Value.int r.1), r.2))) (k4 τ v1 v2) 5 (TI Γ (kS K) τ) 0 0 4 [(0, .ref Γ.2.1), (1, .int v1), (2, .int v2)] []) : GGo K (tQ K Γ (fun r : Int32 × TS => (some (Value.int r.1), r.2))) (T_law_j94 k4 τ v2 s0 s1) 5 (TI Γ (kS K) τ) 0 0 94 [(0, .ref Γ.2.1), (2, .int v2)] [.int s1, .int s0] := by
  unfold T_law_j94
  refine g_ior (pc := 94) hk dX2_law_94 ?_
  refine g_istore_nN (pc := 95) (i := 1) (ls' := fun x1 => [(1, .int x1), (0, .ref Γ.2.1), (2, .int v2)]) hk dX2_law_95 rfl (by decide) (fun _ => rfl) (fun x1 => ?_)
  refine g_iincN (pc := 96) (v := 1) (ls' := fun x2 => [(2, .int x2), (1, .int x1), (0, .ref Γ.2.1)]) hk dX2_law_96 rfl rfl (by decide) (fun _ => rfl) (fun x2 => ?_)
  refine g_goto (pc := 99) (tgt := 4) hk dX2_law_99 rfl ?_
  refine g_sub (ls' := [(0, .ref Γ.2.1), (1, .int x1), (2, .int x2)]) [2, 1, 0] rfl ?_
  exact hk4 τ x1 x2
theorem tm_law_j75 {K : KT} {Γ : TG} (hk : KOK K cX2_law 5 RX2 rm_law (some .int)) (hK : va_K Γ.1 tcl (ttys Γ) (kS K)) (τ : TS) (v1 : Int32) (v2 : Int32) (v4 : Int32) (s0 : Int32)  (k4 : TS → Int32 → Int32 → Option (Int32 × TS)) (k19 : TS → Int32 → Int32 → Option (Int32 × TS)) (hk4 : ∀ (τ : TS) (v1 : Int32) (v2 : Int32), GGo K (tQ K Γ (fun r : Int32 × TS => (some (Value.int r.1), r.2))) (k4 τ v1 v2) 5 (TI Γ (kS K) τ) 0 0 4 [(0, .ref Γ.2.1), (1, .int v1), (2, .int v2)] []) (hk19 : ∀ (τ : TS) (v3 : Int32) (v4 : Int32), GGo K (tQ K Γ (fun r : Int32 × TS => (some (Value.int r.1), r.2))) (k19 τ v3 v4) 5 (TI Γ (kS K) τ) 0 0 19 [(0, .ref Γ.2.1), (1, .int v1), (2, .int v2), (3, .int v3), (4, .int v4)] []) : GGo K (tQ K Γ (fun r : Int32 × TS => (some (Value.int r.1), r.2))) (T_law_j75 k4 k19 τ v1 v2 v4 s0) 5 (TI Γ (kS K) τ) 0 0 75 [(0, .ref Γ.2.1), (1, .int v1), (2, .int v2), (4, .int v4)] [.int s0] := by
  unfold T_law_j75
  refine g_istore_n (pc := 75) (i := 3) (ls' := [(3, .int s0), (0, .ref Γ.2.1), (1, .int v1), (2, .int v2), (4, .int v4)]) hk dX2_law_75 rfl (by decide) rfl ?_
  refine g_iincN (pc := 76) (v := 1) (ls' := fun x3 => [(4, .int x3), (3, .int s0), (0, .ref Γ.2.1), (1, .int v1), (2, .int v2)]) hk dX2_law_76 rfl rfl (by decide) (fun _ => rfl) (fun x3 => ?_)
  refine g_goto (pc := 79) (tgt := 19) hk dX2_law_79 rfl ?_
  refine g_sub (ls' := [(0, .ref Γ.2.1), (1, .int v1), (2, .int v2), (3, .int s0), (4, .int x3)]) [2, 3, 4, 1, 0] rfl ?_
  exact hk19 τ s0 x3
theorem tm_law_j74 {K : KT} {Γ : TG} (hk : KOK K cX2_law 5 RX2 rm_law (some .int)) (hK : va_K Γ.1 tcl (ttys Γ) (kS K)) (τ : TS) (v1 : Int32) (v2 : Int32) (v4 : Int32)  (k4 : TS → Int32 → Int32 → Option (Int32 × TS)) (k19 : TS → Int32 → Int32 → Option (Int32 × TS)) (hk4 : ∀ (τ : TS) (v1 : Int32) (v2 : Int32), GGo K (tQ K Γ (fun r : Int32 × TS => (some (Value.int r.1), r.2))) (k4 τ v1 v2) 5 (TI Γ (kS K) τ) 0 0 4 [(0, .ref Γ.2.1), (1, .int v1), (2, .int v2)] []) (hk19 : ∀ (τ : TS) (v3 : Int32) (v4 : Int32), GGo K (tQ K Γ (fun r : Int32 × TS => (some (Value.int r.1), r.2))) (k19 τ v3 v4) 5 (TI Γ (kS K) τ) 0 0 19 [(0, .ref Γ.2.1), (1, .int v1), (2, .int v2), (3, .int v3), (4, .int v4)] []) : GGo K (tQ K Γ (fun r : Int32 × TS => (some (Value.int r.1), r.2))) (T_law_j74 k4 k19 τ v1 v2 v4) 5 (TI Γ (kS K) τ) 0 0 74 [(0, .ref Γ.2.1), (1, .int v1), (2, .int v2), (4, .int v4)] [] := by
  unfold T_law_j74
  refine g_iconst (pc := 74) (v := 0) hk dX2_law_74 rfl ?_
  exact tm_law_j75 hk hK τ v1 v2 v4 0 k4 k19 hk4 hk19
theorem tm_law_l19 {K : KT} {Γ : TG} (hk : KOK K cX2_law 5 RX2 rm_law (some .int)) (hK : va_K Γ.1 tcl (ttys Γ) (kS K)) (v1 : Int32) (v2 : Int32)  (k4 : TS → Int32 → Int32 → Option (Int32 × TS)) (hk4 : ∀ (τ : TS) (v1 : Int32) (v2 : Int32), GGo K (tQ K Γ (fun r : Int32 × TS => (some (Value.int r.1), r.2))) (k4 τ v1 v2) 5 (TI Γ (kS K) τ) 0 0 4 [(0, .ref Γ.2.1), (1, .int v1), (2, .int v2)] []) : ∀ (n : Nat) (τ : TS) (v3 : Int32) (v4 : Int32), GGo K (tQ K Γ (fun r : Int32 × TS => (some (Value.int r.1), r.2))) (T_law_l19 k4 v1 v2 n τ v3 v4) 5 (TI Γ (kS K) τ) 0 0 19 [(0, .ref Γ.2.1), (1, .int v1), (2, .int v2), (3, .int v3), (4, .int v4)] [] := by
  intro n
  induction n with
  | zero =>
    intro τ v3 v4
    unfold T_law_l19
    exact g_none
  | succ n ih =>
    intro τ v3 v4
    unfold T_law_l19
    refine g_iload (pc := 19) hk dX2_law_19 rfl ?_
    refine g_aload_n (pc := 21) hk dX2_law_21 rfl ?_
    refine t_getR (pc := 22) hk hK tr_0 tf_0 dX2_law_22 ?_
    refine g_iconst (pc := 25) (v := 5) hk dX2_law_25 rfl ?_
    refine t_ialdC (pc := 26) (j := 5) hk hK ta_0 rfl rfl dX2_law_26 ?_
    refine g_icmp_ge (pc := 27) (tgt := 82) hk dX2_law_27 rfl ?_ ?_
    · refine g_iload_n (pc := 82) hk dX2_law_82 rfl ?_
      refine g_iload_n (pc := 83) hk dX2_law_83 rfl ?_
      refine g_if_eq (pc := 84) (tgt := 93) hk dX2_law_84 rfl ?_ ?_
      · refine g_iconst (pc := 93) (v := 0) hk dX2_law_93 rfl ?_
        refine g_sub (ls' := [(0, .ref Γ.2.1), (2, .int v2)]) [0, 2] rfl ?_
        exact tm_law_j94 hk hK τ v2 v1 0 k4 hk4
      · refine g_iconst (pc := 87) (v := 1) hk dX2_law_87 rfl ?_
        refine g_iload_n (pc := 88) hk dX2_law_88 rfl ?_
        refine g_ishl (pc := 89) hk dX2_law_89 ?_
        refine g_goto (pc := 90) (tgt := 94) hk dX2_law_90 rfl ?_
        refine g_sub (ls' := [(0, .ref Γ.2.1), (2, .int v2)]) [0, 2] rfl ?_
        exact tm_law_j94 hk hK τ v2 v1 (i_shl 1 v2) k4 hk4
    · refine g_iload_n (pc := 30) hk dX2_law_30 rfl ?_
      refine g_if_eq (pc := 31) (tgt := 74) hk dX2_law_31 rfl ?_ ?_
      · refine g_sub (ls' := [(0, .ref Γ.2.1), (1, .int v1), (2, .int v2), (4, .int v4)]) [0, 1, 2, 4] rfl ?_
        exact tm_law_j74 hk hK τ v1 v2 v4 k4 (T_law_l19 k4 v1 v2 n) hk4 ih
      · refine g_aload_n (pc := 34) hk dX2_law_34 rfl ?_
        refine g_iload_n (pc := 35) hk dX2_law_35 rfl ?_
        refine g_aload_n (pc := 36) hk dX2_law_36 rfl ?_
        refine t_getR (pc := 37) hk hK tr_0 tf_0 dX2_law_37 ?_
        refine g_sipush (pc := 40) (v := 214) hk dX2_law_40 rfl ?_
        refine g_iconst (pc := 43) (v := 2) hk dX2_law_43 rfl ?_
        refine g_iload (pc := 44) hk dX2_law_44 rfl ?_
        refine g_imul (pc := 46) hk dX2_law_46 ?_
        refine g_iadd (pc := 47) hk dX2_law_47 ?_
        refine t_iald (pc := 48) hk hK ta_0 dX2_law_48 ?_
        refine g_ob2 (fun r4 τ6 h5 => ?_)
        refine t_callV (pc := 49) hk hK [.int v2, .int (tA τ 0 (214 + (2 * v4)).toNatClampNeg)] [] (tm_ratesOf Γ τ v2 (tA τ 0 (214 + (2 * v4)).toNatClampNeg) (r4, τ6) h5) (lw_V q1742 q1744 qs98 q128 q1745) hv_ratesOf rfl rfl rfl dX2_law_49 rfl rfl ?_
        refine g_aload_n (pc := 52) hk dX2_law_52 rfl ?_
        refine t_getR (pc := 53) hk hK tr_0 tf_0 dX2_law_53 ?_
        refine g_sipush (pc := 56) (v := 214) hk dX2_law_56 rfl ?_
        refine g_iconst (pc := 59) (v := 2) hk dX2_law_59 rfl ?_
        refine g_iload (pc := 60) hk dX2_law_60 rfl ?_
        refine g_imul (pc := 62) hk dX2_law_62 ?_
        refine g_iadd (pc := 63) hk dX2_law_63 ?_
        refine g_iconst (pc := 64) (v := 1) hk dX2_law_64 rfl ?_
        refine g_iadd (pc := 65) hk dX2_law_65 ?_
        refine t_iald (pc := 66) hk hK ta_0 dX2_law_66 ?_
        refine g_icmp_ne (pc := 67) (tgt := 74) hk dX2_law_67 rfl ?_ ?_
        · refine g_sub (ls' := [(0, .ref Γ.2.1), (1, .int v1), (2, .int v2), (4, .int v4)]) [0, 1, 2, 4] rfl ?_
          exact tm_law_j74 hk hK τ6 v1 v2 v4 k4 (T_law_l19 k4 v1 v2 n) hk4 ih
        · refine g_iconst (pc := 70) (v := 1) hk dX2_law_70 rfl ?_
          refine g_goto (pc := 71) (tgt := 75) hk dX2_law_71 rfl ?_
          refine g_sub (ls' := [(0, .ref Γ.2.1), (1, .int v1), (2, .int v2), (4, .int v4)]) [0, 1, 2, 4] rfl ?_
          exact tm_law_j75 hk hK τ6 v1 v2 v4 1 k4 (T_law_l19 k4 v1 v2 n) hk4 ih
theorem tm_law_l4 {K : KT} {Γ : TG} (hk : KOK K cX2_law 5 RX2 rm_law (some .int)) (hK : va_K Γ.1 tcl (ttys Γ) (kS K))    : ∀ (n : Nat) (τ : TS) (v1 : Int32) (v2 : Int32), GGo K (tQ K Γ (fun r : Int32 × TS => (some (Value.int r.1), r.2))) (T_law_l4 n τ v1 v2) 5 (TI Γ (kS K) τ) 0 0 4 [(0, .ref Γ.2.1), (1, .int v1), (2, .int v2)] [] := by
  intro n
  induction n with
  | zero =>
    intro τ v1 v2
    unfold T_law_l4
    exact g_none
  | succ n ih =>
    intro τ v1 v2
    unfold T_law_l4
    refine g_iload_n (pc := 4) hk dX2_law_4 rfl ?_
    refine g_aload_n (pc := 5) hk dX2_law_5 rfl ?_
    refine t_getR (pc := 6) hk hK tr_0 tf_0 dX2_law_6 ?_
    refine g_iconst (pc := 9) (v := 1) hk dX2_law_9 rfl ?_
    refine t_ialdC (pc := 10) (j := 1) hk hK ta_0 rfl rfl dX2_law_10 ?_
    refine g_icmp_ge (pc := 11) (tgt := 102) hk dX2_law_11 rfl ?_ ?_
    · refine g_iload_n (pc := 102) hk dX2_law_102 rfl ?_
      exact t_iret (pc := 103) hk rfl dX2_law_103
    · refine g_iconst (pc := 14) (v := 1) hk dX2_law_14 rfl ?_
      refine g_istore_n (pc := 15) (i := 3) (ls' := [(3, .int 1), (0, .ref Γ.2.1), (1, .int v1), (2, .int v2)]) hk dX2_law_15 rfl (by decide) rfl ?_
      refine g_iconst (pc := 16) (v := 0) hk dX2_law_16 rfl ?_
      refine g_istore (pc := 17) (i := 4) (ls' := [(4, .int 0), (3, .int 1), (0, .ref Γ.2.1), (1, .int v1), (2, .int v2)]) hk dX2_law_17 (by decide) rfl ?_
      refine g_sub (ls' := [(0, .ref Γ.2.1), (1, .int v1), (2, .int v2), (3, .int 1), (4, .int 0)]) [2, 3, 4, 1, 0] rfl ?_
      exact tm_law_l19 hk hK v1 v2 (T_law_l4 n) ih FU τ 1 0
theorem tm_law (Γ : TG) (τ : TS)   (r : Int32 × TS) (h : T_law τ = some r) : TMet Γ yX2_law cX2_law 5 (some .int) rm_law [.ref Γ.2.1] τ (some (.int r.1)) r.2 := by
  refine t_met (view := (fun r : Int32 × TS => (some (Value.int r.1), r.2))) rfl rfl (ls0 := [(0, .ref Γ.2.1)]) rfl (fun K hk hK => ?_) r h
  unfold T_law
  refine g_iconst (pc := 0) (v := 0) hk dX2_law_0 rfl ?_
  refine g_istore_n (pc := 1) (i := 1) (ls' := [(1, .int 0), (0, .ref Γ.2.1)]) hk dX2_law_1 rfl (by decide) rfl ?_
  refine g_iconst (pc := 2) (v := 0) hk dX2_law_2 rfl ?_
  refine g_istore_n (pc := 3) (i := 2) (ls' := [(2, .int 0), (1, .int 0), (0, .ref Γ.2.1)]) hk dX2_law_3 rfl (by decide) rfl ?_
  refine g_sub (ls' := [(0, .ref Γ.2.1), (1, .int 0), (2, .int 0)]) [2, 1, 0] rfl ?_
  exact tm_law_l4 hk hK FU τ 0 0
def rm_image : Room := { frames := 1, cells := 0, slots := 0, locals := 22 }
theorem hv_image : yX2_image.cls = RX2 ∧ yX2_image.cls ≠ "java/lang/invoke/MethodHandle" ∧ yX2_image.cls ≠ "java/lang/invoke/VarHandle" ∧ (parseMethodDescriptor yX2_image.desc).map (fun d => d.parameters.length) = some 0 := by decide +kernel
theorem tm_image (Γ : TG) (τ : TS)   (r : Int32 × TS) (h : T_image τ = some r) : TMet Γ yX2_image cX2_image 1 (some .int) rm_image [.ref Γ.2.1] τ (some (.int r.1)) r.2 := by
  refine t_met (view := (fun r : Int32 × TS => (some (Value.int r.1), r.2))) rfl rfl (ls0 := [(0, .ref Γ.2.1)]) rfl (fun K hk hK => ?_) r h
  unfold T_image
  refine g_aload_n (pc := 0) hk dX2_image_0 rfl ?_
  refine t_getR (pc := 1) hk hK tr_0 tf_0 dX2_image_1 ?_
  refine g_aload_n (pc := 4) hk dX2_image_4 rfl ?_
  refine t_getR (pc := 5) hk hK tr_1 tf_1 dX2_image_5 ?_
  refine g_ob1 (fun τ2 h1 => ?_)
  refine t_callS (pc := 8) hk hK [.ref (Γ.2.2.1 0), .ref (Γ.2.2.1 1)] [] (tm_copy Γ τ 0 1 ta_0 ta_1 τ2 h1) (lw_S q1371 q1372 q128 q1373) hs_copy rfl rfl rfl dX2_image_8 rfl rfl ?_
  refine g_aload_n (pc := 11) hk dX2_image_11 rfl ?_
  refine t_getR (pc := 12) hk hK tr_0 tf_0 dX2_image_12 ?_
  refine g_bipush (pc := 15) (v := 6) hk dX2_image_15 rfl ?_
  refine t_ialdC (pc := 17) (j := 6) hk hK ta_0 rfl rfl dX2_image_17 ?_
  exact t_iret (pc := 18) hk rfl dX2_image_18
def rm_back : Room := { frames := 1, cells := 0, slots := 0, locals := 22 }
theorem hv_back : yX2_back.cls = RX2 ∧ yX2_back.cls ≠ "java/lang/invoke/MethodHandle" ∧ yX2_back.cls ≠ "java/lang/invoke/VarHandle" ∧ (parseMethodDescriptor yX2_back.desc).map (fun d => d.parameters.length) = some 0 := by decide +kernel
theorem tm_back (Γ : TG) (τ : TS)   (r : Int32 × TS) (h : T_back τ = some r) : TMet Γ yX2_back cX2_back 1 (some .int) rm_back [.ref Γ.2.1] τ (some (.int r.1)) r.2 := by
  refine t_met (view := (fun r : Int32 × TS => (some (Value.int r.1), r.2))) rfl rfl (ls0 := [(0, .ref Γ.2.1)]) rfl (fun K hk hK => ?_) r h
  unfold T_back
  refine g_aload_n (pc := 0) hk dX2_back_0 rfl ?_
  refine t_getR (pc := 1) hk hK tr_1 tf_1 dX2_back_1 ?_
  refine g_aload_n (pc := 4) hk dX2_back_4 rfl ?_
  refine t_getR (pc := 5) hk hK tr_0 tf_0 dX2_back_5 ?_
  refine g_ob1 (fun τ2 h1 => ?_)
  refine t_callS (pc := 8) hk hK [.ref (Γ.2.2.1 1), .ref (Γ.2.2.1 0)] [] (tm_copy Γ τ 1 0 ta_1 ta_0 τ2 h1) (lw_S q1371 q1372 q128 q1373) hs_copy rfl rfl rfl dX2_back_8 rfl rfl ?_
  refine g_aload_n (pc := 11) hk dX2_back_11 rfl ?_
  refine t_getR (pc := 12) hk hK tr_0 tf_0 dX2_back_12 ?_
  refine g_bipush (pc := 15) (v := 6) hk dX2_back_15 rfl ?_
  refine t_ialdC (pc := 17) (j := 6) hk hK ta_0 rfl rfl dX2_back_17 ?_
  exact t_iret (pc := 18) hk rfl dX2_back_18
def rm_about : Room := { frames := 1, cells := 0, slots := 0, locals := 22 }
theorem hv_about : yX2_about.cls = RX2 ∧ yX2_about.cls ≠ "java/lang/invoke/MethodHandle" ∧ yX2_about.cls ≠ "java/lang/invoke/VarHandle" ∧ (parseMethodDescriptor yX2_about.desc).map (fun d => d.parameters.length) = some 1 := by decide +kernel
theorem tm_about (Γ : TG) (τ : TS) (v1 : Int32)  (r : Int32) (h : T_about τ v1 = some r) : TMet Γ yX2_about cX2_about 2 (some .int) rm_about [.ref Γ.2.1, .int v1] τ (some (.int r)) τ := by
  refine t_met (view := (fun r : Int32 => (some (Value.int r), τ))) rfl rfl (ls0 := [(0, .ref Γ.2.1), (1, .int v1)]) rfl (fun K hk hK => ?_) r h
  unfold T_about
  refine g_iload_n (pc := 0) hk dX2_about_0 rfl ?_
  refine g_iconst (pc := 1) (v := 0) hk dX2_about_1 rfl ?_
  refine g_iconst (pc := 2) (v := 5) hk dX2_about_2 rfl ?_
  refine g_ob1 (fun r1 h2 => ?_)
  refine t_callS (pc := 3) hk hK [.int v1, .int 0, .int 5] [] (tm_isIn Γ τ v1 0 5 r1 h2) (lw_S q1477 q1478 q128 q1479) hs_isIn rfl rfl rfl dX2_about_3 rfl rfl ?_
  refine g_if_eq (pc := 6) (tgt := 18) hk dX2_about_6 rfl ?_ ?_
  · refine g_iload_n (pc := 18) hk dX2_about_18 rfl ?_
    refine g_bipush (pc := 19) (v := 6) hk dX2_about_19 rfl ?_
    refine g_icmp_ne (pc := 21) (tgt := 31) hk dX2_about_21 rfl ?_ ?_
    · refine g_bipush (pc := 31) (v := (-2)) hk dX2_about_31 rfl ?_
      exact t_iret (pc := 33) hk rfl dX2_about_33
    · refine g_aload_n (pc := 24) hk dX2_about_24 rfl ?_
      refine t_getI (pc := 25) hk hK ti_4 tf_4 dX2_about_25 ?_
      refine g_goto (pc := 28) (tgt := 33) hk dX2_about_28 rfl ?_
      exact t_iret (pc := 33) hk rfl dX2_about_33
  · refine g_aload_n (pc := 9) hk dX2_about_9 rfl ?_
    refine t_getR (pc := 10) hk hK tr_0 tf_0 dX2_about_10 ?_
    refine g_iload_n (pc := 13) hk dX2_about_13 rfl ?_
    refine t_iald (pc := 14) hk hK ta_0 dX2_about_14 ?_
    refine g_goto (pc := 15) (tgt := 33) hk dX2_about_15 rfl ?_
    exact t_iret (pc := 33) hk rfl dX2_about_33
