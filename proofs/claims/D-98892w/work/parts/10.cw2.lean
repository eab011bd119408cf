/-! WALKS of the component's methods, by program (wip: gen_c.py) -/
set_option maxRecDepth 100000
def rm_c_outermost : Room := { frames := 5, cells := 0, slots := 0, locals := 133 }
theorem hv_c_outermost : yX0_outermost.cls = RX0 ∧ yX0_outermost.cls ≠ "java/lang/invoke/MethodHandle" ∧ yX0_outermost.cls ≠ "java/lang/invoke/VarHandle" ∧ (parseMethodDescriptor yX0_outermost.desc).map (fun d => d.parameters.length) = some 0 := by decide +kernel
theorem cm_outermost_j25 {K : KT} {Γ : CG} (hk : KOK K cX0_outermost 3 RX0 rm_c_outermost (some .int)) (hK : CK Γ (kS K)) (σ : CS) (v1 : Int32) (v2 : Int32) (k4 : Int32 → Int32 → Option (Int32)) (hk4 : ∀ (v1 : Int32) (v2 : Int32), GGo K (cQ K Γ rm_c_outermost (fun r : Int32 => (some (Value.int r), σ))) (k4 v1 v2) 3 (CI Γ (kS K) σ) 0 0 4 [(0, .ref (gA Γ 300)), (1, .int v1), (2, .int v2)] []) : GGo K (cQ K Γ rm_c_outermost (fun r : Int32 => (some (Value.int r), σ))) (C_outermost_j25 k4 σ v1 v2) 3 (CI Γ (kS K) σ) 0 0 25 [(0, .ref (gA Γ 300)), (1, .int v1), (2, .int v2)] [] := by
  unfold C_outermost_j25
  refine g_iincN (pc := 25) (v := 1) (ls' := fun x5 => [(2, .int x5), (0, .ref (gA Γ 300)), (1, .int v1)]) hk dX0_outermost_25 rfl rfl (by decide) (fun _ => rfl) (fun x5 => ?_)
  refine g_goto (pc := 28) (tgt := 4) hk dX0_outermost_28 rfl ?_
  refine g_sub (ls' := [(0, .ref (gA Γ 300)), (1, .int v1), (2, .int x5)]) [1, 2, 0] rfl ?_
  exact hk4 v1 x5
theorem cm_outermost_l4 {K : KT} {Γ : CG} (hk : KOK K cX0_outermost 3 RX0 rm_c_outermost (some .int)) (hK : CK Γ (kS K)) (σ : CS) : ∀ (n : Nat) (v1 : Int32) (v2 : Int32), GGo K (cQ K Γ rm_c_outermost (fun r : Int32 => (some (Value.int r), σ))) (C_outermost_l4 σ n v1 v2) 3 (CI Γ (kS K) σ) 0 0 4 [(0, .ref (gA Γ 300)), (1, .int v1), (2, .int v2)] [] := by
  intro n
  induction n with
  | zero =>
    intro v1 v2
    unfold C_outermost_l4
    exact g_none
  | succ n ih =>
    intro v1 v2
    unfold C_outermost_l4
    refine g_iload_n (pc := 4) hk dX0_outermost_4 rfl ?_
    refine g_bipush (pc := 5) (v := 8) hk dX0_outermost_5 rfl ?_
    refine g_icmp_ge (pc := 7) (tgt := 31) hk dX0_outermost_7 rfl ?_ ?_
    · refine g_iload_n (pc := 31) hk dX0_outermost_31 rfl ?_
      exact c_iret (pc := 32) hk hK rfl dX0_outermost_32 rfl rfl
    · refine g_aload_n (pc := 10) hk dX0_outermost_10 rfl ?_
      refine g_iload_n (pc := 11) hk dX0_outermost_11 rfl ?_
      refine g_ob1 (fun r1 h2 => ?_)
      refine c_callV (pc := 12) hk hK (rec_X hK) [.int v2] [] (cm_tailOf Γ σ v2 r1 h2) (lw_V q1139 q1141 qs37 q124 q1142) hv_c_tailOf rfl rfl rfl dX0_outermost_12 rfl rfl ⟨rfl, rfl⟩ ?_
      refine g_aload_n (pc := 15) hk dX0_outermost_15 rfl ?_
      refine g_iload_n (pc := 16) hk dX0_outermost_16 rfl ?_
      refine g_ob1 (fun r3 h4 => ?_)
      refine c_callV (pc := 17) hk hK (rec_X hK) [.int v1] [.int r1] (cm_tailOf Γ σ v1 r3 h4) (lw_V q1139 q1141 qs37 q124 q1142) hv_c_tailOf rfl rfl rfl dX0_outermost_17 rfl rfl ⟨rfl, rfl⟩ ?_
      refine g_icmp_le (pc := 20) (tgt := 25) hk dX0_outermost_20 rfl ?_ ?_
      · exact cm_outermost_j25 hk hK σ v1 v2 (C_outermost_l4 σ n) ih
      · refine g_iload_n (pc := 23) hk dX0_outermost_23 rfl ?_
        refine g_istore_n (pc := 24) (i := 1) (ls' := [(1, .int v2), (0, .ref (gA Γ 300)), (2, .int v2)]) hk dX0_outermost_24 rfl (by decide) rfl ?_
        refine g_sub (ls' := [(0, .ref (gA Γ 300)), (1, .int v2), (2, .int v2)]) [1, 0, 2] rfl ?_
        exact cm_outermost_j25 hk hK σ v2 v2 (C_outermost_l4 σ n) ih
theorem cm_outermost (Γ : CG) (σ : CS)   (r : Int32) (h : C_outermost σ = some r) : CMet Γ yX0_outermost cX0_outermost 3 (some .int) rm_c_outermost [.ref (gA Γ 300)] σ (some (.int r)) σ := by
  refine c_met (view := (fun r : Int32 => (some (Value.int r), σ))) (own := RX0) rfl (by decide) rfl (ls0 := [(0, .ref (gA Γ 300))]) rfl (fun K hk hK => ?_) r h
  unfold C_outermost
  refine g_iconst (pc := 0) (v := 0) hk dX0_outermost_0 rfl ?_
  refine g_istore_n (pc := 1) (i := 1) (ls' := [(1, .int 0), (0, .ref (gA Γ 300))]) hk dX0_outermost_1 rfl (by decide) rfl ?_
  refine g_iconst (pc := 2) (v := 1) hk dX0_outermost_2 rfl ?_
  refine g_istore_n (pc := 3) (i := 2) (ls' := [(2, .int 1), (1, .int 0), (0, .ref (gA Γ 300))]) hk dX0_outermost_3 rfl (by decide) rfl ?_
  refine g_sub (ls' := [(0, .ref (gA Γ 300)), (1, .int 0), (2, .int 1)]) [2, 1, 0] rfl ?_
  exact cm_outermost_l4 hk hK σ FU 0 1
def rm_c_common (d : Nat) : Room := { frames := 0 + d * 1, cells := 0, slots := 0, locals := 0 + d * 24 }
theorem hs_c_common : yX0_common.cls ≠ "java/lang/invoke/MethodHandle" ∧ yX0_common.cls ≠ "java/lang/invoke/VarHandle" ∧ (parseMethodDescriptor yX0_common.desc).map (fun d => d.parameters.length) = some 2 := by decide +kernel
theorem cm_common_b {d : Nat} (v0 : Int64) (v2 : Int64)  (rec : Int64 → Int64 → Option (Int64)) (hrec : ∀ (v0 : Int64) (v2 : Int64) (r : Int64), rec v0 v2 = some r → PMet yX0_common cX0_common 4 (some .long) (rm_c_common d) [.long v0, .long v2] (some (.long r))) (r : Int64) (h : C_common_b rec v0 v2 = some r) : PMet yX0_common cX0_common 4 (some .long) (rm_c_common (d + 1)) [.long v0, .long v2] (some (.long r)) := by
  refine p_met (view := (fun r : Int64 => some (Value.long r))) (own := RX0) rfl (by decide) rfl (ls0 := [(0, .long v0), (2, .long v2)]) rfl (fun K hk => ?_) r h
  unfold C_common_b
  refine g_lload_n (pc := 0) hk dX0_common_0 rfl ?_
  refine g_lconst (pc := 1) (v := 0) hk dX0_common_1 rfl ?_
  refine g_lcmp_ne (pc := 2) (tgt := 10) hk dX0_common_2 dX0_common_3 rfl ?_ ?_
  · refine g_lload_n (pc := 10) hk dX0_common_10 rfl ?_
    refine g_lload_n (pc := 11) hk dX0_common_11 rfl ?_
    refine g_lload_n (pc := 12) hk dX0_common_12 rfl ?_
    refine g_lremG (pc := 13) hk dX0_common_13 (fun _ => ?_)
    refine g_ob1 (fun r1 h2 => ?_)
    refine g_callP (pc := 14) hk [.long v2, .long (l_rem v0 v2)] [] (hrec v2 (l_rem v0 v2) r1 h2) (lw_S q1155 q1156 q124 q1157) hs_c_common (rmFit_i (by show _ ≤ _; simp only [rm_c_common, rm_c_common]; omega) (by show _ ≤ _; simp only [rm_c_common, rm_c_common]; omega)) ⟨rfl, rfl⟩ rfl rfl dX0_common_14 rfl rfl ⟨rfl, rfl⟩ ?_
    exact p_lret (pc := 17) hk rfl dX0_common_17
  · refine g_lload_n (pc := 6) hk dX0_common_6 rfl ?_
    refine g_goto (pc := 7) (tgt := 17) hk dX0_common_7 rfl ?_
    exact p_lret (pc := 17) hk rfl dX0_common_17
theorem cm_common : ∀ (d : Nat) (v0 : Int64) (v2 : Int64) (r : Int64), C_common d v0 v2 = some r → PMet yX0_common cX0_common 4 (some .long) (rm_c_common d) [.long v0, .long v2] (some (.long r)) := by
  intro d
  induction d with
  | zero => intro v0 v2 r h; cases h
  | succ d ih => intro v0 v2 r h; exact cm_common_b v0 v2 (C_common d) ih r h
def rm_c_rounds : Room := { frames := 65, cells := 0, slots := 0, locals := 1559 }
theorem hv_c_rounds : yX0_rounds.cls = RX0 ∧ yX0_rounds.cls ≠ "java/lang/invoke/MethodHandle" ∧ yX0_rounds.cls ≠ "java/lang/invoke/VarHandle" ∧ (parseMethodDescriptor yX0_rounds.desc).map (fun d => d.parameters.length) = some 0 := by decide +kernel
theorem cm_rounds_l4 {K : KT} {Γ : CG} (hk : KOK K cX0_rounds 6 RX0 rm_c_rounds (some .long)) (hK : CK Γ (kS K)) (σ : CS) : ∀ (n : Nat) (v1 : Int64) (v3 : Int32), GGo K (cQ K Γ rm_c_rounds (fun r : Int64 => (some (Value.long r), σ))) (C_rounds_l4 σ n v1 v3) 6 (CI Γ (kS K) σ) 0 0 4 [(0, .ref (gA Γ 300)), (1, .long v1), (3, .int v3)] [] := by
  intro n
  induction n with
  | zero =>
    intro v1 v3
    unfold C_rounds_l4
    exact g_none
  | succ n ih =>
    intro v1 v3
    unfold C_rounds_l4
    refine g_iload_n (pc := 4) hk dX0_rounds_4 rfl ?_
    refine g_bipush (pc := 5) (v := 8) hk dX0_rounds_5 rfl ?_
    refine g_icmp_ge (pc := 7) (tgt := 39) hk dX0_rounds_7 rfl ?_ ?_
    · refine g_lload_n (pc := 39) hk dX0_rounds_39 rfl ?_
      exact c_lret (pc := 40) hk hK rfl dX0_rounds_40 rfl rfl
    · refine g_aload_n (pc := 10) hk dX0_rounds_10 rfl ?_
      refine g_iload_n (pc := 11) hk dX0_rounds_11 rfl ?_
      refine g_ob1 (fun r1 h2 => ?_)
      refine c_callV (pc := 12) hk hK (rec_X hK) [.int v3] [] (cm_ringOf Γ σ v3 r1 h2) (lw_V q1129 q1131 qs36 q124 q1132) hv_c_ringOf rfl rfl rfl dX0_rounds_12 rfl rfl ⟨rfl, rfl⟩ ?_
      refine g_ob1 (fun r3 h4 => ?_)
      refine g_callP (pc := 15) hk [.int r1] [] (im_bitCount r1 r3 h4) (lw_S q1133 q1134 q155 q1135) hs_i_bitCount rfl ⟨rfl, rfl⟩ rfl rfl dX0_rounds_15 rfl rfl ⟨rfl, rfl⟩ ?_
      refine g_i2l (pc := 18) hk dX0_rounds_18 ?_
      refine g_lstoreN (pc := 19) (i := 4) (ls' := fun x5 => [(4, .long x5), (0, .ref (gA Γ 300)), (1, .long v1), (3, .int v3)]) hk dX0_rounds_19 (by decide) (fun _ => rfl) (fun x5 => ?_)
      refine g_lload_n (pc := 21) hk dX0_rounds_21 rfl ?_
      refine g_lload_n (pc := 22) hk dX0_rounds_22 rfl ?_
      refine g_lload (pc := 23) hk dX0_rounds_23 rfl ?_
      refine g_ob1 (fun r6 h7 => ?_)
      refine g_callP (pc := 25) hk [.long v1, .long x5] [.long v1] (cm_common 64 v1 x5 r6 h7) (lw_S q1155 q1156 q124 q1157) hs_c_common rfl ⟨rfl, rfl⟩ rfl rfl dX0_rounds_25 rfl rfl ⟨rfl, rfl⟩ ?_
      refine g_ldivG (pc := 28) hk dX0_rounds_28 (fun _ => ?_)
      refine g_lload (pc := 29) hk dX0_rounds_29 rfl ?_
      refine g_lmul (pc := 31) hk dX0_rounds_31 ?_
      refine g_lstore_nN (pc := 32) (i := 1) (ls' := fun x8 => [(1, .long x8), (4, .long x5), (0, .ref (gA Γ 300)), (3, .int v3)]) hk dX0_rounds_32 rfl (by decide) (fun _ => rfl) (fun x8 => ?_)
      refine g_iincN (pc := 33) (v := 1) (ls' := fun x9 => [(3, .int x9), (1, .long x8), (4, .long x5), (0, .ref (gA Γ 300))]) hk dX0_rounds_33 rfl rfl (by decide) (fun _ => rfl) (fun x9 => ?_)
      refine g_goto (pc := 36) (tgt := 4) hk dX0_rounds_36 rfl ?_
      refine g_sub (ls' := [(0, .ref (gA Γ 300)), (1, .long x8), (3, .int x9)]) [3, 1, 0] rfl ?_
      exact ih x8 x9
theorem cm_rounds (Γ : CG) (σ : CS)   (r : Int64) (h : C_rounds σ = some r) : CMet Γ yX0_rounds cX0_rounds 6 (some .long) rm_c_rounds [.ref (gA Γ 300)] σ (some (.long r)) σ := by
  refine c_met (view := (fun r : Int64 => (some (Value.long r), σ))) (own := RX0) rfl (by decide) rfl (ls0 := [(0, .ref (gA Γ 300))]) rfl (fun K hk hK => ?_) r h
  unfold C_rounds
  refine g_lconst (pc := 0) (v := 1) hk dX0_rounds_0 rfl ?_
  refine g_lstore_n (pc := 1) (i := 1) (ls' := [(1, .long 1), (0, .ref (gA Γ 300))]) hk dX0_rounds_1 rfl (by decide) rfl ?_
  refine g_iconst (pc := 2) (v := 0) hk dX0_rounds_2 rfl ?_
  refine g_istore_n (pc := 3) (i := 3) (ls' := [(3, .int 0), (1, .long 1), (0, .ref (gA Γ 300))]) hk dX0_rounds_3 rfl (by decide) rfl ?_
  refine g_sub (ls' := [(0, .ref (gA Γ 300)), (1, .long 1), (3, .int 0)]) [2, 1, 0] rfl ?_
  exact cm_rounds_l4 hk hK σ FU 1 0
def rm_c_done : Room := { frames := 3, cells := 0, slots := 0, locals := 82 }
theorem hv_c_done : yX0_done.cls = RX0 ∧ yX0_done.cls ≠ "java/lang/invoke/MethodHandle" ∧ yX0_done.cls ≠ "java/lang/invoke/VarHandle" ∧ (parseMethodDescriptor yX0_done.desc).map (fun d => d.parameters.length) = some 1 := by decide +kernel
theorem cm_done_j40 {K : KT} {Γ : CG} (hk : KOK K cX0_done 4 RX0 rm_c_done (some .int)) (hK : CK Γ (kS K)) (σ : CS) (v1 : Int32) (v3 : Int32) (s0 : Int32) (s1 : Int32) (k13 : Int32 → Int32 → Option (Int32)) (hk13 : ∀ (v2 : Int32) (v3 : Int32), GGo K (cQ K Γ rm_c_done (fun r : Int32 => (some (Value.int r), σ))) (k13 v2 v3) 4 (CI Γ (kS K) σ) 0 0 13 [(0, .ref (gA Γ 300)), (1, .int v1), (2, .int v2), (3, .int v3)] []) : GGo K (cQ K Γ rm_c_done (fun r : Int32 => (some (Value.int r), σ))) (C_done_j40 k13 σ v1 v3 s0 s1) 4 (CI Γ (kS K) σ) 0 0 40 [(0, .ref (gA Γ 300)), (1, .int v1), (3, .int v3)] [.int s1, .int s0] := by
  unfold C_done_j40
  refine g_ior (pc := 40) hk dX0_done_40 ?_
  refine g_istore_nN (pc := 41) (i := 2) (ls' := fun x3 => [(2, .int x3), (0, .ref (gA Γ 300)), (1, .int v1), (3, .int v3)]) hk dX0_done_41 rfl (by decide) (fun _ => rfl) (fun x3 => ?_)
  refine g_iincN (pc := 42) (v := 1) (ls' := fun x4 => [(3, .int x4), (2, .int x3), (0, .ref (gA Γ 300)), (1, .int v1)]) hk dX0_done_42 rfl rfl (by decide) (fun _ => rfl) (fun x4 => ?_)
  refine g_goto (pc := 45) (tgt := 13) hk dX0_done_45 rfl ?_
  refine g_sub (ls' := [(0, .ref (gA Γ 300)), (1, .int v1), (2, .int x3), (3, .int x4)]) [2, 3, 1, 0] rfl ?_
  exact hk13 x3 x4
theorem cm_done_l13 {K : KT} {Γ : CG} (hk : KOK K cX0_done 4 RX0 rm_c_done (some .int)) (hK : CK Γ (kS K)) (σ : CS) (v1 : Int32) : ∀ (n : Nat) (v2 : Int32) (v3 : Int32), GGo K (cQ K Γ rm_c_done (fun r : Int32 => (some (Value.int r), σ))) (C_done_l13 σ v1 n v2 v3) 4 (CI Γ (kS K) σ) 0 0 13 [(0, .ref (gA Γ 300)), (1, .int v1), (2, .int v2), (3, .int v3)] [] := by
  intro n
  induction n with
  | zero =>
    intro v2 v3
    unfold C_done_l13
    exact g_none
  | succ n ih =>
    intro v2 v3
    unfold C_done_l13
    refine g_iload_n (pc := 13) hk dX0_done_13 rfl ?_
    refine g_bipush (pc := 14) (v := 8) hk dX0_done_14 rfl ?_
    refine g_icmp_ge (pc := 16) (tgt := 48) hk dX0_done_16 rfl ?_ ?_
    · refine g_iload_n (pc := 48) hk dX0_done_48 rfl ?_
      exact c_iret (pc := 49) hk hK rfl dX0_done_49 rfl rfl
    · refine g_iload_n (pc := 19) hk dX0_done_19 rfl ?_
      refine g_aload_n (pc := 20) hk dX0_done_20 rfl ?_
      refine c_getR (pc := 21) hk hK cr_0 cf_0 dX0_done_21 ?_
      refine c_getS (pc := 24) (w := 0) hk hK (by decide) sr_2 sn_2 dX0_done_24 ?_
      refine g_iload_n (pc := 27) hk dX0_done_27 rfl ?_
      refine c_iald (pc := 28) (k := 2) hk hK cav_2 dX0_done_28 ?_
      refine g_iload_n (pc := 29) hk dX0_done_29 rfl ?_
      refine g_icmp_ne (pc := 30) (tgt := 39) hk dX0_done_30 rfl ?_ ?_
      · refine g_iconst (pc := 39) (v := 0) hk dX0_done_39 rfl ?_
        refine g_sub (ls' := [(0, .ref (gA Γ 300)), (1, .int v1), (3, .int v3)]) [0, 1, 3] rfl ?_
        exact cm_done_j40 hk hK σ v1 v3 v2 0 (C_done_l13 σ v1 n) ih
      · refine g_iconst (pc := 33) (v := 1) hk dX0_done_33 rfl ?_
        refine g_iload_n (pc := 34) hk dX0_done_34 rfl ?_
        refine g_ishl (pc := 35) hk dX0_done_35 ?_
        refine g_goto (pc := 36) (tgt := 40) hk dX0_done_36 rfl ?_
        refine g_sub (ls' := [(0, .ref (gA Γ 300)), (1, .int v1), (3, .int v3)]) [0, 1, 3] rfl ?_
        exact cm_done_j40 hk hK σ v1 v3 v2 (i_shl 1 v3) (C_done_l13 σ v1 n) ih
theorem cm_done (Γ : CG) (σ : CS) (v1 : Int32)  (r : Int32) (h : C_done σ v1 = some r) : CMet Γ yX0_done cX0_done 4 (some .int) rm_c_done [.ref (gA Γ 300), .int v1] σ (some (.int r)) σ := by
  refine c_met (view := (fun r : Int32 => (some (Value.int r), σ))) (own := RX0) rfl (by decide) rfl (ls0 := [(0, .ref (gA Γ 300)), (1, .int v1)]) rfl (fun K hk hK => ?_) r h
  unfold C_done
  refine g_iload_n (pc := 0) hk dX0_done_0 rfl ?_
  refine g_ob1 (fun r1 h2 => ?_)
  refine g_callP (pc := 1) hk [.int v1] [] (cm_isChair v1 r1 h2) (lw_S q307 q308 q124 q309) hs_c_isChair rfl ⟨rfl, rfl⟩ rfl rfl dX0_done_1 rfl rfl ⟨rfl, rfl⟩ ?_
  refine g_if_ne (pc := 4) (tgt := 9) hk dX0_done_4 rfl ?_ ?_
  · refine g_iconst (pc := 9) (v := 0) hk dX0_done_9 rfl ?_
    refine g_istore_n (pc := 10) (i := 2) (ls' := [(2, .int 0), (0, .ref (gA Γ 300)), (1, .int v1)]) hk dX0_done_10 rfl (by decide) rfl ?_
    refine g_iconst (pc := 11) (v := 0) hk dX0_done_11 rfl ?_
    refine g_istore_n (pc := 12) (i := 3) (ls' := [(3, .int 0), (2, .int 0), (0, .ref (gA Γ 300)), (1, .int v1)]) hk dX0_done_12 rfl (by decide) rfl ?_
    refine g_sub (ls' := [(0, .ref (gA Γ 300)), (1, .int v1), (2, .int 0), (3, .int 0)]) [2, 3, 1, 0] rfl ?_
    exact cm_done_l13 hk hK σ v1 FU 0 0
  · refine g_iconst (pc := 7) (v := (-1)) hk dX0_done_7 rfl ?_
    exact c_iret (pc := 8) hk hK rfl dX0_done_8 rfl rfl
def rm_c_isMirrored : Room := { frames := 1, cells := 0, slots := 0, locals := 40 }
theorem hv_c_isMirrored : yX0_isMirrored.cls = RX0 ∧ yX0_isMirrored.cls ≠ "java/lang/invoke/MethodHandle" ∧ yX0_isMirrored.cls ≠ "java/lang/invoke/VarHandle" ∧ (parseMethodDescriptor yX0_isMirrored.desc).map (fun d => d.parameters.length) = some 1 := by decide +kernel
theorem cm_isMirrored (Γ : CG) (σ : CS) (v1 : Int32)  (r : Int32) (h : C_isMirrored σ v1 = some r) : CMet Γ yX0_isMirrored cX0_isMirrored 2 (some .boolean) rm_c_isMirrored [.ref (gA Γ 300), .int v1] σ (some (.int r)) σ := by
  refine c_met (view := (fun r : Int32 => (some (Value.int r), σ))) (own := RX0) rfl (by decide) rfl (ls0 := [(0, .ref (gA Γ 300)), (1, .int v1)]) rfl (fun K hk hK => ?_) r h
  unfold C_isMirrored
  refine g_aload_n (pc := 0) hk dX0_isMirrored_0 rfl ?_
  refine c_getR (pc := 1) hk hK cr_8 cf_8 dX0_isMirrored_1 ?_
  refine g_aload_n (pc := 4) hk dX0_isMirrored_4 rfl ?_
  refine c_getR (pc := 5) hk hK cr_0 cf_0 dX0_isMirrored_5 ?_
  refine c_getS (pc := 8) (w := 0) hk hK (by decide) sr_2 sn_2 dX0_isMirrored_8 ?_
  refine g_iload_n (pc := 11) hk dX0_isMirrored_11 rfl ?_
  refine c_iald (pc := 12) (k := 2) hk hK cav_2 dX0_isMirrored_12 ?_
  refine c_iald (pc := 13) (k := 203) hk hK cav_203 dX0_isMirrored_13 ?_
  refine g_aload_n (pc := 14) hk dX0_isMirrored_14 rfl ?_
  refine c_getR (pc := 15) hk hK cr_0 cf_0 dX0_isMirrored_15 ?_
  refine c_getS (pc := 18) (w := 0) hk hK (by decide) sr_2 sn_2 dX0_isMirrored_18 ?_
  refine g_aload_n (pc := 21) hk dX0_isMirrored_21 rfl ?_
  refine c_getR (pc := 22) hk hK cr_8 cf_8 dX0_isMirrored_22 ?_
  refine g_iload_n (pc := 25) hk dX0_isMirrored_25 rfl ?_
  refine c_iald (pc := 26) (k := 203) hk hK cav_203 dX0_isMirrored_26 ?_
  refine c_iald (pc := 27) (k := 2) hk hK cav_2 dX0_isMirrored_27 ?_
  refine g_icmp_ne (pc := 28) (tgt := 35) hk dX0_isMirrored_28 rfl ?_ ?_
  · refine g_iconst (pc := 35) (v := 0) hk dX0_isMirrored_35 rfl ?_
    exact c_zret (pc := 36) hk hK rfl rfl dX0_isMirrored_36 rfl rfl
  · refine g_iconst (pc := 31) (v := 1) hk dX0_isMirrored_31 rfl ?_
    refine g_goto (pc := 32) (tgt := 36) hk dX0_isMirrored_32 rfl ?_
    exact c_zret (pc := 36) hk hK rfl rfl dX0_isMirrored_36 rfl rfl
def rm_c_mayGo : Room := { frames := 2, cells := 0, slots := 0, locals := 61 }
theorem hv_c_mayGo : yX0_mayGo.cls = RX0 ∧ yX0_mayGo.cls ≠ "java/lang/invoke/MethodHandle" ∧ yX0_mayGo.cls ≠ "java/lang/invoke/VarHandle" ∧ (parseMethodDescriptor yX0_mayGo.desc).map (fun d => d.parameters.length) = some 1 := by decide +kernel
theorem cm_mayGo_j36 {K : KT} {Γ : CG} (hk : KOK K cX0_mayGo 4 RX0 rm_c_mayGo (some .boolean)) (hK : CK Γ (kS K)) (σ : CS) (v1 : Int32) (v2 : Int32) (k2 : Int32 → Option (Int32)) (hk2 : ∀ (v2 : Int32), GGo K (cQ K Γ rm_c_mayGo (fun r : Int32 => (some (Value.int r), σ))) (k2 v2) 4 (CI Γ (kS K) σ) 0 0 2 [(0, .ref (gA Γ 300)), (1, .int v1), (2, .int v2)] []) : GGo K (cQ K Γ rm_c_mayGo (fun r : Int32 => (some (Value.int r), σ))) (C_mayGo_j36 k2 σ v1 v2) 4 (CI Γ (kS K) σ) 0 0 36 [(0, .ref (gA Γ 300)), (1, .int v1), (2, .int v2)] [] := by
  unfold C_mayGo_j36
  refine g_iincN (pc := 36) (v := 1) (ls' := fun x2 => [(2, .int x2), (0, .ref (gA Γ 300)), (1, .int v1)]) hk dX0_mayGo_36 rfl rfl (by decide) (fun _ => rfl) (fun x2 => ?_)
  refine g_goto (pc := 39) (tgt := 2) hk dX0_mayGo_39 rfl ?_
  refine g_sub (ls' := [(0, .ref (gA Γ 300)), (1, .int v1), (2, .int x2)]) [1, 2, 0] rfl ?_
  exact hk2 x2
theorem cm_mayGo_l2 {K : KT} {Γ : CG} (hk : KOK K cX0_mayGo 4 RX0 rm_c_mayGo (some .boolean)) (hK : CK Γ (kS K)) (σ : CS) (v1 : Int32) : ∀ (n : Nat) (v2 : Int32), GGo K (cQ K Γ rm_c_mayGo (fun r : Int32 => (some (Value.int r), σ))) (C_mayGo_l2 σ v1 n v2) 4 (CI Γ (kS K) σ) 0 0 2 [(0, .ref (gA Γ 300)), (1, .int v1), (2, .int v2)] [] := by
  intro n
  induction n with
  | zero =>
    intro v2
    unfold C_mayGo_l2
    exact g_none
  | succ n ih =>
    intro v2
    unfold C_mayGo_l2
    refine g_iload_n (pc := 2) hk dX0_mayGo_2 rfl ?_
    refine g_iload_n (pc := 3) hk dX0_mayGo_3 rfl ?_
    refine g_icmp_gt (pc := 4) (tgt := 42) hk dX0_mayGo_4 rfl ?_ ?_
    · refine g_iconst (pc := 42) (v := 1) hk dX0_mayGo_42 rfl ?_
      exact c_zret (pc := 43) hk hK rfl rfl dX0_mayGo_43 rfl rfl
    · refine g_iload_n (pc := 7) hk dX0_mayGo_7 rfl ?_
      refine g_aload_n (pc := 8) hk dX0_mayGo_8 rfl ?_
      refine c_getR (pc := 9) hk hK cr_0 cf_0 dX0_mayGo_9 ?_
      refine c_getS (pc := 12) (w := 0) hk hK (by decide) sr_2 sn_2 dX0_mayGo_12 ?_
      refine g_iload_n (pc := 15) hk dX0_mayGo_15 rfl ?_
      refine c_iald (pc := 16) (k := 2) hk hK cav_2 dX0_mayGo_16 ?_
      refine g_i_max (pc := 17) hk q1174 rfl rfl rfl dX0_mayGo_17 ⟨rfl, rfl⟩ ?_
      refine g_istore_nN (pc := 20) (i := 3) (ls' := fun x1 => [(3, .int x1), (0, .ref (gA Γ 300)), (1, .int v1), (2, .int v2)]) hk dX0_mayGo_20 rfl (by decide) (fun _ => rfl) (fun x1 => ?_)
      refine g_iload_n (pc := 21) hk dX0_mayGo_21 rfl ?_
      refine g_iload_n (pc := 22) hk dX0_mayGo_22 rfl ?_
      refine g_icmp_ne (pc := 23) (tgt := 36) hk dX0_mayGo_23 rfl ?_ ?_
      · refine g_sub (ls' := [(0, .ref (gA Γ 300)), (1, .int v1), (2, .int v2)]) [1, 2, 3] rfl ?_
        exact cm_mayGo_j36 hk hK σ v1 v2 (C_mayGo_l2 σ v1 n) ih
      · refine g_aload_n (pc := 26) hk dX0_mayGo_26 rfl ?_
        refine g_iload_n (pc := 27) hk dX0_mayGo_27 rfl ?_
        refine g_ob1 (fun r3 h4 => ?_)
        refine c_callV (pc := 28) hk hK (rec_X hK) [.int v2] [] (cm_isMirrored Γ σ v2 r3 h4) (lw_V q1175 q1177 qs40 q124 q1178) hv_c_isMirrored rfl rfl rfl dX0_mayGo_28 rfl rfl ⟨rfl, rfl⟩ ?_
        refine g_if_ne (pc := 31) (tgt := 36) hk dX0_mayGo_31 rfl ?_ ?_
        · refine g_sub (ls' := [(0, .ref (gA Γ 300)), (1, .int v1), (2, .int v2)]) [1, 2, 3] rfl ?_
          exact cm_mayGo_j36 hk hK σ v1 v2 (C_mayGo_l2 σ v1 n) ih
        · refine g_iconst (pc := 34) (v := 0) hk dX0_mayGo_34 rfl ?_
          exact c_zret (pc := 35) hk hK rfl rfl dX0_mayGo_35 rfl rfl
theorem cm_mayGo (Γ : CG) (σ : CS) (v1 : Int32)  (r : Int32) (h : C_mayGo σ v1 = some r) : CMet Γ yX0_mayGo cX0_mayGo 4 (some .boolean) rm_c_mayGo [.ref (gA Γ 300), .int v1] σ (some (.int r)) σ := by
  refine c_met (view := (fun r : Int32 => (some (Value.int r), σ))) (own := RX0) rfl (by decide) rfl (ls0 := [(0, .ref (gA Γ 300)), (1, .int v1)]) rfl (fun K hk hK => ?_) r h
  unfold C_mayGo
  refine g_iconst (pc := 0) (v := 0) hk dX0_mayGo_0 rfl ?_
  refine g_istore_n (pc := 1) (i := 2) (ls' := [(2, .int 0), (0, .ref (gA Γ 300)), (1, .int v1)]) hk dX0_mayGo_1 rfl (by decide) rfl ?_
  refine g_sub (ls' := [(0, .ref (gA Γ 300)), (1, .int v1), (2, .int 0)]) [1, 2, 0] rfl ?_
  exact cm_mayGo_l2 hk hK σ v1 FU 0
def rm_c_mirrorsFrom (d : Nat) : Room := { frames := 4 + d * 1, cells := 0, slots := 0, locals := 140 + d * 26 }
theorem hv_c_mirrorsFrom : yX0_mirrorsFrom.cls = RX0 ∧ yX0_mirrorsFrom.cls ≠ "java/lang/invoke/MethodHandle" ∧ yX0_mirrorsFrom.cls ≠ "java/lang/invoke/VarHandle" ∧ (parseMethodDescriptor yX0_mirrorsFrom.desc).map (fun d => d.parameters.length) = some 2 := by decide +kernel
theorem cm_mirrorsFrom_j64 {K : KT} {Γ : CG} {d : Nat} (hk : KOK K cX0_mirrorsFrom 5 RX0 (rm_c_mirrorsFrom (d + 1)) (some .int)) (hK : CK Γ (kS K)) (σ : CS) (v1 : Int32) (v2 : Int32) (v3 : Int32) (v4 : Int32) (rec : CS → Int32 → Int32 → Option (Int32 × CS)) (hrec : ∀ (σ : CS) (v1 : Int32) (v2 : Int32) (r : Int32 × CS), rec σ v1 v2 = some r → CMet Γ yX0_mirrorsFrom cX0_mirrorsFrom 5 (some .int) (rm_c_mirrorsFrom d) [.ref (gA Γ 300), .int v1, .int v2] σ (some (.int r.1)) r.2) (k13 : CS → Int32 → Int32 → Option (Int32 × CS)) (hk13 : ∀ (σ : CS) (v3 : Int32) (v4 : Int32), GGo K (cQ K Γ (rm_c_mirrorsFrom (d + 1)) (fun r : Int32 × CS => (some (Value.int r.1), r.2))) (k13 σ v3 v4) 5 (CI Γ (kS K) σ) 0 0 13 [(0, .ref (gA Γ 300)), (1, .int v1), (2, .int v2), (3, .int v3), (4, .int v4)] []) : GGo K (cQ K Γ (rm_c_mirrorsFrom (d + 1)) (fun r : Int32 × CS => (some (Value.int r.1), r.2))) (C_mirrorsFrom_j64 rec k13 σ v1 v2 v3 v4) 5 (CI Γ (kS K) σ) 0 0 64 [(0, .ref (gA Γ 300)), (1, .int v1), (2, .int v2), (3, .int v3), (4, .int v4)] [] := by
  unfold C_mirrorsFrom_j64
  refine g_iincN (pc := 64) (v := 1) (ls' := fun x6 => [(4, .int x6), (0, .ref (gA Γ 300)), (1, .int v1), (2, .int v2), (3, .int v3)]) hk dX0_mirrorsFrom_64 rfl rfl (by decide) (fun _ => rfl) (fun x6 => ?_)
  refine g_goto (pc := 67) (tgt := 13) hk dX0_mirrorsFrom_67 rfl ?_
  refine g_sub (ls' := [(0, .ref (gA Γ 300)), (1, .int v1), (2, .int v2), (3, .int v3), (4, .int x6)]) [1, 2, 3, 4, 0] rfl ?_
  exact hk13 σ v3 x6
theorem cm_mirrorsFrom_l13 {K : KT} {Γ : CG} {d : Nat} (hk : KOK K cX0_mirrorsFrom 5 RX0 (rm_c_mirrorsFrom (d + 1)) (some .int)) (hK : CK Γ (kS K)) (v1 : Int32) (v2 : Int32) (rec : CS → Int32 → Int32 → Option (Int32 × CS)) (hrec : ∀ (σ : CS) (v1 : Int32) (v2 : Int32) (r : Int32 × CS), rec σ v1 v2 = some r → CMet Γ yX0_mirrorsFrom cX0_mirrorsFrom 5 (some .int) (rm_c_mirrorsFrom d) [.ref (gA Γ 300), .int v1, .int v2] σ (some (.int r.1)) r.2) : ∀ (n : Nat) (σ : CS) (v3 : Int32) (v4 : Int32), GGo K (cQ K Γ (rm_c_mirrorsFrom (d + 1)) (fun r : Int32 × CS => (some (Value.int r.1), r.2))) (C_mirrorsFrom_l13 rec v1 v2 n σ v3 v4) 5 (CI Γ (kS K) σ) 0 0 13 [(0, .ref (gA Γ 300)), (1, .int v1), (2, .int v2), (3, .int v3), (4, .int v4)] [] := by
  intro n
  induction n with
  | zero =>
    intro σ v3 v4
    unfold C_mirrorsFrom_l13
    exact g_none
  | succ n ih =>
    intro σ v3 v4
    unfold C_mirrorsFrom_l13
    refine g_iload (pc := 13) hk dX0_mirrorsFrom_13 rfl ?_
    refine g_bipush (pc := 15) (v := 8) hk dX0_mirrorsFrom_15 rfl ?_
    refine g_icmp_ge (pc := 17) (tgt := 70) hk dX0_mirrorsFrom_17 rfl ?_ ?_
    · refine g_iload_n (pc := 70) hk dX0_mirrorsFrom_70 rfl ?_
      exact c_iret (pc := 71) hk hK rfl dX0_mirrorsFrom_71 rfl rfl
    · refine g_iload_n (pc := 20) hk dX0_mirrorsFrom_20 rfl ?_
      refine g_iload (pc := 21) hk dX0_mirrorsFrom_21 rfl ?_
      refine g_ob1 (fun r1 h2 => ?_)
      refine g_callP (pc := 23) hk [.int v2, .int v4] [] (cm_has v2 v4 r1 h2) (lw_S q1113 q1114 q124 q1115) hs_c_has (rmFit_i (by show _ ≤ _; simp only [rm_c_mirrorsFrom, rm_c_has]; omega) (by show _ ≤ _; simp only [rm_c_mirrorsFrom, rm_c_has]; omega)) ⟨rfl, rfl⟩ rfl rfl dX0_mirrorsFrom_23 rfl rfl ⟨rfl, rfl⟩ ?_
      refine g_if_eq (pc := 26) (tgt := 32) hk dX0_mirrorsFrom_26 rfl ?_ ?_
      · refine g_aload_n (pc := 32) hk dX0_mirrorsFrom_32 rfl ?_
        refine c_getR (pc := 33) hk hK cr_8 cf_8 dX0_mirrorsFrom_33 ?_
        refine g_iload_n (pc := 36) hk dX0_mirrorsFrom_36 rfl ?_
        refine g_iload (pc := 37) hk dX0_mirrorsFrom_37 rfl ?_
        refine c_iast (pc := 39) (k := 203) hk hK cav_203 dX0_mirrorsFrom_39 (fun σ3 => ?_)
        refine g_aload_n (pc := 40) hk dX0_mirrorsFrom_40 rfl ?_
        refine g_iload_n (pc := 41) hk dX0_mirrorsFrom_41 rfl ?_
        refine g_ob1 (fun r4 h5 => ?_)
        refine c_callV (pc := 42) hk hK (rec_X hK) [.int v1] [] (cm_mayGo Γ σ3 v1 r4 h5) (lw_V q1170 q1172 qs39 q124 q1173) hv_c_mayGo (rmFit_i (by show _ ≤ _; simp only [rm_c_mirrorsFrom, rm_c_mayGo]; omega) (by show _ ≤ _; simp only [rm_c_mirrorsFrom, rm_c_mayGo]; omega)) rfl rfl dX0_mirrorsFrom_42 rfl rfl ⟨rfl, rfl⟩ ?_
        refine g_if_eq (pc := 45) (tgt := 64) hk dX0_mirrorsFrom_45 rfl ?_ ?_
        · exact cm_mirrorsFrom_j64 hk hK σ3 v1 v2 v3 v4 rec hrec (C_mirrorsFrom_l13 rec v1 v2 n) ih
        · refine g_iload_n (pc := 48) hk dX0_mirrorsFrom_48 rfl ?_
          refine g_aload_n (pc := 49) hk dX0_mirrorsFrom_49 rfl ?_
          refine g_iload_n (pc := 50) hk dX0_mirrorsFrom_50 rfl ?_
          refine g_iconst (pc := 51) (v := 1) hk dX0_mirrorsFrom_51 rfl ?_
          refine g_iadd (pc := 52) hk dX0_mirrorsFrom_52 ?_
          refine g_iload_n (pc := 53) hk dX0_mirrorsFrom_53 rfl ?_
          refine g_iconst (pc := 54) (v := 1) hk dX0_mirrorsFrom_54 rfl ?_
          refine g_iload (pc := 55) hk dX0_mirrorsFrom_55 rfl ?_
          refine g_ishl (pc := 57) hk dX0_mirrorsFrom_57 ?_
          refine g_ior (pc := 58) hk dX0_mirrorsFrom_58 ?_
          refine g_ob2 (fun r7 σ9 h8 => ?_)
          refine c_callV (pc := 59) hk hK (rec_X hK) [.int (v1 + 1), .int (v2 ||| (i_shl 1 v4))] [.int v3] (hrec σ3 (v1 + 1) (v2 ||| (i_shl 1 v4)) (r7, σ9) h8) (lw_V q1166 q1168 qs38 q124 q1169) hv_c_mirrorsFrom (rmFit_i (by show _ ≤ _; simp only [rm_c_mirrorsFrom, rm_c_mirrorsFrom]; omega) (by show _ ≤ _; simp only [rm_c_mirrorsFrom, rm_c_mirrorsFrom]; omega)) rfl rfl dX0_mirrorsFrom_59 rfl rfl ⟨rfl, rfl⟩ ?_
          refine g_iadd (pc := 62) hk dX0_mirrorsFrom_62 ?_
          refine g_istore_nN (pc := 63) (i := 3) (ls' := fun x10 => [(3, .int x10), (0, .ref (gA Γ 300)), (1, .int v1), (2, .int v2), (4, .int v4)]) hk dX0_mirrorsFrom_63 rfl (by decide) (fun _ => rfl) (fun x10 => ?_)
          refine g_sub (ls' := [(0, .ref (gA Γ 300)), (1, .int v1), (2, .int v2), (3, .int x10), (4, .int v4)]) [1, 2, 3, 0, 4] rfl ?_
          exact cm_mirrorsFrom_j64 hk hK σ9 v1 v2 x10 v4 rec hrec (C_mirrorsFrom_l13 rec v1 v2 n) ih
      · refine g_goto (pc := 29) (tgt := 64) hk dX0_mirrorsFrom_29 rfl ?_
        exact cm_mirrorsFrom_j64 hk hK σ v1 v2 v3 v4 rec hrec (C_mirrorsFrom_l13 rec v1 v2 n) ih
theorem cm_mirrorsFrom_b (Γ : CG) {d : Nat} (σ : CS) (v1 : Int32) (v2 : Int32)  (rec : CS → Int32 → Int32 → Option (Int32 × CS)) (hrec : ∀ (σ : CS) (v1 : Int32) (v2 : Int32) (r : Int32 × CS), rec σ v1 v2 = some r → CMet Γ yX0_mirrorsFrom cX0_mirrorsFrom 5 (some .int) (rm_c_mirrorsFrom d) [.ref (gA Γ 300), .int v1, .int v2] σ (some (.int r.1)) r.2) (r : Int32 × CS) (h : C_mirrorsFrom_b rec σ v1 v2 = some r) : CMet Γ yX0_mirrorsFrom cX0_mirrorsFrom 5 (some .int) (rm_c_mirrorsFrom (d + 1)) [.ref (gA Γ 300), .int v1, .int v2] σ (some (.int r.1)) r.2 := by
  refine c_met (view := (fun r : Int32 × CS => (some (Value.int r.1), r.2))) (own := RX0) rfl (by decide) rfl (ls0 := [(0, .ref (gA Γ 300)), (1, .int v1), (2, .int v2)]) rfl (fun K hk hK => ?_) r h
  unfold C_mirrorsFrom_b
  refine g_iload_n (pc := 0) hk dX0_mirrorsFrom_0 rfl ?_
  refine g_bipush (pc := 1) (v := 8) hk dX0_mirrorsFrom_1 rfl ?_
  refine g_icmp_ne (pc := 3) (tgt := 8) hk dX0_mirrorsFrom_3 rfl ?_ ?_
  · refine g_iconst (pc := 8) (v := 0) hk dX0_mirrorsFrom_8 rfl ?_
    refine g_istore_n (pc := 9) (i := 3) (ls' := [(3, .int 0), (0, .ref (gA Γ 300)), (1, .int v1), (2, .int v2)]) hk dX0_mirrorsFrom_9 rfl (by decide) rfl ?_
    refine g_iconst (pc := 10) (v := 0) hk dX0_mirrorsFrom_10 rfl ?_
    refine g_istore (pc := 11) (i := 4) (ls' := [(4, .int 0), (3, .int 0), (0, .ref (gA Γ 300)), (1, .int v1), (2, .int v2)]) hk dX0_mirrorsFrom_11 (by decide) rfl ?_
    refine g_sub (ls' := [(0, .ref (gA Γ 300)), (1, .int v1), (2, .int v2), (3, .int 0), (4, .int 0)]) [2, 3, 4, 1, 0] rfl ?_
    exact cm_mirrorsFrom_l13 hk hK v1 v2 rec hrec FU σ 0 0
  · refine g_iconst (pc := 6) (v := 1) hk dX0_mirrorsFrom_6 rfl ?_
    exact c_iret (pc := 7) hk hK rfl dX0_mirrorsFrom_7 rfl rfl
theorem cm_mirrorsFrom (Γ : CG) : ∀ (d : Nat) (σ : CS) (v1 : Int32) (v2 : Int32) (r : Int32 × CS), C_mirrorsFrom d σ v1 v2 = some r → CMet Γ yX0_mirrorsFrom cX0_mirrorsFrom 5 (some .int) (rm_c_mirrorsFrom d) [.ref (gA Γ 300), .int v1, .int v2] σ (some (.int r.1)) r.2 := by
  intro d
  induction d with
  | zero => intro σ v1 v2 r h; cases h
  | succ d ih => intro σ v1 v2 r h; exact cm_mirrorsFrom_b Γ σ v1 v2 (C_mirrorsFrom d) ih r h
def rm_c_mirrors : Room := { frames := 21, cells := 0, slots := 0, locals := 580 }
theorem hv_c_mirrors : yX0_mirrors.cls = RX0 ∧ yX0_mirrors.cls ≠ "java/lang/invoke/MethodHandle" ∧ yX0_mirrors.cls ≠ "java/lang/invoke/VarHandle" ∧ (parseMethodDescriptor yX0_mirrors.desc).map (fun d => d.parameters.length) = some 0 := by decide +kernel
theorem cm_mirrors (Γ : CG) (σ : CS)   (r : Int32 × CS) (h : C_mirrors σ = some r) : CMet Γ yX0_mirrors cX0_mirrors 1 (some .int) rm_c_mirrors [.ref (gA Γ 300)] σ (some (.int r.1)) r.2 := by
  refine c_met (view := (fun r : Int32 × CS => (some (Value.int r.1), r.2))) (own := RX0) rfl (by decide) rfl (ls0 := [(0, .ref (gA Γ 300))]) rfl (fun K hk hK => ?_) r h
  unfold C_mirrors
  refine g_aload_n (pc := 0) hk dX0_mirrors_0 rfl ?_
  refine g_iconst (pc := 1) (v := 0) hk dX0_mirrors_1 rfl ?_
  refine g_iconst (pc := 2) (v := 0) hk dX0_mirrors_2 rfl ?_
  refine g_ob2 (fun r1 σ3 h2 => ?_)
  refine c_callV (pc := 3) hk hK (rec_X hK) [.int 0, .int 0] [] (cm_mirrorsFrom Γ 16 σ 0 0 (r1, σ3) h2) (lw_V q1166 q1168 qs38 q124 q1169) hv_c_mirrorsFrom rfl rfl rfl dX0_mirrors_3 rfl rfl ⟨rfl, rfl⟩ ?_
  exact c_iret (pc := 6) hk hK rfl dX0_mirrors_6 rfl rfl
def rm_c_till : Room := { frames := 3, cells := 0, slots := 0, locals := 83 }
theorem hv_c_till : yX0_till.cls = RX0 ∧ yX0_till.cls ≠ "java/lang/invoke/MethodHandle" ∧ yX0_till.cls ≠ "java/lang/invoke/VarHandle" ∧ (parseMethodDescriptor yX0_till.desc).map (fun d => d.parameters.length) = some 2 := by decide +kernel
theorem cm_till (Γ : CG) (σ : CS) (v1 : Int32) (v2 : Int32)  (r : Int32) (h : C_till σ v1 v2 = some r) : CMet Γ yX0_till cX0_till 3 (some .int) rm_c_till [.ref (gA Γ 300), .int v1, .int v2] σ (some (.int r)) σ := by
  refine c_met (view := (fun r : Int32 => (some (Value.int r), σ))) (own := RX0) rfl (by decide) rfl (ls0 := [(0, .ref (gA Γ 300)), (1, .int v1), (2, .int v2)]) rfl (fun K hk hK => ?_) r h
  unfold C_till
  refine g_aload_n (pc := 0) hk dX0_till_0 rfl ?_
  refine g_iload_n (pc := 1) hk dX0_till_1 rfl ?_
  refine g_ob1 (fun r1 h2 => ?_)
  refine c_callV (pc := 2) hk hK (rec_X hK) [.int v1] [] (cm_isPerson Γ σ v1 r1 h2) (lw_V q880 q882 qs25 q124 q883) hv_c_isPerson rfl rfl rfl dX0_till_2 rfl rfl ⟨rfl, rfl⟩ ?_
  refine g_if_eq (pc := 5) (tgt := 38) hk dX0_till_5 rfl ?_ ?_
  · refine g_iconst (pc := 38) (v := (-1)) hk dX0_till_38 rfl ?_
    exact c_iret (pc := 39) hk hK rfl dX0_till_39 rfl rfl
  · refine g_iload_n (pc := 8) hk dX0_till_8 rfl ?_
    refine g_iconst (pc := 9) (v := 0) hk dX0_till_9 rfl ?_
    refine g_bipush (pc := 10) (v := 99) hk dX0_till_10 rfl ?_
    refine g_ob1 (fun r3 h4 => ?_)
    refine g_callP (pc := 12) hk [.int v2, .int 0, .int 99] [] (cm_in v2 0 99 r3 h4) (lw_S q296 q297 q124 q298) hs_c_in rfl ⟨rfl, rfl⟩ rfl rfl dX0_till_12 rfl rfl ⟨rfl, rfl⟩ ?_
    refine g_if_eq (pc := 15) (tgt := 38) hk dX0_till_15 rfl ?_ ?_
    · refine g_iconst (pc := 38) (v := (-1)) hk dX0_till_38 rfl ?_
      exact c_iret (pc := 39) hk hK rfl dX0_till_39 rfl rfl
    · refine g_iconst (pc := 18) (v := 0) hk dX0_till_18 rfl ?_
      refine g_iload_n (pc := 19) hk dX0_till_19 rfl ?_
      refine g_aload_n (pc := 20) hk dX0_till_20 rfl ?_
      refine c_getR (pc := 21) hk hK cr_0 cf_0 dX0_till_21 ?_
      refine c_getS (pc := 24) (w := 0) hk hK (by decide) sr_1 sn_1 dX0_till_24 ?_
      refine g_iconst (pc := 27) (v := 3) hk dX0_till_27 rfl ?_
      refine g_iload_n (pc := 28) hk dX0_till_28 rfl ?_
      refine g_iadd (pc := 29) hk dX0_till_29 ?_
      refine c_iald (pc := 30) (k := 1) hk hK cav_1 dX0_till_30 ?_
      refine g_isub (pc := 31) hk dX0_till_31 ?_
      refine g_i_max (pc := 32) hk q1174 rfl rfl rfl dX0_till_32 ⟨rfl, rfl⟩ ?_
      refine g_goto (pc := 35) (tgt := 39) hk dX0_till_35 rfl ?_
      exact c_iret (pc := 39) hk hK rfl dX0_till_39 rfl rfl
def rm_c_need : Room := { frames := 3, cells := 0, slots := 0, locals := 82 }
theorem hv_c_need : yX0_need.cls = RX0 ∧ yX0_need.cls ≠ "java/lang/invoke/MethodHandle" ∧ yX0_need.cls ≠ "java/lang/invoke/VarHandle" ∧ (parseMethodDescriptor yX0_need.desc).map (fun d => d.parameters.length) = some 2 := by decide +kernel
theorem cm_need (Γ : CG) (σ : CS) (v1 : Int32) (v2 : Int32)  (r : Int32 × CS) (h : C_need σ v1 v2 = some r) : CMet Γ yX0_need cX0_need 3 (some .boolean) rm_c_need [.ref (gA Γ 300), .int v1, .int v2] σ (some (.int r.1)) r.2 := by
  refine c_met (view := (fun r : Int32 × CS => (some (Value.int r.1), r.2))) (own := RX0) rfl (by decide) rfl (ls0 := [(0, .ref (gA Γ 300)), (1, .int v1), (2, .int v2)]) rfl (fun K hk hK => ?_) r h
  unfold C_need
  refine g_iload_n (pc := 0) hk dX0_need_0 rfl ?_
  refine g_ob1 (fun r1 h2 => ?_)
  refine g_callP (pc := 1) hk [.int v1] [] (cm_isChair v1 r1 h2) (lw_S q307 q308 q124 q309) hs_c_isChair rfl ⟨rfl, rfl⟩ rfl rfl dX0_need_1 rfl rfl ⟨rfl, rfl⟩ ?_
  refine g_if_eq (pc := 4) (tgt := 16) hk dX0_need_4 rfl ?_ ?_
  · refine g_iconst (pc := 16) (v := 0) hk dX0_need_16 rfl ?_
    exact c_zret (pc := 17) hk hK rfl rfl dX0_need_17 rfl rfl
  · refine g_iload_n (pc := 7) hk dX0_need_7 rfl ?_
    refine g_iconst (pc := 8) (v := 0) hk dX0_need_8 rfl ?_
    refine g_iconst (pc := 9) (v := 3) hk dX0_need_9 rfl ?_
    refine g_ob1 (fun r3 h4 => ?_)
    refine g_callP (pc := 10) hk [.int v2, .int 0, .int 3] [] (cm_in v2 0 3 r3 h4) (lw_S q296 q297 q124 q298) hs_c_in rfl ⟨rfl, rfl⟩ rfl rfl dX0_need_10 rfl rfl ⟨rfl, rfl⟩ ?_
    refine g_if_ne (pc := 13) (tgt := 18) hk dX0_need_13 rfl ?_ ?_
    · refine g_aload_n (pc := 18) hk dX0_need_18 rfl ?_
      refine c_getR (pc := 19) hk hK cr_0 cf_0 dX0_need_19 ?_
      refine c_getS (pc := 22) (w := 0) hk hK (by decide) sr_3 sn_3 dX0_need_22 ?_
      refine g_iload_n (pc := 25) hk dX0_need_25 rfl ?_
      refine g_iload_n (pc := 26) hk dX0_need_26 rfl ?_
      refine c_iast (pc := 27) (k := 3) hk hK cav_3 dX0_need_27 (fun σ5 => ?_)
      refine g_iconst (pc := 28) (v := 1) hk dX0_need_28 rfl ?_
      exact c_zret (pc := 29) hk hK rfl rfl dX0_need_29 rfl rfl
    · refine g_iconst (pc := 16) (v := 0) hk dX0_need_16 rfl ?_
      exact c_zret (pc := 17) hk hK rfl rfl dX0_need_17 rfl rfl
def rm_c_lessened : Room := { frames := 1, cells := 0, slots := 0, locals := 40 }
theorem hs_c_lessened : yX0_lessened.cls ≠ "java/lang/invoke/MethodHandle" ∧ yX0_lessened.cls ≠ "java/lang/invoke/VarHandle" ∧ (parseMethodDescriptor yX0_lessened.desc).map (fun d => d.parameters.length) = some 2 := by decide +kernel
theorem cm_lessened (v0 : Int32) (v1 : Int32)  (r : Int32) (h : C_lessened v0 v1 = some r) : PMet yX0_lessened cX0_lessened 3 (some .int) rm_c_lessened [.int v0, .int v1] (some (.int r)) := by
  refine p_met (view := (fun r : Int32 => some (Value.int r))) (own := RX0) rfl (by decide) rfl (ls0 := [(0, .int v0), (1, .int v1)]) rfl (fun K hk => ?_) r h
  unfold C_lessened
  refine g_iconst (pc := 0) (v := 1) hk dX0_lessened_0 rfl ?_
  refine g_iconst (pc := 1) (v := 2) hk dX0_lessened_1 rfl ?_
  refine g_iload_n (pc := 2) hk dX0_lessened_2 rfl ?_
  refine g_imul (pc := 3) hk dX0_lessened_3 ?_
  refine g_ishl (pc := 4) hk dX0_lessened_4 ?_
  refine g_istore_nN (pc := 5) (i := 2) (ls' := fun x1 => [(2, .int x1), (0, .int v0), (1, .int v1)]) hk dX0_lessened_5 rfl (by decide) (fun _ => rfl) (fun x1 => ?_)
  refine g_iload_n (pc := 6) hk dX0_lessened_6 rfl ?_
  refine g_iload_n (pc := 7) hk dX0_lessened_7 rfl ?_
  refine g_idivG (pc := 8) hk dX0_lessened_8 (fun _ => ?_)
  refine g_iconst (pc := 9) (v := 4) hk dX0_lessened_9 rfl ?_
  refine g_irem (pc := 10) hk dX0_lessened_10 (by decide) ?_
  refine g_if_ne (pc := 11) (tgt := 18) hk dX0_lessened_11 rfl ?_ ?_
  · refine g_iload_n (pc := 18) hk dX0_lessened_18 rfl ?_
    refine g_iload_n (pc := 19) hk dX0_lessened_19 rfl ?_
    refine g_isub (pc := 20) hk dX0_lessened_20 ?_
    exact p_iret (pc := 21) hk rfl dX0_lessened_21
  · refine g_iload_n (pc := 14) hk dX0_lessened_14 rfl ?_
    refine g_goto (pc := 15) (tgt := 21) hk dX0_lessened_15 rfl ?_
    exact p_iret (pc := 21) hk rfl dX0_lessened_21
def rm_c_satIn : Room := { frames := 2, cells := 0, slots := 0, locals := 62 }
theorem hv_c_satIn : yX0_satIn.cls = RX0 ∧ yX0_satIn.cls ≠ "java/lang/invoke/MethodHandle" ∧ yX0_satIn.cls ≠ "java/lang/invoke/VarHandle" ∧ (parseMethodDescriptor yX0_satIn.desc).map (fun d => d.parameters.length) = some 2 := by decide +kernel
theorem cm_satIn (Γ : CG) (σ : CS) (v1 : Int32) (v2 : Int32)  (r : Int32) (h : C_satIn σ v1 v2 = some r) : CMet Γ yX0_satIn cX0_satIn 6 (some .int) rm_c_satIn [.ref (gA Γ 300), .int v1, .int v2] σ (some (.int r)) σ := by
  refine c_met (view := (fun r : Int32 => (some (Value.int r), σ))) (own := RX0) rfl (by decide) rfl (ls0 := [(0, .ref (gA Γ 300)), (1, .int v1), (2, .int v2)]) rfl (fun K hk hK => ?_) r h
  unfold C_satIn
  refine g_aload_n (pc := 0) hk dX0_satIn_0 rfl ?_
  refine c_getR (pc := 1) hk hK cr_0 cf_0 dX0_satIn_1 ?_
  refine c_getS (pc := 4) (w := 0) hk hK (by decide) sr_2 sn_2 dX0_satIn_4 ?_
  refine g_iload_n (pc := 7) hk dX0_satIn_7 rfl ?_
  refine c_iald (pc := 8) (k := 2) hk hK cav_2 dX0_satIn_8 ?_
  refine g_istore_nN (pc := 9) (i := 3) (ls' := fun x1 => [(3, .int x1), (0, .ref (gA Γ 300)), (1, .int v1), (2, .int v2)]) hk dX0_satIn_9 rfl (by decide) (fun _ => rfl) (fun x1 => ?_)
  refine g_aload_n (pc := 10) hk dX0_satIn_10 rfl ?_
  refine c_getR (pc := 11) hk hK cr_0 cf_0 dX0_satIn_11 ?_
  refine c_getS (pc := 14) (w := 0) hk hK (by decide) sr_2 sn_2 dX0_satIn_14 ?_
  refine g_iload_n (pc := 17) hk dX0_satIn_17 rfl ?_
  refine c_iald (pc := 18) (k := 2) hk hK cav_2 dX0_satIn_18 ?_
  refine g_istoreN (pc := 19) (i := 4) (ls' := fun x2 => [(4, .int x2), (3, .int x1), (0, .ref (gA Γ 300)), (1, .int v1), (2, .int v2)]) hk dX0_satIn_19 (by decide) (fun _ => rfl) (fun x2 => ?_)
  refine g_iload_n (pc := 21) hk dX0_satIn_21 rfl ?_
  refine g_iload_n (pc := 22) hk dX0_satIn_22 rfl ?_
  refine g_ob1 (fun r3 h4 => ?_)
  refine g_callP (pc := 23) hk [.int v1, .int x1] [] (cm_lessened v1 x1 r3 h4) (lw_S q1216 q1217 q124 q1218) hs_c_lessened rfl ⟨rfl, rfl⟩ rfl rfl dX0_satIn_23 rfl rfl ⟨rfl, rfl⟩ ?_
  refine g_istore (pc := 26) (i := 5) (ls' := [(5, .int r3), (4, .int x2), (3, .int x1), (0, .ref (gA Γ 300)), (1, .int v1), (2, .int v2)]) hk dX0_satIn_26 (by decide) rfl ?_
  refine g_iload (pc := 28) hk dX0_satIn_28 rfl ?_
  refine g_iload_n (pc := 30) hk dX0_satIn_30 rfl ?_
  refine g_icmp_ne (pc := 31) (tgt := 39) hk dX0_satIn_31 rfl ?_ ?_
  · refine g_iload (pc := 39) hk dX0_satIn_39 rfl ?_
    refine g_iload (pc := 41) hk dX0_satIn_41 rfl ?_
    refine g_ob1 (fun r5 h6 => ?_)
    refine g_callP (pc := 43) hk [.int r3, .int x2] [] (cm_lessened r3 x2 r5 h6) (lw_S q1216 q1217 q124 q1218) hs_c_lessened rfl ⟨rfl, rfl⟩ rfl rfl dX0_satIn_43 rfl rfl ⟨rfl, rfl⟩ ?_
    exact c_iret (pc := 46) hk hK rfl dX0_satIn_46 rfl rfl
  · refine g_iload (pc := 34) hk dX0_satIn_34 rfl ?_
    refine g_goto (pc := 36) (tgt := 46) hk dX0_satIn_36 rfl ?_
    exact c_iret (pc := 46) hk hK rfl dX0_satIn_46 rfl rfl
def rm_c_laysBooking : Room := { frames := 3, cells := 0, slots := 0, locals := 87 }
theorem hv_c_laysBooking : yX0_laysBooking.cls = RX0 ∧ yX0_laysBooking.cls ≠ "java/lang/invoke/MethodHandle" ∧ yX0_laysBooking.cls ≠ "java/lang/invoke/VarHandle" ∧ (parseMethodDescriptor yX0_laysBooking.desc).map (fun d => d.parameters.length) = some 0 := by decide +kernel
theorem cm_laysBooking_l198 {K : KT} {Γ : CG} (hk : KOK K cX0_laysBooking 6 RX0 rm_c_laysBooking (some .int)) (hK : CK Γ (kS K)) (v1 : Int32) (v3 : Int32) : ∀ (n : Nat) (σ : CS) (v4 : Int32) (v5 : Int32), GGo K (cQ K Γ rm_c_laysBooking (fun r : Int32 × CS => (some (Value.int r.1), r.2))) (C_laysBooking_l198 v1 v3 n σ v4 v5) 6 (CI Γ (kS K) σ) 0 0 198 [(0, .ref (gA Γ 300)), (1, .int v1), (3, .int v3), (4, .int v4), (5, .int v5)] [] := by
  intro n
  induction n with
  | zero =>
    intro σ v4 v5
    unfold C_laysBooking_l198
    exact g_none
  | succ n ih =>
    intro σ v4 v5
    unfold C_laysBooking_l198
    refine g_iload (pc := 198) hk dX0_laysBooking_198 rfl ?_
    refine g_iload_n (pc := 200) hk dX0_laysBooking_200 rfl ?_
    refine g_icmp_eq (pc := 201) (tgt := 233) hk dX0_laysBooking_201 rfl ?_ ?_
    · refine g_iload_n (pc := 233) hk dX0_laysBooking_233 rfl ?_
      exact c_iret (pc := 234) hk hK rfl dX0_laysBooking_234 rfl rfl
    · refine g_iincN (pc := 204) (v := (-1)) (ls' := fun x5 => [(4, .int x5), (0, .ref (gA Γ 300)), (1, .int v1), (3, .int v3), (5, .int v5)]) hk dX0_laysBooking_204 rfl rfl (by decide) (fun _ => rfl) (fun x5 => ?_)
      refine g_aload_n (pc := 207) hk dX0_laysBooking_207 rfl ?_
      refine c_getR (pc := 208) hk hK cr_11 cf_11 dX0_laysBooking_208 ?_
      refine g_iload (pc := 211) hk dX0_laysBooking_211 rfl ?_
      refine g_aload_n (pc := 213) hk dX0_laysBooking_213 rfl ?_
      refine c_getR (pc := 214) hk hK cr_12 cf_12 dX0_laysBooking_214 ?_
      refine g_iload (pc := 217) hk dX0_laysBooking_217 rfl ?_
      refine c_bald (pc := 219) (k := 207) hk hK cbv_207 dX0_laysBooking_219 ?_
      refine c_iast (pc := 220) (k := 206) hk hK cav_206 dX0_laysBooking_220 (fun σ6 => ?_)
      refine g_aload_n (pc := 221) hk dX0_laysBooking_221 rfl ?_
      refine c_getR (pc := 222) hk hK cr_9 cf_9 dX0_laysBooking_222 ?_
      refine g_iload (pc := 225) hk dX0_laysBooking_225 rfl ?_
      refine c_iald (pc := 227) (k := 204) hk hK cav_204 dX0_laysBooking_227 ?_
      refine g_istoreN (pc := 228) (i := 5) (ls' := fun x7 => [(5, .int x7), (4, .int x5), (0, .ref (gA Γ 300)), (1, .int v1), (3, .int v3)]) hk dX0_laysBooking_228 (by decide) (fun _ => rfl) (fun x7 => ?_)
      refine g_goto (pc := 230) (tgt := 198) hk dX0_laysBooking_230 rfl ?_
      refine g_sub (ls' := [(0, .ref (gA Γ 300)), (1, .int v1), (3, .int v3), (4, .int x5), (5, .int x7)]) [2, 3, 4, 1, 0] rfl ?_
      exact ih σ6 x5 x7
theorem cm_laysBooking_l171 {K : KT} {Γ : CG} (hk : KOK K cX0_laysBooking 6 RX0 rm_c_laysBooking (some .int)) (hK : CK Γ (kS K)) (σ : CS) (v1 : Int32) : ∀ (n : Nat) (v3 : Int32) (v4 : Int32), GGo K (cQ K Γ rm_c_laysBooking (fun r : Int32 × CS => (some (Value.int r.1), r.2))) (C_laysBooking_l171 σ v1 n v3 v4) 6 (CI Γ (kS K) σ) 0 0 171 [(0, .ref (gA Γ 300)), (1, .int v1), (3, .int v3), (4, .int v4)] [] := by
  intro n
  induction n with
  | zero =>
    intro v3 v4
    unfold C_laysBooking_l171
    exact g_none
  | succ n ih =>
    intro v3 v4
    unfold C_laysBooking_l171
    refine g_iload (pc := 171) hk dX0_laysBooking_171 rfl ?_
    refine g_iload_n (pc := 173) hk dX0_laysBooking_173 rfl ?_
    refine g_icmp_eq (pc := 174) (tgt := 192) hk dX0_laysBooking_174 rfl ?_ ?_
    · refine g_iload_n (pc := 192) hk dX0_laysBooking_192 rfl ?_
      refine g_istore (pc := 193) (i := 4) (ls' := [(4, .int v3), (0, .ref (gA Γ 300)), (1, .int v1), (3, .int v3)]) hk dX0_laysBooking_193 (by decide) rfl ?_
      refine g_iconst (pc := 195) (v := 0) hk dX0_laysBooking_195 rfl ?_
      refine g_istore (pc := 196) (i := 5) (ls' := [(5, .int 0), (4, .int v3), (0, .ref (gA Γ 300)), (1, .int v1), (3, .int v3)]) hk dX0_laysBooking_196 (by decide) rfl ?_
      refine g_sub (ls' := [(0, .ref (gA Γ 300)), (1, .int v1), (3, .int v3), (4, .int v3), (5, .int 0)]) [2, 3, 4, 1, 0] rfl ?_
      exact cm_laysBooking_l198 hk hK v1 v3 FU σ v3 0
    · refine g_iincN (pc := 177) (v := 1) (ls' := fun x8 => [(3, .int x8), (0, .ref (gA Γ 300)), (1, .int v1), (4, .int v4)]) hk dX0_laysBooking_177 rfl rfl (by decide) (fun _ => rfl) (fun x8 => ?_)
      refine g_aload_n (pc := 180) hk dX0_laysBooking_180 rfl ?_
      refine c_getR (pc := 181) hk hK cr_9 cf_9 dX0_laysBooking_181 ?_
      refine g_iload (pc := 184) hk dX0_laysBooking_184 rfl ?_
      refine c_iald (pc := 186) (k := 204) hk hK cav_204 dX0_laysBooking_186 ?_
      refine g_istoreN (pc := 187) (i := 4) (ls' := fun x9 => [(4, .int x9), (3, .int x8), (0, .ref (gA Γ 300)), (1, .int v1)]) hk dX0_laysBooking_187 (by decide) (fun _ => rfl) (fun x9 => ?_)
      refine g_goto (pc := 189) (tgt := 171) hk dX0_laysBooking_189 rfl ?_
      refine g_sub (ls' := [(0, .ref (gA Γ 300)), (1, .int v1), (3, .int x8), (4, .int x9)]) [2, 3, 1, 0] rfl ?_
      exact ih x8 x9
theorem cm_laysBooking_j154 {K : KT} {Γ : CG} (hk : KOK K cX0_laysBooking 6 RX0 rm_c_laysBooking (some .int)) (hK : CK Γ (kS K)) (σ : CS) (v1 : Int32) : GGo K (cQ K Γ rm_c_laysBooking (fun r : Int32 × CS => (some (Value.int r.1), r.2))) (C_laysBooking_j154 σ v1) 6 (CI Γ (kS K) σ) 0 0 154 [(0, .ref (gA Γ 300)), (1, .int v1)] [] := by
  unfold C_laysBooking_j154
  refine g_aload_n (pc := 154) hk dX0_laysBooking_154 rfl ?_
  refine c_getR (pc := 155) hk hK cr_9 cf_9 dX0_laysBooking_155 ?_
  refine g_iconst (pc := 158) (v := 0) hk dX0_laysBooking_158 rfl ?_
  refine c_ialdC (pc := 159) (k := 204) (j := 0) hk hK cav_204 rfl rfl dX0_laysBooking_159 ?_
  refine g_iconst (pc := 160) (v := (-1)) hk dX0_laysBooking_160 rfl ?_
  refine g_icmp_ne (pc := 161) (tgt := 166) hk dX0_laysBooking_161 rfl ?_ ?_
  · refine g_iconst (pc := 166) (v := 0) hk dX0_laysBooking_166 rfl ?_
    refine g_istore_n (pc := 167) (i := 3) (ls' := [(3, .int 0), (0, .ref (gA Γ 300)), (1, .int v1)]) hk dX0_laysBooking_167 rfl (by decide) rfl ?_
    refine g_iconst (pc := 168) (v := 0) hk dX0_laysBooking_168 rfl ?_
    refine g_istore (pc := 169) (i := 4) (ls' := [(4, .int 0), (3, .int 0), (0, .ref (gA Γ 300)), (1, .int v1)]) hk dX0_laysBooking_169 (by decide) rfl ?_
    refine g_sub (ls' := [(0, .ref (gA Γ 300)), (1, .int v1), (3, .int 0), (4, .int 0)]) [2, 3, 1, 0] rfl ?_
    exact cm_laysBooking_l171 hk hK σ v1 FU 0 0
  · refine g_iconst (pc := 164) (v := (-1)) hk dX0_laysBooking_164 rfl ?_
    exact c_iret (pc := 165) hk hK rfl dX0_laysBooking_165 rfl rfl
theorem cm_laysBooking_j142 {K : KT} {Γ : CG} (hk : KOK K cX0_laysBooking 6 RX0 rm_c_laysBooking (some .int)) (hK : CK Γ (kS K)) (σ : CS) (v1 : Int32) (v2 : Int32) (v3 : Int32) (v4 : Int32) (k55 : CS → Int32 → Int32 → Option (Int32 × CS)) (k73 : CS → Int32 → Int32 → Option (Int32 × CS)) (hk55 : ∀ (σ : CS) (v2 : Int32) (v3 : Int32), GGo K (cQ K Γ rm_c_laysBooking (fun r : Int32 × CS => (some (Value.int r.1), r.2))) (k55 σ v2 v3) 6 (CI Γ (kS K) σ) 0 0 55 [(0, .ref (gA Γ 300)), (1, .int v1), (2, .int v2), (3, .int v3)] []) (hk73 : ∀ (σ : CS) (v2 : Int32) (v4 : Int32), GGo K (cQ K Γ rm_c_laysBooking (fun r : Int32 × CS => (some (Value.int r.1), r.2))) (k73 σ v2 v4) 6 (CI Γ (kS K) σ) 0 0 73 [(0, .ref (gA Γ 300)), (1, .int v1), (2, .int v2), (3, .int v3), (4, .int v4)] []) : GGo K (cQ K Γ rm_c_laysBooking (fun r : Int32 × CS => (some (Value.int r.1), r.2))) (C_laysBooking_j142 k55 k73 σ v1 v2 v3 v4) 6 (CI Γ (kS K) σ) 0 0 142 [(0, .ref (gA Γ 300)), (1, .int v1), (2, .int v2), (3, .int v3), (4, .int v4)] [] := by
  unfold C_laysBooking_j142
  refine g_iincN (pc := 142) (v := 1) (ls' := fun x17 => [(4, .int x17), (0, .ref (gA Γ 300)), (1, .int v1), (2, .int v2), (3, .int v3)]) hk dX0_laysBooking_142 rfl rfl (by decide) (fun _ => rfl) (fun x17 => ?_)
  refine g_goto (pc := 145) (tgt := 73) hk dX0_laysBooking_145 rfl ?_
  refine g_sub (ls' := [(0, .ref (gA Γ 300)), (1, .int v1), (2, .int v2), (3, .int v3), (4, .int x17)]) [1, 2, 3, 4, 0] rfl ?_
  exact hk73 σ v2 x17
theorem cm_laysBooking_l73 {K : KT} {Γ : CG} (hk : KOK K cX0_laysBooking 6 RX0 rm_c_laysBooking (some .int)) (hK : CK Γ (kS K)) (v1 : Int32) (v3 : Int32) (k55 : CS → Int32 → Int32 → Option (Int32 × CS)) (hk55 : ∀ (σ : CS) (v2 : Int32) (v3 : Int32), GGo K (cQ K Γ rm_c_laysBooking (fun r : Int32 × CS => (some (Value.int r.1), r.2))) (k55 σ v2 v3) 6 (CI Γ (kS K) σ) 0 0 55 [(0, .ref (gA Γ 300)), (1, .int v1), (2, .int v2), (3, .int v3)] []) : ∀ (n : Nat) (σ : CS) (v2 : Int32) (v4 : Int32), GGo K (cQ K Γ rm_c_laysBooking (fun r : Int32 × CS => (some (Value.int r.1), r.2))) (C_laysBooking_l73 k55 v1 v3 n σ v2 v4) 6 (CI Γ (kS K) σ) 0 0 73 [(0, .ref (gA Γ 300)), (1, .int v1), (2, .int v2), (3, .int v3), (4, .int v4)] [] := by
  intro n
  induction n with
  | zero =>
    intro σ v2 v4
    unfold C_laysBooking_l73
    exact g_none
  | succ n ih =>
    intro σ v2 v4
    unfold C_laysBooking_l73
    refine g_iload (pc := 73) hk dX0_laysBooking_73 rfl ?_
    refine g_bipush (pc := 75) (v := 8) hk dX0_laysBooking_75 rfl ?_
    refine g_icmp_ge (pc := 77) (tgt := 148) hk dX0_laysBooking_77 rfl ?_ ?_
    · refine g_iincN (pc := 148) (v := 1) (ls' := fun x10 => [(3, .int x10), (0, .ref (gA Γ 300)), (1, .int v1), (2, .int v2), (4, .int v4)]) hk dX0_laysBooking_148 rfl rfl (by decide) (fun _ => rfl) (fun x10 => ?_)
      refine g_goto (pc := 151) (tgt := 55) hk dX0_laysBooking_151 rfl ?_
      refine g_sub (ls' := [(0, .ref (gA Γ 300)), (1, .int v1), (2, .int v2), (3, .int x10)]) [1, 2, 3, 0] rfl ?_
      exact hk55 σ v2 x10
    · refine g_aload_n (pc := 80) hk dX0_laysBooking_80 rfl ?_
      refine g_aload_n (pc := 81) hk dX0_laysBooking_81 rfl ?_
      refine c_getR (pc := 82) hk hK cr_10 cf_10 dX0_laysBooking_82 ?_
      refine g_iload_n (pc := 85) hk dX0_laysBooking_85 rfl ?_
      refine c_iald (pc := 86) (k := 205) hk hK cav_205 dX0_laysBooking_86 ?_
      refine g_iload (pc := 87) hk dX0_laysBooking_87 rfl ?_
      refine g_ob1 (fun r11 h12 => ?_)
      refine c_callV (pc := 89) hk hK (rec_X hK) [.int (cA σ 205 v3.toNatClampNeg), .int v4] [] (cm_satIn Γ σ (cA σ 205 v3.toNatClampNeg) v4 r11 h12) (lw_V q1212 q1214 qs44 q124 q1215) hv_c_satIn rfl rfl rfl dX0_laysBooking_89 rfl rfl ⟨rfl, rfl⟩ ?_
      refine g_istore (pc := 92) (i := 5) (ls' := [(5, .int r11), (0, .ref (gA Γ 300)), (1, .int v1), (2, .int v2), (3, .int v3), (4, .int v4)]) hk dX0_laysBooking_92 (by decide) rfl ?_
      refine g_aload_n (pc := 94) hk dX0_laysBooking_94 rfl ?_
      refine c_getR (pc := 95) hk hK cr_9 cf_9 dX0_laysBooking_95 ?_
      refine g_iload (pc := 98) hk dX0_laysBooking_98 rfl ?_
      refine c_iald (pc := 100) (k := 204) hk hK cav_204 dX0_laysBooking_100 ?_
      refine g_iconst (pc := 101) (v := (-1)) hk dX0_laysBooking_101 rfl ?_
      refine g_icmp_eq (pc := 102) (tgt := 108) hk dX0_laysBooking_102 rfl ?_ ?_
      · refine g_aload_n (pc := 108) hk dX0_laysBooking_108 rfl ?_
        refine c_getR (pc := 109) hk hK cr_9 cf_9 dX0_laysBooking_109 ?_
        refine g_iload (pc := 112) hk dX0_laysBooking_112 rfl ?_
        refine g_aload_n (pc := 114) hk dX0_laysBooking_114 rfl ?_
        refine c_getR (pc := 115) hk hK cr_10 cf_10 dX0_laysBooking_115 ?_
        refine g_iload_n (pc := 118) hk dX0_laysBooking_118 rfl ?_
        refine c_iald (pc := 119) (k := 205) hk hK cav_205 dX0_laysBooking_119 ?_
        refine c_iast (pc := 120) (k := 204) hk hK cav_204 dX0_laysBooking_120 (fun σ13 => ?_)
        refine g_aload_n (pc := 121) hk dX0_laysBooking_121 rfl ?_
        refine c_getR (pc := 122) hk hK cr_12 cf_12 dX0_laysBooking_122 ?_
        refine g_iload (pc := 125) hk dX0_laysBooking_125 rfl ?_
        refine g_iload (pc := 127) hk dX0_laysBooking_127 rfl ?_
        refine g_i2b (pc := 129) hk dX0_laysBooking_129 ?_
        refine c_bast (pc := 130) (k := 207) hk hK cbv_207 dX0_laysBooking_130 (fun σ14 => ?_)
        refine g_aload_n (pc := 131) hk dX0_laysBooking_131 rfl ?_
        refine c_getR (pc := 132) hk hK cr_10 cf_10 dX0_laysBooking_132 ?_
        refine g_iload_n (pc := 135) hk dX0_laysBooking_135 rfl ?_
        refine g_iload (pc := 136) hk dX0_laysBooking_136 rfl ?_
        refine c_iast (pc := 138) (k := 205) hk hK cav_205 dX0_laysBooking_138 (fun σ15 => ?_)
        refine g_iincN (pc := 139) (v := 1) (ls' := fun x16 => [(2, .int x16), (5, .int r11), (0, .ref (gA Γ 300)), (1, .int v1), (3, .int v3), (4, .int v4)]) hk dX0_laysBooking_139 rfl rfl (by decide) (fun _ => rfl) (fun x16 => ?_)
        refine g_sub (ls' := [(0, .ref (gA Γ 300)), (1, .int v1), (2, .int x16), (3, .int v3), (4, .int v4)]) [2, 3, 0, 4, 5] rfl ?_
        exact cm_laysBooking_j142 hk hK σ15 v1 x16 v3 v4 k55 (C_laysBooking_l73 k55 v1 v3 n) hk55 ih
      · refine g_goto (pc := 105) (tgt := 142) hk dX0_laysBooking_105 rfl ?_
        refine g_sub (ls' := [(0, .ref (gA Γ 300)), (1, .int v1), (2, .int v2), (3, .int v3), (4, .int v4)]) [1, 2, 3, 4, 5] rfl ?_
        exact cm_laysBooking_j142 hk hK σ v1 v2 v3 v4 k55 (C_laysBooking_l73 k55 v1 v3 n) hk55 ih
theorem cm_laysBooking_l55 {K : KT} {Γ : CG} (hk : KOK K cX0_laysBooking 6 RX0 rm_c_laysBooking (some .int)) (hK : CK Γ (kS K)) (v1 : Int32) : ∀ (n : Nat) (σ : CS) (v2 : Int32) (v3 : Int32), GGo K (cQ K Γ rm_c_laysBooking (fun r : Int32 × CS => (some (Value.int r.1), r.2))) (C_laysBooking_l55 v1 n σ v2 v3) 6 (CI Γ (kS K) σ) 0 0 55 [(0, .ref (gA Γ 300)), (1, .int v1), (2, .int v2), (3, .int v3)] [] := by
  intro n
  induction n with
  | zero =>
    intro σ v2 v3
    unfold C_laysBooking_l55
    exact g_none
  | succ n ih =>
    intro σ v2 v3
    unfold C_laysBooking_l55
    refine g_iload_n (pc := 55) hk dX0_laysBooking_55 rfl ?_
    refine g_iload_n (pc := 56) hk dX0_laysBooking_56 rfl ?_
    refine g_icmp_ge (pc := 57) (tgt := 154) hk dX0_laysBooking_57 rfl ?_ ?_
    · refine g_sub (ls' := [(0, .ref (gA Γ 300)), (1, .int v1)]) [0, 1] rfl ?_
      exact cm_laysBooking_j154 hk hK σ v1
    · refine g_aload_n (pc := 60) hk dX0_laysBooking_60 rfl ?_
      refine c_getR (pc := 61) hk hK cr_9 cf_9 dX0_laysBooking_61 ?_
      refine g_iconst (pc := 64) (v := 0) hk dX0_laysBooking_64 rfl ?_
      refine c_ialdC (pc := 65) (k := 204) (j := 0) hk hK cav_204 rfl rfl dX0_laysBooking_65 ?_
      refine g_iconst (pc := 66) (v := (-1)) hk dX0_laysBooking_66 rfl ?_
      refine g_icmp_ne (pc := 67) (tgt := 154) hk dX0_laysBooking_67 rfl ?_ ?_
      · refine g_sub (ls' := [(0, .ref (gA Γ 300)), (1, .int v1)]) [0, 1] rfl ?_
        exact cm_laysBooking_j154 hk hK σ v1
      · refine g_iconst (pc := 70) (v := 0) hk dX0_laysBooking_70 rfl ?_
        refine g_istore (pc := 71) (i := 4) (ls' := [(4, .int 0), (0, .ref (gA Γ 300)), (1, .int v1), (2, .int v2), (3, .int v3)]) hk dX0_laysBooking_71 (by decide) rfl ?_
        refine g_sub (ls' := [(0, .ref (gA Γ 300)), (1, .int v1), (2, .int v2), (3, .int v3), (4, .int 0)]) [1, 2, 3, 4, 0] rfl ?_
        exact cm_laysBooking_l73 hk hK v1 v3 (C_laysBooking_l55 v1 n) ih FU σ v2 0
theorem cm_laysBooking_l13 {K : KT} {Γ : CG} (hk : KOK K cX0_laysBooking 6 RX0 rm_c_laysBooking (some .int)) (hK : CK Γ (kS K)) (σ : CS) : ∀ (n : Nat) (v1 : Int32) (v2 : Int32), GGo K (cQ K Γ rm_c_laysBooking (fun r : Int32 × CS => (some (Value.int r.1), r.2))) (C_laysBooking_l13 σ n v1 v2) 6 (CI Γ (kS K) σ) 0 0 13 [(0, .ref (gA Γ 300)), (1, .int v1), (2, .int v2)] [] := by
  intro n
  induction n with
  | zero =>
    intro v1 v2
    unfold C_laysBooking_l13
    exact g_none
  | succ n ih =>
    intro v1 v2
    unfold C_laysBooking_l13
    refine g_iload_n (pc := 13) hk dX0_laysBooking_13 rfl ?_
    refine g_if_lt (pc := 14) (tgt := 37) hk dX0_laysBooking_14 rfl ?_ ?_
    · refine g_aload_n (pc := 37) hk dX0_laysBooking_37 rfl ?_
      refine c_getR (pc := 38) hk hK cr_9 cf_9 dX0_laysBooking_38 ?_
      refine g_iload_n (pc := 41) hk dX0_laysBooking_41 rfl ?_
      refine g_iload_n (pc := 42) hk dX0_laysBooking_42 rfl ?_
      refine c_iast (pc := 43) (k := 204) hk hK cav_204 dX0_laysBooking_43 (fun σ3 => ?_)
      refine g_aload_n (pc := 44) hk dX0_laysBooking_44 rfl ?_
      refine c_getR (pc := 45) hk hK cr_10 cf_10 dX0_laysBooking_45 ?_
      refine g_iconst (pc := 48) (v := 0) hk dX0_laysBooking_48 rfl ?_
      refine g_iload_n (pc := 49) hk dX0_laysBooking_49 rfl ?_
      refine c_iastC (pc := 50) (k := 205) (j := 0) hk hK cav_205 rfl rfl dX0_laysBooking_50 (fun σ4 => ?_)
      refine g_iconst (pc := 51) (v := 1) hk dX0_laysBooking_51 rfl ?_
      refine g_istore_n (pc := 52) (i := 2) (ls' := [(2, .int 1), (0, .ref (gA Γ 300)), (1, .int v1)]) hk dX0_laysBooking_52 rfl (by decide) rfl ?_
      refine g_iconst (pc := 53) (v := 0) hk dX0_laysBooking_53 rfl ?_
      refine g_istore_n (pc := 54) (i := 3) (ls' := [(3, .int 0), (2, .int 1), (0, .ref (gA Γ 300)), (1, .int v1)]) hk dX0_laysBooking_54 rfl (by decide) rfl ?_
      refine g_sub (ls' := [(0, .ref (gA Γ 300)), (1, .int v1), (2, .int 1), (3, .int 0)]) [2, 3, 1, 0] rfl ?_
      exact cm_laysBooking_l55 hk hK v1 FU σ4 1 0
    · refine g_iconst (pc := 17) (v := 4) hk dX0_laysBooking_17 rfl ?_
      refine g_iload_n (pc := 18) hk dX0_laysBooking_18 rfl ?_
      refine g_imul (pc := 19) hk dX0_laysBooking_19 ?_
      refine g_aload_n (pc := 20) hk dX0_laysBooking_20 rfl ?_
      refine c_getR (pc := 21) hk hK cr_0 cf_0 dX0_laysBooking_21 ?_
      refine c_getS (pc := 24) (w := 0) hk hK (by decide) sr_3 sn_3 dX0_laysBooking_24 ?_
      refine g_iload_n (pc := 27) hk dX0_laysBooking_27 rfl ?_
      refine c_iald (pc := 28) (k := 3) hk hK cav_3 dX0_laysBooking_28 ?_
      refine g_iadd (pc := 29) hk dX0_laysBooking_29 ?_
      refine g_istore_nN (pc := 30) (i := 1) (ls' := fun x18 => [(1, .int x18), (0, .ref (gA Γ 300)), (2, .int v2)]) hk dX0_laysBooking_30 rfl (by decide) (fun _ => rfl) (fun x18 => ?_)
      refine g_iincN (pc := 31) (v := (-1)) (ls' := fun x19 => [(2, .int x19), (1, .int x18), (0, .ref (gA Γ 300))]) hk dX0_laysBooking_31 rfl rfl (by decide) (fun _ => rfl) (fun x19 => ?_)
      refine g_goto (pc := 34) (tgt := 13) hk dX0_laysBooking_34 rfl ?_
      refine g_sub (ls' := [(0, .ref (gA Γ 300)), (1, .int x18), (2, .int x19)]) [2, 1, 0] rfl ?_
      exact ih x18 x19
theorem cm_laysBooking (Γ : CG) (σ : CS)   (r : Int32 × CS) (h : C_laysBooking σ = some r) : CMet Γ yX0_laysBooking cX0_laysBooking 6 (some .int) rm_c_laysBooking [.ref (gA Γ 300)] σ (some (.int r.1)) r.2 := by
  refine c_met (view := (fun r : Int32 × CS => (some (Value.int r.1), r.2))) (own := RX0) rfl (by decide) rfl (ls0 := [(0, .ref (gA Γ 300))]) rfl (fun K hk hK => ?_) r h
  unfold C_laysBooking
  refine g_aload_n (pc := 0) hk dX0_laysBooking_0 rfl ?_
  refine c_getR (pc := 1) hk hK cr_9 cf_9 dX0_laysBooking_1 ?_
  refine g_iconst (pc := 4) (v := (-1)) hk dX0_laysBooking_4 rfl ?_
  refine g_ob1 (fun σ2 h1 => ?_)
  refine c_callS (pc := 5) hk hK [.ref (gA Γ 204), .int (-1)] [] (fm_fill Γ σ 204 65536 (-1) cav_204 σ2 h1) (lw_S q1211 q177 q126 q178) hs_f_fill rfl rfl rfl dX0_laysBooking_5 rfl rfl ⟨rfl, rfl⟩ ?_
  refine g_iconst (pc := 8) (v := 0) hk dX0_laysBooking_8 rfl ?_
  refine g_istore_n (pc := 9) (i := 1) (ls' := [(1, .int 0), (0, .ref (gA Γ 300))]) hk dX0_laysBooking_9 rfl (by decide) rfl ?_
  refine g_bipush (pc := 10) (v := 7) hk dX0_laysBooking_10 rfl ?_
  refine g_istore_n (pc := 12) (i := 2) (ls' := [(2, .int 7), (1, .int 0), (0, .ref (gA Γ 300))]) hk dX0_laysBooking_12 rfl (by decide) rfl ?_
  refine g_sub (ls' := [(0, .ref (gA Γ 300)), (1, .int 0), (2, .int 7)]) [2, 1, 0] rfl ?_
  exact cm_laysBooking_l13 hk hK σ2 FU 0 7
def rm_c_booking : Room := { frames := 4, cells := 0, slots := 0, locals := 112 }
theorem hv_c_booking : yX0_booking.cls = RX0 ∧ yX0_booking.cls ≠ "java/lang/invoke/MethodHandle" ∧ yX0_booking.cls ≠ "java/lang/invoke/VarHandle" ∧ (parseMethodDescriptor yX0_booking.desc).map (fun d => d.parameters.length) = some 1 := by decide +kernel
theorem cm_booking (Γ : CG) (σ : CS) (v1 : Int32)  (r : Int32 × CS) (h : C_booking σ v1 = some r) : CMet Γ yX0_booking cX0_booking 3 (some .int) rm_c_booking [.ref (gA Γ 300), .int v1] σ (some (.int r.1)) r.2 := by
  refine c_met (view := (fun r : Int32 × CS => (some (Value.int r.1), r.2))) (own := RX0) rfl (by decide) rfl (ls0 := [(0, .ref (gA Γ 300)), (1, .int v1)]) rfl (fun K hk hK => ?_) r h
  unfold C_booking
  refine g_aload_n (pc := 0) hk dX0_booking_0 rfl ?_
  refine g_ob2 (fun r1 σ3 h2 => ?_)
  refine c_callV (pc := 1) hk hK (rec_X hK) [] [] (cm_laysBooking Γ σ (r1, σ3) h2) (lw_V q1207 q1209 qs43 q124 q1210) hv_c_laysBooking rfl rfl rfl dX0_booking_1 rfl rfl ⟨rfl, rfl⟩ ?_
  refine g_istore_n (pc := 4) (i := 2) (ls' := [(2, .int r1), (0, .ref (gA Γ 300)), (1, .int v1)]) hk dX0_booking_4 rfl (by decide) rfl ?_
  refine g_iload_n (pc := 5) hk dX0_booking_5 rfl ?_
  refine g_iconst (pc := 6) (v := (-1)) hk dX0_booking_6 rfl ?_
  refine g_icmp_eq (pc := 7) (tgt := 21) hk dX0_booking_7 rfl ?_ ?_
  · refine g_bipush (pc := 21) (v := (-2)) hk dX0_booking_21 rfl ?_
    refine g_goto (pc := 23) (tgt := 41) hk dX0_booking_23 rfl ?_
    exact c_iret (pc := 41) hk hK rfl dX0_booking_41 rfl rfl
  · refine g_iload_n (pc := 10) hk dX0_booking_10 rfl ?_
    refine g_iconst (pc := 11) (v := (-1)) hk dX0_booking_11 rfl ?_
    refine g_iload_n (pc := 12) hk dX0_booking_12 rfl ?_
    refine g_iconst (pc := 13) (v := 1) hk dX0_booking_13 rfl ?_
    refine g_isub (pc := 14) hk dX0_booking_14 ?_
    refine g_ob1 (fun r4 h5 => ?_)
    refine g_callP (pc := 15) hk [.int v1, .int (-1), .int (r1 - 1)] [] (cm_in v1 (-1) (r1 - 1) r4 h5) (lw_S q296 q297 q124 q298) hs_c_in rfl ⟨rfl, rfl⟩ rfl rfl dX0_booking_15 rfl rfl ⟨rfl, rfl⟩ ?_
    refine g_if_ne (pc := 18) (tgt := 26) hk dX0_booking_18 rfl ?_ ?_
    · refine g_iload_n (pc := 26) hk dX0_booking_26 rfl ?_
      refine g_iconst (pc := 27) (v := (-1)) hk dX0_booking_27 rfl ?_
      refine g_icmp_ne (pc := 28) (tgt := 35) hk dX0_booking_28 rfl ?_ ?_
      · refine g_aload_n (pc := 35) hk dX0_booking_35 rfl ?_
        refine c_getR (pc := 36) hk hK cr_11 cf_11 dX0_booking_36 ?_
        refine g_iload_n (pc := 39) hk dX0_booking_39 rfl ?_
        refine c_iald (pc := 40) (k := 206) hk hK cav_206 dX0_booking_40 ?_
        exact c_iret (pc := 41) hk hK rfl dX0_booking_41 rfl rfl
      · refine g_iload_n (pc := 31) hk dX0_booking_31 rfl ?_
        refine g_goto (pc := 32) (tgt := 41) hk dX0_booking_32 rfl ?_
        exact c_iret (pc := 41) hk hK rfl dX0_booking_41 rfl rfl
    · refine g_bipush (pc := 21) (v := (-2)) hk dX0_booking_21 rfl ?_
      refine g_goto (pc := 23) (tgt := 41) hk dX0_booking_23 rfl ?_
      exact c_iret (pc := 41) hk hK rfl dX0_booking_41 rfl rfl
def rm_s_clears : Room := { frames := 1, cells := 0, slots := 0, locals := 40 }
theorem hv_s_clears : yX1_clears.cls = RX1 ∧ yX1_clears.cls ≠ "java/lang/invoke/MethodHandle" ∧ yX1_clears.cls ≠ "java/lang/invoke/VarHandle" ∧ (parseMethodDescriptor yX1_clears.desc).map (fun d => d.parameters.length) = some 1 := by decide +kernel
theorem sm_clears (Γ : CG) (σ : CS) (w : Nat) (v1 : Int32) (hw : w < 2) (r : Int32 × CS) (h : S_clears σ w v1 = some r) : CMet Γ yX1_clears cX1_clears 2 (some .int) rm_s_clears [.ref (gA Γ (301 + w)), .int v1] σ (some (.int r.1)) r.2 := by
  refine c_met (view := (fun r : Int32 × CS => (some (Value.int r.1), r.2))) (own := RX1) rfl (by decide) rfl (ls0 := [(0, .ref (gA Γ (301 + w))), (1, .int v1)]) rfl (fun K hk hK => ?_) r h
  unfold S_clears
  refine g_aload_n (pc := 0) hk dX1_clears_0 rfl ?_
  refine s_getR (pc := 1) (w := w) hk hK hw sr_0 sf_0 dX1_clears_1 ?_
  refine g_iload_n (pc := 4) hk dX1_clears_4 rfl ?_
  refine g_iconst (pc := 5) (v := 0) hk dX1_clears_5 rfl ?_
  refine c_iast (pc := 6) (k := (100 * w + 0)) hk hK (cav_s0 hw) dX1_clears_6 (fun σ1 => ?_)
  refine g_iconst (pc := 7) (v := 0) hk dX1_clears_7 rfl ?_
  exact c_iret (pc := 8) hk hK rfl dX1_clears_8 rfl rfl
def rm_s_adds : Room := { frames := 1, cells := 0, slots := 0, locals := 40 }
theorem hv_s_adds : yX1_adds.cls = RX1 ∧ yX1_adds.cls ≠ "java/lang/invoke/MethodHandle" ∧ yX1_adds.cls ≠ "java/lang/invoke/VarHandle" ∧ (parseMethodDescriptor yX1_adds.desc).map (fun d => d.parameters.length) = some 4 := by decide +kernel
theorem sm_adds (Γ : CG) (σ : CS) (w : Nat) (g1 : Nat) (v2 : Int32) (v3 : Int32) (v4 : Int32) (hw : w < 2) (hg1 : g1 = 7 ∨ g1 = 8) (r : Int32 × CS) (h : S_adds σ w g1 v2 v3 v4 = some r) : CMet Γ yX1_adds cX1_adds 5 (some .int) rm_s_adds [.ref (gA Γ (301 + w)), .ref (gA Γ (100 * w + (80 + g1))), .int v2, .int v3, .int v4] σ (some (.int r.1)) r.2 := by
  refine c_met (view := (fun r : Int32 × CS => (some (Value.int r.1), r.2))) (own := RX1) rfl (by decide) rfl (ls0 := [(0, .ref (gA Γ (301 + w))), (1, .ref (gA Γ (100 * w + (80 + g1)))), (2, .int v2), (3, .int v3), (4, .int v4)]) rfl (fun K hk hK => ?_) r h
  unfold S_adds
  refine g_aload_n (pc := 0) hk dX1_adds_0 rfl ?_
  refine g_aload_n (pc := 1) hk dX1_adds_1 rfl ?_
  refine s_getR (pc := 2) (w := w) hk hK hw sr_0 sf_0 dX1_adds_2 ?_
  refine g_iload_n (pc := 5) hk dX1_adds_5 rfl ?_
  refine c_iald (pc := 6) (k := (100 * w + 0)) hk hK (cav_s0 hw) dX1_adds_6 ?_
  refine c_aald (pc := 7) (w := w) (j := g1) hk hK hw (by omega) (by omega) rfl dX1_adds_7 (fun h1 => ?_)
  refine g_iconst (pc := 8) (v := 0) hk dX1_adds_8 rfl ?_
  refine g_iload_n (pc := 9) hk dX1_adds_9 rfl ?_
  refine c_iastC (pc := 10) (k := (cgb w g1 + (cA σ (100 * w + 0) v2.toNatClampNeg).toNatClampNeg)) (j := 0) hk hK (cav_g hw hg1 h1) rfl rfl dX1_adds_10 (fun σ2 => ?_)
  refine g_aload_n (pc := 11) hk dX1_adds_11 rfl ?_
  refine g_aload_n (pc := 12) hk dX1_adds_12 rfl ?_
  refine s_getR (pc := 13) (w := w) hk hK hw sr_0 sf_0 dX1_adds_13 ?_
  refine g_iload_n (pc := 16) hk dX1_adds_16 rfl ?_
  refine c_iald (pc := 17) (k := (100 * w + 0)) hk hK (cav_s0 hw) dX1_adds_17 ?_
  refine c_aald (pc := 18) (w := w) (j := g1) hk hK hw (by omega) (by omega) rfl dX1_adds_18 (fun h3 => ?_)
  refine g_iconst (pc := 19) (v := 1) hk dX1_adds_19 rfl ?_
  refine g_iload (pc := 20) hk dX1_adds_20 rfl ?_
  refine c_iastC (pc := 22) (k := (cgb w g1 + (cA σ2 (100 * w + 0) v2.toNatClampNeg).toNatClampNeg)) (j := 1) hk hK (cav_g hw hg1 h3) rfl rfl dX1_adds_22 (fun σ4 => ?_)
  refine g_aload_n (pc := 23) hk dX1_adds_23 rfl ?_
  refine s_getR (pc := 24) (w := w) hk hK hw sr_0 sf_0 dX1_adds_24 ?_
  refine g_iload_n (pc := 27) hk dX1_adds_27 rfl ?_
  refine g_dup2 (pc := 28) hk dX1_adds_28 rfl rfl ?_
  refine c_iald (pc := 29) (k := (100 * w + 0)) hk hK (cav_s0 hw) dX1_adds_29 ?_
  refine g_iconst (pc := 30) (v := 1) hk dX1_adds_30 rfl ?_
  refine g_iadd (pc := 31) hk dX1_adds_31 ?_
  refine c_iast (pc := 32) (k := (100 * w + 0)) hk hK (cav_s0 hw) dX1_adds_32 (fun σ5 => ?_)
  refine g_aload_n (pc := 33) hk dX1_adds_33 rfl ?_
  refine s_getR (pc := 34) (w := w) hk hK hw sr_0 sf_0 dX1_adds_34 ?_
  refine g_iload_n (pc := 37) hk dX1_adds_37 rfl ?_
  refine c_iald (pc := 38) (k := (100 * w + 0)) hk hK (cav_s0 hw) dX1_adds_38 ?_
  exact c_iret (pc := 39) hk hK rfl dX1_adds_39 rfl rfl
def rm_c_seen : Room := { frames := 2, cells := 0, slots := 0, locals := 64 }
theorem hv_c_seen : yX0_seen.cls = RX0 ∧ yX0_seen.cls ≠ "java/lang/invoke/MethodHandle" ∧ yX0_seen.cls ≠ "java/lang/invoke/VarHandle" ∧ (parseMethodDescriptor yX0_seen.desc).map (fun d => d.parameters.length) = some 2 := by decide +kernel
theorem cm_seen (Γ : CG) (σ : CS) (v1 : Int32) (v2 : Int32)  (r : Int32 × CS) (h : C_seen σ v1 v2 = some r) : CMet Γ yX0_seen cX0_seen 4 (some .int) rm_c_seen [.ref (gA Γ 300), .int v1, .int v2] σ (some (.int r.1)) r.2 := by
  refine c_met (view := (fun r : Int32 × CS => (some (Value.int r.1), r.2))) (own := RX0) rfl (by decide) rfl (ls0 := [(0, .ref (gA Γ 300)), (1, .int v1), (2, .int v2)]) rfl (fun K hk hK => ?_) r h
  unfold C_seen
  refine g_iload_n (pc := 0) hk dX0_seen_0 rfl ?_
  refine g_iconst (pc := 1) (v := (-1)) hk dX0_seen_1 rfl ?_
  refine g_icmp_ne (pc := 2) (tgt := 14) hk dX0_seen_2 rfl ?_ ?_
  · refine g_sipush (pc := 14) (v := 255) hk dX0_seen_14 rfl ?_
    refine g_istore_n (pc := 17) (i := 3) (ls' := [(3, .int 255), (0, .ref (gA Γ 300)), (1, .int v1), (2, .int v2)]) hk dX0_seen_17 rfl (by decide) rfl ?_
    refine g_iload_n (pc := 18) hk dX0_seen_18 rfl ?_
    refine g_iconst (pc := 19) (v := 1) hk dX0_seen_19 rfl ?_
    refine g_iload_n (pc := 20) hk dX0_seen_20 rfl ?_
    refine g_ob1 (fun r1 h2 => ?_)
    refine g_callP (pc := 21) hk [.int v1, .int 1, .int 255] [] (cm_in v1 1 255 r1 h2) (lw_S q296 q297 q124 q298) hs_c_in rfl ⟨rfl, rfl⟩ rfl rfl dX0_seen_21 rfl rfl ⟨rfl, rfl⟩ ?_
    refine g_if_eq (pc := 24) (tgt := 70) hk dX0_seen_24 rfl ?_ ?_
    · refine g_bipush (pc := 70) (v := (-2)) hk dX0_seen_70 rfl ?_
      exact c_iret (pc := 72) hk hK rfl dX0_seen_72 rfl rfl
    · refine g_iload_n (pc := 27) hk dX0_seen_27 rfl ?_
      refine g_iconst (pc := 28) (v := 0) hk dX0_seen_28 rfl ?_
      refine g_iload_n (pc := 29) hk dX0_seen_29 rfl ?_
      refine g_ob1 (fun r3 h4 => ?_)
      refine g_callP (pc := 30) hk [.int v2, .int 0, .int 255] [] (cm_in v2 0 255 r3 h4) (lw_S q296 q297 q124 q298) hs_c_in rfl ⟨rfl, rfl⟩ rfl rfl dX0_seen_30 rfl rfl ⟨rfl, rfl⟩ ?_
      refine g_if_eq (pc := 33) (tgt := 70) hk dX0_seen_33 rfl ?_ ?_
      · refine g_bipush (pc := 70) (v := (-2)) hk dX0_seen_70 rfl ?_
        exact c_iret (pc := 72) hk hK rfl dX0_seen_72 rfl rfl
      · refine g_aload_n (pc := 36) hk dX0_seen_36 rfl ?_
        refine c_getR (pc := 37) hk hK cr_0 cf_0 dX0_seen_37 ?_
        refine c_getS (pc := 40) (w := 0) hk hK (by decide) sr_0 sn_0 dX0_seen_40 ?_
        refine g_iconst (pc := 43) (v := 4) hk dX0_seen_43 rfl ?_
        refine c_ialdC (pc := 44) (k := 0) (j := 4) hk hK cav_0 rfl rfl dX0_seen_44 ?_
        refine g_bipush (pc := 45) (v := 6) hk dX0_seen_45 rfl ?_
        refine g_icmp_ge (pc := 47) (tgt := 70) hk dX0_seen_47 rfl ?_ ?_
        · refine g_bipush (pc := 70) (v := (-2)) hk dX0_seen_70 rfl ?_
          exact c_iret (pc := 72) hk hK rfl dX0_seen_72 rfl rfl
        · refine g_aload_n (pc := 50) hk dX0_seen_50 rfl ?_
          refine c_getR (pc := 51) hk hK cr_0 cf_0 dX0_seen_51 ?_
          refine g_aload_n (pc := 54) hk dX0_seen_54 rfl ?_
          refine c_getR (pc := 55) hk hK cr_0 cf_0 dX0_seen_55 ?_
          refine c_getS (pc := 58) (w := 0) hk hK (by decide) sr_7 sn_7 dX0_seen_58 ?_
          refine g_iconst (pc := 61) (v := 4) hk dX0_seen_61 rfl ?_
          refine g_iload_n (pc := 62) hk dX0_seen_62 rfl ?_
          refine g_iload_n (pc := 63) hk dX0_seen_63 rfl ?_
          refine g_ob2 (fun r5 σ7 h6 => ?_)
          refine c_callV (pc := 64) hk hK (rec_S (w := 0) hK (by decide)) [.ref (gA Γ 87), .int 4, .int v1, .int v2] [] (sm_adds Γ σ 0 7 4 v1 v2 (by decide) (Or.inl rfl) (r5, σ7) h6) (lw_V q1227 q1228 q1229 q125 q1230) hv_s_adds rfl rfl rfl dX0_seen_64 rfl rfl ⟨rfl, rfl⟩ ?_
          refine g_goto (pc := 67) (tgt := 72) hk dX0_seen_67 rfl ?_
          exact c_iret (pc := 72) hk hK rfl dX0_seen_72 rfl rfl
  · refine g_aload_n (pc := 5) hk dX0_seen_5 rfl ?_
    refine c_getR (pc := 6) hk hK cr_0 cf_0 dX0_seen_6 ?_
    refine g_iconst (pc := 9) (v := 4) hk dX0_seen_9 rfl ?_
    refine g_ob2 (fun r8 σ10 h9 => ?_)
    refine c_callV (pc := 10) hk hK (rec_S (w := 0) hK (by decide)) [.int 4] [] (sm_clears Γ σ 0 4 (by decide) (r8, σ10) h9) (lw_V q1223 q1224 q1225 q125 q1226) hv_s_clears rfl rfl rfl dX0_seen_10 rfl rfl ⟨rfl, rfl⟩ ?_
    exact c_iret (pc := 13) hk hK rfl dX0_seen_13 rfl rfl
def rm_c_isSeen : Room := { frames := 2, cells := 0, slots := 0, locals := 61 }
theorem hv_c_isSeen : yX0_isSeen.cls = RX0 ∧ yX0_isSeen.cls ≠ "java/lang/invoke/MethodHandle" ∧ yX0_isSeen.cls ≠ "java/lang/invoke/VarHandle" ∧ (parseMethodDescriptor yX0_isSeen.desc).map (fun d => d.parameters.length) = some 1 := by decide +kernel
theorem cm_isSeen_j63 {K : KT} {Γ : CG} (hk : KOK K cX0_isSeen 6 RX0 rm_c_isSeen (some .boolean)) (hK : CK Γ (kS K)) (σ : CS) (v1 : Int32) (v2 : Int32) (a3 : Nat) (v5 : Int32) (s0 : Int32) (s1 : Int32) (ha3 : cAv a3 2) (k2 : Int32 → Option (Int32)) (k31 : Int32 → Int32 → Option (Int32)) (hk2 : ∀ (v2 : Int32), GGo K (cQ K Γ rm_c_isSeen (fun r : Int32 => (some (Value.int r), σ))) (k2 v2) 6 (CI Γ (kS K) σ) 0 0 2 [(0, .ref (gA Γ 300)), (1, .int v1), (2, .int v2)] []) (hk31 : ∀ (v4 : Int32) (v5 : Int32), GGo K (cQ K Γ rm_c_isSeen (fun r : Int32 => (some (Value.int r), σ))) (k31 v4 v5) 6 (CI Γ (kS K) σ) 0 0 31 [(0, .ref (gA Γ 300)), (1, .int v1), (2, .int v2), (3, .ref (gA Γ a3)), (4, .int v4), (5, .int v5)] []) : GGo K (cQ K Γ rm_c_isSeen (fun r : Int32 => (some (Value.int r), σ))) (C_isSeen_j63 k2 k31 σ v1 v2 a3 v5 s0 s1) 6 (CI Γ (kS K) σ) 0 0 63 [(0, .ref (gA Γ 300)), (1, .int v1), (2, .int v2), (3, .ref (gA Γ a3)), (5, .int v5)] [.int s1, .int s0] := by
  unfold C_isSeen_j63
  refine g_ior (pc := 63) hk dX0_isSeen_63 ?_
  refine g_istoreN (pc := 64) (i := 4) (ls' := fun x5 => [(4, .int x5), (0, .ref (gA Γ 300)), (1, .int v1), (2, .int v2), (3, .ref (gA Γ a3)), (5, .int v5)]) hk dX0_isSeen_64 (by decide) (fun _ => rfl) (fun x5 => ?_)
  refine g_iincN (pc := 66) (v := 1) (ls' := fun x6 => [(5, .int x6), (4, .int x5), (0, .ref (gA Γ 300)), (1, .int v1), (2, .int v2), (3, .ref (gA Γ a3))]) hk dX0_isSeen_66 rfl rfl (by decide) (fun _ => rfl) (fun x6 => ?_)
  refine g_goto (pc := 69) (tgt := 31) hk dX0_isSeen_69 rfl ?_
  refine g_sub (ls' := [(0, .ref (gA Γ 300)), (1, .int v1), (2, .int v2), (3, .ref (gA Γ a3)), (4, .int x5), (5, .int x6)]) [2, 3, 4, 5, 1, 0] rfl ?_
  exact hk31 x5 x6
theorem cm_isSeen_l31 {K : KT} {Γ : CG} (hk : KOK K cX0_isSeen 6 RX0 rm_c_isSeen (some .boolean)) (hK : CK Γ (kS K)) (σ : CS) (v1 : Int32) (v2 : Int32) (a3 : Nat) (ha3 : cAv a3 2) (k2 : Int32 → Option (Int32)) (hk2 : ∀ (v2 : Int32), GGo K (cQ K Γ rm_c_isSeen (fun r : Int32 => (some (Value.int r), σ))) (k2 v2) 6 (CI Γ (kS K) σ) 0 0 2 [(0, .ref (gA Γ 300)), (1, .int v1), (2, .int v2)] []) : ∀ (n : Nat) (v4 : Int32) (v5 : Int32), GGo K (cQ K Γ rm_c_isSeen (fun r : Int32 => (some (Value.int r), σ))) (C_isSeen_l31 k2 σ v1 v2 a3 n v4 v5) 6 (CI Γ (kS K) σ) 0 0 31 [(0, .ref (gA Γ 300)), (1, .int v1), (2, .int v2), (3, .ref (gA Γ a3)), (4, .int v4), (5, .int v5)] [] := by
  intro n
  induction n with
  | zero =>
    intro v4 v5
    unfold C_isSeen_l31
    exact g_none
  | succ n ih =>
    intro v4 v5
    unfold C_isSeen_l31
    refine g_iload (pc := 31) hk dX0_isSeen_31 rfl ?_
    refine g_iload_n (pc := 33) hk dX0_isSeen_33 rfl ?_
    refine g_icmp_ge (pc := 34) (tgt := 72) hk dX0_isSeen_34 rfl ?_ ?_
    · refine g_iload (pc := 72) hk dX0_isSeen_72 rfl ?_
      refine g_aload_n (pc := 74) hk dX0_isSeen_74 rfl ?_
      refine g_iconst (pc := 75) (v := 1) hk dX0_isSeen_75 rfl ?_
      refine c_ialdC (pc := 76) (k := a3) (j := 1) hk hK ha3 rfl rfl dX0_isSeen_76 ?_
      refine g_icmp_ne (pc := 77) (tgt := 88) hk dX0_isSeen_77 rfl ?_ ?_
      · refine g_iconst (pc := 88) (v := 0) hk dX0_isSeen_88 rfl ?_
        exact c_zret (pc := 89) hk hK rfl rfl dX0_isSeen_89 rfl rfl
      · refine g_aload_n (pc := 80) hk dX0_isSeen_80 rfl ?_
        refine g_iconst (pc := 81) (v := 0) hk dX0_isSeen_81 rfl ?_
        refine c_ialdC (pc := 82) (k := a3) (j := 0) hk hK ha3 rfl rfl dX0_isSeen_82 ?_
        refine g_iload_n (pc := 83) hk dX0_isSeen_83 rfl ?_
        refine g_ishr (pc := 84) hk dX0_isSeen_84 ?_
        refine g_if_eq (pc := 85) (tgt := 90) hk dX0_isSeen_85 rfl ?_ ?_
        · refine g_iincN (pc := 90) (v := 1) (ls' := fun x2 => [(2, .int x2), (0, .ref (gA Γ 300)), (1, .int v1), (3, .ref (gA Γ a3)), (4, .int v4), (5, .int v5)]) hk dX0_isSeen_90 rfl rfl (by decide) (fun _ => rfl) (fun x2 => ?_)
          refine g_goto (pc := 93) (tgt := 2) hk dX0_isSeen_93 rfl ?_
          refine g_sub (ls' := [(0, .ref (gA Γ 300)), (1, .int v1), (2, .int x2)]) [1, 2, 0] rfl ?_
          exact hk2 x2
        · refine g_iconst (pc := 88) (v := 0) hk dX0_isSeen_88 rfl ?_
          exact c_zret (pc := 89) hk hK rfl rfl dX0_isSeen_89 rfl rfl
    · refine g_iload (pc := 37) hk dX0_isSeen_37 rfl ?_
      refine g_aload_n (pc := 39) hk dX0_isSeen_39 rfl ?_
      refine g_iconst (pc := 40) (v := 0) hk dX0_isSeen_40 rfl ?_
      refine c_ialdC (pc := 41) (k := a3) (j := 0) hk hK ha3 rfl rfl dX0_isSeen_41 ?_
      refine g_iload (pc := 42) hk dX0_isSeen_42 rfl ?_
      refine g_ob1 (fun r3 h4 => ?_)
      refine g_callP (pc := 44) hk [.int (cA σ a3 0), .int v5] [.int v4] (cm_has (cA σ a3 0) v5 r3 h4) (lw_S q1113 q1114 q124 q1115) hs_c_has rfl ⟨rfl, rfl⟩ rfl rfl dX0_isSeen_44 rfl rfl ⟨rfl, rfl⟩ ?_
      refine g_if_eq (pc := 47) (tgt := 62) hk dX0_isSeen_47 rfl ?_ ?_
      · refine g_iconst (pc := 62) (v := 0) hk dX0_isSeen_62 rfl ?_
        refine g_sub (ls' := [(0, .ref (gA Γ 300)), (1, .int v1), (2, .int v2), (3, .ref (gA Γ a3)), (5, .int v5)]) [0, 1, 2, 3, 5] rfl ?_
        exact cm_isSeen_j63 hk hK σ v1 v2 a3 v5 v4 0 ha3 k2 (C_isSeen_l31 k2 σ v1 v2 a3 n) hk2 ih
      · refine g_iconst (pc := 50) (v := 1) hk dX0_isSeen_50 rfl ?_
        refine g_aload_n (pc := 51) hk dX0_isSeen_51 rfl ?_
        refine c_getR (pc := 52) hk hK cr_14 cf_14 dX0_isSeen_52 ?_
        refine g_iload (pc := 55) hk dX0_isSeen_55 rfl ?_
        refine c_iald (pc := 57) (k := 209) hk hK cav_209 dX0_isSeen_57 ?_
        refine g_ishl (pc := 58) hk dX0_isSeen_58 ?_
        refine g_goto (pc := 59) (tgt := 63) hk dX0_isSeen_59 rfl ?_
        refine g_sub (ls' := [(0, .ref (gA Γ 300)), (1, .int v1), (2, .int v2), (3, .ref (gA Γ a3)), (5, .int v5)]) [0, 1, 2, 3, 5] rfl ?_
        exact cm_isSeen_j63 hk hK σ v1 v2 a3 v5 v4 (i_shl 1 (cA σ 209 v5.toNatClampNeg)) ha3 k2 (C_isSeen_l31 k2 σ v1 v2 a3 n) hk2 ih
theorem cm_isSeen_l2 {K : KT} {Γ : CG} (hk : KOK K cX0_isSeen 6 RX0 rm_c_isSeen (some .boolean)) (hK : CK Γ (kS K)) (σ : CS) (v1 : Int32) : ∀ (n : Nat) (v2 : Int32), GGo K (cQ K Γ rm_c_isSeen (fun r : Int32 => (some (Value.int r), σ))) (C_isSeen_l2 σ v1 n v2) 6 (CI Γ (kS K) σ) 0 0 2 [(0, .ref (gA Γ 300)), (1, .int v1), (2, .int v2)] [] := by
  intro n
  induction n with
  | zero =>
    intro v2
    unfold C_isSeen_l2
    exact g_none
  | succ n ih =>
    intro v2
    unfold C_isSeen_l2
    refine g_iload_n (pc := 2) hk dX0_isSeen_2 rfl ?_
    refine g_aload_n (pc := 3) hk dX0_isSeen_3 rfl ?_
    refine c_getR (pc := 4) hk hK cr_0 cf_0 dX0_isSeen_4 ?_
    refine c_getS (pc := 7) (w := 0) hk hK (by decide) sr_0 sn_0 dX0_isSeen_7 ?_
    refine g_iconst (pc := 10) (v := 4) hk dX0_isSeen_10 rfl ?_
    refine c_ialdC (pc := 11) (k := 0) (j := 4) hk hK cav_0 rfl rfl dX0_isSeen_11 ?_
    refine g_icmp_ge (pc := 12) (tgt := 96) hk dX0_isSeen_12 rfl ?_ ?_
    · refine g_iconst (pc := 96) (v := 1) hk dX0_isSeen_96 rfl ?_
      exact c_zret (pc := 97) hk hK rfl rfl dX0_isSeen_97 rfl rfl
    · refine g_aload_n (pc := 15) hk dX0_isSeen_15 rfl ?_
      refine c_getR (pc := 16) hk hK cr_0 cf_0 dX0_isSeen_16 ?_
      refine c_getS (pc := 19) (w := 0) hk hK (by decide) sr_7 sn_7 dX0_isSeen_19 ?_
      refine g_iload_n (pc := 22) hk dX0_isSeen_22 rfl ?_
      refine c_aald (pc := 23) (w := 0) (j := 7) hk hK (by decide) (by decide) (by decide) rfl dX0_isSeen_23 (fun h1 => ?_)
      refine g_astore_n (pc := 24) (i := 3) (ls' := [(3, .ref (gA Γ (30 + v2.toNatClampNeg))), (0, .ref (gA Γ 300)), (1, .int v1), (2, .int v2)]) hk dX0_isSeen_24 rfl (by decide) rfl ?_
      refine g_iconst (pc := 25) (v := 0) hk dX0_isSeen_25 rfl ?_
      refine g_istore (pc := 26) (i := 4) (ls' := [(4, .int 0), (3, .ref (gA Γ (30 + v2.toNatClampNeg))), (0, .ref (gA Γ 300)), (1, .int v1), (2, .int v2)]) hk dX0_isSeen_26 (by decide) rfl ?_
      refine g_iconst (pc := 28) (v := 0) hk dX0_isSeen_28 rfl ?_
      refine g_istore (pc := 29) (i := 5) (ls' := [(5, .int 0), (4, .int 0), (3, .ref (gA Γ (30 + v2.toNatClampNeg))), (0, .ref (gA Γ 300)), (1, .int v1), (2, .int v2)]) hk dX0_isSeen_29 (by decide) rfl ?_
      refine g_sub (ls' := [(0, .ref (gA Γ 300)), (1, .int v1), (2, .int v2), (3, .ref (gA Γ (30 + v2.toNatClampNeg))), (4, .int 0), (5, .int 0)]) [3, 4, 5, 2, 1, 0] rfl ?_
      exact cm_isSeen_l31 hk hK σ v1 v2 (30 + v2.toNatClampNeg) (cav_row7 (w := 0) (by decide) h1) (C_isSeen_l2 σ v1 n) ih FU 0 0
theorem cm_isSeen (Γ : CG) (σ : CS) (v1 : Int32)  (r : Int32) (h : C_isSeen σ v1 = some r) : CMet Γ yX0_isSeen cX0_isSeen 6 (some .boolean) rm_c_isSeen [.ref (gA Γ 300), .int v1] σ (some (.int r)) σ := by
  refine c_met (view := (fun r : Int32 => (some (Value.int r), σ))) (own := RX0) rfl (by decide) rfl (ls0 := [(0, .ref (gA Γ 300)), (1, .int v1)]) rfl (fun K hk hK => ?_) r h
  unfold C_isSeen
  refine g_iconst (pc := 0) (v := 0) hk dX0_isSeen_0 rfl ?_
  refine g_istore_n (pc := 1) (i := 2) (ls' := [(2, .int 0), (0, .ref (gA Γ 300)), (1, .int v1)]) hk dX0_isSeen_1 rfl (by decide) rfl ?_
  refine g_sub (ls' := [(0, .ref (gA Γ 300)), (1, .int v1), (2, .int 0)]) [1, 2, 0] rfl ?_
  exact cm_isSeen_l2 hk hK σ v1 FU 0
def rm_c_fitsFrom (d : Nat) : Room := { frames := 3 + d * 1, cells := 0, slots := 0, locals := 120 + d * 26 }
theorem hv_c_fitsFrom : yX0_fitsFrom.cls = RX0 ∧ yX0_fitsFrom.cls ≠ "java/lang/invoke/MethodHandle" ∧ yX0_fitsFrom.cls ≠ "java/lang/invoke/VarHandle" ∧ (parseMethodDescriptor yX0_fitsFrom.desc).map (fun d => d.parameters.length) = some 2 := by decide +kernel
theorem cm_fitsFrom_l57 {K : KT} {Γ : CG} {d : Nat} (hk : KOK K cX0_fitsFrom 4 RX0 (rm_c_fitsFrom (d + 1)) none) (hK : CK Γ (kS K)) (v1 : Int32) (v2 : Int32) (rec : CS → Int32 → Int32 → Option (CS)) (hrec : ∀ (σ : CS) (v1 : Int32) (v2 : Int32) (r : CS), rec σ v1 v2 = some r → CMet Γ yX0_fitsFrom cX0_fitsFrom 4 none (rm_c_fitsFrom d) [.ref (gA Γ 300), .int v1, .int v2] σ none r) : ∀ (n : Nat) (σ : CS) (v3 : Int32), GGo K (cQ K Γ (rm_c_fitsFrom (d + 1)) (fun r : CS => ((none : Option Value), r))) (C_fitsFrom_l57 rec v1 v2 n σ v3) 4 (CI Γ (kS K) σ) 0 0 57 [(0, .ref (gA Γ 300)), (1, .int v1), (2, .int v2), (3, .int v3)] [] := by
  intro n
  induction n with
  | zero =>
    intro σ v3
    unfold C_fitsFrom_l57
    exact g_none
  | succ n ih =>
    intro σ v3
    unfold C_fitsFrom_l57
    refine g_iload_n (pc := 57) hk dX0_fitsFrom_57 rfl ?_
    refine g_iload_n (pc := 58) hk dX0_fitsFrom_58 rfl ?_
    refine g_icmp_ge (pc := 59) (tgt := 83) hk dX0_fitsFrom_59 rfl ?_ ?_
    · exact c_vret (pc := 83) hk hK rfl dX0_fitsFrom_83 rfl rfl
    · refine g_aload_n (pc := 62) hk dX0_fitsFrom_62 rfl ?_
      refine c_getR (pc := 63) hk hK cr_14 cf_14 dX0_fitsFrom_63 ?_
      refine g_iload_n (pc := 66) hk dX0_fitsFrom_66 rfl ?_
      refine g_iload_n (pc := 67) hk dX0_fitsFrom_67 rfl ?_
      refine c_iast (pc := 68) (k := 209) hk hK cav_209 dX0_fitsFrom_68 (fun σ1 => ?_)
      refine g_aload_n (pc := 69) hk dX0_fitsFrom_69 rfl ?_
      refine g_iload_n (pc := 70) hk dX0_fitsFrom_70 rfl ?_
      refine g_iconst (pc := 71) (v := 1) hk dX0_fitsFrom_71 rfl ?_
      refine g_iadd (pc := 72) hk dX0_fitsFrom_72 ?_
      refine g_iload_n (pc := 73) hk dX0_fitsFrom_73 rfl ?_
      refine g_ob1 (fun σ3 h2 => ?_)
      refine c_callV (pc := 74) hk hK (rec_X hK) [.int (v1 + 1), .int v2] [] (hrec σ1 (v1 + 1) v2 σ3 h2) (lw_V q1239 q1241 qs46 q124 q1242) hv_c_fitsFrom (rmFit_i (by show _ ≤ _; simp only [rm_c_fitsFrom, rm_c_fitsFrom]; omega) (by show _ ≤ _; simp only [rm_c_fitsFrom, rm_c_fitsFrom]; omega)) rfl rfl dX0_fitsFrom_74 rfl rfl ⟨rfl, rfl⟩ ?_
      refine g_iincN (pc := 77) (v := 1) (ls' := fun x4 => [(3, .int x4), (0, .ref (gA Γ 300)), (1, .int v1), (2, .int v2)]) hk dX0_fitsFrom_77 rfl rfl (by decide) (fun _ => rfl) (fun x4 => ?_)
      refine g_goto (pc := 80) (tgt := 57) hk dX0_fitsFrom_80 rfl ?_
      refine g_sub (ls' := [(0, .ref (gA Γ 300)), (1, .int v1), (2, .int v2), (3, .int x4)]) [1, 2, 3, 0] rfl ?_
      exact ih σ3 x4
theorem cm_fitsFrom_l26 {K : KT} {Γ : CG} {d : Nat} (hk : KOK K cX0_fitsFrom 4 RX0 (rm_c_fitsFrom (d + 1)) none) (hK : CK Γ (kS K)) (v2 : Int32) (rec : CS → Int32 → Int32 → Option (CS)) (hrec : ∀ (σ : CS) (v1 : Int32) (v2 : Int32) (r : CS), rec σ v1 v2 = some r → CMet Γ yX0_fitsFrom cX0_fitsFrom 4 none (rm_c_fitsFrom d) [.ref (gA Γ 300), .int v1, .int v2] σ none r) : ∀ (n : Nat) (σ : CS) (v3 : Int32), GGo K (cQ K Γ (rm_c_fitsFrom (d + 1)) (fun r : CS => ((none : Option Value), r))) (C_fitsFrom_l26 rec v2 n σ v3) 4 (CI Γ (kS K) σ) 0 0 26 [(0, .ref (gA Γ 300)), (2, .int v2), (3, .int v3)] [] := by
  intro n
  induction n with
  | zero =>
    intro σ v3
    unfold C_fitsFrom_l26
    exact g_none
  | succ n ih =>
    intro σ v3
    unfold C_fitsFrom_l26
    refine g_iload_n (pc := 26) hk dX0_fitsFrom_26 rfl ?_
    refine g_iload_n (pc := 27) hk dX0_fitsFrom_27 rfl ?_
    refine g_icmp_ge (pc := 28) (tgt := 54) hk dX0_fitsFrom_28 rfl ?_ ?_
    · exact c_vret (pc := 54) hk hK rfl dX0_fitsFrom_54 rfl rfl
    · refine g_aload_n (pc := 31) hk dX0_fitsFrom_31 rfl ?_
      refine c_getR (pc := 32) hk hK cr_13 cf_13 dX0_fitsFrom_32 ?_
      refine g_iload_n (pc := 35) hk dX0_fitsFrom_35 rfl ?_
      refine g_dup2 (pc := 36) hk dX0_fitsFrom_36 rfl rfl ?_
      refine c_iald (pc := 37) (k := 208) hk hK cav_208 dX0_fitsFrom_37 ?_
      refine g_iconst (pc := 38) (v := 1) hk dX0_fitsFrom_38 rfl ?_
      refine g_aload_n (pc := 39) hk dX0_fitsFrom_39 rfl ?_
      refine c_getR (pc := 40) hk hK cr_14 cf_14 dX0_fitsFrom_40 ?_
      refine g_iload_n (pc := 43) hk dX0_fitsFrom_43 rfl ?_
      refine c_iald (pc := 44) (k := 209) hk hK cav_209 dX0_fitsFrom_44 ?_
      refine g_ishl (pc := 45) hk dX0_fitsFrom_45 ?_
      refine g_ior (pc := 46) hk dX0_fitsFrom_46 ?_
      refine c_iast (pc := 47) (k := 208) hk hK cav_208 dX0_fitsFrom_47 (fun σ8 => ?_)
      refine g_iincN (pc := 48) (v := 1) (ls' := fun x9 => [(3, .int x9), (0, .ref (gA Γ 300)), (2, .int v2)]) hk dX0_fitsFrom_48 rfl rfl (by decide) (fun _ => rfl) (fun x9 => ?_)
      refine g_goto (pc := 51) (tgt := 26) hk dX0_fitsFrom_51 rfl ?_
      refine g_sub (ls' := [(0, .ref (gA Γ 300)), (2, .int v2), (3, .int x9)]) [1, 2, 0] rfl ?_
      exact ih σ8 x9
theorem cm_fitsFrom_b (Γ : CG) {d : Nat} (σ : CS) (v1 : Int32) (v2 : Int32)  (rec : CS → Int32 → Int32 → Option (CS)) (hrec : ∀ (σ : CS) (v1 : Int32) (v2 : Int32) (r : CS), rec σ v1 v2 = some r → CMet Γ yX0_fitsFrom cX0_fitsFrom 4 none (rm_c_fitsFrom d) [.ref (gA Γ 300), .int v1, .int v2] σ none r) (r : CS) (h : C_fitsFrom_b rec σ v1 v2 = some r) : CMet Γ yX0_fitsFrom cX0_fitsFrom 4 none (rm_c_fitsFrom (d + 1)) [.ref (gA Γ 300), .int v1, .int v2] σ none r := by
  refine c_met (view := (fun r : CS => ((none : Option Value), r))) (own := RX0) rfl (by decide) rfl (ls0 := [(0, .ref (gA Γ 300)), (1, .int v1), (2, .int v2)]) rfl (fun K hk hK => ?_) r h
  unfold C_fitsFrom_b
  refine g_iload_n (pc := 0) hk dX0_fitsFrom_0 rfl ?_
  refine g_iload_n (pc := 1) hk dX0_fitsFrom_1 rfl ?_
  refine g_icmp_ne (pc := 2) (tgt := 55) hk dX0_fitsFrom_2 rfl ?_ ?_
  · refine g_iconst (pc := 55) (v := 0) hk dX0_fitsFrom_55 rfl ?_
    refine g_istore_n (pc := 56) (i := 3) (ls' := [(3, .int 0), (0, .ref (gA Γ 300)), (1, .int v1), (2, .int v2)]) hk dX0_fitsFrom_56 rfl (by decide) rfl ?_
    refine g_sub (ls' := [(0, .ref (gA Γ 300)), (1, .int v1), (2, .int v2), (3, .int 0)]) [1, 2, 3, 0] rfl ?_
    exact cm_fitsFrom_l57 hk hK v1 v2 rec hrec FU σ 0
  · refine g_aload_n (pc := 5) hk dX0_fitsFrom_5 rfl ?_
    refine g_iload_n (pc := 6) hk dX0_fitsFrom_6 rfl ?_
    refine g_ob1 (fun r5 h6 => ?_)
    refine c_callV (pc := 7) hk hK (rec_X hK) [.int v2] [] (cm_isSeen Γ σ v2 r5 h6) (lw_V q1243 q1245 qs47 q124 q1246) hv_c_isSeen (rmFit_i (by show _ ≤ _; simp only [rm_c_fitsFrom, rm_c_isSeen]; omega) (by show _ ≤ _; simp only [rm_c_fitsFrom, rm_c_isSeen]; omega)) rfl rfl dX0_fitsFrom_7 rfl rfl ⟨rfl, rfl⟩ ?_
    refine g_if_ne (pc := 10) (tgt := 14) hk dX0_fitsFrom_10 rfl ?_ ?_
    · refine g_aload_n (pc := 14) hk dX0_fitsFrom_14 rfl ?_
      refine g_dup (pc := 15) hk dX0_fitsFrom_15 rfl ?_
      refine c_getI (pc := 16) hk hK ci_15 cf_15 dX0_fitsFrom_16 ?_
      refine g_iconst (pc := 19) (v := 1) hk dX0_fitsFrom_19 rfl ?_
      refine g_iadd (pc := 20) hk dX0_fitsFrom_20 ?_
      refine c_putI (pc := 21) hk hK ci_15 cf_15 dX0_fitsFrom_21 (fun σ7 => ?_)
      refine g_iconst (pc := 24) (v := 0) hk dX0_fitsFrom_24 rfl ?_
      refine g_istore_n (pc := 25) (i := 3) (ls' := [(3, .int 0), (0, .ref (gA Γ 300)), (1, .int v1), (2, .int v2)]) hk dX0_fitsFrom_25 rfl (by decide) rfl ?_
      refine g_sub (ls' := [(0, .ref (gA Γ 300)), (2, .int v2), (3, .int 0)]) [1, 3, 0] rfl ?_
      exact cm_fitsFrom_l26 hk hK v2 rec hrec FU σ7 0
    · exact c_vret (pc := 13) hk hK rfl dX0_fitsFrom_13 rfl rfl
theorem cm_fitsFrom (Γ : CG) : ∀ (d : Nat) (σ : CS) (v1 : Int32) (v2 : Int32) (r : CS), C_fitsFrom d σ v1 v2 = some r → CMet Γ yX0_fitsFrom cX0_fitsFrom 4 none (rm_c_fitsFrom d) [.ref (gA Γ 300), .int v1, .int v2] σ none r := by
  intro d
  induction d with
  | zero => intro σ v1 v2 r h; cases h
  | succ d ih => intro σ v1 v2 r h; exact cm_fitsFrom_b Γ σ v1 v2 (C_fitsFrom d) ih r h
def rm_c_laysFits : Room := { frames := 20, cells := 0, slots := 0, locals := 559 }
theorem hv_c_laysFits : yX0_laysFits.cls = RX0 ∧ yX0_laysFits.cls ≠ "java/lang/invoke/MethodHandle" ∧ yX0_laysFits.cls ≠ "java/lang/invoke/VarHandle" ∧ (parseMethodDescriptor yX0_laysFits.desc).map (fun d => d.parameters.length) = some 1 := by decide +kernel
theorem cm_laysFits (Γ : CG) (σ : CS) (v1 : Int32)  (r : CS) (h : C_laysFits σ v1 = some r) : CMet Γ yX0_laysFits cX0_laysFits 2 none rm_c_laysFits [.ref (gA Γ 300), .int v1] σ none r := by
  refine c_met (view := (fun r : CS => ((none : Option Value), r))) (own := RX0) rfl (by decide) rfl (ls0 := [(0, .ref (gA Γ 300)), (1, .int v1)]) rfl (fun K hk hK => ?_) r h
  unfold C_laysFits
  refine g_aload_n (pc := 0) hk dX0_laysFits_0 rfl ?_
  refine g_iconst (pc := 1) (v := 0) hk dX0_laysFits_1 rfl ?_
  refine c_putI (pc := 2) hk hK ci_15 cf_15 dX0_laysFits_2 (fun σ1 => ?_)
  refine g_aload_n (pc := 5) hk dX0_laysFits_5 rfl ?_
  refine c_getR (pc := 6) hk hK cr_13 cf_13 dX0_laysFits_6 ?_
  refine g_iconst (pc := 9) (v := 0) hk dX0_laysFits_9 rfl ?_
  refine g_ob1 (fun σ3 h2 => ?_)
  refine c_callS (pc := 10) hk hK [.ref (gA Γ 208), .int 0] [] (fm_fill Γ σ1 208 5 0 cav_208 σ3 h2) (lw_S q1211 q177 q126 q178) hs_f_fill rfl rfl rfl dX0_laysFits_10 rfl rfl ⟨rfl, rfl⟩ ?_
  refine g_aload_n (pc := 13) hk dX0_laysFits_13 rfl ?_
  refine g_iconst (pc := 14) (v := 0) hk dX0_laysFits_14 rfl ?_
  refine g_iload_n (pc := 15) hk dX0_laysFits_15 rfl ?_
  refine g_ob1 (fun σ5 h4 => ?_)
  refine c_callV (pc := 16) hk hK (rec_X hK) [.int 0, .int v1] [] (cm_fitsFrom Γ 16 σ3 0 v1 σ5 h4) (lw_V q1239 q1241 qs46 q124 q1242) hv_c_fitsFrom rfl rfl rfl dX0_laysFits_16 rfl rfl ⟨rfl, rfl⟩ ?_
  exact c_vret (pc := 19) hk hK rfl dX0_laysFits_19 rfl rfl
def rm_c_fits : Room := { frames := 21, cells := 0, slots := 0, locals := 580 }
theorem hv_c_fits : yX0_fits.cls = RX0 ∧ yX0_fits.cls ≠ "java/lang/invoke/MethodHandle" ∧ yX0_fits.cls ≠ "java/lang/invoke/VarHandle" ∧ (parseMethodDescriptor yX0_fits.desc).map (fun d => d.parameters.length) = some 1 := by decide +kernel
theorem cm_fits (Γ : CG) (σ : CS) (v1 : Int32)  (r : Int32 × CS) (h : C_fits σ v1 = some r) : CMet Γ yX0_fits cX0_fits 2 (some .int) rm_c_fits [.ref (gA Γ 300), .int v1] σ (some (.int r.1)) r.2 := by
  refine c_met (view := (fun r : Int32 × CS => (some (Value.int r.1), r.2))) (own := RX0) rfl (by decide) rfl (ls0 := [(0, .ref (gA Γ 300)), (1, .int v1)]) rfl (fun K hk hK => ?_) r h
  unfold C_fits
  refine g_iload_n (pc := 0) hk dX0_fits_0 rfl ?_
  refine g_iconst (pc := 1) (v := 1) hk dX0_fits_1 rfl ?_
  refine g_iconst (pc := 2) (v := 5) hk dX0_fits_2 rfl ?_
  refine g_ob1 (fun r1 h2 => ?_)
  refine g_callP (pc := 3) hk [.int v1, .int 1, .int 5] [] (cm_in v1 1 5 r1 h2) (lw_S q296 q297 q124 q298) hs_c_in rfl ⟨rfl, rfl⟩ rfl rfl dX0_fits_3 rfl rfl ⟨rfl, rfl⟩ ?_
  refine g_if_ne (pc := 6) (tgt := 11) hk dX0_fits_6 rfl ?_ ?_
  · refine g_aload_n (pc := 11) hk dX0_fits_11 rfl ?_
    refine g_iload_n (pc := 12) hk dX0_fits_12 rfl ?_
    refine g_ob1 (fun σ4 h3 => ?_)
    refine c_callV (pc := 13) hk hK (rec_X hK) [.int v1] [] (cm_laysFits Γ σ v1 σ4 h3) (lw_V q1235 q1237 qs45 q124 q1238) hv_c_laysFits rfl rfl rfl dX0_fits_13 rfl rfl ⟨rfl, rfl⟩ ?_
    refine g_aload_n (pc := 16) hk dX0_fits_16 rfl ?_
    refine c_getI (pc := 17) hk hK ci_15 cf_15 dX0_fits_17 ?_
    exact c_iret (pc := 20) hk hK rfl dX0_fits_20 rfl rfl
  · refine g_iconst (pc := 9) (v := (-1)) hk dX0_fits_9 rfl ?_
    exact c_iret (pc := 10) hk hK rfl dX0_fits_10 rfl rfl
def rm_c_whose : Room := { frames := 21, cells := 0, slots := 0, locals := 580 }
theorem hv_c_whose : yX0_whose.cls = RX0 ∧ yX0_whose.cls ≠ "java/lang/invoke/MethodHandle" ∧ yX0_whose.cls ≠ "java/lang/invoke/VarHandle" ∧ (parseMethodDescriptor yX0_whose.desc).map (fun d => d.parameters.length) = some 2 := by decide +kernel
theorem cm_whose (Γ : CG) (σ : CS) (v1 : Int32) (v2 : Int32)  (r : Int32 × CS) (h : C_whose σ v1 v2 = some r) : CMet Γ yX0_whose cX0_whose 3 (some .int) rm_c_whose [.ref (gA Γ 300), .int v1, .int v2] σ (some (.int r.1)) r.2 := by
  refine c_met (view := (fun r : Int32 × CS => (some (Value.int r.1), r.2))) (own := RX0) rfl (by decide) rfl (ls0 := [(0, .ref (gA Γ 300)), (1, .int v1), (2, .int v2)]) rfl (fun K hk hK => ?_) r h
  unfold C_whose
  refine g_iload_n (pc := 0) hk dX0_whose_0 rfl ?_
  refine g_iconst (pc := 1) (v := 1) hk dX0_whose_1 rfl ?_
  refine g_iconst (pc := 2) (v := 5) hk dX0_whose_2 rfl ?_
  refine g_ob1 (fun r1 h2 => ?_)
  refine g_callP (pc := 3) hk [.int v1, .int 1, .int 5] [] (cm_in v1 1 5 r1 h2) (lw_S q296 q297 q124 q298) hs_c_in rfl ⟨rfl, rfl⟩ rfl rfl dX0_whose_3 rfl rfl ⟨rfl, rfl⟩ ?_
  refine g_if_eq (pc := 6) (tgt := 20) hk dX0_whose_6 rfl ?_ ?_
  · refine g_iconst (pc := 20) (v := (-1)) hk dX0_whose_20 rfl ?_
    exact c_iret (pc := 21) hk hK rfl dX0_whose_21 rfl rfl
  · refine g_iload_n (pc := 9) hk dX0_whose_9 rfl ?_
    refine g_iconst (pc := 10) (v := 0) hk dX0_whose_10 rfl ?_
    refine g_iload_n (pc := 11) hk dX0_whose_11 rfl ?_
    refine g_iconst (pc := 12) (v := 1) hk dX0_whose_12 rfl ?_
    refine g_isub (pc := 13) hk dX0_whose_13 ?_
    refine g_ob1 (fun r3 h4 => ?_)
    refine g_callP (pc := 14) hk [.int v2, .int 0, .int (v1 - 1)] [] (cm_in v2 0 (v1 - 1) r3 h4) (lw_S q296 q297 q124 q298) hs_c_in rfl ⟨rfl, rfl⟩ rfl rfl dX0_whose_14 rfl rfl ⟨rfl, rfl⟩ ?_
    refine g_if_ne (pc := 17) (tgt := 22) hk dX0_whose_17 rfl ?_ ?_
    · refine g_aload_n (pc := 22) hk dX0_whose_22 rfl ?_
      refine g_iload_n (pc := 23) hk dX0_whose_23 rfl ?_
      refine g_ob1 (fun σ6 h5 => ?_)
      refine c_callV (pc := 24) hk hK (rec_X hK) [.int v1] [] (cm_laysFits Γ σ v1 σ6 h5) (lw_V q1235 q1237 qs45 q124 q1238) hv_c_laysFits rfl rfl rfl dX0_whose_24 rfl rfl ⟨rfl, rfl⟩ ?_
      refine g_aload_n (pc := 27) hk dX0_whose_27 rfl ?_
      refine c_getR (pc := 28) hk hK cr_13 cf_13 dX0_whose_28 ?_
      refine g_iload_n (pc := 31) hk dX0_whose_31 rfl ?_
      refine c_iald (pc := 32) (k := 208) hk hK cav_208 dX0_whose_32 ?_
      exact c_iret (pc := 33) hk hK rfl dX0_whose_33 rfl rfl
    · refine g_iconst (pc := 20) (v := (-1)) hk dX0_whose_20 rfl ?_
      exact c_iret (pc := 21) hk hK rfl dX0_whose_21 rfl rfl
def rm_c_next : Room := { frames := 21, cells := 0, slots := 0, locals := 580 }
theorem hv_c_next : yX0_next.cls = RX0 ∧ yX0_next.cls ≠ "java/lang/invoke/MethodHandle" ∧ yX0_next.cls ≠ "java/lang/invoke/VarHandle" ∧ (parseMethodDescriptor yX0_next.desc).map (fun d => d.parameters.length) = some 1 := by decide +kernel
theorem cm_next_j66 {K : KT} {Γ : CG} (hk : KOK K cX0_next 4 RX0 rm_c_next (some .int)) (hK : CK Γ (kS K)) (σ : CS) (v1 : Int32) (v2 : Int32) (v3 : Int32) (k31 : Int32 → Int32 → Option (Int32 × CS)) (hk31 : ∀ (v2 : Int32) (v3 : Int32), GGo K (cQ K Γ rm_c_next (fun r : Int32 × CS => (some (Value.int r.1), r.2))) (k31 v2 v3) 4 (CI Γ (kS K) σ) 0 0 31 [(0, .ref (gA Γ 300)), (1, .int v1), (2, .int v2), (3, .int v3)] []) : GGo K (cQ K Γ rm_c_next (fun r : Int32 × CS => (some (Value.int r.1), r.2))) (C_next_j66 k31 σ v1 v2 v3) 4 (CI Γ (kS K) σ) 0 0 66 [(0, .ref (gA Γ 300)), (1, .int v1), (2, .int v2), (3, .int v3)] [] := by
  unfold C_next_j66
  refine g_iincN (pc := 66) (v := 1) (ls' := fun x9 => [(3, .int x9), (0, .ref (gA Γ 300)), (1, .int v1), (2, .int v2)]) hk dX0_next_66 rfl rfl (by decide) (fun _ => rfl) (fun x9 => ?_)
  refine g_goto (pc := 69) (tgt := 31) hk dX0_next_69 rfl ?_
  refine g_sub (ls' := [(0, .ref (gA Γ 300)), (1, .int v1), (2, .int v2), (3, .int x9)]) [1, 2, 3, 0] rfl ?_
  exact hk31 v2 x9
theorem cm_next_l31 {K : KT} {Γ : CG} (hk : KOK K cX0_next 4 RX0 rm_c_next (some .int)) (hK : CK Γ (kS K)) (σ : CS) (v1 : Int32) : ∀ (n : Nat) (v2 : Int32) (v3 : Int32), GGo K (cQ K Γ rm_c_next (fun r : Int32 × CS => (some (Value.int r.1), r.2))) (C_next_l31 σ v1 n v2 v3) 4 (CI Γ (kS K) σ) 0 0 31 [(0, .ref (gA Γ 300)), (1, .int v1), (2, .int v2), (3, .int v3)] [] := by
  intro n
  induction n with
  | zero =>
    intro v2 v3
    unfold C_next_l31
    exact g_none
  | succ n ih =>
    intro v2 v3
    unfold C_next_l31
    refine g_iload_n (pc := 31) hk dX0_next_31 rfl ?_
    refine g_iload_n (pc := 32) hk dX0_next_32 rfl ?_
    refine g_icmp_ge (pc := 33) (tgt := 72) hk dX0_next_33 rfl ?_ ?_
    · refine g_iload_n (pc := 72) hk dX0_next_72 rfl ?_
      exact c_iret (pc := 73) hk hK rfl dX0_next_73 rfl rfl
    · refine g_aload_n (pc := 36) hk dX0_next_36 rfl ?_
      refine c_getI (pc := 37) hk hK ci_15 cf_15 dX0_next_37 ?_
      refine g_if_le (pc := 40) (tgt := 72) hk dX0_next_40 rfl ?_ ?_
      · refine g_iload_n (pc := 72) hk dX0_next_72 rfl ?_
        exact c_iret (pc := 73) hk hK rfl dX0_next_73 rfl rfl
      · refine g_aload_n (pc := 43) hk dX0_next_43 rfl ?_
        refine c_getR (pc := 44) hk hK cr_13 cf_13 dX0_next_44 ?_
        refine g_iload_n (pc := 47) hk dX0_next_47 rfl ?_
        refine c_iald (pc := 48) (k := 208) hk hK cav_208 dX0_next_48 ?_
        refine g_ob1 (fun r5 h6 => ?_)
        refine g_callP (pc := 49) hk [.int (cA σ 208 v3.toNatClampNeg)] [] (im_bitCount (cA σ 208 v3.toNatClampNeg) r5 h6) (lw_S q1133 q1134 q155 q1135) hs_i_bitCount rfl ⟨rfl, rfl⟩ rfl rfl dX0_next_49 rfl rfl ⟨rfl, rfl⟩ ?_
        refine g_aload_n (pc := 52) hk dX0_next_52 rfl ?_
        refine c_getR (pc := 53) hk hK cr_13 cf_13 dX0_next_53 ?_
        refine g_iload_n (pc := 56) hk dX0_next_56 rfl ?_
        refine c_iald (pc := 57) (k := 208) hk hK cav_208 dX0_next_57 ?_
        refine g_ob1 (fun r7 h8 => ?_)
        refine g_callP (pc := 58) hk [.int (cA σ 208 v2.toNatClampNeg)] [.int r5] (im_bitCount (cA σ 208 v2.toNatClampNeg) r7 h8) (lw_S q1133 q1134 q155 q1135) hs_i_bitCount rfl ⟨rfl, rfl⟩ rfl rfl dX0_next_58 rfl rfl ⟨rfl, rfl⟩ ?_
        refine g_icmp_le (pc := 61) (tgt := 66) hk dX0_next_61 rfl ?_ ?_
        · exact cm_next_j66 hk hK σ v1 v2 v3 (C_next_l31 σ v1 n) ih
        · refine g_iload_n (pc := 64) hk dX0_next_64 rfl ?_
          refine g_istore_n (pc := 65) (i := 2) (ls' := [(2, .int v3), (0, .ref (gA Γ 300)), (1, .int v1), (3, .int v3)]) hk dX0_next_65 rfl (by decide) rfl ?_
          refine g_sub (ls' := [(0, .ref (gA Γ 300)), (1, .int v1), (2, .int v3), (3, .int v3)]) [1, 2, 0, 3] rfl ?_
          exact cm_next_j66 hk hK σ v1 v3 v3 (C_next_l31 σ v1 n) ih
theorem cm_next_j28 {K : KT} {Γ : CG} (hk : KOK K cX0_next 4 RX0 rm_c_next (some .int)) (hK : CK Γ (kS K)) (σ : CS) (v1 : Int32) (s0 : Int32) : GGo K (cQ K Γ rm_c_next (fun r : Int32 × CS => (some (Value.int r.1), r.2))) (C_next_j28 σ v1 s0) 4 (CI Γ (kS K) σ) 0 0 28 [(0, .ref (gA Γ 300)), (1, .int v1)] [.int s0] := by
  unfold C_next_j28
  refine g_istore_n (pc := 28) (i := 2) (ls' := [(2, .int s0), (0, .ref (gA Γ 300)), (1, .int v1)]) hk dX0_next_28 rfl (by decide) rfl ?_
  refine g_iconst (pc := 29) (v := 1) hk dX0_next_29 rfl ?_
  refine g_istore_n (pc := 30) (i := 3) (ls' := [(3, .int 1), (2, .int s0), (0, .ref (gA Γ 300)), (1, .int v1)]) hk dX0_next_30 rfl (by decide) rfl ?_
  refine g_sub (ls' := [(0, .ref (gA Γ 300)), (1, .int v1), (2, .int s0), (3, .int 1)]) [2, 3, 1, 0] rfl ?_
  exact cm_next_l31 hk hK σ v1 FU s0 1
theorem cm_next (Γ : CG) (σ : CS) (v1 : Int32)  (r : Int32 × CS) (h : C_next σ v1 = some r) : CMet Γ yX0_next cX0_next 4 (some .int) rm_c_next [.ref (gA Γ 300), .int v1] σ (some (.int r.1)) r.2 := by
  refine c_met (view := (fun r : Int32 × CS => (some (Value.int r.1), r.2))) (own := RX0) rfl (by decide) rfl (ls0 := [(0, .ref (gA Γ 300)), (1, .int v1)]) rfl (fun K hk hK => ?_) r h
  unfold C_next
  refine g_iload_n (pc := 0) hk dX0_next_0 rfl ?_
  refine g_iconst (pc := 1) (v := 1) hk dX0_next_1 rfl ?_
  refine g_iconst (pc := 2) (v := 5) hk dX0_next_2 rfl ?_
  refine g_ob1 (fun r1 h2 => ?_)
  refine g_callP (pc := 3) hk [.int v1, .int 1, .int 5] [] (cm_in v1 1 5 r1 h2) (lw_S q296 q297 q124 q298) hs_c_in rfl ⟨rfl, rfl⟩ rfl rfl dX0_next_3 rfl rfl ⟨rfl, rfl⟩ ?_
  refine g_if_ne (pc := 6) (tgt := 11) hk dX0_next_6 rfl ?_ ?_
  · refine g_aload_n (pc := 11) hk dX0_next_11 rfl ?_
    refine g_iload_n (pc := 12) hk dX0_next_12 rfl ?_
    refine g_ob1 (fun σ4 h3 => ?_)
    refine c_callV (pc := 13) hk hK (rec_X hK) [.int v1] [] (cm_laysFits Γ σ v1 σ4 h3) (lw_V q1235 q1237 qs45 q124 q1238) hv_c_laysFits rfl rfl rfl dX0_next_13 rfl rfl ⟨rfl, rfl⟩ ?_
    refine g_aload_n (pc := 16) hk dX0_next_16 rfl ?_
    refine c_getI (pc := 17) hk hK ci_15 cf_15 dX0_next_17 ?_
    refine g_if_ne (pc := 20) (tgt := 27) hk dX0_next_20 rfl ?_ ?_
    · refine g_iconst (pc := 27) (v := 0) hk dX0_next_27 rfl ?_
      exact cm_next_j28 hk hK σ4 v1 0
    · refine g_iconst (pc := 23) (v := (-1)) hk dX0_next_23 rfl ?_
      refine g_goto (pc := 24) (tgt := 28) hk dX0_next_24 rfl ?_
      exact cm_next_j28 hk hK σ4 v1 (-1)
  · refine g_iconst (pc := 9) (v := (-1)) hk dX0_next_9 rfl ?_
    exact c_iret (pc := 10) hk hK rfl dX0_next_10 rfl rfl
def rm_c_cut : Room := { frames := 3, cells := 0, slots := 0, locals := 82 }
theorem hv_c_cut : yX0_cut.cls = RX0 ∧ yX0_cut.cls ≠ "java/lang/invoke/MethodHandle" ∧ yX0_cut.cls ≠ "java/lang/invoke/VarHandle" ∧ (parseMethodDescriptor yX0_cut.desc).map (fun d => d.parameters.length) = some 3 := by decide +kernel
theorem cm_cut (Γ : CG) (σ : CS) (v1 : Int32) (v2 : Int32) (v3 : Int32)  (r : Int32 × CS) (h : C_cut σ v1 v2 v3 = some r) : CMet Γ yX0_cut cX0_cut 4 (some .boolean) rm_c_cut [.ref (gA Γ 300), .int v1, .int v2, .int v3] σ (some (.int r.1)) r.2 := by
  refine c_met (view := (fun r : Int32 × CS => (some (Value.int r.1), r.2))) (own := RX0) rfl (by decide) rfl (ls0 := [(0, .ref (gA Γ 300)), (1, .int v1), (2, .int v2), (3, .int v3)]) rfl (fun K hk hK => ?_) r h
  unfold C_cut
  refine g_iload_n (pc := 0) hk dX0_cut_0 rfl ?_
  refine g_ob1 (fun r1 h2 => ?_)
  refine g_callP (pc := 1) hk [.int v1] [] (cm_isChair v1 r1 h2) (lw_S q307 q308 q124 q309) hs_c_isChair rfl ⟨rfl, rfl⟩ rfl rfl dX0_cut_1 rfl rfl ⟨rfl, rfl⟩ ?_
  refine g_if_eq (pc := 4) (tgt := 29) hk dX0_cut_4 rfl ?_ ?_
  · refine g_iconst (pc := 29) (v := 0) hk dX0_cut_29 rfl ?_
    exact c_zret (pc := 30) hk hK rfl rfl dX0_cut_30 rfl rfl
  · refine g_iload_n (pc := 7) hk dX0_cut_7 rfl ?_
    refine g_ob1 (fun r3 h4 => ?_)
    refine g_callP (pc := 8) hk [.int v2] [] (cm_isChair v2 r3 h4) (lw_S q307 q308 q124 q309) hs_c_isChair rfl ⟨rfl, rfl⟩ rfl rfl dX0_cut_8 rfl rfl ⟨rfl, rfl⟩ ?_
    refine g_if_eq (pc := 11) (tgt := 29) hk dX0_cut_11 rfl ?_ ?_
    · refine g_iconst (pc := 29) (v := 0) hk dX0_cut_29 rfl ?_
      exact c_zret (pc := 30) hk hK rfl rfl dX0_cut_30 rfl rfl
    · refine g_iload_n (pc := 14) hk dX0_cut_14 rfl ?_
      refine g_iload_n (pc := 15) hk dX0_cut_15 rfl ?_
      refine g_icmp_eq (pc := 16) (tgt := 29) hk dX0_cut_16 rfl ?_ ?_
      · refine g_iconst (pc := 29) (v := 0) hk dX0_cut_29 rfl ?_
        exact c_zret (pc := 30) hk hK rfl rfl dX0_cut_30 rfl rfl
      · refine g_iload_n (pc := 19) hk dX0_cut_19 rfl ?_
        refine g_iconst (pc := 20) (v := 0) hk dX0_cut_20 rfl ?_
        refine g_bipush (pc := 21) (v := 99) hk dX0_cut_21 rfl ?_
        refine g_ob1 (fun r5 h6 => ?_)
        refine g_callP (pc := 23) hk [.int v3, .int 0, .int 99] [] (cm_in v3 0 99 r5 h6) (lw_S q296 q297 q124 q298) hs_c_in rfl ⟨rfl, rfl⟩ rfl rfl dX0_cut_23 rfl rfl ⟨rfl, rfl⟩ ?_
        refine g_if_ne (pc := 26) (tgt := 31) hk dX0_cut_26 rfl ?_ ?_
        · refine g_aload_n (pc := 31) hk dX0_cut_31 rfl ?_
          refine c_getR (pc := 32) hk hK cr_0 cf_0 dX0_cut_32 ?_
          refine c_getS (pc := 35) (w := 0) hk hK (by decide) sr_5 sn_5 dX0_cut_35 ?_
          refine g_iload_n (pc := 38) hk dX0_cut_38 rfl ?_
          refine c_aald (pc := 39) (w := 0) (j := 5) hk hK (by decide) (by decide) (by decide) rfl dX0_cut_39 (fun h7 => ?_)
          refine g_iload_n (pc := 40) hk dX0_cut_40 rfl ?_
          refine g_iload_n (pc := 41) hk dX0_cut_41 rfl ?_
          refine c_iast (pc := 42) (k := (10 + v1.toNatClampNeg)) hk hK (cav_row5 (w := 0) (by decide) h7) dX0_cut_42 (fun σ8 => ?_)
          refine g_aload_n (pc := 43) hk dX0_cut_43 rfl ?_
          refine c_getR (pc := 44) hk hK cr_0 cf_0 dX0_cut_44 ?_
          refine c_getS (pc := 47) (w := 0) hk hK (by decide) sr_5 sn_5 dX0_cut_47 ?_
          refine g_iload_n (pc := 50) hk dX0_cut_50 rfl ?_
          refine c_aald (pc := 51) (w := 0) (j := 5) hk hK (by decide) (by decide) (by decide) rfl dX0_cut_51 (fun h9 => ?_)
          refine g_iload_n (pc := 52) hk dX0_cut_52 rfl ?_
          refine g_iload_n (pc := 53) hk dX0_cut_53 rfl ?_
          refine c_iast (pc := 54) (k := (10 + v2.toNatClampNeg)) hk hK (cav_row5 (w := 0) (by decide) h9) dX0_cut_54 (fun σ10 => ?_)
          refine g_iconst (pc := 55) (v := 1) hk dX0_cut_55 rfl ?_
          exact c_zret (pc := 56) hk hK rfl rfl dX0_cut_56 rfl rfl
        · refine g_iconst (pc := 29) (v := 0) hk dX0_cut_29 rfl ?_
          exact c_zret (pc := 30) hk hK rfl rfl dX0_cut_30 rfl rfl
def rm_i_numberOfTrailingZeros : Room := { frames := 1, cells := 0, slots := 0, locals := 40 }
theorem hs_i_numberOfTrailingZeros : yJ15_numberOfTrailingZeros.cls ≠ "java/lang/invoke/MethodHandle" ∧ yJ15_numberOfTrailingZeros.cls ≠ "java/lang/invoke/VarHandle" ∧ (parseMethodDescriptor yJ15_numberOfTrailingZeros.desc).map (fun d => d.parameters.length) = some 1 := by decide +kernel
theorem im_numberOfTrailingZeros_j74 {K : KT} (hk : KOK K cJ15_numberOfTrailingZeros 2 RJ15 rm_i_numberOfTrailingZeros (some .int)) (v0 : Int32) (v1 : Int32) : GGo K (pQ K (fun r : Int32 => some (Value.int r))) (I_numberOfTrailingZeros_j74 v0 v1) 2 (pI K) 0 0 74 [(0, .int v0), (1, .int v1)] [] := by
  unfold I_numberOfTrailingZeros_j74
  refine g_iload_n (pc := 74) hk dJ15_numberOfTrailingZeros_74 rfl ?_
  refine g_iload_n (pc := 75) hk dJ15_numberOfTrailingZeros_75 rfl ?_
  refine g_iconst (pc := 76) (v := 1) hk dJ15_numberOfTrailingZeros_76 rfl ?_
  refine g_iushr (pc := 77) hk dJ15_numberOfTrailingZeros_77 ?_
  refine g_iadd (pc := 78) hk dJ15_numberOfTrailingZeros_78 ?_
  exact p_iret (pc := 79) hk rfl dJ15_numberOfTrailingZeros_79
theorem im_numberOfTrailingZeros_j62 {K : KT} (hk : KOK K cJ15_numberOfTrailingZeros 2 RJ15 rm_i_numberOfTrailingZeros (some .int)) (v0 : Int32) (v1 : Int32) : GGo K (pQ K (fun r : Int32 => some (Value.int r))) (I_numberOfTrailingZeros_j62 v0 v1) 2 (pI K) 0 0 62 [(0, .int v0), (1, .int v1)] [] := by
  unfold I_numberOfTrailingZeros_j62
  refine g_iload_n (pc := 62) hk dJ15_numberOfTrailingZeros_62 rfl ?_
  refine g_iconst (pc := 63) (v := 4) hk dJ15_numberOfTrailingZeros_63 rfl ?_
  refine g_icmp_le (pc := 64) (tgt := 74) hk dJ15_numberOfTrailingZeros_64 rfl ?_ ?_
  · exact im_numberOfTrailingZeros_j74 hk v0 v1
  · refine g_iincN (pc := 67) (v := 2) (ls' := fun x2 => [(1, .int x2), (0, .int v0)]) hk dJ15_numberOfTrailingZeros_67 rfl rfl (by decide) (fun _ => rfl) (fun x2 => ?_)
    refine g_iload_n (pc := 70) hk dJ15_numberOfTrailingZeros_70 rfl ?_
    refine g_iconst (pc := 71) (v := 2) hk dJ15_numberOfTrailingZeros_71 rfl ?_
    refine g_iushr (pc := 72) hk dJ15_numberOfTrailingZeros_72 ?_
    refine g_istore_nN (pc := 73) (i := 0) (ls' := fun x3 => [(0, .int x3), (1, .int x2)]) hk dJ15_numberOfTrailingZeros_73 rfl (by decide) (fun _ => rfl) (fun x3 => ?_)
    exact im_numberOfTrailingZeros_j74 hk x3 x2
theorem im_numberOfTrailingZeros_j49 {K : KT} (hk : KOK K cJ15_numberOfTrailingZeros 2 RJ15 rm_i_numberOfTrailingZeros (some .int)) (v0 : Int32) (v1 : Int32) : GGo K (pQ K (fun r : Int32 => some (Value.int r))) (I_numberOfTrailingZeros_j49 v0 v1) 2 (pI K) 0 0 49 [(0, .int v0), (1, .int v1)] [] := by
  unfold I_numberOfTrailingZeros_j49
  refine g_iload_n (pc := 49) hk dJ15_numberOfTrailingZeros_49 rfl ?_
  refine g_bipush (pc := 50) (v := 16) hk dJ15_numberOfTrailingZeros_50 rfl ?_
  refine g_icmp_le (pc := 52) (tgt := 62) hk dJ15_numberOfTrailingZeros_52 rfl ?_ ?_
  · exact im_numberOfTrailingZeros_j62 hk v0 v1
  · refine g_iincN (pc := 55) (v := 4) (ls' := fun x4 => [(1, .int x4), (0, .int v0)]) hk dJ15_numberOfTrailingZeros_55 rfl rfl (by decide) (fun _ => rfl) (fun x4 => ?_)
    refine g_iload_n (pc := 58) hk dJ15_numberOfTrailingZeros_58 rfl ?_
    refine g_iconst (pc := 59) (v := 4) hk dJ15_numberOfTrailingZeros_59 rfl ?_
    refine g_iushr (pc := 60) hk dJ15_numberOfTrailingZeros_60 ?_
    refine g_istore_nN (pc := 61) (i := 0) (ls' := fun x5 => [(0, .int x5), (1, .int x4)]) hk dJ15_numberOfTrailingZeros_61 rfl (by decide) (fun _ => rfl) (fun x5 => ?_)
    exact im_numberOfTrailingZeros_j62 hk x5 x4
theorem im_numberOfTrailingZeros_j34 {K : KT} (hk : KOK K cJ15_numberOfTrailingZeros 2 RJ15 rm_i_numberOfTrailingZeros (some .int)) (v0 : Int32) (v1 : Int32) : GGo K (pQ K (fun r : Int32 => some (Value.int r))) (I_numberOfTrailingZeros_j34 v0 v1) 2 (pI K) 0 0 34 [(0, .int v0), (1, .int v1)] [] := by
  unfold I_numberOfTrailingZeros_j34
  refine g_iload_n (pc := 34) hk dJ15_numberOfTrailingZeros_34 rfl ?_
  refine g_sipush (pc := 35) (v := 256) hk dJ15_numberOfTrailingZeros_35 rfl ?_
  refine g_icmp_le (pc := 38) (tgt := 49) hk dJ15_numberOfTrailingZeros_38 rfl ?_ ?_
  · exact im_numberOfTrailingZeros_j49 hk v0 v1
  · refine g_iincN (pc := 41) (v := 8) (ls' := fun x6 => [(1, .int x6), (0, .int v0)]) hk dJ15_numberOfTrailingZeros_41 rfl rfl (by decide) (fun _ => rfl) (fun x6 => ?_)
    refine g_iload_n (pc := 44) hk dJ15_numberOfTrailingZeros_44 rfl ?_
    refine g_bipush (pc := 45) (v := 8) hk dJ15_numberOfTrailingZeros_45 rfl ?_
    refine g_iushr (pc := 47) hk dJ15_numberOfTrailingZeros_47 ?_
    refine g_istore_nN (pc := 48) (i := 0) (ls' := fun x7 => [(0, .int x7), (1, .int x6)]) hk dJ15_numberOfTrailingZeros_48 rfl (by decide) (fun _ => rfl) (fun x7 => ?_)
    exact im_numberOfTrailingZeros_j49 hk x7 x6
theorem im_numberOfTrailingZeros (v0 : Int32)  (r : Int32) (h : I_numberOfTrailingZeros v0 = some r) : PMet yJ15_numberOfTrailingZeros cJ15_numberOfTrailingZeros 2 (some .int) rm_i_numberOfTrailingZeros [.int v0] (some (.int r)) := by
  refine p_met (view := (fun r : Int32 => some (Value.int r))) (own := RJ15) rfl (by decide) rfl (ls0 := [(0, .int v0)]) rfl (fun K hk => ?_) r h
  unfold I_numberOfTrailingZeros
  refine g_iload_n (pc := 0) hk dJ15_numberOfTrailingZeros_0 rfl ?_
  refine g_iconst (pc := 1) (v := (-1)) hk dJ15_numberOfTrailingZeros_1 rfl ?_
  refine g_ixor (pc := 2) hk dJ15_numberOfTrailingZeros_2 ?_
  refine g_iload_n (pc := 3) hk dJ15_numberOfTrailingZeros_3 rfl ?_
  refine g_iconst (pc := 4) (v := 1) hk dJ15_numberOfTrailingZeros_4 rfl ?_
  refine g_isub (pc := 5) hk dJ15_numberOfTrailingZeros_5 ?_
  refine g_iand (pc := 6) hk dJ15_numberOfTrailingZeros_6 ?_
  refine g_istore_nN (pc := 7) (i := 0) (ls' := fun x1 => [(0, .int x1)]) hk dJ15_numberOfTrailingZeros_7 rfl (by decide) (fun _ => rfl) (fun x1 => ?_)
  refine g_iload_n (pc := 8) hk dJ15_numberOfTrailingZeros_8 rfl ?_
  refine g_if_gt (pc := 9) (tgt := 17) hk dJ15_numberOfTrailingZeros_9 rfl ?_ ?_
  · refine g_iconst (pc := 17) (v := 1) hk dJ15_numberOfTrailingZeros_17 rfl ?_
    refine g_istore_n (pc := 18) (i := 1) (ls' := [(1, .int 1), (0, .int x1)]) hk dJ15_numberOfTrailingZeros_18 rfl (by decide) rfl ?_
    refine g_iload_n (pc := 19) hk dJ15_numberOfTrailingZeros_19 rfl ?_
    refine g_ldcw (pc := 20) (v := 65536) hk q1270 dJ15_numberOfTrailingZeros_20 ?_
    refine g_icmp_le (pc := 23) (tgt := 34) hk dJ15_numberOfTrailingZeros_23 rfl ?_ ?_
    · refine g_sub (ls' := [(0, .int x1), (1, .int 1)]) [1, 0] rfl ?_
      exact im_numberOfTrailingZeros_j34 hk x1 1
    · refine g_iincN (pc := 26) (v := 16) (ls' := fun x8 => [(1, .int x8), (0, .int x1)]) hk dJ15_numberOfTrailingZeros_26 rfl rfl (by decide) (fun _ => rfl) (fun x8 => ?_)
      refine g_iload_n (pc := 29) hk dJ15_numberOfTrailingZeros_29 rfl ?_
      refine g_bipush (pc := 30) (v := 16) hk dJ15_numberOfTrailingZeros_30 rfl ?_
      refine g_iushr (pc := 32) hk dJ15_numberOfTrailingZeros_32 ?_
      refine g_istore_nN (pc := 33) (i := 0) (ls' := fun x9 => [(0, .int x9), (1, .int x8)]) hk dJ15_numberOfTrailingZeros_33 rfl (by decide) (fun _ => rfl) (fun x9 => ?_)
      exact im_numberOfTrailingZeros_j34 hk x9 x8
  · refine g_iload_n (pc := 12) hk dJ15_numberOfTrailingZeros_12 rfl ?_
    refine g_bipush (pc := 13) (v := 32) hk dJ15_numberOfTrailingZeros_13 rfl ?_
    refine g_iand (pc := 15) hk dJ15_numberOfTrailingZeros_15 ?_
    exact p_iret (pc := 16) hk rfl dJ15_numberOfTrailingZeros_16
