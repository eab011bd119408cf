/-! WALKS of the component's methods, by program (wip: gen_c.py) -/
set_option maxRecDepth 100000
def rm_c_leastOf (d : Nat) : Room := { frames := 3 + d * 2, cells := 0, slots := 0, locals := 120 + d * 60 }
theorem hv_c_leastOf : yX0_leastOf.cls = RX0 ∧ yX0_leastOf.cls ≠ "java/lang/invoke/MethodHandle" ∧ yX0_leastOf.cls ≠ "java/lang/invoke/VarHandle" ∧ (parseMethodDescriptor yX0_leastOf.desc).map (fun d => d.parameters.length) = some 1 := by decide +kernel
def rm_c_leastWith (d : Nat) : Room := { frames := 4 + d * 2, cells := 0, slots := 0, locals := 146 + d * 60 }
theorem hv_c_leastWith : yX0_leastWith.cls = RX0 ∧ yX0_leastWith.cls ≠ "java/lang/invoke/MethodHandle" ∧ yX0_leastWith.cls ≠ "java/lang/invoke/VarHandle" ∧ (parseMethodDescriptor yX0_leastWith.desc).map (fun d => d.parameters.length) = some 3 := by decide +kernel
theorem cm_leastWith (Γ : CG) {d : Nat} (σ : CS) (v1 : Int32) (v2 : Int32) (v3 : Int32)  (rec : Int32 → Option (Int32)) (hrec : ∀ (v1 : Int32) (r : Int32), rec v1 = some r → CMet Γ yX0_leastOf cX0_leastOf 5 (some .int) (rm_c_leastOf d) [.ref (gA Γ 300), .int v1] σ (some (.int r)) σ) (r : Int32) (h : C_leastWith rec σ v1 v2 v3 = some r) : CMet Γ yX0_leastWith cX0_leastWith 4 (some .int) (rm_c_leastWith d) [.ref (gA Γ 300), .int v1, .int v2, .int v3] σ (some (.int r)) σ := by
  refine c_met (view := (fun r : Int32 => (some (Value.int r), σ))) (own := RX0) rfl (by decide) rfl (ls0 := [(0, .ref (gA Γ 300)), (1, .int v1), (2, .int v2), (3, .int v3)]) rfl (fun K hk hK => ?_) r h
  unfold C_leastWith
  refine g_aload_n (pc := 0) hk dX0_leastWith_0 rfl ?_
  refine c_getR (pc := 1) hk hK cr_0 cf_0 dX0_leastWith_1 ?_
  refine c_getS (pc := 4) (w := 0) hk hK (by decide) sr_5 sn_5 dX0_leastWith_4 ?_
  refine g_iload_n (pc := 7) hk dX0_leastWith_7 rfl ?_
  refine c_aald (pc := 8) (w := 0) (j := 5) hk hK (by decide) (by decide) (by decide) rfl dX0_leastWith_8 (fun h1 => ?_)
  refine g_iload_n (pc := 9) hk dX0_leastWith_9 rfl ?_
  refine c_iald (pc := 10) (k := (10 + v2.toNatClampNeg)) hk hK (cav_row5 (w := 0) (by decide) h1) dX0_leastWith_10 ?_
  refine g_aload_n (pc := 11) hk dX0_leastWith_11 rfl ?_
  refine g_iload_n (pc := 12) hk dX0_leastWith_12 rfl ?_
  refine g_iconst (pc := 13) (v := 1) hk dX0_leastWith_13 rfl ?_
  refine g_iload_n (pc := 14) hk dX0_leastWith_14 rfl ?_
  refine g_ishl (pc := 15) hk dX0_leastWith_15 ?_
  refine g_iconst (pc := 16) (v := (-1)) hk dX0_leastWith_16 rfl ?_
  refine g_ixor (pc := 17) hk dX0_leastWith_17 ?_
  refine g_iand (pc := 18) hk dX0_leastWith_18 ?_
  refine g_iconst (pc := 19) (v := 1) hk dX0_leastWith_19 rfl ?_
  refine g_iload_n (pc := 20) hk dX0_leastWith_20 rfl ?_
  refine g_ishl (pc := 21) hk dX0_leastWith_21 ?_
  refine g_iconst (pc := 22) (v := (-1)) hk dX0_leastWith_22 rfl ?_
  refine g_ixor (pc := 23) hk dX0_leastWith_23 ?_
  refine g_iand (pc := 24) hk dX0_leastWith_24 ?_
  refine g_ob1 (fun r2 h3 => ?_)
  refine c_callV (pc := 25) hk hK (rec_X hK) [.int ((v1 &&& ((i_shl 1 v2) ^^^ (-1))) &&& ((i_shl 1 v3) ^^^ (-1)))] [.int (cA σ (10 + v2.toNatClampNeg) v3.toNatClampNeg)] (hrec ((v1 &&& ((i_shl 1 v2) ^^^ (-1))) &&& ((i_shl 1 v3) ^^^ (-1))) r2 h3) (lw_V q1263 q1265 qs48 q124 q1266) hv_c_leastOf (rmFit_i (by show _ ≤ _; simp only [rm_c_leastWith, rm_c_leastOf]; omega) (by show _ ≤ _; simp only [rm_c_leastWith, rm_c_leastOf]; omega)) rfl rfl dX0_leastWith_25 rfl rfl ⟨rfl, rfl⟩ ?_
  refine g_iadd (pc := 28) hk dX0_leastWith_28 ?_
  exact c_iret (pc := 29) hk hK rfl dX0_leastWith_29 rfl rfl
theorem cm_leastOf_j49 {K : KT} {Γ : CG} {d : Nat} (hk : KOK K cX0_leastOf 5 RX0 (rm_c_leastOf (d + 1)) (some .int)) (hK : CK Γ (kS K)) (σ : CS) (v1 : Int32) (v2 : Int32) (v3 : Int32) (v4 : Int32) (rec : Int32 → Option (Int32)) (hrec : ∀ (v1 : Int32) (r : Int32), rec v1 = some r → CMet Γ yX0_leastOf cX0_leastOf 5 (some .int) (rm_c_leastOf d) [.ref (gA Γ 300), .int v1] σ (some (.int r)) σ) (k20 : Int32 → Int32 → Option (Int32)) (hk20 : ∀ (v3 : Int32) (v4 : Int32), GGo K (cQ K Γ (rm_c_leastOf (d + 1)) (fun r : Int32 => (some (Value.int r), σ))) (k20 v3 v4) 5 (CI Γ (kS K) σ) 0 0 20 [(0, .ref (gA Γ 300)), (1, .int v1), (2, .int v2), (3, .int v3), (4, .int v4)] []) : GGo K (cQ K Γ (rm_c_leastOf (d + 1)) (fun r : Int32 => (some (Value.int r), σ))) (C_leastOf_j49 rec k20 σ v1 v2 v3 v4) 5 (CI Γ (kS K) σ) 0 0 49 [(0, .ref (gA Γ 300)), (1, .int v1), (2, .int v2), (3, .int v3), (4, .int v4)] [] := by
  unfold C_leastOf_j49
  refine g_iincN (pc := 49) (v := 1) (ls' := fun x6 => [(4, .int x6), (0, .ref (gA Γ 300)), (1, .int v1), (2, .int v2), (3, .int v3)]) hk dX0_leastOf_49 rfl rfl (by decide) (fun _ => rfl) (fun x6 => ?_)
  refine g_goto (pc := 52) (tgt := 20) hk dX0_leastOf_52 rfl ?_
  refine g_sub (ls' := [(0, .ref (gA Γ 300)), (1, .int v1), (2, .int v2), (3, .int v3), (4, .int x6)]) [1, 2, 3, 4, 0] rfl ?_
  exact hk20 v3 x6
theorem cm_leastOf_l20 {K : KT} {Γ : CG} {d : Nat} (hk : KOK K cX0_leastOf 5 RX0 (rm_c_leastOf (d + 1)) (some .int)) (hK : CK Γ (kS K)) (σ : CS) (v1 : Int32) (v2 : Int32) (rec : Int32 → Option (Int32)) (hrec : ∀ (v1 : Int32) (r : Int32), rec v1 = some r → CMet Γ yX0_leastOf cX0_leastOf 5 (some .int) (rm_c_leastOf d) [.ref (gA Γ 300), .int v1] σ (some (.int r)) σ) : ∀ (n : Nat) (v3 : Int32) (v4 : Int32), GGo K (cQ K Γ (rm_c_leastOf (d + 1)) (fun r : Int32 => (some (Value.int r), σ))) (C_leastOf_l20 rec σ v1 v2 n v3 v4) 5 (CI Γ (kS K) σ) 0 0 20 [(0, .ref (gA Γ 300)), (1, .int v1), (2, .int v2), (3, .int v3), (4, .int v4)] [] := by
  intro n
  induction n with
  | zero =>
    intro v3 v4
    unfold C_leastOf_l20
    exact g_none
  | succ n ih =>
    intro v3 v4
    unfold C_leastOf_l20
    refine g_iload (pc := 20) hk dX0_leastOf_20 rfl ?_
    refine g_bipush (pc := 22) (v := 8) hk dX0_leastOf_22 rfl ?_
    refine g_icmp_ge (pc := 24) (tgt := 55) hk dX0_leastOf_24 rfl ?_ ?_
    · refine g_iload_n (pc := 55) hk dX0_leastOf_55 rfl ?_
      exact c_iret (pc := 56) hk hK rfl dX0_leastOf_56 rfl rfl
    · refine g_iload_n (pc := 27) hk dX0_leastOf_27 rfl ?_
      refine g_iload (pc := 28) hk dX0_leastOf_28 rfl ?_
      refine g_ob1 (fun r4 h5 => ?_)
      refine g_callP (pc := 30) hk [.int v1, .int v4] [] (cm_has v1 v4 r4 h5) (lw_S q1113 q1114 q124 q1115) hs_c_has (rmFit_i (by show _ ≤ _; simp only [rm_c_leastOf, rm_c_has]; omega) (by show _ ≤ _; simp only [rm_c_leastOf, rm_c_has]; omega)) ⟨rfl, rfl⟩ rfl rfl dX0_leastOf_30 rfl rfl ⟨rfl, rfl⟩ ?_
      refine g_if_eq (pc := 33) (tgt := 49) hk dX0_leastOf_33 rfl ?_ ?_
      · exact cm_leastOf_j49 hk hK σ v1 v2 v3 v4 rec hrec (C_leastOf_l20 rec σ v1 v2 n) ih
      · refine g_iload_n (pc := 36) hk dX0_leastOf_36 rfl ?_
        refine g_aload_n (pc := 37) hk dX0_leastOf_37 rfl ?_
        refine g_iload_n (pc := 38) hk dX0_leastOf_38 rfl ?_
        refine g_iload_n (pc := 39) hk dX0_leastOf_39 rfl ?_
        refine g_iload (pc := 40) hk dX0_leastOf_40 rfl ?_
        refine g_ob1 (fun r7 h8 => ?_)
        refine c_callV (pc := 42) hk hK (rec_X hK) [.int v1, .int v2, .int v4] [.int v3] (cm_leastWith Γ σ v1 v2 v4 rec hrec r7 h8) (lw_V q1271 q1273 qs49 q124 q1274) hv_c_leastWith (rmFit_i (by show _ ≤ _; simp only [rm_c_leastOf, rm_c_leastWith]; omega) (by show _ ≤ _; simp only [rm_c_leastOf, rm_c_leastWith]; omega)) rfl rfl dX0_leastOf_42 rfl rfl ⟨rfl, rfl⟩ ?_
        refine g_i_min (pc := 45) hk q1017 rfl (by show Nat.ble 1 _ = true; rw [Nat.ble_eq]; simp only [rm_c_leastOf]; omega) (by rw [Nat.ble_eq]; simp only [rm_c_leastOf]; omega) dX0_leastOf_45 ⟨rfl, rfl⟩ ?_
        refine g_istore_nN (pc := 48) (i := 3) (ls' := fun x9 => [(3, .int x9), (0, .ref (gA Γ 300)), (1, .int v1), (2, .int v2), (4, .int v4)]) hk dX0_leastOf_48 rfl (by decide) (fun _ => rfl) (fun x9 => ?_)
        refine g_sub (ls' := [(0, .ref (gA Γ 300)), (1, .int v1), (2, .int v2), (3, .int x9), (4, .int v4)]) [1, 2, 3, 0, 4] rfl ?_
        exact cm_leastOf_j49 hk hK σ v1 v2 x9 v4 rec hrec (C_leastOf_l20 rec σ v1 v2 n) ih
theorem cm_leastOf_b (Γ : CG) {d : Nat} (σ : CS) (v1 : Int32)  (rec : Int32 → Option (Int32)) (hrec : ∀ (v1 : Int32) (r : Int32), rec v1 = some r → CMet Γ yX0_leastOf cX0_leastOf 5 (some .int) (rm_c_leastOf d) [.ref (gA Γ 300), .int v1] σ (some (.int r)) σ) (r : Int32) (h : C_leastOf_b rec σ v1 = some r) : CMet Γ yX0_leastOf cX0_leastOf 5 (some .int) (rm_c_leastOf (d + 1)) [.ref (gA Γ 300), .int v1] σ (some (.int r)) σ := by
  refine c_met (view := (fun r : Int32 => (some (Value.int r), σ))) (own := RX0) rfl (by decide) rfl (ls0 := [(0, .ref (gA Γ 300)), (1, .int v1)]) rfl (fun K hk hK => ?_) r h
  unfold C_leastOf_b
  refine g_iload_n (pc := 0) hk dX0_leastOf_0 rfl ?_
  refine g_if_ne (pc := 1) (tgt := 6) hk dX0_leastOf_1 rfl ?_ ?_
  · refine g_iload_n (pc := 6) hk dX0_leastOf_6 rfl ?_
    refine g_ob1 (fun r1 h2 => ?_)
    refine g_callP (pc := 7) hk [.int v1] [] (im_numberOfTrailingZeros v1 r1 h2) (lw_S q1267 q1268 q155 q1269) hs_i_numberOfTrailingZeros (rmFit_i (by show _ ≤ _; simp only [rm_c_leastOf, rm_i_numberOfTrailingZeros]; omega) (by show _ ≤ _; simp only [rm_c_leastOf, rm_i_numberOfTrailingZeros]; omega)) ⟨rfl, rfl⟩ rfl rfl dX0_leastOf_7 rfl rfl ⟨rfl, rfl⟩ ?_
    refine g_istore_n (pc := 10) (i := 2) (ls' := [(2, .int r1), (0, .ref (gA Γ 300)), (1, .int v1)]) hk dX0_leastOf_10 rfl (by decide) rfl ?_
    refine g_sipush (pc := 11) (v := 9999) hk dX0_leastOf_11 rfl ?_
    refine g_istore_n (pc := 14) (i := 3) (ls' := [(3, .int 9999), (2, .int r1), (0, .ref (gA Γ 300)), (1, .int v1)]) hk dX0_leastOf_14 rfl (by decide) rfl ?_
    refine g_iload_n (pc := 15) hk dX0_leastOf_15 rfl ?_
    refine g_iconst (pc := 16) (v := 1) hk dX0_leastOf_16 rfl ?_
    refine g_iadd (pc := 17) hk dX0_leastOf_17 ?_
    refine g_istoreN (pc := 18) (i := 4) (ls' := fun x3 => [(4, .int x3), (3, .int 9999), (2, .int r1), (0, .ref (gA Γ 300)), (1, .int v1)]) hk dX0_leastOf_18 (by decide) (fun _ => rfl) (fun x3 => ?_)
    refine g_sub (ls' := [(0, .ref (gA Γ 300)), (1, .int v1), (2, .int r1), (3, .int 9999), (4, .int x3)]) [3, 4, 2, 1, 0] rfl ?_
    exact cm_leastOf_l20 hk hK σ v1 r1 rec hrec FU 9999 x3
  · refine g_iconst (pc := 4) (v := 0) hk dX0_leastOf_4 rfl ?_
    exact c_iret (pc := 5) hk hK rfl dX0_leastOf_5 rfl rfl
theorem cm_leastOf (Γ : CG) : ∀ (d : Nat) (σ : CS) (v1 : Int32) (r : Int32), C_leastOf σ d v1 = some r → CMet Γ yX0_leastOf cX0_leastOf 5 (some .int) (rm_c_leastOf d) [.ref (gA Γ 300), .int v1] σ (some (.int r)) σ := by
  intro d
  induction d with
  | zero => intro σ v1 r h; cases h
  | succ d ih => intro σ v1 r h; exact cm_leastOf_b Γ σ v1 (C_leastOf σ d) (ih σ) r h
def rm_c_pairs : Room := { frames := 37, cells := 0, slots := 0, locals := 1129 }
theorem hv_c_pairs : yX0_pairs.cls = RX0 ∧ yX0_pairs.cls ≠ "java/lang/invoke/MethodHandle" ∧ yX0_pairs.cls ≠ "java/lang/invoke/VarHandle" ∧ (parseMethodDescriptor yX0_pairs.desc).map (fun d => d.parameters.length) = some 2 := by decide +kernel
theorem cm_pairs_j84 {K : KT} {Γ : CG} (hk : KOK K cX0_pairs 6 RX0 rm_c_pairs (some .int)) (hK : CK Γ (kS K)) (σ : CS) (v2 : Int32) (v3 : Int32) (v4 : Int32) (v5 : Int32) (k46 : Int32 → Option (Int32)) (k58 : Int32 → Option (Int32)) (hk46 : ∀ (v3 : Int32), GGo K (cQ K Γ rm_c_pairs (fun r : Int32 => (some (Value.int r), σ))) (k46 v3) 6 (CI Γ (kS K) σ) 0 0 46 [(0, .ref (gA Γ 300)), (2, .int v2), (3, .int v3)] []) (hk58 : ∀ (v5 : Int32), GGo K (cQ K Γ rm_c_pairs (fun r : Int32 => (some (Value.int r), σ))) (k58 v5) 6 (CI Γ (kS K) σ) 0 0 58 [(0, .ref (gA Γ 300)), (2, .int v2), (3, .int v3), (4, .int v4), (5, .int v5)] []) : GGo K (cQ K Γ rm_c_pairs (fun r : Int32 => (some (Value.int r), σ))) (C_pairs_j84 k46 k58 σ v2 v3 v4 v5) 6 (CI Γ (kS K) σ) 0 0 84 [(0, .ref (gA Γ 300)), (2, .int v2), (3, .int v3), (4, .int v4), (5, .int v5)] [] := by
  unfold C_pairs_j84
  refine g_iincN (pc := 84) (v := 1) (ls' := fun x11 => [(5, .int x11), (0, .ref (gA Γ 300)), (2, .int v2), (3, .int v3), (4, .int v4)]) hk dX0_pairs_84 rfl rfl (by decide) (fun _ => rfl) (fun x11 => ?_)
  refine g_goto (pc := 87) (tgt := 58) hk dX0_pairs_87 rfl ?_
  refine g_sub (ls' := [(0, .ref (gA Γ 300)), (2, .int v2), (3, .int v3), (4, .int v4), (5, .int x11)]) [1, 2, 3, 4, 0] rfl ?_
  exact hk58 x11
theorem cm_pairs_j102 {K : KT} {Γ : CG} (hk : KOK K cX0_pairs 6 RX0 rm_c_pairs (some .int)) (hK : CK Γ (kS K)) (σ : CS) (v2 : Int32) (v4 : Int32) (v5 : Int32) : GGo K (cQ K Γ rm_c_pairs (fun r : Int32 => (some (Value.int r), σ))) (C_pairs_j102 σ v2 v4 v5) 6 (CI Γ (kS K) σ) 0 0 102 [(2, .int v2), (4, .int v4), (5, .int v5)] [] := by
  unfold C_pairs_j102
  refine g_iload (pc := 102) hk dX0_pairs_102 rfl ?_
  refine g_iload_n (pc := 104) hk dX0_pairs_104 rfl ?_
  refine g_icmp_ne (pc := 105) (tgt := 113) hk dX0_pairs_105 rfl ?_ ?_
  · refine g_iload (pc := 113) hk dX0_pairs_113 rfl ?_
    exact c_iret (pc := 115) hk hK rfl dX0_pairs_115 rfl rfl
  · refine g_iload (pc := 108) hk dX0_pairs_108 rfl ?_
    refine g_goto (pc := 110) (tgt := 115) hk dX0_pairs_110 rfl ?_
    exact c_iret (pc := 115) hk hK rfl dX0_pairs_115 rfl rfl
theorem cm_pairs_l58 {K : KT} {Γ : CG} (hk : KOK K cX0_pairs 6 RX0 rm_c_pairs (some .int)) (hK : CK Γ (kS K)) (σ : CS) (v2 : Int32) (v3 : Int32) (v4 : Int32) (k46 : Int32 → Option (Int32)) (hk46 : ∀ (v3 : Int32), GGo K (cQ K Γ rm_c_pairs (fun r : Int32 => (some (Value.int r), σ))) (k46 v3) 6 (CI Γ (kS K) σ) 0 0 46 [(0, .ref (gA Γ 300)), (2, .int v2), (3, .int v3)] []) : ∀ (n : Nat) (v5 : Int32), GGo K (cQ K Γ rm_c_pairs (fun r : Int32 => (some (Value.int r), σ))) (C_pairs_l58 k46 σ v2 v3 v4 n v5) 6 (CI Γ (kS K) σ) 0 0 58 [(0, .ref (gA Γ 300)), (2, .int v2), (3, .int v3), (4, .int v4), (5, .int v5)] [] := by
  intro n
  induction n with
  | zero =>
    intro v5
    unfold C_pairs_l58
    exact g_none
  | succ n ih =>
    intro v5
    unfold C_pairs_l58
    refine g_iload_n (pc := 58) hk dX0_pairs_58 rfl ?_
    refine g_iload (pc := 59) hk dX0_pairs_59 rfl ?_
    refine g_ob1 (fun r9 h10 => ?_)
    refine g_callP (pc := 61) hk [.int v3, .int v5] [] (cm_has v3 v5 r9 h10) (lw_S q1113 q1114 q124 q1115) hs_c_has rfl ⟨rfl, rfl⟩ rfl rfl dX0_pairs_61 rfl rfl ⟨rfl, rfl⟩ ?_
    refine g_if_eq (pc := 64) (tgt := 84) hk dX0_pairs_64 rfl ?_ ?_
    · exact cm_pairs_j84 hk hK σ v2 v3 v4 v5 k46 (C_pairs_l58 k46 σ v2 v3 v4 n) hk46 ih
    · refine g_aload_n (pc := 67) hk dX0_pairs_67 rfl ?_
      refine g_iload_n (pc := 68) hk dX0_pairs_68 rfl ?_
      refine g_iload (pc := 69) hk dX0_pairs_69 rfl ?_
      refine g_iload (pc := 71) hk dX0_pairs_71 rfl ?_
      refine g_ob1 (fun r12 h13 => ?_)
      refine c_callV (pc := 73) hk hK (rec_X hK) [.int v3, .int v4, .int v5] [] (cm_leastWith Γ σ v3 v4 v5 (C_leastOf σ 16) (fun v1 r h => cm_leastOf Γ 16 σ v1 r h) r12 h13) (lw_V q1271 q1273 qs49 q124 q1274) hv_c_leastWith rfl rfl rfl dX0_pairs_73 rfl rfl ⟨rfl, rfl⟩ ?_
      refine g_aload_n (pc := 76) hk dX0_pairs_76 rfl ?_
      refine g_iload_n (pc := 77) hk dX0_pairs_77 rfl ?_
      refine g_ob1 (fun r14 h15 => ?_)
      refine c_callV (pc := 78) hk hK (rec_X hK) [.int v3] [.int r12] (cm_leastOf Γ 16 σ v3 r14 h15) (lw_V q1263 q1265 qs48 q124 q1266) hv_c_leastOf rfl rfl rfl dX0_pairs_78 rfl rfl ⟨rfl, rfl⟩ ?_
      refine g_icmp_eq (pc := 81) (tgt := 90) hk dX0_pairs_81 rfl ?_ ?_
      · refine g_iload (pc := 90) hk dX0_pairs_90 rfl ?_
        refine g_iload_n (pc := 92) hk dX0_pairs_92 rfl ?_
        refine g_icmp_eq (pc := 93) (tgt := 102) hk dX0_pairs_93 rfl ?_ ?_
        · refine g_sub (ls' := [(2, .int v2), (4, .int v4), (5, .int v5)]) [1, 3, 4] rfl ?_
          exact cm_pairs_j102 hk hK σ v2 v4 v5
        · refine g_iload (pc := 96) hk dX0_pairs_96 rfl ?_
          refine g_iload_n (pc := 98) hk dX0_pairs_98 rfl ?_
          refine g_icmp_ne (pc := 99) (tgt := 116) hk dX0_pairs_99 rfl ?_ ?_
          · refine g_iload_n (pc := 116) hk dX0_pairs_116 rfl ?_
            refine g_iconst (pc := 117) (v := 1) hk dX0_pairs_117 rfl ?_
            refine g_iload (pc := 118) hk dX0_pairs_118 rfl ?_
            refine g_ishl (pc := 120) hk dX0_pairs_120 ?_
            refine g_iconst (pc := 121) (v := (-1)) hk dX0_pairs_121 rfl ?_
            refine g_ixor (pc := 122) hk dX0_pairs_122 ?_
            refine g_iconst (pc := 123) (v := 1) hk dX0_pairs_123 rfl ?_
            refine g_iload (pc := 124) hk dX0_pairs_124 rfl ?_
            refine g_ishl (pc := 126) hk dX0_pairs_126 ?_
            refine g_iconst (pc := 127) (v := (-1)) hk dX0_pairs_127 rfl ?_
            refine g_ixor (pc := 128) hk dX0_pairs_128 ?_
            refine g_iand (pc := 129) hk dX0_pairs_129 ?_
            refine g_iand (pc := 130) hk dX0_pairs_130 ?_
            refine g_istore_nN (pc := 131) (i := 3) (ls' := fun x16 => [(3, .int x16), (0, .ref (gA Γ 300)), (2, .int v2), (4, .int v4), (5, .int v5)]) hk dX0_pairs_131 rfl (by decide) (fun _ => rfl) (fun x16 => ?_)
            refine g_goto (pc := 132) (tgt := 46) hk dX0_pairs_132 rfl ?_
            refine g_sub (ls' := [(0, .ref (gA Γ 300)), (2, .int v2), (3, .int x16)]) [1, 2, 0] rfl ?_
            exact hk46 x16
          · refine g_sub (ls' := [(2, .int v2), (4, .int v4), (5, .int v5)]) [1, 3, 4] rfl ?_
            exact cm_pairs_j102 hk hK σ v2 v4 v5
      · exact cm_pairs_j84 hk hK σ v2 v3 v4 v5 k46 (C_pairs_l58 k46 σ v2 v3 v4 n) hk46 ih
theorem cm_pairs_l46 {K : KT} {Γ : CG} (hk : KOK K cX0_pairs 6 RX0 rm_c_pairs (some .int)) (hK : CK Γ (kS K)) (σ : CS) (v2 : Int32) : ∀ (n : Nat) (v3 : Int32), GGo K (cQ K Γ rm_c_pairs (fun r : Int32 => (some (Value.int r), σ))) (C_pairs_l46 σ v2 n v3) 6 (CI Γ (kS K) σ) 0 0 46 [(0, .ref (gA Γ 300)), (2, .int v2), (3, .int v3)] [] := by
  intro n
  induction n with
  | zero =>
    intro v3
    unfold C_pairs_l46
    exact g_none
  | succ n ih =>
    intro v3
    unfold C_pairs_l46
    refine g_iload_n (pc := 46) hk dX0_pairs_46 rfl ?_
    refine g_ob1 (fun r6 h7 => ?_)
    refine g_callP (pc := 47) hk [.int v3] [] (im_numberOfTrailingZeros v3 r6 h7) (lw_S q1267 q1268 q155 q1269) hs_i_numberOfTrailingZeros rfl ⟨rfl, rfl⟩ rfl rfl dX0_pairs_47 rfl rfl ⟨rfl, rfl⟩ ?_
    refine g_istore (pc := 50) (i := 4) (ls' := [(4, .int r6), (0, .ref (gA Γ 300)), (2, .int v2), (3, .int v3)]) hk dX0_pairs_50 (by decide) rfl ?_
    refine g_iload (pc := 52) hk dX0_pairs_52 rfl ?_
    refine g_iconst (pc := 54) (v := 1) hk dX0_pairs_54 rfl ?_
    refine g_iadd (pc := 55) hk dX0_pairs_55 ?_
    refine g_istoreN (pc := 56) (i := 5) (ls' := fun x8 => [(5, .int x8), (4, .int r6), (0, .ref (gA Γ 300)), (2, .int v2), (3, .int v3)]) hk dX0_pairs_56 (by decide) (fun _ => rfl) (fun x8 => ?_)
    refine g_sub (ls' := [(0, .ref (gA Γ 300)), (2, .int v2), (3, .int v3), (4, .int r6), (5, .int x8)]) [2, 3, 4, 1, 0] rfl ?_
    exact cm_pairs_l58 hk hK σ v2 v3 r6 (C_pairs_l46 σ v2 n) ih FU x8
theorem cm_pairs (Γ : CG) (σ : CS) (v1 : Int32) (v2 : Int32)  (r : Int32) (h : C_pairs σ v1 v2 = some r) : CMet Γ yX0_pairs cX0_pairs 6 (some .int) rm_c_pairs [.ref (gA Γ 300), .int v1, .int v2] σ (some (.int r)) σ := by
  refine c_met (view := (fun r : Int32 => (some (Value.int r), σ))) (own := RX0) rfl (by decide) rfl (ls0 := [(0, .ref (gA Γ 300)), (1, .int v1), (2, .int v2)]) rfl (fun K hk hK => ?_) r h
  unfold C_pairs
  refine g_iload_n (pc := 0) hk dX0_pairs_0 rfl ?_
  refine g_iconst (pc := 1) (v := 2) hk dX0_pairs_1 rfl ?_
  refine g_bipush (pc := 2) (v := 8) hk dX0_pairs_2 rfl ?_
  refine g_ob1 (fun r1 h2 => ?_)
  refine g_callP (pc := 4) hk [.int v1, .int 2, .int 8] [] (cm_in v1 2 8 r1 h2) (lw_S q296 q297 q124 q298) hs_c_in rfl ⟨rfl, rfl⟩ rfl rfl dX0_pairs_4 rfl rfl ⟨rfl, rfl⟩ ?_
  refine g_if_eq (pc := 7) (tgt := 27) hk dX0_pairs_7 rfl ?_ ?_
  · refine g_iconst (pc := 27) (v := (-1)) hk dX0_pairs_27 rfl ?_
    exact c_iret (pc := 28) hk hK rfl dX0_pairs_28 rfl rfl
  · refine g_iload_n (pc := 10) hk dX0_pairs_10 rfl ?_
    refine g_iconst (pc := 11) (v := 2) hk dX0_pairs_11 rfl ?_
    refine g_irem (pc := 12) hk dX0_pairs_12 (by decide) ?_
    refine g_if_ne (pc := 13) (tgt := 27) hk dX0_pairs_13 rfl ?_ ?_
    · refine g_iconst (pc := 27) (v := (-1)) hk dX0_pairs_27 rfl ?_
      exact c_iret (pc := 28) hk hK rfl dX0_pairs_28 rfl rfl
    · refine g_iload_n (pc := 16) hk dX0_pairs_16 rfl ?_
      refine g_iconst (pc := 17) (v := (-1)) hk dX0_pairs_17 rfl ?_
      refine g_iload_n (pc := 18) hk dX0_pairs_18 rfl ?_
      refine g_iconst (pc := 19) (v := 1) hk dX0_pairs_19 rfl ?_
      refine g_isub (pc := 20) hk dX0_pairs_20 ?_
      refine g_ob1 (fun r3 h4 => ?_)
      refine g_callP (pc := 21) hk [.int v2, .int (-1), .int (v1 - 1)] [] (cm_in v2 (-1) (v1 - 1) r3 h4) (lw_S q296 q297 q124 q298) hs_c_in rfl ⟨rfl, rfl⟩ rfl rfl dX0_pairs_21 rfl rfl ⟨rfl, rfl⟩ ?_
      refine g_if_ne (pc := 24) (tgt := 29) hk dX0_pairs_24 rfl ?_ ?_
      · refine g_iconst (pc := 29) (v := 1) hk dX0_pairs_29 rfl ?_
        refine g_iload_n (pc := 30) hk dX0_pairs_30 rfl ?_
        refine g_ishl (pc := 31) hk dX0_pairs_31 ?_
        refine g_iconst (pc := 32) (v := 1) hk dX0_pairs_32 rfl ?_
        refine g_isub (pc := 33) hk dX0_pairs_33 ?_
        refine g_istore_nN (pc := 34) (i := 3) (ls' := fun x5 => [(3, .int x5), (0, .ref (gA Γ 300)), (1, .int v1), (2, .int v2)]) hk dX0_pairs_34 rfl (by decide) (fun _ => rfl) (fun x5 => ?_)
        refine g_iload_n (pc := 35) hk dX0_pairs_35 rfl ?_
        refine g_iconst (pc := 36) (v := (-1)) hk dX0_pairs_36 rfl ?_
        refine g_icmp_ne (pc := 37) (tgt := 46) hk dX0_pairs_37 rfl ?_ ?_
        · refine g_sub (ls' := [(0, .ref (gA Γ 300)), (2, .int v2), (3, .int x5)]) [1, 3, 0] rfl ?_
          exact cm_pairs_l46 hk hK σ v2 FU x5
        · refine g_aload_n (pc := 40) hk dX0_pairs_40 rfl ?_
          refine g_iload_n (pc := 41) hk dX0_pairs_41 rfl ?_
          refine g_ob1 (fun r17 h18 => ?_)
          refine c_callV (pc := 42) hk hK (rec_X hK) [.int x5] [] (cm_leastOf Γ 16 σ x5 r17 h18) (lw_V q1263 q1265 qs48 q124 q1266) hv_c_leastOf rfl rfl rfl dX0_pairs_42 rfl rfl ⟨rfl, rfl⟩ ?_
          exact c_iret (pc := 45) hk hK rfl dX0_pairs_45 rfl rfl
      · refine g_iconst (pc := 27) (v := (-1)) hk dX0_pairs_27 rfl ?_
        exact c_iret (pc := 28) hk hK rfl dX0_pairs_28 rfl rfl
def rm_c_likes : Room := { frames := 3, cells := 0, slots := 0, locals := 82 }
theorem hv_c_likes : yX0_likes.cls = RX0 ∧ yX0_likes.cls ≠ "java/lang/invoke/MethodHandle" ∧ yX0_likes.cls ≠ "java/lang/invoke/VarHandle" ∧ (parseMethodDescriptor yX0_likes.desc).map (fun d => d.parameters.length) = some 3 := by decide +kernel
theorem cm_likes (Γ : CG) (σ : CS) (v1 : Int32) (v2 : Int32) (v3 : Int32)  (r : Int32 × CS) (h : C_likes σ v1 v2 v3 = some r) : CMet Γ yX0_likes cX0_likes 4 (some .boolean) rm_c_likes [.ref (gA Γ 300), .int v1, .int v2, .int v3] σ (some (.int r.1)) r.2 := by
  refine c_met (view := (fun r : Int32 × CS => (some (Value.int r.1), r.2))) (own := RX0) rfl (by decide) rfl (ls0 := [(0, .ref (gA Γ 300)), (1, .int v1), (2, .int v2), (3, .int v3)]) rfl (fun K hk hK => ?_) r h
  unfold C_likes
  refine g_iload_n (pc := 0) hk dX0_likes_0 rfl ?_
  refine g_ob1 (fun r1 h2 => ?_)
  refine g_callP (pc := 1) hk [.int v1] [] (cm_isChair v1 r1 h2) (lw_S q307 q308 q124 q309) hs_c_isChair rfl ⟨rfl, rfl⟩ rfl rfl dX0_likes_1 rfl rfl ⟨rfl, rfl⟩ ?_
  refine g_if_eq (pc := 4) (tgt := 24) hk dX0_likes_4 rfl ?_ ?_
  · refine g_iconst (pc := 24) (v := 0) hk dX0_likes_24 rfl ?_
    exact c_zret (pc := 25) hk hK rfl rfl dX0_likes_25 rfl rfl
  · refine g_iload_n (pc := 7) hk dX0_likes_7 rfl ?_
    refine g_ob1 (fun r3 h4 => ?_)
    refine g_callP (pc := 8) hk [.int v2] [] (cm_isChair v2 r3 h4) (lw_S q307 q308 q124 q309) hs_c_isChair rfl ⟨rfl, rfl⟩ rfl rfl dX0_likes_8 rfl rfl ⟨rfl, rfl⟩ ?_
    refine g_if_eq (pc := 11) (tgt := 24) hk dX0_likes_11 rfl ?_ ?_
    · refine g_iconst (pc := 24) (v := 0) hk dX0_likes_24 rfl ?_
      exact c_zret (pc := 25) hk hK rfl rfl dX0_likes_25 rfl rfl
    · refine g_iload_n (pc := 14) hk dX0_likes_14 rfl ?_
      refine g_iconst (pc := 15) (v := 0) hk dX0_likes_15 rfl ?_
      refine g_bipush (pc := 16) (v := 9) hk dX0_likes_16 rfl ?_
      refine g_ob1 (fun r5 h6 => ?_)
      refine g_callP (pc := 18) hk [.int v3, .int 0, .int 9] [] (cm_in v3 0 9 r5 h6) (lw_S q296 q297 q124 q298) hs_c_in rfl ⟨rfl, rfl⟩ rfl rfl dX0_likes_18 rfl rfl ⟨rfl, rfl⟩ ?_
      refine g_if_ne (pc := 21) (tgt := 26) hk dX0_likes_21 rfl ?_ ?_
      · refine g_aload_n (pc := 26) hk dX0_likes_26 rfl ?_
        refine c_getR (pc := 27) hk hK cr_0 cf_0 dX0_likes_27 ?_
        refine c_getS (pc := 30) (w := 0) hk hK (by decide) sr_6 sn_6 dX0_likes_30 ?_
        refine g_iload_n (pc := 33) hk dX0_likes_33 rfl ?_
        refine c_aald (pc := 34) (w := 0) (j := 6) hk hK (by decide) (by decide) (by decide) rfl dX0_likes_34 (fun h7 => ?_)
        refine g_iload_n (pc := 35) hk dX0_likes_35 rfl ?_
        refine g_iload_n (pc := 36) hk dX0_likes_36 rfl ?_
        refine c_iast (pc := 37) (k := (20 + v1.toNatClampNeg)) hk hK (cav_row6 (w := 0) (by decide) h7) dX0_likes_37 (fun σ8 => ?_)
        refine g_iconst (pc := 38) (v := 1) hk dX0_likes_38 rfl ?_
        exact c_zret (pc := 39) hk hK rfl rfl dX0_likes_39 rfl rfl
      · refine g_iconst (pc := 24) (v := 0) hk dX0_likes_24 rfl ?_
        exact c_zret (pc := 25) hk hK rfl rfl dX0_likes_25 rfl rfl
def rm_c_isBetter : Room := { frames := 1, cells := 0, slots := 0, locals := 40 }
theorem hv_c_isBetter : yX0_isBetter.cls = RX0 ∧ yX0_isBetter.cls ≠ "java/lang/invoke/MethodHandle" ∧ yX0_isBetter.cls ≠ "java/lang/invoke/VarHandle" ∧ (parseMethodDescriptor yX0_isBetter.desc).map (fun d => d.parameters.length) = some 3 := by decide +kernel
theorem cm_isBetter (Γ : CG) (σ : CS) (v1 : Int32) (v2 : Int32) (v3 : Int32)  (r : Int32) (h : C_isBetter σ v1 v2 v3 = some r) : CMet Γ yX0_isBetter cX0_isBetter 5 (some .boolean) rm_c_isBetter [.ref (gA Γ 300), .int v1, .int v2, .int v3] σ (some (.int r)) σ := by
  refine c_met (view := (fun r : Int32 => (some (Value.int r), σ))) (own := RX0) rfl (by decide) rfl (ls0 := [(0, .ref (gA Γ 300)), (1, .int v1), (2, .int v2), (3, .int v3)]) rfl (fun K hk hK => ?_) r h
  unfold C_isBetter
  refine g_aload_n (pc := 0) hk dX0_isBetter_0 rfl ?_
  refine c_getR (pc := 1) hk hK cr_0 cf_0 dX0_isBetter_1 ?_
  refine c_getS (pc := 4) (w := 0) hk hK (by decide) sr_6 sn_6 dX0_isBetter_4 ?_
  refine g_iload_n (pc := 7) hk dX0_isBetter_7 rfl ?_
  refine c_aald (pc := 8) (w := 0) (j := 6) hk hK (by decide) (by decide) (by decide) rfl dX0_isBetter_8 (fun h1 => ?_)
  refine g_astore (pc := 9) (i := 4) (ls' := [(4, .ref (gA Γ (20 + v1.toNatClampNeg))), (0, .ref (gA Γ 300)), (1, .int v1), (2, .int v2), (3, .int v3)]) hk dX0_isBetter_9 (by decide) rfl ?_
  refine g_aload (pc := 11) hk dX0_isBetter_11 rfl ?_
  refine g_iload_n (pc := 13) hk dX0_isBetter_13 rfl ?_
  refine c_iald (pc := 14) (k := (20 + v1.toNatClampNeg)) hk hK (cav_row6 (w := 0) (by decide) h1) dX0_isBetter_14 ?_
  refine g_aload (pc := 15) hk dX0_isBetter_15 rfl ?_
  refine g_iload_n (pc := 17) hk dX0_isBetter_17 rfl ?_
  refine c_iald (pc := 18) (k := (20 + v1.toNatClampNeg)) hk hK (cav_row6 (w := 0) (by decide) h1) dX0_isBetter_18 ?_
  refine g_icmp_lt (pc := 19) (tgt := 38) hk dX0_isBetter_19 rfl ?_ ?_
  · refine g_iconst (pc := 38) (v := 1) hk dX0_isBetter_38 rfl ?_
    refine g_goto (pc := 39) (tgt := 43) hk dX0_isBetter_39 rfl ?_
    exact c_zret (pc := 43) hk hK rfl rfl dX0_isBetter_43 rfl rfl
  · refine g_aload (pc := 22) hk dX0_isBetter_22 rfl ?_
    refine g_iload_n (pc := 24) hk dX0_isBetter_24 rfl ?_
    refine c_iald (pc := 25) (k := (20 + v1.toNatClampNeg)) hk hK (cav_row6 (w := 0) (by decide) h1) dX0_isBetter_25 ?_
    refine g_aload (pc := 26) hk dX0_isBetter_26 rfl ?_
    refine g_iload_n (pc := 28) hk dX0_isBetter_28 rfl ?_
    refine c_iald (pc := 29) (k := (20 + v1.toNatClampNeg)) hk hK (cav_row6 (w := 0) (by decide) h1) dX0_isBetter_29 ?_
    refine g_icmp_ne (pc := 30) (tgt := 42) hk dX0_isBetter_30 rfl ?_ ?_
    · refine g_iconst (pc := 42) (v := 0) hk dX0_isBetter_42 rfl ?_
      exact c_zret (pc := 43) hk hK rfl rfl dX0_isBetter_43 rfl rfl
    · refine g_iload_n (pc := 33) hk dX0_isBetter_33 rfl ?_
      refine g_iload_n (pc := 34) hk dX0_isBetter_34 rfl ?_
      refine g_icmp_ge (pc := 35) (tgt := 42) hk dX0_isBetter_35 rfl ?_ ?_
      · refine g_iconst (pc := 42) (v := 0) hk dX0_isBetter_42 rfl ?_
        exact c_zret (pc := 43) hk hK rfl rfl dX0_isBetter_43 rfl rfl
      · refine g_iconst (pc := 38) (v := 1) hk dX0_isBetter_38 rfl ?_
        refine g_goto (pc := 39) (tgt := 43) hk dX0_isBetter_39 rfl ?_
        exact c_zret (pc := 43) hk hK rfl rfl dX0_isBetter_43 rfl rfl
def rm_c_pointsAt : Room := { frames := 2, cells := 0, slots := 0, locals := 64 }
theorem hv_c_pointsAt : yX0_pointsAt.cls = RX0 ∧ yX0_pointsAt.cls ≠ "java/lang/invoke/MethodHandle" ∧ yX0_pointsAt.cls ≠ "java/lang/invoke/VarHandle" ∧ (parseMethodDescriptor yX0_pointsAt.desc).map (fun d => d.parameters.length) = some 2 := by decide +kernel
theorem cm_pointsAt_j40 {K : KT} {Γ : CG} (hk : KOK K cX0_pointsAt 5 RX0 rm_c_pointsAt (some .int)) (hK : CK Γ (kS K)) (σ : CS) (v1 : Int32) (v2 : Int32) (v3 : Int32) (v4 : Int32) (k5 : Int32 → Int32 → Option (Int32)) (hk5 : ∀ (v3 : Int32) (v4 : Int32), GGo K (cQ K Γ rm_c_pointsAt (fun r : Int32 => (some (Value.int r), σ))) (k5 v3 v4) 5 (CI Γ (kS K) σ) 0 0 5 [(0, .ref (gA Γ 300)), (1, .int v1), (2, .int v2), (3, .int v3), (4, .int v4)] []) : GGo K (cQ K Γ rm_c_pointsAt (fun r : Int32 => (some (Value.int r), σ))) (C_pointsAt_j40 k5 σ v1 v2 v3 v4) 5 (CI Γ (kS K) σ) 0 0 40 [(0, .ref (gA Γ 300)), (1, .int v1), (2, .int v2), (3, .int v3), (4, .int v4)] [] := by
  unfold C_pointsAt_j40
  refine g_iincN (pc := 40) (v := 1) (ls' := fun x3 => [(4, .int x3), (0, .ref (gA Γ 300)), (1, .int v1), (2, .int v2), (3, .int v3)]) hk dX0_pointsAt_40 rfl rfl (by decide) (fun _ => rfl) (fun x3 => ?_)
  refine g_goto (pc := 43) (tgt := 5) hk dX0_pointsAt_43 rfl ?_
  refine g_sub (ls' := [(0, .ref (gA Γ 300)), (1, .int v1), (2, .int v2), (3, .int v3), (4, .int x3)]) [1, 2, 3, 4, 0] rfl ?_
  exact hk5 v3 x3
theorem cm_pointsAt_j37 {K : KT} {Γ : CG} (hk : KOK K cX0_pointsAt 5 RX0 rm_c_pointsAt (some .int)) (hK : CK Γ (kS K)) (σ : CS) (v1 : Int32) (v2 : Int32) (v4 : Int32) (k5 : Int32 → Int32 → Option (Int32)) (hk5 : ∀ (v3 : Int32) (v4 : Int32), GGo K (cQ K Γ rm_c_pointsAt (fun r : Int32 => (some (Value.int r), σ))) (k5 v3 v4) 5 (CI Γ (kS K) σ) 0 0 5 [(0, .ref (gA Γ 300)), (1, .int v1), (2, .int v2), (3, .int v3), (4, .int v4)] []) : GGo K (cQ K Γ rm_c_pointsAt (fun r : Int32 => (some (Value.int r), σ))) (C_pointsAt_j37 k5 σ v1 v2 v4) 5 (CI Γ (kS K) σ) 0 0 37 [(0, .ref (gA Γ 300)), (1, .int v1), (2, .int v2), (4, .int v4)] [] := by
  unfold C_pointsAt_j37
  refine g_iload (pc := 37) hk dX0_pointsAt_37 rfl ?_
  refine g_istore_n (pc := 39) (i := 3) (ls' := [(3, .int v4), (0, .ref (gA Γ 300)), (1, .int v1), (2, .int v2), (4, .int v4)]) hk dX0_pointsAt_39 rfl (by decide) rfl ?_
  refine g_sub (ls' := [(0, .ref (gA Γ 300)), (1, .int v1), (2, .int v2), (3, .int v4), (4, .int v4)]) [1, 2, 3, 0, 4] rfl ?_
  exact cm_pointsAt_j40 hk hK σ v1 v2 v4 v4 k5 hk5
theorem cm_pointsAt_l5 {K : KT} {Γ : CG} (hk : KOK K cX0_pointsAt 5 RX0 rm_c_pointsAt (some .int)) (hK : CK Γ (kS K)) (σ : CS) (v1 : Int32) (v2 : Int32) : ∀ (n : Nat) (v3 : Int32) (v4 : Int32), GGo K (cQ K Γ rm_c_pointsAt (fun r : Int32 => (some (Value.int r), σ))) (C_pointsAt_l5 σ v1 v2 n v3 v4) 5 (CI Γ (kS K) σ) 0 0 5 [(0, .ref (gA Γ 300)), (1, .int v1), (2, .int v2), (3, .int v3), (4, .int v4)] [] := by
  intro n
  induction n with
  | zero =>
    intro v3 v4
    unfold C_pointsAt_l5
    exact g_none
  | succ n ih =>
    intro v3 v4
    unfold C_pointsAt_l5
    refine g_iload (pc := 5) hk dX0_pointsAt_5 rfl ?_
    refine g_bipush (pc := 7) (v := 8) hk dX0_pointsAt_7 rfl ?_
    refine g_icmp_ge (pc := 9) (tgt := 46) hk dX0_pointsAt_9 rfl ?_ ?_
    · refine g_iload_n (pc := 46) hk dX0_pointsAt_46 rfl ?_
      exact c_iret (pc := 47) hk hK rfl dX0_pointsAt_47 rfl rfl
    · refine g_iload_n (pc := 12) hk dX0_pointsAt_12 rfl ?_
      refine g_iload (pc := 13) hk dX0_pointsAt_13 rfl ?_
      refine g_ob1 (fun r1 h2 => ?_)
      refine g_callP (pc := 15) hk [.int v2, .int v4] [] (cm_has v2 v4 r1 h2) (lw_S q1113 q1114 q124 q1115) hs_c_has rfl ⟨rfl, rfl⟩ rfl rfl dX0_pointsAt_15 rfl rfl ⟨rfl, rfl⟩ ?_
      refine g_if_eq (pc := 18) (tgt := 40) hk dX0_pointsAt_18 rfl ?_ ?_
      · exact cm_pointsAt_j40 hk hK σ v1 v2 v3 v4 (C_pointsAt_l5 σ v1 v2 n) ih
      · refine g_iload_n (pc := 21) hk dX0_pointsAt_21 rfl ?_
        refine g_iconst (pc := 22) (v := (-1)) hk dX0_pointsAt_22 rfl ?_
        refine g_icmp_eq (pc := 23) (tgt := 37) hk dX0_pointsAt_23 rfl ?_ ?_
        · refine g_sub (ls' := [(0, .ref (gA Γ 300)), (1, .int v1), (2, .int v2), (4, .int v4)]) [0, 1, 2, 4] rfl ?_
          exact cm_pointsAt_j37 hk hK σ v1 v2 v4 (C_pointsAt_l5 σ v1 v2 n) ih
        · refine g_aload_n (pc := 26) hk dX0_pointsAt_26 rfl ?_
          refine g_iload_n (pc := 27) hk dX0_pointsAt_27 rfl ?_
          refine g_iload (pc := 28) hk dX0_pointsAt_28 rfl ?_
          refine g_iload_n (pc := 30) hk dX0_pointsAt_30 rfl ?_
          refine g_ob1 (fun r4 h5 => ?_)
          refine c_callV (pc := 31) hk hK (rec_X hK) [.int v1, .int v4, .int v3] [] (cm_isBetter Γ σ v1 v4 v3 r4 h5) (lw_V q1291 q1293 qs52 q124 q1294) hv_c_isBetter rfl rfl rfl dX0_pointsAt_31 rfl rfl ⟨rfl, rfl⟩ ?_
          refine g_if_eq (pc := 34) (tgt := 40) hk dX0_pointsAt_34 rfl ?_ ?_
          · exact cm_pointsAt_j40 hk hK σ v1 v2 v3 v4 (C_pointsAt_l5 σ v1 v2 n) ih
          · refine g_sub (ls' := [(0, .ref (gA Γ 300)), (1, .int v1), (2, .int v2), (4, .int v4)]) [0, 1, 2, 4] rfl ?_
            exact cm_pointsAt_j37 hk hK σ v1 v2 v4 (C_pointsAt_l5 σ v1 v2 n) ih
theorem cm_pointsAt (Γ : CG) (σ : CS) (v1 : Int32) (v2 : Int32)  (r : Int32) (h : C_pointsAt σ v1 v2 = some r) : CMet Γ yX0_pointsAt cX0_pointsAt 5 (some .int) rm_c_pointsAt [.ref (gA Γ 300), .int v1, .int v2] σ (some (.int r)) σ := by
  refine c_met (view := (fun r : Int32 => (some (Value.int r), σ))) (own := RX0) rfl (by decide) rfl (ls0 := [(0, .ref (gA Γ 300)), (1, .int v1), (2, .int v2)]) rfl (fun K hk hK => ?_) r h
  unfold C_pointsAt
  refine g_iconst (pc := 0) (v := (-1)) hk dX0_pointsAt_0 rfl ?_
  refine g_istore_n (pc := 1) (i := 3) (ls' := [(3, .int (-1)), (0, .ref (gA Γ 300)), (1, .int v1), (2, .int v2)]) hk dX0_pointsAt_1 rfl (by decide) rfl ?_
  refine g_iconst (pc := 2) (v := 0) hk dX0_pointsAt_2 rfl ?_
  refine g_istore (pc := 3) (i := 4) (ls' := [(4, .int 0), (3, .int (-1)), (0, .ref (gA Γ 300)), (1, .int v1), (2, .int v2)]) hk dX0_pointsAt_3 (by decide) rfl ?_
  refine g_sub (ls' := [(0, .ref (gA Γ 300)), (1, .int v1), (2, .int v2), (3, .int (-1)), (4, .int 0)]) [2, 3, 4, 1, 0] rfl ?_
  exact cm_pointsAt_l5 hk hK σ v1 v2 FU (-1) 0
def rm_c_trades : Room := { frames := 3, cells := 0, slots := 0, locals := 88 }
theorem hv_c_trades : yX0_trades.cls = RX0 ∧ yX0_trades.cls ≠ "java/lang/invoke/MethodHandle" ∧ yX0_trades.cls ≠ "java/lang/invoke/VarHandle" ∧ (parseMethodDescriptor yX0_trades.desc).map (fun d => d.parameters.length) = some 1 := by decide +kernel
theorem cm_trades_l44 {K : KT} {Γ : CG} (hk : KOK K cX0_trades 6 RX0 rm_c_trades none) (hK : CK Γ (kS K)) (v3 : Int32) (v4 : Int32) (k6 : CS → Int32 → Option (CS)) (hk6 : ∀ (σ : CS) (v2 : Int32), GGo K (cQ K Γ rm_c_trades (fun r : CS => ((none : Option Value), r))) (k6 σ v2) 6 (CI Γ (kS K) σ) 0 0 6 [(0, .ref (gA Γ 300)), (2, .int v2)] []) : ∀ (n : Nat) (σ : CS) (v2 : Int32) (v5 : Int32), GGo K (cQ K Γ rm_c_trades (fun r : CS => ((none : Option Value), r))) (C_trades_l44 k6 v3 v4 n σ v2 v5) 6 (CI Γ (kS K) σ) 0 0 44 [(0, .ref (gA Γ 300)), (2, .int v2), (3, .int v3), (4, .int v4), (5, .int v5)] [] := by
  intro n
  induction n with
  | zero =>
    intro σ v2 v5
    unfold C_trades_l44
    exact g_none
  | succ n ih =>
    intro σ v2 v5
    unfold C_trades_l44
    refine g_aload_n (pc := 44) hk dX0_trades_44 rfl ?_
    refine c_getR (pc := 45) hk hK cr_16 cf_16 dX0_trades_45 ?_
    refine g_iload (pc := 48) hk dX0_trades_48 rfl ?_
    refine g_aload_n (pc := 50) hk dX0_trades_50 rfl ?_
    refine g_iload (pc := 51) hk dX0_trades_51 rfl ?_
    refine g_iload (pc := 53) hk dX0_trades_53 rfl ?_
    refine g_ob1 (fun r4 h5 => ?_)
    refine c_callV (pc := 55) hk hK (rec_X hK) [.int v5, .int v4] [.int v5, .ref (gA Γ 210)] (cm_pointsAt Γ σ v5 v4 r4 h5) (lw_V q1287 q1289 qs51 q124 q1290) hv_c_pointsAt rfl rfl rfl dX0_trades_55 rfl rfl ⟨rfl, rfl⟩ ?_
    refine c_iast (pc := 58) (k := 210) hk hK cav_210 dX0_trades_58 (fun σ6 => ?_)
    refine g_iload_n (pc := 59) hk dX0_trades_59 rfl ?_
    refine g_iconst (pc := 60) (v := 1) hk dX0_trades_60 rfl ?_
    refine g_iload (pc := 61) hk dX0_trades_61 rfl ?_
    refine g_ishl (pc := 63) hk dX0_trades_63 ?_
    refine g_iconst (pc := 64) (v := (-1)) hk dX0_trades_64 rfl ?_
    refine g_ixor (pc := 65) hk dX0_trades_65 ?_
    refine g_iand (pc := 66) hk dX0_trades_66 ?_
    refine g_istore_nN (pc := 67) (i := 2) (ls' := fun x7 => [(2, .int x7), (0, .ref (gA Γ 300)), (3, .int v3), (4, .int v4), (5, .int v5)]) hk dX0_trades_67 rfl (by decide) (fun _ => rfl) (fun x7 => ?_)
    refine g_aload_n (pc := 68) hk dX0_trades_68 rfl ?_
    refine c_getR (pc := 69) hk hK cr_16 cf_16 dX0_trades_69 ?_
    refine g_iload (pc := 72) hk dX0_trades_72 rfl ?_
    refine c_iald (pc := 74) (k := 210) hk hK cav_210 dX0_trades_74 ?_
    refine g_istoreN (pc := 75) (i := 5) (ls' := fun x8 => [(5, .int x8), (2, .int x7), (0, .ref (gA Γ 300)), (3, .int v3), (4, .int v4)]) hk dX0_trades_75 (by decide) (fun _ => rfl) (fun x8 => ?_)
    refine g_iload (pc := 77) hk dX0_trades_77 rfl ?_
    refine g_iload_n (pc := 79) hk dX0_trades_79 rfl ?_
    refine g_icmp_ne (pc := 80) (tgt := 44) hk dX0_trades_80 rfl ?_ ?_
    · refine g_sub (ls' := [(0, .ref (gA Γ 300)), (2, .int x7), (3, .int v3), (4, .int v4), (5, .int x8)]) [2, 1, 3, 4, 0] rfl ?_
      exact ih σ6 x7 x8
    · refine g_goto (pc := 83) (tgt := 6) hk dX0_trades_83 rfl ?_
      refine g_sub (ls' := [(0, .ref (gA Γ 300)), (2, .int x7)]) [2, 1] rfl ?_
      exact hk6 σ6 x7
theorem cm_trades_l18 {K : KT} {Γ : CG} (hk : KOK K cX0_trades 6 RX0 rm_c_trades none) (hK : CK Γ (kS K)) (σ : CS) (v2 : Int32) (k6 : CS → Int32 → Option (CS)) (hk6 : ∀ (σ : CS) (v2 : Int32), GGo K (cQ K Γ rm_c_trades (fun r : CS => ((none : Option Value), r))) (k6 σ v2) 6 (CI Γ (kS K) σ) 0 0 6 [(0, .ref (gA Γ 300)), (2, .int v2)] []) : ∀ (n : Nat) (v3 : Int32) (v4 : Int32), GGo K (cQ K Γ rm_c_trades (fun r : CS => ((none : Option Value), r))) (C_trades_l18 k6 σ v2 n v3 v4) 6 (CI Γ (kS K) σ) 0 0 18 [(0, .ref (gA Γ 300)), (2, .int v2), (3, .int v3), (4, .int v4)] [] := by
  intro n
  induction n with
  | zero =>
    intro v3 v4
    unfold C_trades_l18
    exact g_none
  | succ n ih =>
    intro v3 v4
    unfold C_trades_l18
    refine g_iload (pc := 18) hk dX0_trades_18 rfl ?_
    refine g_bipush (pc := 20) (v := 8) hk dX0_trades_20 rfl ?_
    refine g_icmp_ge (pc := 22) (tgt := 38) hk dX0_trades_22 rfl ?_ ?_
    · refine g_iload_n (pc := 38) hk dX0_trades_38 rfl ?_
      refine g_istore (pc := 39) (i := 4) (ls' := [(4, .int v2), (0, .ref (gA Γ 300)), (2, .int v2), (3, .int v3)]) hk dX0_trades_39 (by decide) rfl ?_
      refine g_iload_n (pc := 41) hk dX0_trades_41 rfl ?_
      refine g_istore (pc := 42) (i := 5) (ls' := [(5, .int v3), (4, .int v2), (0, .ref (gA Γ 300)), (2, .int v2), (3, .int v3)]) hk dX0_trades_42 (by decide) rfl ?_
      refine g_sub (ls' := [(0, .ref (gA Γ 300)), (2, .int v2), (3, .int v3), (4, .int v2), (5, .int v3)]) [2, 3, 4, 1, 0] rfl ?_
      exact cm_trades_l44 hk hK v3 v2 k6 hk6 FU σ v2 v3
    · refine g_aload_n (pc := 25) hk dX0_trades_25 rfl ?_
      refine g_iload_n (pc := 26) hk dX0_trades_26 rfl ?_
      refine g_iload_n (pc := 27) hk dX0_trades_27 rfl ?_
      refine g_ob1 (fun r9 h10 => ?_)
      refine c_callV (pc := 28) hk hK (rec_X hK) [.int v3, .int v2] [] (cm_pointsAt Γ σ v3 v2 r9 h10) (lw_V q1287 q1289 qs51 q124 q1290) hv_c_pointsAt rfl rfl rfl dX0_trades_28 rfl rfl ⟨rfl, rfl⟩ ?_
      refine g_istore_n (pc := 31) (i := 3) (ls' := [(3, .int r9), (0, .ref (gA Γ 300)), (2, .int v2), (4, .int v4)]) hk dX0_trades_31 rfl (by decide) rfl ?_
      refine g_iincN (pc := 32) (v := 1) (ls' := fun x11 => [(4, .int x11), (3, .int r9), (0, .ref (gA Γ 300)), (2, .int v2)]) hk dX0_trades_32 rfl rfl (by decide) (fun _ => rfl) (fun x11 => ?_)
      refine g_goto (pc := 35) (tgt := 18) hk dX0_trades_35 rfl ?_
      refine g_sub (ls' := [(0, .ref (gA Γ 300)), (2, .int v2), (3, .int r9), (4, .int x11)]) [2, 3, 1, 0] rfl ?_
      exact ih r9 x11
theorem cm_trades_l6 {K : KT} {Γ : CG} (hk : KOK K cX0_trades 6 RX0 rm_c_trades none) (hK : CK Γ (kS K))  : ∀ (n : Nat) (σ : CS) (v2 : Int32), GGo K (cQ K Γ rm_c_trades (fun r : CS => ((none : Option Value), r))) (C_trades_l6 n σ v2) 6 (CI Γ (kS K) σ) 0 0 6 [(0, .ref (gA Γ 300)), (2, .int v2)] [] := by
  intro n
  induction n with
  | zero =>
    intro σ v2
    unfold C_trades_l6
    exact g_none
  | succ n ih =>
    intro σ v2
    unfold C_trades_l6
    refine g_iload_n (pc := 6) hk dX0_trades_6 rfl ?_
    refine g_if_eq (pc := 7) (tgt := 86) hk dX0_trades_7 rfl ?_ ?_
    · exact c_vret (pc := 86) hk hK rfl dX0_trades_86 rfl rfl
    · refine g_iload_n (pc := 10) hk dX0_trades_10 rfl ?_
      refine g_ob1 (fun r2 h3 => ?_)
      refine g_callP (pc := 11) hk [.int v2] [] (im_numberOfTrailingZeros v2 r2 h3) (lw_S q1267 q1268 q155 q1269) hs_i_numberOfTrailingZeros rfl ⟨rfl, rfl⟩ rfl rfl dX0_trades_11 rfl rfl ⟨rfl, rfl⟩ ?_
      refine g_istore_n (pc := 14) (i := 3) (ls' := [(3, .int r2), (0, .ref (gA Γ 300)), (2, .int v2)]) hk dX0_trades_14 rfl (by decide) rfl ?_
      refine g_iconst (pc := 15) (v := 0) hk dX0_trades_15 rfl ?_
      refine g_istore (pc := 16) (i := 4) (ls' := [(4, .int 0), (3, .int r2), (0, .ref (gA Γ 300)), (2, .int v2)]) hk dX0_trades_16 (by decide) rfl ?_
      refine g_sub (ls' := [(0, .ref (gA Γ 300)), (2, .int v2), (3, .int r2), (4, .int 0)]) [2, 3, 1, 0] rfl ?_
      exact cm_trades_l18 hk hK σ v2 (C_trades_l6 n) ih FU r2 0
theorem cm_trades (Γ : CG) (σ : CS) (v1 : Int32)  (r : CS) (h : C_trades σ v1 = some r) : CMet Γ yX0_trades cX0_trades 6 none rm_c_trades [.ref (gA Γ 300), .int v1] σ none r := by
  refine c_met (view := (fun r : CS => ((none : Option Value), r))) (own := RX0) rfl (by decide) rfl (ls0 := [(0, .ref (gA Γ 300)), (1, .int v1)]) rfl (fun K hk hK => ?_) r h
  unfold C_trades
  refine g_iconst (pc := 0) (v := 1) hk dX0_trades_0 rfl ?_
  refine g_iload_n (pc := 1) hk dX0_trades_1 rfl ?_
  refine g_ishl (pc := 2) hk dX0_trades_2 ?_
  refine g_iconst (pc := 3) (v := 1) hk dX0_trades_3 rfl ?_
  refine g_isub (pc := 4) hk dX0_trades_4 ?_
  refine g_istore_nN (pc := 5) (i := 2) (ls' := fun x1 => [(2, .int x1), (0, .ref (gA Γ 300)), (1, .int v1)]) hk dX0_trades_5 rfl (by decide) (fun _ => rfl) (fun x1 => ?_)
  refine g_sub (ls' := [(0, .ref (gA Γ 300)), (2, .int x1)]) [1, 0] rfl ?_
  exact cm_trades_l6 hk hK FU σ x1
def rm_c_traded : Room := { frames := 4, cells := 0, slots := 0, locals := 113 }
theorem hv_c_traded : yX0_traded.cls = RX0 ∧ yX0_traded.cls ≠ "java/lang/invoke/MethodHandle" ∧ yX0_traded.cls ≠ "java/lang/invoke/VarHandle" ∧ (parseMethodDescriptor yX0_traded.desc).map (fun d => d.parameters.length) = some 2 := by decide +kernel
theorem cm_traded (Γ : CG) (σ : CS) (v1 : Int32) (v2 : Int32)  (r : Int32 × CS) (h : C_traded σ v1 v2 = some r) : CMet Γ yX0_traded cX0_traded 3 (some .int) rm_c_traded [.ref (gA Γ 300), .int v1, .int v2] σ (some (.int r.1)) r.2 := by
  refine c_met (view := (fun r : Int32 × CS => (some (Value.int r.1), r.2))) (own := RX0) rfl (by decide) rfl (ls0 := [(0, .ref (gA Γ 300)), (1, .int v1), (2, .int v2)]) rfl (fun K hk hK => ?_) r h
  unfold C_traded
  refine g_iload_n (pc := 0) hk dX0_traded_0 rfl ?_
  refine g_iconst (pc := 1) (v := 1) hk dX0_traded_1 rfl ?_
  refine g_bipush (pc := 2) (v := 8) hk dX0_traded_2 rfl ?_
  refine g_ob1 (fun r1 h2 => ?_)
  refine g_callP (pc := 4) hk [.int v1, .int 1, .int 8] [] (cm_in v1 1 8 r1 h2) (lw_S q296 q297 q124 q298) hs_c_in rfl ⟨rfl, rfl⟩ rfl rfl dX0_traded_4 rfl rfl ⟨rfl, rfl⟩ ?_
  refine g_if_eq (pc := 7) (tgt := 21) hk dX0_traded_7 rfl ?_ ?_
  · refine g_iconst (pc := 21) (v := (-1)) hk dX0_traded_21 rfl ?_
    exact c_iret (pc := 22) hk hK rfl dX0_traded_22 rfl rfl
  · refine g_iload_n (pc := 10) hk dX0_traded_10 rfl ?_
    refine g_iconst (pc := 11) (v := 0) hk dX0_traded_11 rfl ?_
    refine g_iload_n (pc := 12) hk dX0_traded_12 rfl ?_
    refine g_iconst (pc := 13) (v := 1) hk dX0_traded_13 rfl ?_
    refine g_isub (pc := 14) hk dX0_traded_14 ?_
    refine g_ob1 (fun r3 h4 => ?_)
    refine g_callP (pc := 15) hk [.int v2, .int 0, .int (v1 - 1)] [] (cm_in v2 0 (v1 - 1) r3 h4) (lw_S q296 q297 q124 q298) hs_c_in rfl ⟨rfl, rfl⟩ rfl rfl dX0_traded_15 rfl rfl ⟨rfl, rfl⟩ ?_
    refine g_if_ne (pc := 18) (tgt := 23) hk dX0_traded_18 rfl ?_ ?_
    · refine g_aload_n (pc := 23) hk dX0_traded_23 rfl ?_
      refine g_iload_n (pc := 24) hk dX0_traded_24 rfl ?_
      refine g_ob1 (fun σ6 h5 => ?_)
      refine c_callV (pc := 25) hk hK (rec_X hK) [.int v1] [] (cm_trades Γ σ v1 σ6 h5) (lw_V q1283 q1285 qs50 q124 q1286) hv_c_trades rfl rfl rfl dX0_traded_25 rfl rfl ⟨rfl, rfl⟩ ?_
      refine g_aload_n (pc := 28) hk dX0_traded_28 rfl ?_
      refine c_getR (pc := 29) hk hK cr_16 cf_16 dX0_traded_29 ?_
      refine g_iload_n (pc := 32) hk dX0_traded_32 rfl ?_
      refine c_iald (pc := 33) (k := 210) hk hK cav_210 dX0_traded_33 ?_
      exact c_iret (pc := 34) hk hK rfl dX0_traded_34 rfl rfl
    · refine g_iconst (pc := 21) (v := (-1)) hk dX0_traded_21 rfl ?_
      exact c_iret (pc := 22) hk hK rfl dX0_traded_22 rfl rfl
def rm_c_rather : Room := { frames := 4, cells := 0, slots := 0, locals := 113 }
theorem hv_c_rather : yX0_rather.cls = RX0 ∧ yX0_rather.cls ≠ "java/lang/invoke/MethodHandle" ∧ yX0_rather.cls ≠ "java/lang/invoke/VarHandle" ∧ (parseMethodDescriptor yX0_rather.desc).map (fun d => d.parameters.length) = some 1 := by decide +kernel
theorem cm_rather_j49 {K : KT} {Γ : CG} (hk : KOK K cX0_rather 4 RX0 rm_c_rather (some .int)) (hK : CK Γ (kS K)) (σ : CS) (v1 : Int32) (v3 : Int32) (s0 : Int32) (s1 : Int32) (k21 : Int32 → Int32 → Option (Int32 × CS)) (hk21 : ∀ (v2 : Int32) (v3 : Int32), GGo K (cQ K Γ rm_c_rather (fun r : Int32 × CS => (some (Value.int r.1), r.2))) (k21 v2 v3) 4 (CI Γ (kS K) σ) 0 0 21 [(0, .ref (gA Γ 300)), (1, .int v1), (2, .int v2), (3, .int v3)] []) : GGo K (cQ K Γ rm_c_rather (fun r : Int32 × CS => (some (Value.int r.1), r.2))) (C_rather_j49 k21 σ v1 v3 s0 s1) 4 (CI Γ (kS K) σ) 0 0 49 [(0, .ref (gA Γ 300)), (1, .int v1), (3, .int v3)] [.int s1, .int s0] := by
  unfold C_rather_j49
  refine g_ior (pc := 49) hk dX0_rather_49 ?_
  refine g_istore_nN (pc := 50) (i := 2) (ls' := fun x7 => [(2, .int x7), (0, .ref (gA Γ 300)), (1, .int v1), (3, .int v3)]) hk dX0_rather_50 rfl (by decide) (fun _ => rfl) (fun x7 => ?_)
  refine g_iincN (pc := 51) (v := 1) (ls' := fun x8 => [(3, .int x8), (2, .int x7), (0, .ref (gA Γ 300)), (1, .int v1)]) hk dX0_rather_51 rfl rfl (by decide) (fun _ => rfl) (fun x8 => ?_)
  refine g_goto (pc := 54) (tgt := 21) hk dX0_rather_54 rfl ?_
  refine g_sub (ls' := [(0, .ref (gA Γ 300)), (1, .int v1), (2, .int x7), (3, .int x8)]) [2, 3, 1, 0] rfl ?_
  exact hk21 x7 x8
theorem cm_rather_l21 {K : KT} {Γ : CG} (hk : KOK K cX0_rather 4 RX0 rm_c_rather (some .int)) (hK : CK Γ (kS K)) (σ : CS) (v1 : Int32) : ∀ (n : Nat) (v2 : Int32) (v3 : Int32), GGo K (cQ K Γ rm_c_rather (fun r : Int32 × CS => (some (Value.int r.1), r.2))) (C_rather_l21 σ v1 n v2 v3) 4 (CI Γ (kS K) σ) 0 0 21 [(0, .ref (gA Γ 300)), (1, .int v1), (2, .int v2), (3, .int v3)] [] := by
  intro n
  induction n with
  | zero =>
    intro v2 v3
    unfold C_rather_l21
    exact g_none
  | succ n ih =>
    intro v2 v3
    unfold C_rather_l21
    refine g_iload_n (pc := 21) hk dX0_rather_21 rfl ?_
    refine g_iload_n (pc := 22) hk dX0_rather_22 rfl ?_
    refine g_icmp_ge (pc := 23) (tgt := 57) hk dX0_rather_23 rfl ?_ ?_
    · refine g_iload_n (pc := 57) hk dX0_rather_57 rfl ?_
      exact c_iret (pc := 58) hk hK rfl dX0_rather_58 rfl rfl
    · refine g_iload_n (pc := 26) hk dX0_rather_26 rfl ?_
      refine g_aload_n (pc := 27) hk dX0_rather_27 rfl ?_
      refine g_iload_n (pc := 28) hk dX0_rather_28 rfl ?_
      refine g_aload_n (pc := 29) hk dX0_rather_29 rfl ?_
      refine c_getR (pc := 30) hk hK cr_16 cf_16 dX0_rather_30 ?_
      refine g_iload_n (pc := 33) hk dX0_rather_33 rfl ?_
      refine c_iald (pc := 34) (k := 210) hk hK cav_210 dX0_rather_34 ?_
      refine g_iload_n (pc := 35) hk dX0_rather_35 rfl ?_
      refine g_ob1 (fun r5 h6 => ?_)
      refine c_callV (pc := 36) hk hK (rec_X hK) [.int v3, .int (cA σ 210 v3.toNatClampNeg), .int v3] [.int v2] (cm_isBetter Γ σ v3 (cA σ 210 v3.toNatClampNeg) v3 r5 h6) (lw_V q1291 q1293 qs52 q124 q1294) hv_c_isBetter rfl rfl rfl dX0_rather_36 rfl rfl ⟨rfl, rfl⟩ ?_
      refine g_if_eq (pc := 39) (tgt := 48) hk dX0_rather_39 rfl ?_ ?_
      · refine g_iconst (pc := 48) (v := 0) hk dX0_rather_48 rfl ?_
        refine g_sub (ls' := [(0, .ref (gA Γ 300)), (1, .int v1), (3, .int v3)]) [0, 1, 3] rfl ?_
        exact cm_rather_j49 hk hK σ v1 v3 v2 0 (C_rather_l21 σ v1 n) ih
      · refine g_iconst (pc := 42) (v := 1) hk dX0_rather_42 rfl ?_
        refine g_iload_n (pc := 43) hk dX0_rather_43 rfl ?_
        refine g_ishl (pc := 44) hk dX0_rather_44 ?_
        refine g_goto (pc := 45) (tgt := 49) hk dX0_rather_45 rfl ?_
        refine g_sub (ls' := [(0, .ref (gA Γ 300)), (1, .int v1), (3, .int v3)]) [0, 1, 3] rfl ?_
        exact cm_rather_j49 hk hK σ v1 v3 v2 (i_shl 1 v3) (C_rather_l21 σ v1 n) ih
theorem cm_rather (Γ : CG) (σ : CS) (v1 : Int32)  (r : Int32 × CS) (h : C_rather σ v1 = some r) : CMet Γ yX0_rather cX0_rather 4 (some .int) rm_c_rather [.ref (gA Γ 300), .int v1] σ (some (.int r.1)) r.2 := by
  refine c_met (view := (fun r : Int32 × CS => (some (Value.int r.1), r.2))) (own := RX0) rfl (by decide) rfl (ls0 := [(0, .ref (gA Γ 300)), (1, .int v1)]) rfl (fun K hk hK => ?_) r h
  unfold C_rather
  refine g_iload_n (pc := 0) hk dX0_rather_0 rfl ?_
  refine g_iconst (pc := 1) (v := 1) hk dX0_rather_1 rfl ?_
  refine g_bipush (pc := 2) (v := 8) hk dX0_rather_2 rfl ?_
  refine g_ob1 (fun r1 h2 => ?_)
  refine g_callP (pc := 4) hk [.int v1, .int 1, .int 8] [] (cm_in v1 1 8 r1 h2) (lw_S q296 q297 q124 q298) hs_c_in rfl ⟨rfl, rfl⟩ rfl rfl dX0_rather_4 rfl rfl ⟨rfl, rfl⟩ ?_
  refine g_if_ne (pc := 7) (tgt := 12) hk dX0_rather_7 rfl ?_ ?_
  · refine g_aload_n (pc := 12) hk dX0_rather_12 rfl ?_
    refine g_iload_n (pc := 13) hk dX0_rather_13 rfl ?_
    refine g_ob1 (fun σ4 h3 => ?_)
    refine c_callV (pc := 14) hk hK (rec_X hK) [.int v1] [] (cm_trades Γ σ v1 σ4 h3) (lw_V q1283 q1285 qs50 q124 q1286) hv_c_trades rfl rfl rfl dX0_rather_14 rfl rfl ⟨rfl, rfl⟩ ?_
    refine g_iconst (pc := 17) (v := 0) hk dX0_rather_17 rfl ?_
    refine g_istore_n (pc := 18) (i := 2) (ls' := [(2, .int 0), (0, .ref (gA Γ 300)), (1, .int v1)]) hk dX0_rather_18 rfl (by decide) rfl ?_
    refine g_iconst (pc := 19) (v := 0) hk dX0_rather_19 rfl ?_
    refine g_istore_n (pc := 20) (i := 3) (ls' := [(3, .int 0), (2, .int 0), (0, .ref (gA Γ 300)), (1, .int v1)]) hk dX0_rather_20 rfl (by decide) rfl ?_
    refine g_sub (ls' := [(0, .ref (gA Γ 300)), (1, .int v1), (2, .int 0), (3, .int 0)]) [2, 3, 1, 0] rfl ?_
    exact cm_rather_l21 hk hK σ4 v1 FU 0 0
  · refine g_iconst (pc := 10) (v := (-1)) hk dX0_rather_10 rfl ?_
    exact c_iret (pc := 11) hk hK rfl dX0_rather_11 rfl rfl
def rm_c_slip : Room := { frames := 3, cells := 0, slots := 0, locals := 82 }
theorem hv_c_slip : yX0_slip.cls = RX0 ∧ yX0_slip.cls ≠ "java/lang/invoke/MethodHandle" ∧ yX0_slip.cls ≠ "java/lang/invoke/VarHandle" ∧ (parseMethodDescriptor yX0_slip.desc).map (fun d => d.parameters.length) = some 2 := by decide +kernel
theorem cm_slip (Γ : CG) (σ : CS) (v1 : Int32) (v2 : Int32)  (r : Int32 × CS) (h : C_slip σ v1 v2 = some r) : CMet Γ yX0_slip cX0_slip 3 (some .boolean) rm_c_slip [.ref (gA Γ 300), .int v1, .int v2] σ (some (.int r.1)) r.2 := by
  refine c_met (view := (fun r : Int32 × CS => (some (Value.int r.1), r.2))) (own := RX0) rfl (by decide) rfl (ls0 := [(0, .ref (gA Γ 300)), (1, .int v1), (2, .int v2)]) rfl (fun K hk hK => ?_) r h
  unfold C_slip
  refine g_iload_n (pc := 0) hk dX0_slip_0 rfl ?_
  refine g_ob1 (fun r1 h2 => ?_)
  refine g_callP (pc := 1) hk [.int v1] [] (cm_isChair v1 r1 h2) (lw_S q307 q308 q124 q309) hs_c_isChair rfl ⟨rfl, rfl⟩ rfl rfl dX0_slip_1 rfl rfl ⟨rfl, rfl⟩ ?_
  refine g_if_eq (pc := 4) (tgt := 17) hk dX0_slip_4 rfl ?_ ?_
  · refine g_iconst (pc := 17) (v := 0) hk dX0_slip_17 rfl ?_
    exact c_zret (pc := 18) hk hK rfl rfl dX0_slip_18 rfl rfl
  · refine g_iload_n (pc := 7) hk dX0_slip_7 rfl ?_
    refine g_iconst (pc := 8) (v := 0) hk dX0_slip_8 rfl ?_
    refine g_bipush (pc := 9) (v := 10) hk dX0_slip_9 rfl ?_
    refine g_ob1 (fun r3 h4 => ?_)
    refine g_callP (pc := 11) hk [.int v2, .int 0, .int 10] [] (cm_in v2 0 10 r3 h4) (lw_S q296 q297 q124 q298) hs_c_in rfl ⟨rfl, rfl⟩ rfl rfl dX0_slip_11 rfl rfl ⟨rfl, rfl⟩ ?_
    refine g_if_ne (pc := 14) (tgt := 19) hk dX0_slip_14 rfl ?_ ?_
    · refine g_aload_n (pc := 19) hk dX0_slip_19 rfl ?_
      refine c_getR (pc := 20) hk hK cr_0 cf_0 dX0_slip_20 ?_
      refine c_getS (pc := 23) (w := 0) hk hK (by decide) sr_4 sn_4 dX0_slip_23 ?_
      refine g_iload_n (pc := 26) hk dX0_slip_26 rfl ?_
      refine g_iload_n (pc := 27) hk dX0_slip_27 rfl ?_
      refine c_iast (pc := 28) (k := 4) hk hK cav_4 dX0_slip_28 (fun σ5 => ?_)
      refine g_iconst (pc := 29) (v := 1) hk dX0_slip_29 rfl ?_
      exact c_zret (pc := 30) hk hK rfl rfl dX0_slip_30 rfl rfl
    · refine g_iconst (pc := 17) (v := 0) hk dX0_slip_17 rfl ?_
      exact c_zret (pc := 18) hk hK rfl rfl dX0_slip_18 rfl rfl
def rm_c_slipsOf (d : Nat) : Room := { frames := 3 + d * 1, cells := 0, slots := 0, locals := 120 + d * 32 }
theorem hv_c_slipsOf : yX0_slipsOf.cls = RX0 ∧ yX0_slipsOf.cls ≠ "java/lang/invoke/MethodHandle" ∧ yX0_slipsOf.cls ≠ "java/lang/invoke/VarHandle" ∧ (parseMethodDescriptor yX0_slipsOf.desc).map (fun d => d.parameters.length) = some 2 := by decide +kernel
theorem cm_slipsOf_b (Γ : CG) {d : Nat} (σ : CS) (v1 : Int32) (v2 : Int32)  (rec : Int32 → Int32 → Option (Int64)) (hrec : ∀ (v1 : Int32) (v2 : Int32) (r : Int64), rec v1 v2 = some r → CMet Γ yX0_slipsOf cX0_slipsOf 5 (some .long) (rm_c_slipsOf d) [.ref (gA Γ 300), .int v1, .int v2] σ (some (.long r)) σ) (r : Int64) (h : C_slipsOf_b rec σ v1 v2 = some r) : CMet Γ yX0_slipsOf cX0_slipsOf 5 (some .long) (rm_c_slipsOf (d + 1)) [.ref (gA Γ 300), .int v1, .int v2] σ (some (.long r)) σ := by
  refine c_met (view := (fun r : Int64 => (some (Value.long r), σ))) (own := RX0) rfl (by decide) rfl (ls0 := [(0, .ref (gA Γ 300)), (1, .int v1), (2, .int v2)]) rfl (fun K hk hK => ?_) r h
  unfold C_slipsOf_b
  refine g_iload_n (pc := 0) hk dX0_slipsOf_0 rfl ?_
  refine g_if_ge (pc := 1) (tgt := 6) hk dX0_slipsOf_1 rfl ?_ ?_
  · refine g_iload_n (pc := 6) hk dX0_slipsOf_6 rfl ?_
    refine g_if_ne (pc := 7) (tgt := 20) hk dX0_slipsOf_7 rfl ?_ ?_
    · refine g_iload_n (pc := 20) hk dX0_slipsOf_20 rfl ?_
      refine g_ob1 (fun r1 h2 => ?_)
      refine g_callP (pc := 21) hk [.int v1] [] (im_numberOfTrailingZeros v1 r1 h2) (lw_S q1267 q1268 q155 q1269) hs_i_numberOfTrailingZeros (rmFit_i (by show _ ≤ _; simp only [rm_c_slipsOf, rm_i_numberOfTrailingZeros]; omega) (by show _ ≤ _; simp only [rm_c_slipsOf, rm_i_numberOfTrailingZeros]; omega)) ⟨rfl, rfl⟩ rfl rfl dX0_slipsOf_21 rfl rfl ⟨rfl, rfl⟩ ?_
      refine g_istore_n (pc := 24) (i := 3) (ls' := [(3, .int r1), (0, .ref (gA Γ 300)), (1, .int v1), (2, .int v2)]) hk dX0_slipsOf_24 rfl (by decide) rfl ?_
      refine g_iload_n (pc := 25) hk dX0_slipsOf_25 rfl ?_
      refine g_iload_n (pc := 26) hk dX0_slipsOf_26 rfl ?_
      refine g_iconst (pc := 27) (v := 1) hk dX0_slipsOf_27 rfl ?_
      refine g_isub (pc := 28) hk dX0_slipsOf_28 ?_
      refine g_iand (pc := 29) hk dX0_slipsOf_29 ?_
      refine g_istoreN (pc := 30) (i := 4) (ls' := fun x3 => [(4, .int x3), (3, .int r1), (0, .ref (gA Γ 300)), (1, .int v1), (2, .int v2)]) hk dX0_slipsOf_30 (by decide) (fun _ => rfl) (fun x3 => ?_)
      refine g_aload_n (pc := 32) hk dX0_slipsOf_32 rfl ?_
      refine c_getR (pc := 33) hk hK cr_0 cf_0 dX0_slipsOf_33 ?_
      refine c_getS (pc := 36) (w := 0) hk hK (by decide) sr_4 sn_4 dX0_slipsOf_36 ?_
      refine g_iload_n (pc := 39) hk dX0_slipsOf_39 rfl ?_
      refine c_iald (pc := 40) (k := 4) hk hK cav_4 dX0_slipsOf_40 ?_
      refine g_i2l (pc := 41) hk dX0_slipsOf_41 ?_
      refine g_aload_n (pc := 42) hk dX0_slipsOf_42 rfl ?_
      refine g_iload (pc := 43) hk dX0_slipsOf_43 rfl ?_
      refine g_iload_n (pc := 45) hk dX0_slipsOf_45 rfl ?_
      refine g_iconst (pc := 46) (v := 1) hk dX0_slipsOf_46 rfl ?_
      refine g_isub (pc := 47) hk dX0_slipsOf_47 ?_
      refine g_ob1 (fun r4 h5 => ?_)
      refine c_callV (pc := 48) hk hK (rec_X hK) [.int x3, .int (v2 - 1)] [.long (Int32.toInt64 (cA σ 4 r1.toNatClampNeg))] (hrec x3 (v2 - 1) r4 h5) (lw_V q1308 q1310 qs53 q124 q1311) hv_c_slipsOf (rmFit_i (by show _ ≤ _; simp only [rm_c_slipsOf, rm_c_slipsOf]; omega) (by show _ ≤ _; simp only [rm_c_slipsOf, rm_c_slipsOf]; omega)) rfl rfl dX0_slipsOf_48 rfl rfl ⟨rfl, rfl⟩ ?_
      refine g_lmul (pc := 51) hk dX0_slipsOf_51 ?_
      refine g_bipush (pc := 52) (v := 10) hk dX0_slipsOf_52 rfl ?_
      refine g_aload_n (pc := 54) hk dX0_slipsOf_54 rfl ?_
      refine c_getR (pc := 55) hk hK cr_0 cf_0 dX0_slipsOf_55 ?_
      refine c_getS (pc := 58) (w := 0) hk hK (by decide) sr_4 sn_4 dX0_slipsOf_58 ?_
      refine g_iload_n (pc := 61) hk dX0_slipsOf_61 rfl ?_
      refine c_iald (pc := 62) (k := 4) hk hK cav_4 dX0_slipsOf_62 ?_
      refine g_isub (pc := 63) hk dX0_slipsOf_63 ?_
      refine g_i2l (pc := 64) hk dX0_slipsOf_64 ?_
      refine g_aload_n (pc := 65) hk dX0_slipsOf_65 rfl ?_
      refine g_iload (pc := 66) hk dX0_slipsOf_66 rfl ?_
      refine g_iload_n (pc := 68) hk dX0_slipsOf_68 rfl ?_
      refine g_ob1 (fun r6 h7 => ?_)
      refine c_callV (pc := 69) hk hK (rec_X hK) [.int x3, .int v2] [.long (Int32.toInt64 (10 - (cA σ 4 r1.toNatClampNeg))), .long ((Int32.toInt64 (cA σ 4 r1.toNatClampNeg)) * r4)] (hrec x3 v2 r6 h7) (lw_V q1308 q1310 qs53 q124 q1311) hv_c_slipsOf (rmFit_i (by show _ ≤ _; simp only [rm_c_slipsOf, rm_c_slipsOf]; omega) (by show _ ≤ _; simp only [rm_c_slipsOf, rm_c_slipsOf]; omega)) rfl rfl dX0_slipsOf_69 rfl rfl ⟨rfl, rfl⟩ ?_
      refine g_lmul (pc := 72) hk dX0_slipsOf_72 ?_
      refine g_ladd (pc := 73) hk dX0_slipsOf_73 ?_
      exact c_lret (pc := 74) hk hK rfl dX0_slipsOf_74 rfl rfl
    · refine g_iload_n (pc := 10) hk dX0_slipsOf_10 rfl ?_
      refine g_if_ne (pc := 11) (tgt := 18) hk dX0_slipsOf_11 rfl ?_ ?_
      · refine g_lconst (pc := 18) (v := 0) hk dX0_slipsOf_18 rfl ?_
        exact c_lret (pc := 19) hk hK rfl dX0_slipsOf_19 rfl rfl
      · refine g_lconst (pc := 14) (v := 1) hk dX0_slipsOf_14 rfl ?_
        refine g_goto (pc := 15) (tgt := 19) hk dX0_slipsOf_15 rfl ?_
        exact c_lret (pc := 19) hk hK rfl dX0_slipsOf_19 rfl rfl
  · refine g_lconst (pc := 4) (v := 0) hk dX0_slipsOf_4 rfl ?_
    exact c_lret (pc := 5) hk hK rfl dX0_slipsOf_5 rfl rfl
theorem cm_slipsOf (Γ : CG) : ∀ (d : Nat) (σ : CS) (v1 : Int32) (v2 : Int32) (r : Int64), C_slipsOf σ d v1 v2 = some r → CMet Γ yX0_slipsOf cX0_slipsOf 5 (some .long) (rm_c_slipsOf d) [.ref (gA Γ 300), .int v1, .int v2] σ (some (.long r)) σ := by
  intro d
  induction d with
  | zero => intro σ v1 v2 r h; cases h
  | succ d ih => intro σ v1 v2 r h; exact cm_slipsOf_b Γ σ v1 v2 (C_slipsOf σ d) (ih σ) r h
def rm_c_power (d : Nat) : Room := { frames := 0 + d * 1, cells := 0, slots := 0, locals := 0 + d * 24 }
theorem hs_c_power : yX0_power.cls ≠ "java/lang/invoke/MethodHandle" ∧ yX0_power.cls ≠ "java/lang/invoke/VarHandle" ∧ (parseMethodDescriptor yX0_power.desc).map (fun d => d.parameters.length) = some 2 := by decide +kernel
theorem cm_power_b {d : Nat} (v0 : Int64) (v2 : Int32)  (rec : Int64 → Int32 → Option (Int64)) (hrec : ∀ (v0 : Int64) (v2 : Int32) (r : Int64), rec v0 v2 = some r → PMet yX0_power cX0_power 3 (some .long) (rm_c_power d) [.long v0, .int v2] (some (.long r))) (r : Int64) (h : C_power_b rec v0 v2 = some r) : PMet yX0_power cX0_power 3 (some .long) (rm_c_power (d + 1)) [.long v0, .int v2] (some (.long r)) := by
  refine p_met (view := (fun r : Int64 => some (Value.long r))) (own := RX0) rfl (by decide) rfl (ls0 := [(0, .long v0), (2, .int v2)]) rfl (fun K hk => ?_) r h
  unfold C_power_b
  refine g_iload_n (pc := 0) hk dX0_power_0 rfl ?_
  refine g_if_ne (pc := 1) (tgt := 8) hk dX0_power_1 rfl ?_ ?_
  · refine g_lload_n (pc := 8) hk dX0_power_8 rfl ?_
    refine g_lload_n (pc := 9) hk dX0_power_9 rfl ?_
    refine g_iload_n (pc := 10) hk dX0_power_10 rfl ?_
    refine g_iconst (pc := 11) (v := 1) hk dX0_power_11 rfl ?_
    refine g_isub (pc := 12) hk dX0_power_12 ?_
    refine g_ob1 (fun r1 h2 => ?_)
    refine g_callP (pc := 13) hk [.long v0, .int (v2 - 1)] [.long v0] (hrec v0 (v2 - 1) r1 h2) (lw_S q1313 q1314 q124 q1315) hs_c_power (rmFit_i (by show _ ≤ _; simp only [rm_c_power, rm_c_power]; omega) (by show _ ≤ _; simp only [rm_c_power, rm_c_power]; omega)) ⟨rfl, rfl⟩ rfl rfl dX0_power_13 rfl rfl ⟨rfl, rfl⟩ ?_
    refine g_lmul (pc := 16) hk dX0_power_16 ?_
    exact p_lret (pc := 17) hk rfl dX0_power_17
  · refine g_lconst (pc := 4) (v := 1) hk dX0_power_4 rfl ?_
    refine g_goto (pc := 5) (tgt := 17) hk dX0_power_5 rfl ?_
    exact p_lret (pc := 17) hk rfl dX0_power_17
theorem cm_power : ∀ (d : Nat) (v0 : Int64) (v2 : Int32) (r : Int64), C_power d v0 v2 = some r → PMet yX0_power cX0_power 3 (some .long) (rm_c_power d) [.long v0, .int v2] (some (.long r)) := by
  intro d
  induction d with
  | zero => intro v0 v2 r h; cases h
  | succ d ih => intro v0 v2 r h; exact cm_power_b v0 v2 (C_power d) ih r h
def rm_c_scars : Room := { frames := 65, cells := 0, slots := 0, locals := 1559 }
theorem hv_c_scars : yX0_scars.cls = RX0 ∧ yX0_scars.cls ≠ "java/lang/invoke/MethodHandle" ∧ yX0_scars.cls ≠ "java/lang/invoke/VarHandle" ∧ (parseMethodDescriptor yX0_scars.desc).map (fun d => d.parameters.length) = some 3 := by decide +kernel
theorem cm_scars_j21 {K : KT} {Γ : CG} (hk : KOK K cX0_scars 10 RX0 rm_c_scars (some .long)) (hK : CK Γ (kS K)) (σ : CS) : GGo K (cQ K Γ rm_c_scars (fun r : Int64 => (some (Value.long r), σ))) (C_scars_j21 σ) 10 (CI Γ (kS K) σ) 0 0 21 [] [] := by
  unfold C_scars_j21
  refine g_ldc2 (pc := 21) (v := (-1)) hk q1307 dX0_scars_21 ?_
  exact c_lret (pc := 24) hk hK rfl dX0_scars_24 rfl rfl
theorem cm_scars (Γ : CG) (σ : CS) (v1 : Int32) (v2 : Int32) (v3 : Int32)  (r : Int64) (h : C_scars σ v1 v2 v3 = some r) : CMet Γ yX0_scars cX0_scars 10 (some .long) rm_c_scars [.ref (gA Γ 300), .int v1, .int v2, .int v3] σ (some (.long r)) σ := by
  refine c_met (view := (fun r : Int64 => (some (Value.long r), σ))) (own := RX0) rfl (by decide) rfl (ls0 := [(0, .ref (gA Γ 300)), (1, .int v1), (2, .int v2), (3, .int v3)]) rfl (fun K hk hK => ?_) r h
  unfold C_scars
  refine g_iload_n (pc := 0) hk dX0_scars_0 rfl ?_
  refine g_iconst (pc := 1) (v := 1) hk dX0_scars_1 rfl ?_
  refine g_sipush (pc := 2) (v := 255) hk dX0_scars_2 rfl ?_
  refine g_ob1 (fun r1 h2 => ?_)
  refine g_callP (pc := 5) hk [.int v1, .int 1, .int 255] [] (cm_in v1 1 255 r1 h2) (lw_S q296 q297 q124 q298) hs_c_in rfl ⟨rfl, rfl⟩ rfl rfl dX0_scars_5 rfl rfl ⟨rfl, rfl⟩ ?_
  refine g_if_eq (pc := 8) (tgt := 21) hk dX0_scars_8 rfl ?_ ?_
  · refine g_sub (ls' := []) [] rfl ?_
    exact cm_scars_j21 hk hK σ
  · refine g_iload_n (pc := 11) hk dX0_scars_11 rfl ?_
    refine g_iconst (pc := 12) (v := 0) hk dX0_scars_12 rfl ?_
    refine g_bipush (pc := 13) (v := 8) hk dX0_scars_13 rfl ?_
    refine g_ob1 (fun r3 h4 => ?_)
    refine g_callP (pc := 15) hk [.int v2, .int 0, .int 8] [] (cm_in v2 0 8 r3 h4) (lw_S q296 q297 q124 q298) hs_c_in rfl ⟨rfl, rfl⟩ rfl rfl dX0_scars_15 rfl rfl ⟨rfl, rfl⟩ ?_
    refine g_if_ne (pc := 18) (tgt := 25) hk dX0_scars_18 rfl ?_ ?_
    · refine g_aload_n (pc := 25) hk dX0_scars_25 rfl ?_
      refine g_iload_n (pc := 26) hk dX0_scars_26 rfl ?_
      refine g_iload_n (pc := 27) hk dX0_scars_27 rfl ?_
      refine g_ob1 (fun r5 h6 => ?_)
      refine c_callV (pc := 28) hk hK (rec_X hK) [.int v1, .int v2] [] (cm_slipsOf Γ 16 σ v1 v2 r5 h6) (lw_V q1308 q1310 qs53 q124 q1311) hv_c_slipsOf rfl rfl rfl dX0_scars_28 rfl rfl ⟨rfl, rfl⟩ ?_
      refine g_lstore (pc := 31) (i := 4) (ls' := [(4, .long r5), (0, .ref (gA Γ 300)), (1, .int v1), (2, .int v2), (3, .int v3)]) hk dX0_scars_31 (by decide) rfl ?_
      refine g_ldc2 (pc := 33) (v := 10) hk q1312 dX0_scars_33 ?_
      refine g_iload_n (pc := 36) hk dX0_scars_36 rfl ?_
      refine g_ob1 (fun r7 h8 => ?_)
      refine g_callP (pc := 37) hk [.int v1] [.long 10] (im_bitCount v1 r7 h8) (lw_S q1133 q1134 q155 q1135) hs_i_bitCount rfl ⟨rfl, rfl⟩ rfl rfl dX0_scars_37 rfl rfl ⟨rfl, rfl⟩ ?_
      refine g_ob1 (fun r9 h10 => ?_)
      refine g_callP (pc := 40) hk [.long 10, .int r7] [] (cm_power 16 10 r7 r9 h10) (lw_S q1313 q1314 q124 q1315) hs_c_power rfl ⟨rfl, rfl⟩ rfl rfl dX0_scars_40 rfl rfl ⟨rfl, rfl⟩ ?_
      refine g_lstore (pc := 43) (i := 6) (ls' := [(6, .long r9), (4, .long r5), (0, .ref (gA Γ 300)), (1, .int v1), (2, .int v2), (3, .int v3)]) hk dX0_scars_43 (by decide) rfl ?_
      refine g_lload (pc := 45) hk dX0_scars_45 rfl ?_
      refine g_lload (pc := 47) hk dX0_scars_47 rfl ?_
      refine g_ob1 (fun r11 h12 => ?_)
      refine g_callP (pc := 49) hk [.long r9, .long r5] [] (cm_common 64 r9 r5 r11 h12) (lw_S q1155 q1156 q124 q1157) hs_c_common rfl ⟨rfl, rfl⟩ rfl rfl dX0_scars_49 rfl rfl ⟨rfl, rfl⟩ ?_
      refine g_lstore (pc := 52) (i := 8) (ls' := [(8, .long r11), (6, .long r9), (4, .long r5), (0, .ref (gA Γ 300)), (1, .int v1), (2, .int v2), (3, .int v3)]) hk dX0_scars_52 (by decide) rfl ?_
      refine g_iload_n (pc := 54) hk dX0_scars_54 rfl ?_
      refine g_if_eq (pc := 55) (tgt := 66) hk dX0_scars_55 rfl ?_ ?_
      · refine g_lload (pc := 66) hk dX0_scars_66 rfl ?_
        refine g_lload (pc := 68) hk dX0_scars_68 rfl ?_
        refine g_ldivG (pc := 70) hk dX0_scars_70 (fun _ => ?_)
        exact c_lret (pc := 71) hk hK rfl dX0_scars_71 rfl rfl
      · refine g_lload (pc := 58) hk dX0_scars_58 rfl ?_
        refine g_lload (pc := 60) hk dX0_scars_60 rfl ?_
        refine g_ldivG (pc := 62) hk dX0_scars_62 (fun _ => ?_)
        refine g_goto (pc := 63) (tgt := 71) hk dX0_scars_63 rfl ?_
        exact c_lret (pc := 71) hk hK rfl dX0_scars_71 rfl rfl
    · refine g_sub (ls' := []) [] rfl ?_
      exact cm_scars_j21 hk hK σ
def rm_c_rate : Room := { frames := 3, cells := 0, slots := 0, locals := 83 }
theorem hv_c_rate : yX0_rate.cls = RX0 ∧ yX0_rate.cls ≠ "java/lang/invoke/MethodHandle" ∧ yX0_rate.cls ≠ "java/lang/invoke/VarHandle" ∧ (parseMethodDescriptor yX0_rate.desc).map (fun d => d.parameters.length) = some 2 := by decide +kernel
theorem cm_rate (Γ : CG) (σ : CS) (v1 : Int32) (v2 : Int32)  (r : Int32 × CS) (h : C_rate σ v1 v2 = some r) : CMet Γ yX0_rate cX0_rate 3 (some .int) rm_c_rate [.ref (gA Γ 300), .int v1, .int v2] σ (some (.int r.1)) r.2 := by
  refine c_met (view := (fun r : Int32 × CS => (some (Value.int r.1), r.2))) (own := RX0) rfl (by decide) rfl (ls0 := [(0, .ref (gA Γ 300)), (1, .int v1), (2, .int v2)]) rfl (fun K hk hK => ?_) r h
  unfold C_rate
  refine g_iload_n (pc := 0) hk dX0_rate_0 rfl ?_
  refine g_iconst (pc := 1) (v := (-1)) hk dX0_rate_1 rfl ?_
  refine g_icmp_ne (pc := 2) (tgt := 14) hk dX0_rate_2 rfl ?_ ?_
  · refine g_aload_n (pc := 14) hk dX0_rate_14 rfl ?_
    refine g_iload_n (pc := 15) hk dX0_rate_15 rfl ?_
    refine g_ob1 (fun r1 h2 => ?_)
    refine c_callV (pc := 16) hk hK (rec_X hK) [.int v1] [] (cm_isPerson Γ σ v1 r1 h2) (lw_V q880 q882 qs25 q124 q883) hv_c_isPerson rfl rfl rfl dX0_rate_16 rfl rfl ⟨rfl, rfl⟩ ?_
    refine g_if_eq (pc := 19) (tgt := 66) hk dX0_rate_19 rfl ?_ ?_
    · refine g_bipush (pc := 66) (v := (-2)) hk dX0_rate_66 rfl ?_
      exact c_iret (pc := 68) hk hK rfl dX0_rate_68 rfl rfl
    · refine g_iload_n (pc := 22) hk dX0_rate_22 rfl ?_
      refine g_iconst (pc := 23) (v := 0) hk dX0_rate_23 rfl ?_
      refine g_bipush (pc := 24) (v := 99) hk dX0_rate_24 rfl ?_
      refine g_ob1 (fun r3 h4 => ?_)
      refine g_callP (pc := 26) hk [.int v2, .int 0, .int 99] [] (cm_in v2 0 99 r3 h4) (lw_S q296 q297 q124 q298) hs_c_in rfl ⟨rfl, rfl⟩ rfl rfl dX0_rate_26 rfl rfl ⟨rfl, rfl⟩ ?_
      refine g_if_eq (pc := 29) (tgt := 66) hk dX0_rate_29 rfl ?_ ?_
      · refine g_bipush (pc := 66) (v := (-2)) hk dX0_rate_66 rfl ?_
        exact c_iret (pc := 68) hk hK rfl dX0_rate_68 rfl rfl
      · refine g_aload_n (pc := 32) hk dX0_rate_32 rfl ?_
        refine c_getR (pc := 33) hk hK cr_0 cf_0 dX0_rate_33 ?_
        refine c_getS (pc := 36) (w := 0) hk hK (by decide) sr_0 sn_0 dX0_rate_36 ?_
        refine g_iconst (pc := 39) (v := 5) hk dX0_rate_39 rfl ?_
        refine c_ialdC (pc := 40) (k := 0) (j := 5) hk hK cav_0 rfl rfl dX0_rate_40 ?_
        refine g_bipush (pc := 41) (v := 8) hk dX0_rate_41 rfl ?_
        refine g_icmp_ge (pc := 43) (tgt := 66) hk dX0_rate_43 rfl ?_ ?_
        · refine g_bipush (pc := 66) (v := (-2)) hk dX0_rate_66 rfl ?_
          exact c_iret (pc := 68) hk hK rfl dX0_rate_68 rfl rfl
        · refine g_aload_n (pc := 46) hk dX0_rate_46 rfl ?_
          refine c_getR (pc := 47) hk hK cr_0 cf_0 dX0_rate_47 ?_
          refine g_aload_n (pc := 50) hk dX0_rate_50 rfl ?_
          refine c_getR (pc := 51) hk hK cr_0 cf_0 dX0_rate_51 ?_
          refine c_getS (pc := 54) (w := 0) hk hK (by decide) sr_8 sn_8 dX0_rate_54 ?_
          refine g_iconst (pc := 57) (v := 5) hk dX0_rate_57 rfl ?_
          refine g_iload_n (pc := 58) hk dX0_rate_58 rfl ?_
          refine g_iload_n (pc := 59) hk dX0_rate_59 rfl ?_
          refine g_ob2 (fun r5 σ7 h6 => ?_)
          refine c_callV (pc := 60) hk hK (rec_S (w := 0) hK (by decide)) [.ref (gA Γ 88), .int 5, .int v1, .int v2] [] (sm_adds Γ σ 0 8 5 v1 v2 (by decide) (Or.inr rfl) (r5, σ7) h6) (lw_V q1227 q1228 q1229 q125 q1230) hv_s_adds rfl rfl rfl dX0_rate_60 rfl rfl ⟨rfl, rfl⟩ ?_
          refine g_goto (pc := 63) (tgt := 68) hk dX0_rate_63 rfl ?_
          exact c_iret (pc := 68) hk hK rfl dX0_rate_68 rfl rfl
  · refine g_aload_n (pc := 5) hk dX0_rate_5 rfl ?_
    refine c_getR (pc := 6) hk hK cr_0 cf_0 dX0_rate_6 ?_
    refine g_iconst (pc := 9) (v := 5) hk dX0_rate_9 rfl ?_
    refine g_ob2 (fun r8 σ10 h9 => ?_)
    refine c_callV (pc := 10) hk hK (rec_S (w := 0) hK (by decide)) [.int 5] [] (sm_clears Γ σ 0 5 (by decide) (r8, σ10) h9) (lw_V q1223 q1224 q1225 q125 q1226) hv_s_clears rfl rfl rfl dX0_rate_10 rfl rfl ⟨rfl, rfl⟩ ?_
    exact c_iret (pc := 13) hk hK rfl dX0_rate_13 rfl rfl
def rm_c_hairiest : Room := { frames := 1, cells := 0, slots := 0, locals := 40 }
theorem hv_c_hairiest : yX0_hairiest.cls = RX0 ∧ yX0_hairiest.cls ≠ "java/lang/invoke/MethodHandle" ∧ yX0_hairiest.cls ≠ "java/lang/invoke/VarHandle" ∧ (parseMethodDescriptor yX0_hairiest.desc).map (fun d => d.parameters.length) = some 0 := by decide +kernel
theorem cm_hairiest_j49 {K : KT} {Γ : CG} (hk : KOK K cX0_hairiest 3 RX0 rm_c_hairiest (some .int)) (hK : CK Γ (kS K)) (σ : CS) (v1 : Int32) (v2 : Int32) (k4 : Int32 → Int32 → Option (Int32)) (hk4 : ∀ (v1 : Int32) (v2 : Int32), GGo K (cQ K Γ rm_c_hairiest (fun r : Int32 => (some (Value.int r), σ))) (k4 v1 v2) 3 (CI Γ (kS K) σ) 0 0 4 [(0, .ref (gA Γ 300)), (1, .int v1), (2, .int v2)] []) : GGo K (cQ K Γ rm_c_hairiest (fun r : Int32 => (some (Value.int r), σ))) (C_hairiest_j49 k4 σ v1 v2) 3 (CI Γ (kS K) σ) 0 0 49 [(0, .ref (gA Γ 300)), (1, .int v1), (2, .int v2)] [] := by
  unfold C_hairiest_j49
  refine g_iincN (pc := 49) (v := 1) (ls' := fun x1 => [(2, .int x1), (0, .ref (gA Γ 300)), (1, .int v1)]) hk dX0_hairiest_49 rfl rfl (by decide) (fun _ => rfl) (fun x1 => ?_)
  refine g_goto (pc := 52) (tgt := 4) hk dX0_hairiest_52 rfl ?_
  refine g_sub (ls' := [(0, .ref (gA Γ 300)), (1, .int v1), (2, .int x1)]) [1, 2, 0] rfl ?_
  exact hk4 v1 x1
theorem cm_hairiest_j47 {K : KT} {Γ : CG} (hk : KOK K cX0_hairiest 3 RX0 rm_c_hairiest (some .int)) (hK : CK Γ (kS K)) (σ : CS) (v2 : Int32) (k4 : Int32 → Int32 → Option (Int32)) (hk4 : ∀ (v1 : Int32) (v2 : Int32), GGo K (cQ K Γ rm_c_hairiest (fun r : Int32 => (some (Value.int r), σ))) (k4 v1 v2) 3 (CI Γ (kS K) σ) 0 0 4 [(0, .ref (gA Γ 300)), (1, .int v1), (2, .int v2)] []) : GGo K (cQ K Γ rm_c_hairiest (fun r : Int32 => (some (Value.int r), σ))) (C_hairiest_j47 k4 σ v2) 3 (CI Γ (kS K) σ) 0 0 47 [(0, .ref (gA Γ 300)), (2, .int v2)] [] := by
  unfold C_hairiest_j47
  refine g_iload_n (pc := 47) hk dX0_hairiest_47 rfl ?_
  refine g_istore_n (pc := 48) (i := 1) (ls' := [(1, .int v2), (0, .ref (gA Γ 300)), (2, .int v2)]) hk dX0_hairiest_48 rfl (by decide) rfl ?_
  refine g_sub (ls' := [(0, .ref (gA Γ 300)), (1, .int v2), (2, .int v2)]) [1, 0, 2] rfl ?_
  exact cm_hairiest_j49 hk hK σ v2 v2 k4 hk4
theorem cm_hairiest_l4 {K : KT} {Γ : CG} (hk : KOK K cX0_hairiest 3 RX0 rm_c_hairiest (some .int)) (hK : CK Γ (kS K)) (σ : CS) : ∀ (n : Nat) (v1 : Int32) (v2 : Int32), GGo K (cQ K Γ rm_c_hairiest (fun r : Int32 => (some (Value.int r), σ))) (C_hairiest_l4 σ n v1 v2) 3 (CI Γ (kS K) σ) 0 0 4 [(0, .ref (gA Γ 300)), (1, .int v1), (2, .int v2)] [] := by
  intro n
  induction n with
  | zero =>
    intro v1 v2
    unfold C_hairiest_l4
    exact g_none
  | succ n ih =>
    intro v1 v2
    unfold C_hairiest_l4
    refine g_iload_n (pc := 4) hk dX0_hairiest_4 rfl ?_
    refine g_aload_n (pc := 5) hk dX0_hairiest_5 rfl ?_
    refine c_getR (pc := 6) hk hK cr_0 cf_0 dX0_hairiest_6 ?_
    refine c_getS (pc := 9) (w := 0) hk hK (by decide) sr_0 sn_0 dX0_hairiest_9 ?_
    refine g_iconst (pc := 12) (v := 0) hk dX0_hairiest_12 rfl ?_
    refine c_ialdC (pc := 13) (k := 0) (j := 0) hk hK cav_0 rfl rfl dX0_hairiest_13 ?_
    refine g_icmp_ge (pc := 14) (tgt := 55) hk dX0_hairiest_14 rfl ?_ ?_
    · refine g_iload_n (pc := 55) hk dX0_hairiest_55 rfl ?_
      exact c_iret (pc := 56) hk hK rfl dX0_hairiest_56 rfl rfl
    · refine g_iload_n (pc := 17) hk dX0_hairiest_17 rfl ?_
      refine g_iconst (pc := 18) (v := (-1)) hk dX0_hairiest_18 rfl ?_
      refine g_icmp_eq (pc := 19) (tgt := 47) hk dX0_hairiest_19 rfl ?_ ?_
      · refine g_sub (ls' := [(0, .ref (gA Γ 300)), (2, .int v2)]) [0, 2] rfl ?_
        exact cm_hairiest_j47 hk hK σ v2 (C_hairiest_l4 σ n) ih
      · refine g_aload_n (pc := 22) hk dX0_hairiest_22 rfl ?_
        refine c_getR (pc := 23) hk hK cr_0 cf_0 dX0_hairiest_23 ?_
        refine c_getS (pc := 26) (w := 0) hk hK (by decide) sr_1 sn_1 dX0_hairiest_26 ?_
        refine g_iconst (pc := 29) (v := 3) hk dX0_hairiest_29 rfl ?_
        refine g_iload_n (pc := 30) hk dX0_hairiest_30 rfl ?_
        refine g_iadd (pc := 31) hk dX0_hairiest_31 ?_
        refine c_iald (pc := 32) (k := 1) hk hK cav_1 dX0_hairiest_32 ?_
        refine g_aload_n (pc := 33) hk dX0_hairiest_33 rfl ?_
        refine c_getR (pc := 34) hk hK cr_0 cf_0 dX0_hairiest_34 ?_
        refine c_getS (pc := 37) (w := 0) hk hK (by decide) sr_1 sn_1 dX0_hairiest_37 ?_
        refine g_iconst (pc := 40) (v := 3) hk dX0_hairiest_40 rfl ?_
        refine g_iload_n (pc := 41) hk dX0_hairiest_41 rfl ?_
        refine g_iadd (pc := 42) hk dX0_hairiest_42 ?_
        refine c_iald (pc := 43) (k := 1) hk hK cav_1 dX0_hairiest_43 ?_
        refine g_icmp_le (pc := 44) (tgt := 49) hk dX0_hairiest_44 rfl ?_ ?_
        · exact cm_hairiest_j49 hk hK σ v1 v2 (C_hairiest_l4 σ n) ih
        · refine g_sub (ls' := [(0, .ref (gA Γ 300)), (2, .int v2)]) [0, 2] rfl ?_
          exact cm_hairiest_j47 hk hK σ v2 (C_hairiest_l4 σ n) ih
theorem cm_hairiest (Γ : CG) (σ : CS)   (r : Int32) (h : C_hairiest σ = some r) : CMet Γ yX0_hairiest cX0_hairiest 3 (some .int) rm_c_hairiest [.ref (gA Γ 300)] σ (some (.int r)) σ := by
  refine c_met (view := (fun r : Int32 => (some (Value.int r), σ))) (own := RX0) rfl (by decide) rfl (ls0 := [(0, .ref (gA Γ 300))]) rfl (fun K hk hK => ?_) r h
  unfold C_hairiest
  refine g_iconst (pc := 0) (v := (-1)) hk dX0_hairiest_0 rfl ?_
  refine g_istore_n (pc := 1) (i := 1) (ls' := [(1, .int (-1)), (0, .ref (gA Γ 300))]) hk dX0_hairiest_1 rfl (by decide) rfl ?_
  refine g_iconst (pc := 2) (v := 0) hk dX0_hairiest_2 rfl ?_
  refine g_istore_n (pc := 3) (i := 2) (ls' := [(2, .int 0), (1, .int (-1)), (0, .ref (gA Γ 300))]) hk dX0_hairiest_3 rfl (by decide) rfl ?_
  refine g_sub (ls' := [(0, .ref (gA Γ 300)), (1, .int (-1)), (2, .int 0)]) [2, 1, 0] rfl ?_
  exact cm_hairiest_l4 hk hK σ FU (-1) 0
def rm_c_calmest : Room := { frames := 1, cells := 0, slots := 0, locals := 40 }
theorem hv_c_calmest : yX0_calmest.cls = RX0 ∧ yX0_calmest.cls ≠ "java/lang/invoke/MethodHandle" ∧ yX0_calmest.cls ≠ "java/lang/invoke/VarHandle" ∧ (parseMethodDescriptor yX0_calmest.desc).map (fun d => d.parameters.length) = some 0 := by decide +kernel
theorem cm_calmest_j51 {K : KT} {Γ : CG} (hk : KOK K cX0_calmest 3 RX0 rm_c_calmest (some .int)) (hK : CK Γ (kS K)) (σ : CS) (v1 : Int32) (v2 : Int32) (k4 : Int32 → Int32 → Option (Int32)) (hk4 : ∀ (v1 : Int32) (v2 : Int32), GGo K (cQ K Γ rm_c_calmest (fun r : Int32 => (some (Value.int r), σ))) (k4 v1 v2) 3 (CI Γ (kS K) σ) 0 0 4 [(0, .ref (gA Γ 300)), (1, .int v1), (2, .int v2)] []) : GGo K (cQ K Γ rm_c_calmest (fun r : Int32 => (some (Value.int r), σ))) (C_calmest_j51 k4 σ v1 v2) 3 (CI Γ (kS K) σ) 0 0 51 [(0, .ref (gA Γ 300)), (1, .int v1), (2, .int v2)] [] := by
  unfold C_calmest_j51
  refine g_iincN (pc := 51) (v := 1) (ls' := fun x1 => [(2, .int x1), (0, .ref (gA Γ 300)), (1, .int v1)]) hk dX0_calmest_51 rfl rfl (by decide) (fun _ => rfl) (fun x1 => ?_)
  refine g_goto (pc := 54) (tgt := 4) hk dX0_calmest_54 rfl ?_
  refine g_sub (ls' := [(0, .ref (gA Γ 300)), (1, .int v1), (2, .int x1)]) [1, 2, 0] rfl ?_
  exact hk4 v1 x1
theorem cm_calmest_j49 {K : KT} {Γ : CG} (hk : KOK K cX0_calmest 3 RX0 rm_c_calmest (some .int)) (hK : CK Γ (kS K)) (σ : CS) (v2 : Int32) (k4 : Int32 → Int32 → Option (Int32)) (hk4 : ∀ (v1 : Int32) (v2 : Int32), GGo K (cQ K Γ rm_c_calmest (fun r : Int32 => (some (Value.int r), σ))) (k4 v1 v2) 3 (CI Γ (kS K) σ) 0 0 4 [(0, .ref (gA Γ 300)), (1, .int v1), (2, .int v2)] []) : GGo K (cQ K Γ rm_c_calmest (fun r : Int32 => (some (Value.int r), σ))) (C_calmest_j49 k4 σ v2) 3 (CI Γ (kS K) σ) 0 0 49 [(0, .ref (gA Γ 300)), (2, .int v2)] [] := by
  unfold C_calmest_j49
  refine g_iload_n (pc := 49) hk dX0_calmest_49 rfl ?_
  refine g_istore_n (pc := 50) (i := 1) (ls' := [(1, .int v2), (0, .ref (gA Γ 300)), (2, .int v2)]) hk dX0_calmest_50 rfl (by decide) rfl ?_
  refine g_sub (ls' := [(0, .ref (gA Γ 300)), (1, .int v2), (2, .int v2)]) [1, 0, 2] rfl ?_
  exact cm_calmest_j51 hk hK σ v2 v2 k4 hk4
theorem cm_calmest_l4 {K : KT} {Γ : CG} (hk : KOK K cX0_calmest 3 RX0 rm_c_calmest (some .int)) (hK : CK Γ (kS K)) (σ : CS) : ∀ (n : Nat) (v1 : Int32) (v2 : Int32), GGo K (cQ K Γ rm_c_calmest (fun r : Int32 => (some (Value.int r), σ))) (C_calmest_l4 σ n v1 v2) 3 (CI Γ (kS K) σ) 0 0 4 [(0, .ref (gA Γ 300)), (1, .int v1), (2, .int v2)] [] := by
  intro n
  induction n with
  | zero =>
    intro v1 v2
    unfold C_calmest_l4
    exact g_none
  | succ n ih =>
    intro v1 v2
    unfold C_calmest_l4
    refine g_iload_n (pc := 4) hk dX0_calmest_4 rfl ?_
    refine g_aload_n (pc := 5) hk dX0_calmest_5 rfl ?_
    refine c_getR (pc := 6) hk hK cr_0 cf_0 dX0_calmest_6 ?_
    refine c_getS (pc := 9) (w := 0) hk hK (by decide) sr_0 sn_0 dX0_calmest_9 ?_
    refine g_iconst (pc := 12) (v := 0) hk dX0_calmest_12 rfl ?_
    refine c_ialdC (pc := 13) (k := 0) (j := 0) hk hK cav_0 rfl rfl dX0_calmest_13 ?_
    refine g_icmp_ge (pc := 14) (tgt := 57) hk dX0_calmest_14 rfl ?_ ?_
    · refine g_iload_n (pc := 57) hk dX0_calmest_57 rfl ?_
      exact c_iret (pc := 58) hk hK rfl dX0_calmest_58 rfl rfl
    · refine g_iload_n (pc := 17) hk dX0_calmest_17 rfl ?_
      refine g_iconst (pc := 18) (v := (-1)) hk dX0_calmest_18 rfl ?_
      refine g_icmp_eq (pc := 19) (tgt := 49) hk dX0_calmest_19 rfl ?_ ?_
      · refine g_sub (ls' := [(0, .ref (gA Γ 300)), (2, .int v2)]) [0, 2] rfl ?_
        exact cm_calmest_j49 hk hK σ v2 (C_calmest_l4 σ n) ih
      · refine g_aload_n (pc := 22) hk dX0_calmest_22 rfl ?_
        refine c_getR (pc := 23) hk hK cr_0 cf_0 dX0_calmest_23 ?_
        refine c_getS (pc := 26) (w := 0) hk hK (by decide) sr_1 sn_1 dX0_calmest_26 ?_
        refine g_bipush (pc := 29) (v := 11) hk dX0_calmest_29 rfl ?_
        refine g_iload_n (pc := 31) hk dX0_calmest_31 rfl ?_
        refine g_iadd (pc := 32) hk dX0_calmest_32 ?_
        refine c_iald (pc := 33) (k := 1) hk hK cav_1 dX0_calmest_33 ?_
        refine g_aload_n (pc := 34) hk dX0_calmest_34 rfl ?_
        refine c_getR (pc := 35) hk hK cr_0 cf_0 dX0_calmest_35 ?_
        refine c_getS (pc := 38) (w := 0) hk hK (by decide) sr_1 sn_1 dX0_calmest_38 ?_
        refine g_bipush (pc := 41) (v := 11) hk dX0_calmest_41 rfl ?_
        refine g_iload_n (pc := 43) hk dX0_calmest_43 rfl ?_
        refine g_iadd (pc := 44) hk dX0_calmest_44 ?_
        refine c_iald (pc := 45) (k := 1) hk hK cav_1 dX0_calmest_45 ?_
        refine g_icmp_ge (pc := 46) (tgt := 51) hk dX0_calmest_46 rfl ?_ ?_
        · exact cm_calmest_j51 hk hK σ v1 v2 (C_calmest_l4 σ n) ih
        · refine g_sub (ls' := [(0, .ref (gA Γ 300)), (2, .int v2)]) [0, 2] rfl ?_
          exact cm_calmest_j49 hk hK σ v2 (C_calmest_l4 σ n) ih
theorem cm_calmest (Γ : CG) (σ : CS)   (r : Int32) (h : C_calmest σ = some r) : CMet Γ yX0_calmest cX0_calmest 3 (some .int) rm_c_calmest [.ref (gA Γ 300)] σ (some (.int r)) σ := by
  refine c_met (view := (fun r : Int32 => (some (Value.int r), σ))) (own := RX0) rfl (by decide) rfl (ls0 := [(0, .ref (gA Γ 300))]) rfl (fun K hk hK => ?_) r h
  unfold C_calmest
  refine g_iconst (pc := 0) (v := (-1)) hk dX0_calmest_0 rfl ?_
  refine g_istore_n (pc := 1) (i := 1) (ls' := [(1, .int (-1)), (0, .ref (gA Γ 300))]) hk dX0_calmest_1 rfl (by decide) rfl ?_
  refine g_iconst (pc := 2) (v := 0) hk dX0_calmest_2 rfl ?_
  refine g_istore_n (pc := 3) (i := 2) (ls' := [(2, .int 0), (1, .int (-1)), (0, .ref (gA Γ 300))]) hk dX0_calmest_3 rfl (by decide) rfl ?_
  refine g_sub (ls' := [(0, .ref (gA Γ 300)), (1, .int (-1)), (2, .int 0)]) [2, 1, 0] rfl ?_
  exact cm_calmest_l4 hk hK σ FU (-1) 0
def rm_c_smooth : Room := { frames := 1, cells := 0, slots := 0, locals := 40 }
theorem hv_c_smooth : yX0_smooth.cls = RX0 ∧ yX0_smooth.cls ≠ "java/lang/invoke/MethodHandle" ∧ yX0_smooth.cls ≠ "java/lang/invoke/VarHandle" ∧ (parseMethodDescriptor yX0_smooth.desc).map (fun d => d.parameters.length) = some 0 := by decide +kernel
theorem cm_smooth_j39 {K : KT} {Γ : CG} (hk : KOK K cX0_smooth 3 RX0 rm_c_smooth (some .int)) (hK : CK Γ (kS K)) (σ : CS) (v2 : Int32) (s0 : Int32) (s1 : Int32) (k4 : Int32 → Int32 → Option (Int32)) (hk4 : ∀ (v1 : Int32) (v2 : Int32), GGo K (cQ K Γ rm_c_smooth (fun r : Int32 => (some (Value.int r), σ))) (k4 v1 v2) 3 (CI Γ (kS K) σ) 0 0 4 [(0, .ref (gA Γ 300)), (1, .int v1), (2, .int v2)] []) : GGo K (cQ K Γ rm_c_smooth (fun r : Int32 => (some (Value.int r), σ))) (C_smooth_j39 k4 σ v2 s0 s1) 3 (CI Γ (kS K) σ) 0 0 39 [(0, .ref (gA Γ 300)), (2, .int v2)] [.int s1, .int s0] := by
  unfold C_smooth_j39
  refine g_ior (pc := 39) hk dX0_smooth_39 ?_
  refine g_istore_nN (pc := 40) (i := 1) (ls' := fun x1 => [(1, .int x1), (0, .ref (gA Γ 300)), (2, .int v2)]) hk dX0_smooth_40 rfl (by decide) (fun _ => rfl) (fun x1 => ?_)
  refine g_iincN (pc := 41) (v := 1) (ls' := fun x2 => [(2, .int x2), (1, .int x1), (0, .ref (gA Γ 300))]) hk dX0_smooth_41 rfl rfl (by decide) (fun _ => rfl) (fun x2 => ?_)
  refine g_goto (pc := 44) (tgt := 4) hk dX0_smooth_44 rfl ?_
  refine g_sub (ls' := [(0, .ref (gA Γ 300)), (1, .int x1), (2, .int x2)]) [2, 1, 0] rfl ?_
  exact hk4 x1 x2
theorem cm_smooth_l4 {K : KT} {Γ : CG} (hk : KOK K cX0_smooth 3 RX0 rm_c_smooth (some .int)) (hK : CK Γ (kS K)) (σ : CS) : ∀ (n : Nat) (v1 : Int32) (v2 : Int32), GGo K (cQ K Γ rm_c_smooth (fun r : Int32 => (some (Value.int r), σ))) (C_smooth_l4 σ n v1 v2) 3 (CI Γ (kS K) σ) 0 0 4 [(0, .ref (gA Γ 300)), (1, .int v1), (2, .int v2)] [] := by
  intro n
  induction n with
  | zero =>
    intro v1 v2
    unfold C_smooth_l4
    exact g_none
  | succ n ih =>
    intro v1 v2
    unfold C_smooth_l4
    refine g_iload_n (pc := 4) hk dX0_smooth_4 rfl ?_
    refine g_aload_n (pc := 5) hk dX0_smooth_5 rfl ?_
    refine c_getR (pc := 6) hk hK cr_0 cf_0 dX0_smooth_6 ?_
    refine c_getS (pc := 9) (w := 0) hk hK (by decide) sr_0 sn_0 dX0_smooth_9 ?_
    refine g_iconst (pc := 12) (v := 0) hk dX0_smooth_12 rfl ?_
    refine c_ialdC (pc := 13) (k := 0) (j := 0) hk hK cav_0 rfl rfl dX0_smooth_13 ?_
    refine g_icmp_ge (pc := 14) (tgt := 47) hk dX0_smooth_14 rfl ?_ ?_
    · refine g_iload_n (pc := 47) hk dX0_smooth_47 rfl ?_
      exact c_iret (pc := 48) hk hK rfl dX0_smooth_48 rfl rfl
    · refine g_iload_n (pc := 17) hk dX0_smooth_17 rfl ?_
      refine g_aload_n (pc := 18) hk dX0_smooth_18 rfl ?_
      refine c_getR (pc := 19) hk hK cr_0 cf_0 dX0_smooth_19 ?_
      refine c_getS (pc := 22) (w := 0) hk hK (by decide) sr_1 sn_1 dX0_smooth_22 ?_
      refine g_iconst (pc := 25) (v := 3) hk dX0_smooth_25 rfl ?_
      refine g_iload_n (pc := 26) hk dX0_smooth_26 rfl ?_
      refine g_iadd (pc := 27) hk dX0_smooth_27 ?_
      refine c_iald (pc := 28) (k := 1) hk hK cav_1 dX0_smooth_28 ?_
      refine g_if_ne (pc := 29) (tgt := 38) hk dX0_smooth_29 rfl ?_ ?_
      · refine g_iconst (pc := 38) (v := 0) hk dX0_smooth_38 rfl ?_
        refine g_sub (ls' := [(0, .ref (gA Γ 300)), (2, .int v2)]) [0, 2] rfl ?_
        exact cm_smooth_j39 hk hK σ v2 v1 0 (C_smooth_l4 σ n) ih
      · refine g_iconst (pc := 32) (v := 1) hk dX0_smooth_32 rfl ?_
        refine g_iload_n (pc := 33) hk dX0_smooth_33 rfl ?_
        refine g_ishl (pc := 34) hk dX0_smooth_34 ?_
        refine g_goto (pc := 35) (tgt := 39) hk dX0_smooth_35 rfl ?_
        refine g_sub (ls' := [(0, .ref (gA Γ 300)), (2, .int v2)]) [0, 2] rfl ?_
        exact cm_smooth_j39 hk hK σ v2 v1 (i_shl 1 v2) (C_smooth_l4 σ n) ih
theorem cm_smooth (Γ : CG) (σ : CS)   (r : Int32) (h : C_smooth σ = some r) : CMet Γ yX0_smooth cX0_smooth 3 (some .int) rm_c_smooth [.ref (gA Γ 300)] σ (some (.int r)) σ := by
  refine c_met (view := (fun r : Int32 => (some (Value.int r), σ))) (own := RX0) rfl (by decide) rfl (ls0 := [(0, .ref (gA Γ 300))]) rfl (fun K hk hK => ?_) r h
  unfold C_smooth
  refine g_iconst (pc := 0) (v := 0) hk dX0_smooth_0 rfl ?_
  refine g_istore_n (pc := 1) (i := 1) (ls' := [(1, .int 0), (0, .ref (gA Γ 300))]) hk dX0_smooth_1 rfl (by decide) rfl ?_
  refine g_iconst (pc := 2) (v := 0) hk dX0_smooth_2 rfl ?_
  refine g_istore_n (pc := 3) (i := 2) (ls' := [(2, .int 0), (1, .int 0), (0, .ref (gA Γ 300))]) hk dX0_smooth_3 rfl (by decide) rfl ?_
  refine g_sub (ls' := [(0, .ref (gA Γ 300)), (1, .int 0), (2, .int 0)]) [2, 1, 0] rfl ?_
  exact cm_smooth_l4 hk hK σ FU 0 0
def rm_c_unscarred : Room := { frames := 1, cells := 0, slots := 0, locals := 40 }
theorem hv_c_unscarred : yX0_unscarred.cls = RX0 ∧ yX0_unscarred.cls ≠ "java/lang/invoke/MethodHandle" ∧ yX0_unscarred.cls ≠ "java/lang/invoke/VarHandle" ∧ (parseMethodDescriptor yX0_unscarred.desc).map (fun d => d.parameters.length) = some 0 := by decide +kernel
theorem cm_unscarred_j40 {K : KT} {Γ : CG} (hk : KOK K cX0_unscarred 3 RX0 rm_c_unscarred (some .int)) (hK : CK Γ (kS K)) (σ : CS) (v2 : Int32) (s0 : Int32) (s1 : Int32) (k4 : Int32 → Int32 → Option (Int32)) (hk4 : ∀ (v1 : Int32) (v2 : Int32), GGo K (cQ K Γ rm_c_unscarred (fun r : Int32 => (some (Value.int r), σ))) (k4 v1 v2) 3 (CI Γ (kS K) σ) 0 0 4 [(0, .ref (gA Γ 300)), (1, .int v1), (2, .int v2)] []) : GGo K (cQ K Γ rm_c_unscarred (fun r : Int32 => (some (Value.int r), σ))) (C_unscarred_j40 k4 σ v2 s0 s1) 3 (CI Γ (kS K) σ) 0 0 40 [(0, .ref (gA Γ 300)), (2, .int v2)] [.int s1, .int s0] := by
  unfold C_unscarred_j40
  refine g_ior (pc := 40) hk dX0_unscarred_40 ?_
  refine g_istore_nN (pc := 41) (i := 1) (ls' := fun x1 => [(1, .int x1), (0, .ref (gA Γ 300)), (2, .int v2)]) hk dX0_unscarred_41 rfl (by decide) (fun _ => rfl) (fun x1 => ?_)
  refine g_iincN (pc := 42) (v := 1) (ls' := fun x2 => [(2, .int x2), (1, .int x1), (0, .ref (gA Γ 300))]) hk dX0_unscarred_42 rfl rfl (by decide) (fun _ => rfl) (fun x2 => ?_)
  refine g_goto (pc := 45) (tgt := 4) hk dX0_unscarred_45 rfl ?_
  refine g_sub (ls' := [(0, .ref (gA Γ 300)), (1, .int x1), (2, .int x2)]) [2, 1, 0] rfl ?_
  exact hk4 x1 x2
theorem cm_unscarred_l4 {K : KT} {Γ : CG} (hk : KOK K cX0_unscarred 3 RX0 rm_c_unscarred (some .int)) (hK : CK Γ (kS K)) (σ : CS) : ∀ (n : Nat) (v1 : Int32) (v2 : Int32), GGo K (cQ K Γ rm_c_unscarred (fun r : Int32 => (some (Value.int r), σ))) (C_unscarred_l4 σ n v1 v2) 3 (CI Γ (kS K) σ) 0 0 4 [(0, .ref (gA Γ 300)), (1, .int v1), (2, .int v2)] [] := by
  intro n
  induction n with
  | zero =>
    intro v1 v2
    unfold C_unscarred_l4
    exact g_none
  | succ n ih =>
    intro v1 v2
    unfold C_unscarred_l4
    refine g_iload_n (pc := 4) hk dX0_unscarred_4 rfl ?_
    refine g_aload_n (pc := 5) hk dX0_unscarred_5 rfl ?_
    refine c_getR (pc := 6) hk hK cr_0 cf_0 dX0_unscarred_6 ?_
    refine c_getS (pc := 9) (w := 0) hk hK (by decide) sr_0 sn_0 dX0_unscarred_9 ?_
    refine g_iconst (pc := 12) (v := 0) hk dX0_unscarred_12 rfl ?_
    refine c_ialdC (pc := 13) (k := 0) (j := 0) hk hK cav_0 rfl rfl dX0_unscarred_13 ?_
    refine g_icmp_ge (pc := 14) (tgt := 48) hk dX0_unscarred_14 rfl ?_ ?_
    · refine g_iload_n (pc := 48) hk dX0_unscarred_48 rfl ?_
      exact c_iret (pc := 49) hk hK rfl dX0_unscarred_49 rfl rfl
    · refine g_iload_n (pc := 17) hk dX0_unscarred_17 rfl ?_
      refine g_aload_n (pc := 18) hk dX0_unscarred_18 rfl ?_
      refine c_getR (pc := 19) hk hK cr_0 cf_0 dX0_unscarred_19 ?_
      refine c_getS (pc := 22) (w := 0) hk hK (by decide) sr_1 sn_1 dX0_unscarred_22 ?_
      refine g_bipush (pc := 25) (v := 19) hk dX0_unscarred_25 rfl ?_
      refine g_iload_n (pc := 27) hk dX0_unscarred_27 rfl ?_
      refine g_iadd (pc := 28) hk dX0_unscarred_28 ?_
      refine c_iald (pc := 29) (k := 1) hk hK cav_1 dX0_unscarred_29 ?_
      refine g_if_ne (pc := 30) (tgt := 39) hk dX0_unscarred_30 rfl ?_ ?_
      · refine g_iconst (pc := 39) (v := 0) hk dX0_unscarred_39 rfl ?_
        refine g_sub (ls' := [(0, .ref (gA Γ 300)), (2, .int v2)]) [0, 2] rfl ?_
        exact cm_unscarred_j40 hk hK σ v2 v1 0 (C_unscarred_l4 σ n) ih
      · refine g_iconst (pc := 33) (v := 1) hk dX0_unscarred_33 rfl ?_
        refine g_iload_n (pc := 34) hk dX0_unscarred_34 rfl ?_
        refine g_ishl (pc := 35) hk dX0_unscarred_35 ?_
        refine g_goto (pc := 36) (tgt := 40) hk dX0_unscarred_36 rfl ?_
        refine g_sub (ls' := [(0, .ref (gA Γ 300)), (2, .int v2)]) [0, 2] rfl ?_
        exact cm_unscarred_j40 hk hK σ v2 v1 (i_shl 1 v2) (C_unscarred_l4 σ n) ih
theorem cm_unscarred (Γ : CG) (σ : CS)   (r : Int32) (h : C_unscarred σ = some r) : CMet Γ yX0_unscarred cX0_unscarred 3 (some .int) rm_c_unscarred [.ref (gA Γ 300)] σ (some (.int r)) σ := by
  refine c_met (view := (fun r : Int32 => (some (Value.int r), σ))) (own := RX0) rfl (by decide) rfl (ls0 := [(0, .ref (gA Γ 300))]) rfl (fun K hk hK => ?_) r h
  unfold C_unscarred
  refine g_iconst (pc := 0) (v := 0) hk dX0_unscarred_0 rfl ?_
  refine g_istore_n (pc := 1) (i := 1) (ls' := [(1, .int 0), (0, .ref (gA Γ 300))]) hk dX0_unscarred_1 rfl (by decide) rfl ?_
  refine g_iconst (pc := 2) (v := 0) hk dX0_unscarred_2 rfl ?_
  refine g_istore_n (pc := 3) (i := 2) (ls' := [(2, .int 0), (1, .int 0), (0, .ref (gA Γ 300))]) hk dX0_unscarred_3 rfl (by decide) rfl ?_
  refine g_sub (ls' := [(0, .ref (gA Γ 300)), (1, .int 0), (2, .int 0)]) [2, 1, 0] rfl ?_
  exact cm_unscarred_l4 hk hK σ FU 0 0
def rm_c_alone : Room := { frames := 3, cells := 0, slots := 0, locals := 83 }
theorem hv_c_alone : yX0_alone.cls = RX0 ∧ yX0_alone.cls ≠ "java/lang/invoke/MethodHandle" ∧ yX0_alone.cls ≠ "java/lang/invoke/VarHandle" ∧ (parseMethodDescriptor yX0_alone.desc).map (fun d => d.parameters.length) = some 0 := by decide +kernel
theorem cm_alone_j41 {K : KT} {Γ : CG} (hk : KOK K cX0_alone 3 RX0 rm_c_alone (some .int)) (hK : CK Γ (kS K)) (σ : CS) (v2 : Int32) (s0 : Int32) (s1 : Int32) (k4 : Int32 → Int32 → Option (Int32)) (hk4 : ∀ (v1 : Int32) (v2 : Int32), GGo K (cQ K Γ rm_c_alone (fun r : Int32 => (some (Value.int r), σ))) (k4 v1 v2) 3 (CI Γ (kS K) σ) 0 0 4 [(0, .ref (gA Γ 300)), (1, .int v1), (2, .int v2)] []) : GGo K (cQ K Γ rm_c_alone (fun r : Int32 => (some (Value.int r), σ))) (C_alone_j41 k4 σ v2 s0 s1) 3 (CI Γ (kS K) σ) 0 0 41 [(0, .ref (gA Γ 300)), (2, .int v2)] [.int s1, .int s0] := by
  unfold C_alone_j41
  refine g_ior (pc := 41) hk dX0_alone_41 ?_
  refine g_istore_nN (pc := 42) (i := 1) (ls' := fun x3 => [(1, .int x3), (0, .ref (gA Γ 300)), (2, .int v2)]) hk dX0_alone_42 rfl (by decide) (fun _ => rfl) (fun x3 => ?_)
  refine g_iincN (pc := 43) (v := 1) (ls' := fun x4 => [(2, .int x4), (1, .int x3), (0, .ref (gA Γ 300))]) hk dX0_alone_43 rfl rfl (by decide) (fun _ => rfl) (fun x4 => ?_)
  refine g_goto (pc := 46) (tgt := 4) hk dX0_alone_46 rfl ?_
  refine g_sub (ls' := [(0, .ref (gA Γ 300)), (1, .int x3), (2, .int x4)]) [2, 1, 0] rfl ?_
  exact hk4 x3 x4
theorem cm_alone_l4 {K : KT} {Γ : CG} (hk : KOK K cX0_alone 3 RX0 rm_c_alone (some .int)) (hK : CK Γ (kS K)) (σ : CS) : ∀ (n : Nat) (v1 : Int32) (v2 : Int32), GGo K (cQ K Γ rm_c_alone (fun r : Int32 => (some (Value.int r), σ))) (C_alone_l4 σ n v1 v2) 3 (CI Γ (kS K) σ) 0 0 4 [(0, .ref (gA Γ 300)), (1, .int v1), (2, .int v2)] [] := by
  intro n
  induction n with
  | zero =>
    intro v1 v2
    unfold C_alone_l4
    exact g_none
  | succ n ih =>
    intro v1 v2
    unfold C_alone_l4
    refine g_iload_n (pc := 4) hk dX0_alone_4 rfl ?_
    refine g_aload_n (pc := 5) hk dX0_alone_5 rfl ?_
    refine c_getR (pc := 6) hk hK cr_0 cf_0 dX0_alone_6 ?_
    refine c_getS (pc := 9) (w := 0) hk hK (by decide) sr_0 sn_0 dX0_alone_9 ?_
    refine g_iconst (pc := 12) (v := 0) hk dX0_alone_12 rfl ?_
    refine c_ialdC (pc := 13) (k := 0) (j := 0) hk hK cav_0 rfl rfl dX0_alone_13 ?_
    refine g_icmp_ge (pc := 14) (tgt := 49) hk dX0_alone_14 rfl ?_ ?_
    · refine g_iload_n (pc := 49) hk dX0_alone_49 rfl ?_
      exact c_iret (pc := 50) hk hK rfl dX0_alone_50 rfl rfl
    · refine g_iload_n (pc := 17) hk dX0_alone_17 rfl ?_
      refine g_aload_n (pc := 18) hk dX0_alone_18 rfl ?_
      refine g_aload_n (pc := 19) hk dX0_alone_19 rfl ?_
      refine c_getR (pc := 20) hk hK cr_0 cf_0 dX0_alone_20 ?_
      refine c_getS (pc := 23) (w := 0) hk hK (by decide) sr_2 sn_2 dX0_alone_23 ?_
      refine g_iload_n (pc := 26) hk dX0_alone_26 rfl ?_
      refine c_iald (pc := 27) (k := 2) hk hK cav_2 dX0_alone_27 ?_
      refine g_ob1 (fun r1 h2 => ?_)
      refine c_callV (pc := 28) hk hK (rec_X hK) [.int (cA σ 2 v2.toNatClampNeg)] [.int v1] (cm_isPerson Γ σ (cA σ 2 v2.toNatClampNeg) r1 h2) (lw_V q880 q882 qs25 q124 q883) hv_c_isPerson rfl rfl rfl dX0_alone_28 rfl rfl ⟨rfl, rfl⟩ ?_
      refine g_if_eq (pc := 31) (tgt := 38) hk dX0_alone_31 rfl ?_ ?_
      · refine g_iconst (pc := 38) (v := 1) hk dX0_alone_38 rfl ?_
        refine g_iload_n (pc := 39) hk dX0_alone_39 rfl ?_
        refine g_ishl (pc := 40) hk dX0_alone_40 ?_
        refine g_sub (ls' := [(0, .ref (gA Γ 300)), (2, .int v2)]) [0, 2] rfl ?_
        exact cm_alone_j41 hk hK σ v2 v1 (i_shl 1 v2) (C_alone_l4 σ n) ih
      · refine g_iconst (pc := 34) (v := 0) hk dX0_alone_34 rfl ?_
        refine g_goto (pc := 35) (tgt := 41) hk dX0_alone_35 rfl ?_
        refine g_sub (ls' := [(0, .ref (gA Γ 300)), (2, .int v2)]) [0, 2] rfl ?_
        exact cm_alone_j41 hk hK σ v2 v1 0 (C_alone_l4 σ n) ih
theorem cm_alone (Γ : CG) (σ : CS)   (r : Int32) (h : C_alone σ = some r) : CMet Γ yX0_alone cX0_alone 3 (some .int) rm_c_alone [.ref (gA Γ 300)] σ (some (.int r)) σ := by
  refine c_met (view := (fun r : Int32 => (some (Value.int r), σ))) (own := RX0) rfl (by decide) rfl (ls0 := [(0, .ref (gA Γ 300))]) rfl (fun K hk hK => ?_) r h
  unfold C_alone
  refine g_iconst (pc := 0) (v := 0) hk dX0_alone_0 rfl ?_
  refine g_istore_n (pc := 1) (i := 1) (ls' := [(1, .int 0), (0, .ref (gA Γ 300))]) hk dX0_alone_1 rfl (by decide) rfl ?_
  refine g_iconst (pc := 2) (v := 0) hk dX0_alone_2 rfl ?_
  refine g_istore_n (pc := 3) (i := 2) (ls' := [(2, .int 0), (1, .int 0), (0, .ref (gA Γ 300))]) hk dX0_alone_3 rfl (by decide) rfl ?_
  refine g_sub (ls' := [(0, .ref (gA Γ 300)), (1, .int 0), (2, .int 0)]) [2, 1, 0] rfl ?_
  exact cm_alone_l4 hk hK σ FU 0 0
def rm_c_ledger : Room := { frames := 3, cells := 0, slots := 0, locals := 82 }
theorem hv_c_ledger : yX0_ledger.cls = RX0 ∧ yX0_ledger.cls ≠ "java/lang/invoke/MethodHandle" ∧ yX0_ledger.cls ≠ "java/lang/invoke/VarHandle" ∧ (parseMethodDescriptor yX0_ledger.desc).map (fun d => d.parameters.length) = some 1 := by decide +kernel
theorem cm_ledger_j68 {K : KT} {Γ : CG} (hk : KOK K cX0_ledger 4 RX0 rm_c_ledger (some .int)) (hK : CK Γ (kS K)) (σ : CS) (v1 : Int32) (v3 : Int32) (s0 : Int32) (s1 : Int32) (k13 : Int32 → Int32 → Option (Int32)) (hk13 : ∀ (v2 : Int32) (v3 : Int32), GGo K (cQ K Γ rm_c_ledger (fun r : Int32 => (some (Value.int r), σ))) (k13 v2 v3) 4 (CI Γ (kS K) σ) 0 0 13 [(0, .ref (gA Γ 300)), (1, .int v1), (2, .int v2), (3, .int v3)] []) : GGo K (cQ K Γ rm_c_ledger (fun r : Int32 => (some (Value.int r), σ))) (C_ledger_j68 k13 σ v1 v3 s0 s1) 4 (CI Γ (kS K) σ) 0 0 68 [(0, .ref (gA Γ 300)), (1, .int v1), (3, .int v3)] [.int s1, .int s0] := by
  unfold C_ledger_j68
  refine g_iadd (pc := 68) hk dX0_ledger_68 ?_
  refine g_istore_nN (pc := 69) (i := 2) (ls' := fun x3 => [(2, .int x3), (0, .ref (gA Γ 300)), (1, .int v1), (3, .int v3)]) hk dX0_ledger_69 rfl (by decide) (fun _ => rfl) (fun x3 => ?_)
  refine g_iincN (pc := 70) (v := 1) (ls' := fun x4 => [(3, .int x4), (2, .int x3), (0, .ref (gA Γ 300)), (1, .int v1)]) hk dX0_ledger_70 rfl rfl (by decide) (fun _ => rfl) (fun x4 => ?_)
  refine g_goto (pc := 73) (tgt := 13) hk dX0_ledger_73 rfl ?_
  refine g_sub (ls' := [(0, .ref (gA Γ 300)), (1, .int v1), (2, .int x3), (3, .int x4)]) [2, 3, 1, 0] rfl ?_
  exact hk13 x3 x4
theorem cm_ledger_l13 {K : KT} {Γ : CG} (hk : KOK K cX0_ledger 4 RX0 rm_c_ledger (some .int)) (hK : CK Γ (kS K)) (σ : CS) (v1 : Int32) : ∀ (n : Nat) (v2 : Int32) (v3 : Int32), GGo K (cQ K Γ rm_c_ledger (fun r : Int32 => (some (Value.int r), σ))) (C_ledger_l13 σ v1 n v2 v3) 4 (CI Γ (kS K) σ) 0 0 13 [(0, .ref (gA Γ 300)), (1, .int v1), (2, .int v2), (3, .int v3)] [] := by
  intro n
  induction n with
  | zero =>
    intro v2 v3
    unfold C_ledger_l13
    exact g_none
  | succ n ih =>
    intro v2 v3
    unfold C_ledger_l13
    refine g_iload_n (pc := 13) hk dX0_ledger_13 rfl ?_
    refine g_aload_n (pc := 14) hk dX0_ledger_14 rfl ?_
    refine c_getR (pc := 15) hk hK cr_0 cf_0 dX0_ledger_15 ?_
    refine c_getS (pc := 18) (w := 0) hk hK (by decide) sr_1 sn_1 dX0_ledger_18 ?_
    refine g_bipush (pc := 21) (v := 27) hk dX0_ledger_21 rfl ?_
    refine c_ialdC (pc := 23) (k := 1) (j := 27) hk hK cav_1 rfl rfl dX0_ledger_23 ?_
    refine g_icmp_ge (pc := 24) (tgt := 76) hk dX0_ledger_24 rfl ?_ ?_
    · refine g_iload_n (pc := 76) hk dX0_ledger_76 rfl ?_
      exact c_iret (pc := 77) hk hK rfl dX0_ledger_77 rfl rfl
    · refine g_iload_n (pc := 27) hk dX0_ledger_27 rfl ?_
      refine g_aload_n (pc := 28) hk dX0_ledger_28 rfl ?_
      refine c_getR (pc := 29) hk hK cr_0 cf_0 dX0_ledger_29 ?_
      refine c_getS (pc := 32) (w := 0) hk hK (by decide) sr_1 sn_1 dX0_ledger_32 ?_
      refine g_bipush (pc := 35) (v := 28) hk dX0_ledger_35 rfl ?_
      refine g_iconst (pc := 37) (v := 4) hk dX0_ledger_37 rfl ?_
      refine g_iload_n (pc := 38) hk dX0_ledger_38 rfl ?_
      refine g_imul (pc := 39) hk dX0_ledger_39 ?_
      refine g_iadd (pc := 40) hk dX0_ledger_40 ?_
      refine g_iconst (pc := 41) (v := 1) hk dX0_ledger_41 rfl ?_
      refine g_iadd (pc := 42) hk dX0_ledger_42 ?_
      refine c_iald (pc := 43) (k := 1) hk hK cav_1 dX0_ledger_43 ?_
      refine g_iload_n (pc := 44) hk dX0_ledger_44 rfl ?_
      refine g_icmp_ne (pc := 45) (tgt := 67) hk dX0_ledger_45 rfl ?_ ?_
      · refine g_iconst (pc := 67) (v := 0) hk dX0_ledger_67 rfl ?_
        refine g_sub (ls' := [(0, .ref (gA Γ 300)), (1, .int v1), (3, .int v3)]) [0, 1, 3] rfl ?_
        exact cm_ledger_j68 hk hK σ v1 v3 v2 0 (C_ledger_l13 σ v1 n) ih
      · refine g_aload_n (pc := 48) hk dX0_ledger_48 rfl ?_
        refine c_getR (pc := 49) hk hK cr_0 cf_0 dX0_ledger_49 ?_
        refine c_getS (pc := 52) (w := 0) hk hK (by decide) sr_1 sn_1 dX0_ledger_52 ?_
        refine g_bipush (pc := 55) (v := 28) hk dX0_ledger_55 rfl ?_
        refine g_iconst (pc := 57) (v := 4) hk dX0_ledger_57 rfl ?_
        refine g_iload_n (pc := 58) hk dX0_ledger_58 rfl ?_
        refine g_imul (pc := 59) hk dX0_ledger_59 ?_
        refine g_iadd (pc := 60) hk dX0_ledger_60 ?_
        refine g_iconst (pc := 61) (v := 2) hk dX0_ledger_61 rfl ?_
        refine g_iadd (pc := 62) hk dX0_ledger_62 ?_
        refine c_iald (pc := 63) (k := 1) hk hK cav_1 dX0_ledger_63 ?_
        refine g_goto (pc := 64) (tgt := 68) hk dX0_ledger_64 rfl ?_
        refine g_sub (ls' := [(0, .ref (gA Γ 300)), (1, .int v1), (3, .int v3)]) [0, 1, 3] rfl ?_
        exact cm_ledger_j68 hk hK σ v1 v3 v2 (cA σ 1 ((28 + (4 * v3)) + 2).toNatClampNeg) (C_ledger_l13 σ v1 n) ih
theorem cm_ledger (Γ : CG) (σ : CS) (v1 : Int32)  (r : Int32) (h : C_ledger σ v1 = some r) : CMet Γ yX0_ledger cX0_ledger 4 (some .int) rm_c_ledger [.ref (gA Γ 300), .int v1] σ (some (.int r)) σ := by
  refine c_met (view := (fun r : Int32 => (some (Value.int r), σ))) (own := RX0) rfl (by decide) rfl (ls0 := [(0, .ref (gA Γ 300)), (1, .int v1)]) rfl (fun K hk hK => ?_) r h
  unfold C_ledger
  refine g_iload_n (pc := 0) hk dX0_ledger_0 rfl ?_
  refine g_ob1 (fun r1 h2 => ?_)
  refine g_callP (pc := 1) hk [.int v1] [] (cm_isChair v1 r1 h2) (lw_S q307 q308 q124 q309) hs_c_isChair rfl ⟨rfl, rfl⟩ rfl rfl dX0_ledger_1 rfl rfl ⟨rfl, rfl⟩ ?_
  refine g_if_ne (pc := 4) (tgt := 9) hk dX0_ledger_4 rfl ?_ ?_
  · refine g_iconst (pc := 9) (v := 0) hk dX0_ledger_9 rfl ?_
    refine g_istore_n (pc := 10) (i := 2) (ls' := [(2, .int 0), (0, .ref (gA Γ 300)), (1, .int v1)]) hk dX0_ledger_10 rfl (by decide) rfl ?_
    refine g_iconst (pc := 11) (v := 0) hk dX0_ledger_11 rfl ?_
    refine g_istore_n (pc := 12) (i := 3) (ls' := [(3, .int 0), (2, .int 0), (0, .ref (gA Γ 300)), (1, .int v1)]) hk dX0_ledger_12 rfl (by decide) rfl ?_
    refine g_sub (ls' := [(0, .ref (gA Γ 300)), (1, .int v1), (2, .int 0), (3, .int 0)]) [2, 3, 1, 0] rfl ?_
    exact cm_ledger_l13 hk hK σ v1 FU 0 0
  · refine g_iconst (pc := 7) (v := (-1)) hk dX0_ledger_7 rfl ?_
    exact c_iret (pc := 8) hk hK rfl dX0_ledger_8 rfl rfl
def rm_c_image : Room := { frames := 4, cells := 0, slots := 0, locals := 104 }
theorem hv_c_image : yX0_image.cls = RX0 ∧ yX0_image.cls ≠ "java/lang/invoke/MethodHandle" ∧ yX0_image.cls ≠ "java/lang/invoke/VarHandle" ∧ (parseMethodDescriptor yX0_image.desc).map (fun d => d.parameters.length) = some 0 := by decide +kernel
theorem cm_image (Γ : CG) (σ : CS)   (r : Int32 × CS) (h : C_image σ = some r) : CMet Γ yX0_image cX0_image 1 (some .int) rm_c_image [.ref (gA Γ 300)] σ (some (.int r.1)) r.2 := by
  refine c_met (view := (fun r : Int32 × CS => (some (Value.int r.1), r.2))) (own := RX0) rfl (by decide) rfl (ls0 := [(0, .ref (gA Γ 300))]) rfl (fun K hk hK => ?_) r h
  unfold C_image
  refine g_aload_n (pc := 0) hk dX0_image_0 rfl ?_
  refine c_getR (pc := 1) hk hK cr_1 cf_1 dX0_image_1 ?_
  refine g_aload_n (pc := 4) hk dX0_image_4 rfl ?_
  refine c_getR (pc := 5) hk hK cr_0 cf_0 dX0_image_5 ?_
  refine g_ob1 (fun σ2 h1 => ?_)
  refine c_callV (pc := 8) hk hK (rec_S (w := 1) hK (by decide)) [.ref (gA Γ 301)] [] (sm_be Γ σ 1 0 (by decide) (by decide) σ2 h1) (lw_V q226 q227 q228 q125 q229) hv_s_be rfl rfl rfl dX0_image_8 rfl rfl ⟨rfl, rfl⟩ ?_
  refine g_aload_n (pc := 11) hk dX0_image_11 rfl ?_
  refine c_getR (pc := 12) hk hK cr_0 cf_0 dX0_image_12 ?_
  refine c_getS (pc := 15) (w := 0) hk hK (by decide) sr_1 sn_1 dX0_image_15 ?_
  refine g_iconst (pc := 18) (v := 0) hk dX0_image_18 rfl ?_
  refine c_ialdC (pc := 19) (k := 1) (j := 0) hk hK cav_1 rfl rfl dX0_image_19 ?_
  exact c_iret (pc := 20) hk hK rfl dX0_image_20 rfl rfl
def rm_c_back : Room := { frames := 4, cells := 0, slots := 0, locals := 104 }
theorem hv_c_back : yX0_back.cls = RX0 ∧ yX0_back.cls ≠ "java/lang/invoke/MethodHandle" ∧ yX0_back.cls ≠ "java/lang/invoke/VarHandle" ∧ (parseMethodDescriptor yX0_back.desc).map (fun d => d.parameters.length) = some 0 := by decide +kernel
theorem cm_back (Γ : CG) (σ : CS)   (r : Int32 × CS) (h : C_back σ = some r) : CMet Γ yX0_back cX0_back 1 (some .int) rm_c_back [.ref (gA Γ 300)] σ (some (.int r.1)) r.2 := by
  refine c_met (view := (fun r : Int32 × CS => (some (Value.int r.1), r.2))) (own := RX0) rfl (by decide) rfl (ls0 := [(0, .ref (gA Γ 300))]) rfl (fun K hk hK => ?_) r h
  unfold C_back
  refine g_aload_n (pc := 0) hk dX0_back_0 rfl ?_
  refine c_getR (pc := 1) hk hK cr_0 cf_0 dX0_back_1 ?_
  refine g_aload_n (pc := 4) hk dX0_back_4 rfl ?_
  refine c_getR (pc := 5) hk hK cr_1 cf_1 dX0_back_5 ?_
  refine g_ob1 (fun σ2 h1 => ?_)
  refine c_callV (pc := 8) hk hK (rec_S (w := 0) hK (by decide)) [.ref (gA Γ 302)] [] (sm_be Γ σ 0 1 (by decide) (by decide) σ2 h1) (lw_V q226 q227 q228 q125 q229) hv_s_be rfl rfl rfl dX0_back_8 rfl rfl ⟨rfl, rfl⟩ ?_
  refine g_aload_n (pc := 11) hk dX0_back_11 rfl ?_
  refine c_getR (pc := 12) hk hK cr_0 cf_0 dX0_back_12 ?_
  refine c_getS (pc := 15) (w := 0) hk hK (by decide) sr_1 sn_1 dX0_back_15 ?_
  refine g_iconst (pc := 18) (v := 0) hk dX0_back_18 rfl ?_
  refine c_ialdC (pc := 19) (k := 1) (j := 0) hk hK cav_1 rfl rfl dX0_back_19 ?_
  exact c_iret (pc := 20) hk hK rfl dX0_back_20 rfl rfl
def rm_c_about : Room := { frames := 1, cells := 0, slots := 0, locals := 40 }
theorem hv_c_about : yX0_about.cls = RX0 ∧ yX0_about.cls ≠ "java/lang/invoke/MethodHandle" ∧ yX0_about.cls ≠ "java/lang/invoke/VarHandle" ∧ (parseMethodDescriptor yX0_about.desc).map (fun d => d.parameters.length) = some 1 := by decide +kernel
theorem cm_about (Γ : CG) (σ : CS) (v1 : Int32)  (r : Int32) (h : C_about σ v1 = some r) : CMet Γ yX0_about cX0_about 2 (some .int) rm_c_about [.ref (gA Γ 300), .int v1] σ (some (.int r)) σ := by
  refine c_met (view := (fun r : Int32 => (some (Value.int r), σ))) (own := RX0) rfl (by decide) rfl (ls0 := [(0, .ref (gA Γ 300)), (1, .int v1)]) rfl (fun K hk hK => ?_) r h
  unfold C_about
  refine g_iload_n (pc := 0) hk dX0_about_0 rfl ?_
  refine g_if (fun h1 => ?_) (fun n2 => ?_)
  · refine g_tabIn (pc := 1) (tgt := 44) hk 0 h1 dX0_about_1 (by decide) (by decide) rfl rfl ?_
    refine g_aload_n (pc := 44) hk dX0_about_44 rfl ?_
    refine c_getR (pc := 45) hk hK cr_0 cf_0 dX0_about_45 ?_
    refine c_getS (pc := 48) (w := 0) hk hK (by decide) sr_0 sn_0 dX0_about_48 ?_
    refine g_iconst (pc := 51) (v := 0) hk dX0_about_51 rfl ?_
    refine c_ialdC (pc := 52) (k := 0) (j := 0) hk hK cav_0 rfl rfl dX0_about_52 ?_
    exact c_iret (pc := 53) hk hK rfl dX0_about_53 rfl rfl
  · refine g_if (fun h3 => ?_) (fun n4 => ?_)
    · refine g_tabIn (pc := 1) (tgt := 54) hk 1 h3 dX0_about_1 (by decide) (by decide) rfl rfl ?_
      refine g_aload_n (pc := 54) hk dX0_about_54 rfl ?_
      refine c_getR (pc := 55) hk hK cr_0 cf_0 dX0_about_55 ?_
      refine c_getS (pc := 58) (w := 0) hk hK (by decide) sr_0 sn_0 dX0_about_58 ?_
      refine g_iconst (pc := 61) (v := 1) hk dX0_about_61 rfl ?_
      refine c_ialdC (pc := 62) (k := 0) (j := 1) hk hK cav_0 rfl rfl dX0_about_62 ?_
      exact c_iret (pc := 63) hk hK rfl dX0_about_63 rfl rfl
    · refine g_if (fun h5 => ?_) (fun n6 => ?_)
      · refine g_tabIn (pc := 1) (tgt := 64) hk 2 h5 dX0_about_1 (by decide) (by decide) rfl rfl ?_
        refine g_aload_n (pc := 64) hk dX0_about_64 rfl ?_
        refine c_getR (pc := 65) hk hK cr_0 cf_0 dX0_about_65 ?_
        refine c_getS (pc := 68) (w := 0) hk hK (by decide) sr_0 sn_0 dX0_about_68 ?_
        refine g_iconst (pc := 71) (v := 2) hk dX0_about_71 rfl ?_
        refine c_ialdC (pc := 72) (k := 0) (j := 2) hk hK cav_0 rfl rfl dX0_about_72 ?_
        exact c_iret (pc := 73) hk hK rfl dX0_about_73 rfl rfl
      · refine g_if (fun h7 => ?_) (fun n8 => ?_)
        · refine g_tabIn (pc := 1) (tgt := 74) hk 3 h7 dX0_about_1 (by decide) (by decide) rfl rfl ?_
          refine g_aload_n (pc := 74) hk dX0_about_74 rfl ?_
          refine c_getR (pc := 75) hk hK cr_0 cf_0 dX0_about_75 ?_
          refine c_getS (pc := 78) (w := 0) hk hK (by decide) sr_0 sn_0 dX0_about_78 ?_
          refine g_iconst (pc := 81) (v := 3) hk dX0_about_81 rfl ?_
          refine c_ialdC (pc := 82) (k := 0) (j := 3) hk hK cav_0 rfl rfl dX0_about_82 ?_
          exact c_iret (pc := 83) hk hK rfl dX0_about_83 rfl rfl
        · refine g_if (fun h9 => ?_) (fun n10 => ?_)
          · refine g_tabIn (pc := 1) (tgt := 84) hk 4 h9 dX0_about_1 (by decide) (by decide) rfl rfl ?_
            refine g_aload_n (pc := 84) hk dX0_about_84 rfl ?_
            refine c_getR (pc := 85) hk hK cr_0 cf_0 dX0_about_85 ?_
            refine c_getS (pc := 88) (w := 0) hk hK (by decide) sr_0 sn_0 dX0_about_88 ?_
            refine g_iconst (pc := 91) (v := 4) hk dX0_about_91 rfl ?_
            refine c_ialdC (pc := 92) (k := 0) (j := 4) hk hK cav_0 rfl rfl dX0_about_92 ?_
            exact c_iret (pc := 93) hk hK rfl dX0_about_93 rfl rfl
          · refine g_if (fun h11 => ?_) (fun n12 => ?_)
            · refine g_tabIn (pc := 1) (tgt := 94) hk 5 h11 dX0_about_1 (by decide) (by decide) rfl rfl ?_
              refine g_aload_n (pc := 94) hk dX0_about_94 rfl ?_
              refine c_getR (pc := 95) hk hK cr_0 cf_0 dX0_about_95 ?_
              refine c_getS (pc := 98) (w := 0) hk hK (by decide) sr_0 sn_0 dX0_about_98 ?_
              refine g_iconst (pc := 101) (v := 5) hk dX0_about_101 rfl ?_
              refine c_ialdC (pc := 102) (k := 0) (j := 5) hk hK cav_0 rfl rfl dX0_about_102 ?_
              exact c_iret (pc := 103) hk hK rfl dX0_about_103 rfl rfl
            · refine g_if (fun h13 => ?_) (fun n14 => ?_)
              · refine g_tabIn (pc := 1) (tgt := 104) hk 6 h13 dX0_about_1 (by decide) (by decide) rfl rfl ?_
                refine g_aload_n (pc := 104) hk dX0_about_104 rfl ?_
                refine c_getI (pc := 105) hk hK ci_3 cf_3 dX0_about_105 ?_
                exact c_iret (pc := 108) hk hK rfl dX0_about_108 rfl rfl
              · refine g_tabOut (pc := 1) (tgt := 109) hk dX0_about_1 (by have z0 := ne_toInt n2 (z := 0) rfl; have z1 := ne_toInt n4 (z := 1) rfl; have z2 := ne_toInt n6 (z := 2) rfl; have z3 := ne_toInt n8 (z := 3) rfl; have z4 := ne_toInt n10 (z := 4) rfl; have z5 := ne_toInt n12 (z := 5) rfl; have z6 := ne_toInt n14 (z := 6) rfl; omega) rfl ?_
                refine g_bipush (pc := 109) (v := (-2)) hk dX0_about_109 rfl ?_
                exact c_iret (pc := 111) hk hK rfl dX0_about_111 rfl rfl
