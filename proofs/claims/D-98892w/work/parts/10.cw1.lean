/-! WALKS of the component's methods, by program (wip: gen_c.py) -/
set_option maxRecDepth 100000
def rm_f_fill : Room := { frames := 1, cells := 0, slots := 0, locals := 40 }
theorem hs_f_fill : yJ0_fill.cls ≠ "java/lang/invoke/MethodHandle" ∧ yJ0_fill.cls ≠ "java/lang/invoke/VarHandle" ∧ (parseMethodDescriptor yJ0_fill.desc).map (fun d => d.parameters.length) = some 2 := by decide +kernel
theorem fm_fill_l5 {K : KT} {Γ : CG} (hk : KOK K cJ0_fill 4 RJ0 rm_f_fill none) (hK : CK Γ (kS K)) (k0 : Nat) (n0 : Nat) (v1 : Int32) (v3 : Int32) (hk0 : cAv k0 n0) : ∀ (n : Nat) (σ : CS) (v2 : Int32), GGo K (cQ K Γ rm_f_fill (fun r : CS => ((none : Option Value), r))) (F_fill_l5 k0 n0 v1 v3 n σ v2) 4 (CI Γ (kS K) σ) 0 0 5 [(0, .ref (gA Γ k0)), (1, .int v1), (2, .int v2), (3, .int v3)] [] := by
  intro n
  induction n with
  | zero =>
    intro σ v2
    unfold F_fill_l5
    exact g_none
  | succ n ih =>
    intro σ v2
    unfold F_fill_l5
    refine g_iload_n (pc := 5) hk dJ0_fill_5 rfl ?_
    refine g_iload_n (pc := 6) hk dJ0_fill_6 rfl ?_
    refine g_icmp_ge (pc := 7) (tgt := 20) hk dJ0_fill_7 rfl ?_ ?_
    · exact c_vret (pc := 20) hk hK rfl dJ0_fill_20 rfl rfl
    · refine g_aload_n (pc := 10) hk dJ0_fill_10 rfl ?_
      refine g_iload_n (pc := 11) hk dJ0_fill_11 rfl ?_
      refine g_iload_n (pc := 12) hk dJ0_fill_12 rfl ?_
      refine c_iast (pc := 13) (k := k0) hk hK hk0 dJ0_fill_13 (fun σ2 => ?_)
      refine g_iincN (pc := 14) (v := 1) (ls' := fun x3 => [(2, .int x3), (0, .ref (gA Γ k0)), (1, .int v1), (3, .int v3)]) hk dJ0_fill_14 rfl rfl (by decide) (fun _ => rfl) (fun x3 => ?_)
      refine g_goto (pc := 17) (tgt := 5) hk dJ0_fill_17 rfl ?_
      refine g_sub (ls' := [(0, .ref (gA Γ k0)), (1, .int v1), (2, .int x3), (3, .int v3)]) [1, 2, 0, 3] rfl ?_
      exact ih σ2 x3
theorem fm_fill (Γ : CG) (σ : CS) (k0 : Nat) (n0 : Nat) (v1 : Int32) (hk0 : cAv k0 n0) (r : CS) (h : F_fill σ k0 n0 v1 = some r) : CMet Γ yJ0_fill cJ0_fill 4 none rm_f_fill [.ref (gA Γ k0), .int v1] σ none r := by
  refine c_met (view := (fun r : CS => ((none : Option Value), r))) (own := RJ0) rfl (by decide) rfl (ls0 := [(0, .ref (gA Γ k0)), (1, .int v1)]) rfl (fun K hk hK => ?_) r h
  unfold F_fill
  refine g_iconst (pc := 0) (v := 0) hk dJ0_fill_0 rfl ?_
  refine g_istore_n (pc := 1) (i := 2) (ls' := [(2, .int 0), (0, .ref (gA Γ k0)), (1, .int v1)]) hk dJ0_fill_1 rfl (by decide) rfl ?_
  refine g_aload_n (pc := 2) hk dJ0_fill_2 rfl ?_
  refine c_alen (pc := 3) (k := k0) (v := (Int32.ofNat n0)) hk hK hk0 rfl dJ0_fill_3 ?_
  refine g_istore_nN (pc := 4) (i := 3) (ls' := fun x1 => [(3, .int x1), (2, .int 0), (0, .ref (gA Γ k0)), (1, .int v1)]) hk dJ0_fill_4 rfl (by decide) (fun _ => rfl) (fun x1 => ?_)
  refine g_sub (ls' := [(0, .ref (gA Γ k0)), (1, .int v1), (2, .int 0), (3, .int x1)]) [2, 3, 1, 0] rfl ?_
  exact fm_fill_l5 hk hK k0 n0 v1 x1 hk0 FU σ 0
def rm_s_copy : Room := { frames := 1, cells := 0, slots := 0, locals := 40 }
theorem hs_s_copy : yX1_copy.cls ≠ "java/lang/invoke/MethodHandle" ∧ yX1_copy.cls ≠ "java/lang/invoke/VarHandle" ∧ (parseMethodDescriptor yX1_copy.desc).map (fun d => d.parameters.length) = some 2 := by decide +kernel
theorem sm_copy (Γ : CG) (σ : CS) (k0 : Nat) (n0 : Nat) (k1 : Nat) (n1 : Nat) (hk0 : cAv k0 n0) (hk1 : cAv k1 n1) (r : CS) (h : S_copy σ k0 n0 k1 n1 = some r) : CMet Γ yX1_copy cX1_copy 2 none rm_s_copy [.ref (gA Γ k0), .ref (gA Γ k1)] σ none r := by
  refine c_met (view := (fun r : CS => ((none : Option Value), r))) (own := RX1) rfl (by decide) rfl (ls0 := [(0, .ref (gA Γ k0)), (1, .ref (gA Γ k1))]) rfl (fun K hk hK => ?_) r h
  unfold S_copy
  refine g_aload_n (pc := 0) hk dX1_copy_0 rfl ?_
  refine g_iconst (pc := 1) (v := 0) hk dX1_copy_1 rfl ?_
  refine g_aload_n (pc := 2) hk dX1_copy_2 rfl ?_
  refine g_iconst (pc := 3) (v := 0) hk dX1_copy_3 rfl ?_
  refine g_aload_n (pc := 4) hk dX1_copy_4 rfl ?_
  refine c_alen (pc := 5) (k := k0) (v := (Int32.ofNat n0)) hk hK hk0 rfl dX1_copy_5 ?_
  refine c_copyi (pc := 6) (k0 := k0) (k1 := k1) hk hK hk0 hk1 q233 rfl rfl rfl dX1_copy_6 (fun σ1 => ?_)
  exact c_vret (pc := 9) hk hK rfl dX1_copy_9 rfl rfl
def rm_s_copy_2 : Room := { frames := 2, cells := 0, slots := 0, locals := 61 }
theorem hs_s_copy_2 : yX1_copy_2.cls ≠ "java/lang/invoke/MethodHandle" ∧ yX1_copy_2.cls ≠ "java/lang/invoke/VarHandle" ∧ (parseMethodDescriptor yX1_copy_2.desc).map (fun d => d.parameters.length) = some 2 := by decide +kernel
theorem sm_copy_2_l2 {K : KT} {Γ : CG} (hk : KOK K cX1_copy_2 3 RX1 rm_s_copy_2 none) (hK : CK Γ (kS K)) (g : Nat) (w0 : Nat) (w1 : Nat) (hw0 : w0 < 2) (hw1 : w1 < 2) (hg : 5 ≤ g ∧ g < 10) : ∀ (n : Nat) (σ : CS) (v2 : Int32), GGo K (cQ K Γ rm_s_copy_2 (fun r : CS => ((none : Option Value), r))) (S_copy_2_l2 g w0 w1 n σ v2) 3 (CI Γ (kS K) σ) 0 0 2 [(0, .ref (gA Γ (100 * w0 + (80 + g)))), (1, .ref (gA Γ (100 * w1 + (80 + g)))), (2, .int v2)] [] := by
  intro n
  induction n with
  | zero =>
    intro σ v2
    unfold S_copy_2_l2
    exact g_none
  | succ n ih =>
    intro σ v2
    unfold S_copy_2_l2
    refine g_iload_n (pc := 2) hk dX1_copy_2_2 rfl ?_
    refine g_aload_n (pc := 3) hk dX1_copy_2_3 rfl ?_
    refine c_alenG (pc := 4) (w := w0) (j := g) (v := (Int32.ofNat (cgn g))) hk hK hw0 hg.1 hg.2 rfl rfl dX1_copy_2_4 ?_
    refine g_icmp_ge (pc := 5) (tgt := 23) hk dX1_copy_2_5 rfl ?_ ?_
    · exact c_vret (pc := 23) hk hK rfl dX1_copy_2_23 rfl rfl
    · refine g_aload_n (pc := 8) hk dX1_copy_2_8 rfl ?_
      refine g_iload_n (pc := 9) hk dX1_copy_2_9 rfl ?_
      refine c_aald (pc := 10) (w := w0) (j := g) hk hK hw0 hg.1 hg.2 rfl dX1_copy_2_10 (fun h1 => ?_)
      refine g_aload_n (pc := 11) hk dX1_copy_2_11 rfl ?_
      refine g_iload_n (pc := 12) hk dX1_copy_2_12 rfl ?_
      refine c_aald (pc := 13) (w := w1) (j := g) hk hK hw1 hg.1 hg.2 rfl dX1_copy_2_13 (fun h2 => ?_)
      refine g_ob1 (fun σ4 h3 => ?_)
      refine c_callS (pc := 14) hk hK [.ref (gA Γ (cgb w0 g + v2.toNatClampNeg)), .ref (gA Γ (cgb w1 g + v2.toNatClampNeg))] [] (sm_copy Γ σ (cgb w0 g + v2.toNatClampNeg) (crl g) (cgb w1 g + v2.toNatClampNeg) (crl g) (cav_gg hw0 hg h1) (cav_gg hw1 hg h2) σ4 h3) (lw_S q230 q231 q125 q232) hs_s_copy rfl rfl rfl dX1_copy_2_14 rfl rfl ⟨rfl, rfl⟩ ?_
      refine g_iincN (pc := 17) (v := 1) (ls' := fun x5 => [(2, .int x5), (0, .ref (gA Γ (100 * w0 + (80 + g)))), (1, .ref (gA Γ (100 * w1 + (80 + g))))]) hk dX1_copy_2_17 rfl rfl (by decide) (fun _ => rfl) (fun x5 => ?_)
      refine g_goto (pc := 20) (tgt := 2) hk dX1_copy_2_20 rfl ?_
      refine g_sub (ls' := [(0, .ref (gA Γ (100 * w0 + (80 + g)))), (1, .ref (gA Γ (100 * w1 + (80 + g)))), (2, .int x5)]) [1, 2, 0] rfl ?_
      exact ih σ4 x5
theorem sm_copy_2 (Γ : CG) (σ : CS) (g : Nat) (w0 : Nat) (w1 : Nat) (hw0 : w0 < 2) (hw1 : w1 < 2) (hg : 5 ≤ g ∧ g < 10) (r : CS) (h : S_copy_2 σ g w0 w1 = some r) : CMet Γ yX1_copy_2 cX1_copy_2 3 none rm_s_copy_2 [.ref (gA Γ (100 * w0 + (80 + g))), .ref (gA Γ (100 * w1 + (80 + g)))] σ none r := by
  refine c_met (view := (fun r : CS => ((none : Option Value), r))) (own := RX1) rfl (by decide) rfl (ls0 := [(0, .ref (gA Γ (100 * w0 + (80 + g)))), (1, .ref (gA Γ (100 * w1 + (80 + g))))]) rfl (fun K hk hK => ?_) r h
  unfold S_copy_2
  refine g_iconst (pc := 0) (v := 0) hk dX1_copy_2_0 rfl ?_
  refine g_istore_n (pc := 1) (i := 2) (ls' := [(2, .int 0), (0, .ref (gA Γ (100 * w0 + (80 + g)))), (1, .ref (gA Γ (100 * w1 + (80 + g))))]) hk dX1_copy_2_1 rfl (by decide) rfl ?_
  refine g_sub (ls' := [(0, .ref (gA Γ (100 * w0 + (80 + g)))), (1, .ref (gA Γ (100 * w1 + (80 + g)))), (2, .int 0)]) [1, 2, 0] rfl ?_
  exact sm_copy_2_l2 hk hK g w0 w1 hw0 hw1 hg FU σ 0
def rm_s_be : Room := { frames := 3, cells := 0, slots := 0, locals := 83 }
theorem hv_s_be : yX1_be.cls = RX1 ∧ yX1_be.cls ≠ "java/lang/invoke/MethodHandle" ∧ yX1_be.cls ≠ "java/lang/invoke/VarHandle" ∧ (parseMethodDescriptor yX1_be.desc).map (fun d => d.parameters.length) = some 1 := by decide +kernel
theorem sm_be (Γ : CG) (σ : CS) (w : Nat) (w1 : Nat) (hw : w < 2) (hw1 : w1 < 2) (r : CS) (h : S_be σ w w1 = some r) : CMet Γ yX1_be cX1_be 2 none rm_s_be [.ref (gA Γ (301 + w)), .ref (gA Γ (301 + w1))] σ none r := by
  refine c_met (view := (fun r : CS => ((none : Option Value), r))) (own := RX1) rfl (by decide) rfl (ls0 := [(0, .ref (gA Γ (301 + w))), (1, .ref (gA Γ (301 + w1)))]) rfl (fun K hk hK => ?_) r h
  unfold S_be
  refine g_aload_n (pc := 0) hk dX1_be_0 rfl ?_
  refine s_getR (pc := 1) (w := w1) hk hK hw1 sr_0 sf_0 dX1_be_1 ?_
  refine g_aload_n (pc := 4) hk dX1_be_4 rfl ?_
  refine s_getR (pc := 5) (w := w) hk hK hw sr_0 sf_0 dX1_be_5 ?_
  refine g_ob1 (fun σ2 h1 => ?_)
  refine c_callS (pc := 8) hk hK [.ref (gA Γ (100 * w1 + 0)), .ref (gA Γ (100 * w + 0))] [] (sm_copy Γ σ (100 * w1 + 0) 6 (100 * w + 0) 6 (cav_s0 hw1) (cav_s0 hw) σ2 h1) (lw_S q230 q231 q125 q232) hs_s_copy rfl rfl rfl dX1_be_8 rfl rfl ⟨rfl, rfl⟩ ?_
  refine g_aload_n (pc := 11) hk dX1_be_11 rfl ?_
  refine s_getR (pc := 12) (w := w1) hk hK hw1 sr_1 sf_1 dX1_be_12 ?_
  refine g_aload_n (pc := 15) hk dX1_be_15 rfl ?_
  refine s_getR (pc := 16) (w := w) hk hK hw sr_1 sf_1 dX1_be_16 ?_
  refine g_ob1 (fun σ4 h3 => ?_)
  refine c_callS (pc := 19) hk hK [.ref (gA Γ (100 * w1 + 1)), .ref (gA Γ (100 * w + 1))] [] (sm_copy Γ σ2 (100 * w1 + 1) 148 (100 * w + 1) 148 (cav_s1 hw1) (cav_s1 hw) σ4 h3) (lw_S q230 q231 q125 q232) hs_s_copy rfl rfl rfl dX1_be_19 rfl rfl ⟨rfl, rfl⟩ ?_
  refine g_aload_n (pc := 22) hk dX1_be_22 rfl ?_
  refine s_getR (pc := 23) (w := w1) hk hK hw1 sr_2 sf_2 dX1_be_23 ?_
  refine g_aload_n (pc := 26) hk dX1_be_26 rfl ?_
  refine s_getR (pc := 27) (w := w) hk hK hw sr_2 sf_2 dX1_be_27 ?_
  refine g_ob1 (fun σ6 h5 => ?_)
  refine c_callS (pc := 30) hk hK [.ref (gA Γ (100 * w1 + 2)), .ref (gA Γ (100 * w + 2))] [] (sm_copy Γ σ4 (100 * w1 + 2) 8 (100 * w + 2) 8 (cav_s2 hw1) (cav_s2 hw) σ6 h5) (lw_S q230 q231 q125 q232) hs_s_copy rfl rfl rfl dX1_be_30 rfl rfl ⟨rfl, rfl⟩ ?_
  refine g_aload_n (pc := 33) hk dX1_be_33 rfl ?_
  refine s_getR (pc := 34) (w := w1) hk hK hw1 sr_3 sf_3 dX1_be_34 ?_
  refine g_aload_n (pc := 37) hk dX1_be_37 rfl ?_
  refine s_getR (pc := 38) (w := w) hk hK hw sr_3 sf_3 dX1_be_38 ?_
  refine g_ob1 (fun σ8 h7 => ?_)
  refine c_callS (pc := 41) hk hK [.ref (gA Γ (100 * w1 + 3)), .ref (gA Γ (100 * w + 3))] [] (sm_copy Γ σ6 (100 * w1 + 3) 8 (100 * w + 3) 8 (cav_s3 hw1) (cav_s3 hw) σ8 h7) (lw_S q230 q231 q125 q232) hs_s_copy rfl rfl rfl dX1_be_41 rfl rfl ⟨rfl, rfl⟩ ?_
  refine g_aload_n (pc := 44) hk dX1_be_44 rfl ?_
  refine s_getR (pc := 45) (w := w1) hk hK hw1 sr_4 sf_4 dX1_be_45 ?_
  refine g_aload_n (pc := 48) hk dX1_be_48 rfl ?_
  refine s_getR (pc := 49) (w := w) hk hK hw sr_4 sf_4 dX1_be_49 ?_
  refine g_ob1 (fun σ10 h9 => ?_)
  refine c_callS (pc := 52) hk hK [.ref (gA Γ (100 * w1 + 4)), .ref (gA Γ (100 * w + 4))] [] (sm_copy Γ σ8 (100 * w1 + 4) 8 (100 * w + 4) 8 (cav_s4 hw1) (cav_s4 hw) σ10 h9) (lw_S q230 q231 q125 q232) hs_s_copy rfl rfl rfl dX1_be_52 rfl rfl ⟨rfl, rfl⟩ ?_
  refine g_aload_n (pc := 55) hk dX1_be_55 rfl ?_
  refine s_getR (pc := 56) (w := w1) hk hK hw1 sr_5 sf_5 dX1_be_56 ?_
  refine g_aload_n (pc := 59) hk dX1_be_59 rfl ?_
  refine s_getR (pc := 60) (w := w) hk hK hw sr_5 sf_5 dX1_be_60 ?_
  refine g_ob1 (fun σ12 h11 => ?_)
  refine c_callS (pc := 63) hk hK [.ref (gA Γ (100 * w1 + 85)), .ref (gA Γ (100 * w + 85))] [] (sm_copy_2 Γ σ10 5 w1 w hw1 hw ⟨by decide, by decide⟩ σ12 h11) (lw_S q236 q237 q125 q238) hs_s_copy_2 rfl rfl rfl dX1_be_63 rfl rfl ⟨rfl, rfl⟩ ?_
  refine g_aload_n (pc := 66) hk dX1_be_66 rfl ?_
  refine s_getR (pc := 67) (w := w1) hk hK hw1 sr_6 sf_6 dX1_be_67 ?_
  refine g_aload_n (pc := 70) hk dX1_be_70 rfl ?_
  refine s_getR (pc := 71) (w := w) hk hK hw sr_6 sf_6 dX1_be_71 ?_
  refine g_ob1 (fun σ14 h13 => ?_)
  refine c_callS (pc := 74) hk hK [.ref (gA Γ (100 * w1 + 86)), .ref (gA Γ (100 * w + 86))] [] (sm_copy_2 Γ σ12 6 w1 w hw1 hw ⟨by decide, by decide⟩ σ14 h13) (lw_S q236 q237 q125 q238) hs_s_copy_2 rfl rfl rfl dX1_be_74 rfl rfl ⟨rfl, rfl⟩ ?_
  refine g_aload_n (pc := 77) hk dX1_be_77 rfl ?_
  refine s_getR (pc := 78) (w := w1) hk hK hw1 sr_7 sf_7 dX1_be_78 ?_
  refine g_aload_n (pc := 81) hk dX1_be_81 rfl ?_
  refine s_getR (pc := 82) (w := w) hk hK hw sr_7 sf_7 dX1_be_82 ?_
  refine g_ob1 (fun σ16 h15 => ?_)
  refine c_callS (pc := 85) hk hK [.ref (gA Γ (100 * w1 + 87)), .ref (gA Γ (100 * w + 87))] [] (sm_copy_2 Γ σ14 7 w1 w hw1 hw ⟨by decide, by decide⟩ σ16 h15) (lw_S q236 q237 q125 q238) hs_s_copy_2 rfl rfl rfl dX1_be_85 rfl rfl ⟨rfl, rfl⟩ ?_
  refine g_aload_n (pc := 88) hk dX1_be_88 rfl ?_
  refine s_getR (pc := 89) (w := w1) hk hK hw1 sr_8 sf_8 dX1_be_89 ?_
  refine g_aload_n (pc := 92) hk dX1_be_92 rfl ?_
  refine s_getR (pc := 93) (w := w) hk hK hw sr_8 sf_8 dX1_be_93 ?_
  refine g_ob1 (fun σ18 h17 => ?_)
  refine c_callS (pc := 96) hk hK [.ref (gA Γ (100 * w1 + 88)), .ref (gA Γ (100 * w + 88))] [] (sm_copy_2 Γ σ16 8 w1 w hw1 hw ⟨by decide, by decide⟩ σ18 h17) (lw_S q236 q237 q125 q238) hs_s_copy_2 rfl rfl rfl dX1_be_96 rfl rfl ⟨rfl, rfl⟩ ?_
  refine g_aload_n (pc := 99) hk dX1_be_99 rfl ?_
  refine s_getR (pc := 100) (w := w1) hk hK hw1 sr_9 sf_9 dX1_be_100 ?_
  refine g_aload_n (pc := 103) hk dX1_be_103 rfl ?_
  refine s_getR (pc := 104) (w := w) hk hK hw sr_9 sf_9 dX1_be_104 ?_
  refine g_ob1 (fun σ20 h19 => ?_)
  refine c_callS (pc := 107) hk hK [.ref (gA Γ (100 * w1 + 89)), .ref (gA Γ (100 * w + 89))] [] (sm_copy_2 Γ σ18 9 w1 w hw1 hw ⟨by decide, by decide⟩ σ20 h19) (lw_S q236 q237 q125 q238) hs_s_copy_2 rfl rfl rfl dX1_be_107 rfl rfl ⟨rfl, rfl⟩ ?_
  refine g_aload_n (pc := 110) hk dX1_be_110 rfl ?_
  refine s_getR (pc := 111) (w := w1) hk hK hw1 sr_10 sf_10 dX1_be_111 ?_
  refine g_iconst (pc := 114) (v := 0) hk dX1_be_114 rfl ?_
  refine g_aload_n (pc := 115) hk dX1_be_115 rfl ?_
  refine s_getR (pc := 116) (w := w) hk hK hw sr_10 sf_10 dX1_be_116 ?_
  refine g_iconst (pc := 119) (v := 0) hk dX1_be_119 rfl ?_
  refine g_iconst (pc := 120) (v := 4) hk dX1_be_120 rfl ?_
  refine c_copyT (pc := 121) (w0 := w1) (w1 := w) hk hK hw1 hw q233 rfl rfl rfl dX1_be_121 (fun σ21 => ?_)
  exact c_vret (pc := 124) hk hK rfl dX1_be_124 rfl rfl
def rm_c_in : Room := { frames := 1, cells := 0, slots := 0, locals := 40 }
theorem hs_c_in : yX0_in.cls ≠ "java/lang/invoke/MethodHandle" ∧ yX0_in.cls ≠ "java/lang/invoke/VarHandle" ∧ (parseMethodDescriptor yX0_in.desc).map (fun d => d.parameters.length) = some 3 := by decide +kernel
theorem cm_in (v0 : Int32) (v1 : Int32) (v2 : Int32)  (r : Int32) (h : C_in v0 v1 v2 = some r) : PMet yX0_in cX0_in 3 (some .boolean) rm_c_in [.int v0, .int v1, .int v2] (some (.int r)) := by
  refine p_met (view := (fun r : Int32 => some (Value.int r))) (own := RX0) rfl (by decide) rfl (ls0 := [(0, .int v0), (1, .int v1), (2, .int v2)]) rfl (fun K hk => ?_) r h
  unfold C_in
  refine g_iload_n (pc := 0) hk dX0_in_0 rfl ?_
  refine g_iload_n (pc := 1) hk dX0_in_1 rfl ?_
  refine g_icmp_lt (pc := 2) (tgt := 14) hk dX0_in_2 rfl ?_ ?_
  · refine g_iconst (pc := 14) (v := 0) hk dX0_in_14 rfl ?_
    exact p_zret (pc := 15) hk rfl rfl dX0_in_15
  · refine g_iload_n (pc := 5) hk dX0_in_5 rfl ?_
    refine g_iload_n (pc := 6) hk dX0_in_6 rfl ?_
    refine g_icmp_gt (pc := 7) (tgt := 14) hk dX0_in_7 rfl ?_ ?_
    · refine g_iconst (pc := 14) (v := 0) hk dX0_in_14 rfl ?_
      exact p_zret (pc := 15) hk rfl rfl dX0_in_15
    · refine g_iconst (pc := 10) (v := 1) hk dX0_in_10 rfl ?_
      refine g_goto (pc := 11) (tgt := 15) hk dX0_in_11 rfl ?_
      exact p_zret (pc := 15) hk rfl rfl dX0_in_15
def rm_s_tells : Room := { frames := 1, cells := 0, slots := 0, locals := 40 }
theorem hv_s_tells : yX1_tells.cls = RX1 ∧ yX1_tells.cls ≠ "java/lang/invoke/MethodHandle" ∧ yX1_tells.cls ≠ "java/lang/invoke/VarHandle" ∧ (parseMethodDescriptor yX1_tells.desc).map (fun d => d.parameters.length) = some 2 := by decide +kernel
theorem sm_tells_l9 {K : KT} {Γ : CG} (hk : KOK K cX1_tells 4 RX1 rm_s_tells none) (hK : CK Γ (kS K)) (w : Nat) (v1 : Int32) (v2 : Int32) (hw : w < 2) : ∀ (n : Nat) (σ : CS) (v3 : Int32), GGo K (cQ K Γ rm_s_tells (fun r : CS => ((none : Option Value), r))) (S_tells_l9 w v1 v2 n σ v3) 4 (CI Γ (kS K) σ) 0 0 9 [(0, .ref (gA Γ (301 + w))), (1, .int v1), (2, .int v2), (3, .int v3)] [] := by
  intro n
  induction n with
  | zero =>
    intro σ v3
    unfold S_tells_l9
    exact g_none
  | succ n ih =>
    intro σ v3
    unfold S_tells_l9
    refine g_iload_n (pc := 9) hk dX1_tells_9 rfl ?_
    refine g_aload_n (pc := 10) hk dX1_tells_10 rfl ?_
    refine s_getR (pc := 11) (w := w) hk hK hw sr_0 sf_0 dX1_tells_11 ?_
    refine g_iconst (pc := 14) (v := 3) hk dX1_tells_14 rfl ?_
    refine c_ialdC (pc := 15) (k := (100 * w + 0)) (j := 3) hk hK (cav_s0 hw) rfl rfl dX1_tells_15 ?_
    refine g_icmp_ge (pc := 16) (tgt := 34) hk dX1_tells_16 rfl ?_ ?_
    · exact c_vret (pc := 34) hk hK rfl dX1_tells_34 rfl rfl
    · refine g_aload_n (pc := 19) hk dX1_tells_19 rfl ?_
      refine s_getR (pc := 20) (w := w) hk hK hw sr_9 sf_9 dX1_tells_20 ?_
      refine g_iload_n (pc := 23) hk dX1_tells_23 rfl ?_
      refine c_aald (pc := 24) (w := w) (j := 9) hk hK hw (by decide) (by decide) rfl dX1_tells_24 (fun h2 => ?_)
      refine g_iload_n (pc := 25) hk dX1_tells_25 rfl ?_
      refine g_iload_n (pc := 26) hk dX1_tells_26 rfl ?_
      refine c_iast (pc := 27) (k := ((100 * w + 50) + v3.toNatClampNeg)) hk hK (cav_row9 (w := w) hw h2) dX1_tells_27 (fun σ3 => ?_)
      refine g_iincN (pc := 28) (v := 1) (ls' := fun x4 => [(3, .int x4), (0, .ref (gA Γ (301 + w))), (1, .int v1), (2, .int v2)]) hk dX1_tells_28 rfl rfl (by decide) (fun _ => rfl) (fun x4 => ?_)
      refine g_goto (pc := 31) (tgt := 9) hk dX1_tells_31 rfl ?_
      refine g_sub (ls' := [(0, .ref (gA Γ (301 + w))), (1, .int v1), (2, .int v2), (3, .int x4)]) [1, 2, 3, 0] rfl ?_
      exact ih σ3 x4
theorem sm_tells (Γ : CG) (σ : CS) (w : Nat) (v1 : Int32) (v2 : Int32) (hw : w < 2) (r : CS) (h : S_tells σ w v1 v2 = some r) : CMet Γ yX1_tells cX1_tells 4 none rm_s_tells [.ref (gA Γ (301 + w)), .int v1, .int v2] σ none r := by
  refine c_met (view := (fun r : CS => ((none : Option Value), r))) (own := RX1) rfl (by decide) rfl (ls0 := [(0, .ref (gA Γ (301 + w))), (1, .int v1), (2, .int v2)]) rfl (fun K hk hK => ?_) r h
  unfold S_tells
  refine g_aload_n (pc := 0) hk dX1_tells_0 rfl ?_
  refine s_getR (pc := 1) (w := w) hk hK hw sr_1 sf_1 dX1_tells_1 ?_
  refine g_iload_n (pc := 4) hk dX1_tells_4 rfl ?_
  refine g_iload_n (pc := 5) hk dX1_tells_5 rfl ?_
  refine c_iast (pc := 6) (k := (100 * w + 1)) hk hK (cav_s1 hw) dX1_tells_6 (fun σ1 => ?_)
  refine g_iconst (pc := 7) (v := 0) hk dX1_tells_7 rfl ?_
  refine g_istore_n (pc := 8) (i := 3) (ls' := [(3, .int 0), (0, .ref (gA Γ (301 + w))), (1, .int v1), (2, .int v2)]) hk dX1_tells_8 rfl (by decide) rfl ?_
  refine g_sub (ls' := [(0, .ref (gA Γ (301 + w))), (1, .int v1), (2, .int v2), (3, .int 0)]) [1, 2, 3, 0] rfl ?_
  exact sm_tells_l9 hk hK w v1 v2 hw FU σ1 0
def rm_c_person : Room := { frames := 2, cells := 0, slots := 0, locals := 63 }
theorem hv_c_person : yX0_person.cls = RX0 ∧ yX0_person.cls ≠ "java/lang/invoke/MethodHandle" ∧ yX0_person.cls ≠ "java/lang/invoke/VarHandle" ∧ (parseMethodDescriptor yX0_person.desc).map (fun d => d.parameters.length) = some 2 := by decide +kernel
theorem cm_person (Γ : CG) (σ : CS) (v1 : Int32) (v2 : Int32)  (r : Int32 × CS) (h : C_person σ v1 v2 = some r) : CMet Γ yX0_person cX0_person 4 (some .int) rm_c_person [.ref (gA Γ 300), .int v1, .int v2] σ (some (.int r.1)) r.2 := by
  refine c_met (view := (fun r : Int32 × CS => (some (Value.int r.1), r.2))) (own := RX0) rfl (by decide) rfl (ls0 := [(0, .ref (gA Γ 300)), (1, .int v1), (2, .int v2)]) rfl (fun K hk hK => ?_) r h
  unfold C_person
  refine g_aload_n (pc := 0) hk dX0_person_0 rfl ?_
  refine c_getR (pc := 1) hk hK cr_0 cf_0 dX0_person_1 ?_
  refine c_getS (pc := 4) (w := 0) hk hK (by decide) sr_0 sn_0 dX0_person_4 ?_
  refine g_iconst (pc := 7) (v := 0) hk dX0_person_7 rfl ?_
  refine c_ialdC (pc := 8) (k := 0) (j := 0) hk hK cav_0 rfl rfl dX0_person_8 ?_
  refine g_istore_nN (pc := 9) (i := 3) (ls' := fun x1 => [(3, .int x1), (0, .ref (gA Γ 300)), (1, .int v1), (2, .int v2)]) hk dX0_person_9 rfl (by decide) (fun _ => rfl) (fun x1 => ?_)
  refine g_iload_n (pc := 10) hk dX0_person_10 rfl ?_
  refine g_iconst (pc := 11) (v := 0) hk dX0_person_11 rfl ?_
  refine g_bipush (pc := 12) (v := 99) hk dX0_person_12 rfl ?_
  refine g_ob1 (fun r2 h3 => ?_)
  refine g_callP (pc := 14) hk [.int v1, .int 0, .int 99] [] (cm_in v1 0 99 r2 h3) (lw_S q296 q297 q124 q298) hs_c_in rfl ⟨rfl, rfl⟩ rfl rfl dX0_person_14 rfl rfl ⟨rfl, rfl⟩ ?_
  refine g_if_eq (pc := 17) (tgt := 36) hk dX0_person_17 rfl ?_ ?_
  · refine g_iconst (pc := 36) (v := (-1)) hk dX0_person_36 rfl ?_
    exact c_iret (pc := 37) hk hK rfl dX0_person_37 rfl rfl
  · refine g_iload_n (pc := 20) hk dX0_person_20 rfl ?_
    refine g_iconst (pc := 21) (v := 0) hk dX0_person_21 rfl ?_
    refine g_bipush (pc := 22) (v := 9) hk dX0_person_22 rfl ?_
    refine g_ob1 (fun r4 h5 => ?_)
    refine g_callP (pc := 24) hk [.int v2, .int 0, .int 9] [] (cm_in v2 0 9 r4 h5) (lw_S q296 q297 q124 q298) hs_c_in rfl ⟨rfl, rfl⟩ rfl rfl dX0_person_24 rfl rfl ⟨rfl, rfl⟩ ?_
    refine g_if_eq (pc := 27) (tgt := 36) hk dX0_person_27 rfl ?_ ?_
    · refine g_iconst (pc := 36) (v := (-1)) hk dX0_person_36 rfl ?_
      exact c_iret (pc := 37) hk hK rfl dX0_person_37 rfl rfl
    · refine g_iload_n (pc := 30) hk dX0_person_30 rfl ?_
      refine g_bipush (pc := 31) (v := 8) hk dX0_person_31 rfl ?_
      refine g_icmp_ne (pc := 33) (tgt := 38) hk dX0_person_33 rfl ?_ ?_
      · refine g_aload_n (pc := 38) hk dX0_person_38 rfl ?_
        refine c_getR (pc := 39) hk hK cr_0 cf_0 dX0_person_39 ?_
        refine c_getS (pc := 42) (w := 0) hk hK (by decide) sr_0 sn_0 dX0_person_42 ?_
        refine g_iconst (pc := 45) (v := 0) hk dX0_person_45 rfl ?_
        refine g_dup2 (pc := 46) hk dX0_person_46 rfl rfl ?_
        refine c_ialdC (pc := 47) (k := 0) (j := 0) hk hK cav_0 rfl rfl dX0_person_47 ?_
        refine g_iconst (pc := 48) (v := 1) hk dX0_person_48 rfl ?_
        refine g_iadd (pc := 49) hk dX0_person_49 ?_
        refine c_iastC (pc := 50) (k := 0) (j := 0) hk hK cav_0 rfl rfl dX0_person_50 (fun σ6 => ?_)
        refine g_aload_n (pc := 51) hk dX0_person_51 rfl ?_
        refine c_getR (pc := 52) hk hK cr_0 cf_0 dX0_person_52 ?_
        refine g_iconst (pc := 55) (v := 3) hk dX0_person_55 rfl ?_
        refine g_iload_n (pc := 56) hk dX0_person_56 rfl ?_
        refine g_iadd (pc := 57) hk dX0_person_57 ?_
        refine g_iload_n (pc := 58) hk dX0_person_58 rfl ?_
        refine g_ob1 (fun σ8 h7 => ?_)
        refine c_callV (pc := 59) hk hK (rec_S (w := 0) hK (by decide)) [.int (3 + x1), .int v1] [] (sm_tells Γ σ6 0 (3 + x1) v1 (by decide) σ8 h7) (lw_V q299 q300 q301 q125 q302) hv_s_tells rfl rfl rfl dX0_person_59 rfl rfl ⟨rfl, rfl⟩ ?_
        refine g_aload_n (pc := 62) hk dX0_person_62 rfl ?_
        refine c_getR (pc := 63) hk hK cr_0 cf_0 dX0_person_63 ?_
        refine g_bipush (pc := 66) (v := 11) hk dX0_person_66 rfl ?_
        refine g_iload_n (pc := 68) hk dX0_person_68 rfl ?_
        refine g_iadd (pc := 69) hk dX0_person_69 ?_
        refine g_iload_n (pc := 70) hk dX0_person_70 rfl ?_
        refine g_ob1 (fun σ10 h9 => ?_)
        refine c_callV (pc := 71) hk hK (rec_S (w := 0) hK (by decide)) [.int (11 + x1), .int v2] [] (sm_tells Γ σ8 0 (11 + x1) v2 (by decide) σ10 h9) (lw_V q299 q300 q301 q125 q302) hv_s_tells rfl rfl rfl dX0_person_71 rfl rfl ⟨rfl, rfl⟩ ?_
        refine g_iload_n (pc := 74) hk dX0_person_74 rfl ?_
        exact c_iret (pc := 75) hk hK rfl dX0_person_75 rfl rfl
      · refine g_iconst (pc := 36) (v := (-1)) hk dX0_person_36 rfl ?_
        exact c_iret (pc := 37) hk hK rfl dX0_person_37 rfl rfl
def rm_c_isChair : Room := { frames := 2, cells := 0, slots := 0, locals := 62 }
theorem hs_c_isChair : yX0_isChair.cls ≠ "java/lang/invoke/MethodHandle" ∧ yX0_isChair.cls ≠ "java/lang/invoke/VarHandle" ∧ (parseMethodDescriptor yX0_isChair.desc).map (fun d => d.parameters.length) = some 1 := by decide +kernel
theorem cm_isChair (v0 : Int32)  (r : Int32) (h : C_isChair v0 = some r) : PMet yX0_isChair cX0_isChair 1 (some .boolean) rm_c_isChair [.int v0] (some (.int r)) := by
  refine p_met (view := (fun r : Int32 => some (Value.int r))) (own := RX0) rfl (by decide) rfl (ls0 := [(0, .int v0)]) rfl (fun K hk => ?_) r h
  unfold C_isChair
  refine g_iload_n (pc := 0) hk dX0_isChair_0 rfl ?_
  refine g_iconst (pc := 1) (v := 0) hk dX0_isChair_1 rfl ?_
  refine g_bipush (pc := 2) (v := 7) hk dX0_isChair_2 rfl ?_
  refine g_ob1 (fun r1 h2 => ?_)
  refine g_callP (pc := 4) hk [.int v0, .int 0, .int 7] [] (cm_in v0 0 7 r1 h2) (lw_S q296 q297 q124 q298) hs_c_in rfl ⟨rfl, rfl⟩ rfl rfl dX0_isChair_4 rfl rfl ⟨rfl, rfl⟩ ?_
  exact g_gd (fun h3 => p_zret (pc := 7) hk h3 rfl dX0_isChair_7)
def rm_c_other : Room := { frames := 3, cells := 0, slots := 0, locals := 82 }
theorem hv_c_other : yX0_other.cls = RX0 ∧ yX0_other.cls ≠ "java/lang/invoke/MethodHandle" ∧ yX0_other.cls ≠ "java/lang/invoke/VarHandle" ∧ (parseMethodDescriptor yX0_other.desc).map (fun d => d.parameters.length) = some 2 := by decide +kernel
theorem cm_other (Γ : CG) (σ : CS) (v1 : Int32) (v2 : Int32)  (r : Int32 × CS) (h : C_other σ v1 v2 = some r) : CMet Γ yX0_other cX0_other 3 (some .boolean) rm_c_other [.ref (gA Γ 300), .int v1, .int v2] σ (some (.int r.1)) r.2 := by
  refine c_met (view := (fun r : Int32 × CS => (some (Value.int r.1), r.2))) (own := RX0) rfl (by decide) rfl (ls0 := [(0, .ref (gA Γ 300)), (1, .int v1), (2, .int v2)]) rfl (fun K hk hK => ?_) r h
  unfold C_other
  refine g_iload_n (pc := 0) hk dX0_other_0 rfl ?_
  refine g_ob1 (fun r1 h2 => ?_)
  refine g_callP (pc := 1) hk [.int v1] [] (cm_isChair v1 r1 h2) (lw_S q307 q308 q124 q309) hs_c_isChair rfl ⟨rfl, rfl⟩ rfl rfl dX0_other_1 rfl rfl ⟨rfl, rfl⟩ ?_
  refine g_if_eq (pc := 4) (tgt := 14) hk dX0_other_4 rfl ?_ ?_
  · refine g_iconst (pc := 14) (v := 0) hk dX0_other_14 rfl ?_
    exact c_zret (pc := 15) hk hK rfl rfl dX0_other_15 rfl rfl
  · refine g_iload_n (pc := 7) hk dX0_other_7 rfl ?_
    refine g_ob1 (fun r3 h4 => ?_)
    refine g_callP (pc := 8) hk [.int v2] [] (cm_isChair v2 r3 h4) (lw_S q307 q308 q124 q309) hs_c_isChair rfl ⟨rfl, rfl⟩ rfl rfl dX0_other_8 rfl rfl ⟨rfl, rfl⟩ ?_
    refine g_if_ne (pc := 11) (tgt := 16) hk dX0_other_11 rfl ?_ ?_
    · refine g_aload_n (pc := 16) hk dX0_other_16 rfl ?_
      refine c_getR (pc := 17) hk hK cr_0 cf_0 dX0_other_17 ?_
      refine c_getS (pc := 20) (w := 0) hk hK (by decide) sr_2 sn_2 dX0_other_20 ?_
      refine g_iload_n (pc := 23) hk dX0_other_23 rfl ?_
      refine g_iload_n (pc := 24) hk dX0_other_24 rfl ?_
      refine c_iast (pc := 25) (k := 2) hk hK cav_2 dX0_other_25 (fun σ5 => ?_)
      refine g_iconst (pc := 26) (v := 1) hk dX0_other_26 rfl ?_
      exact c_zret (pc := 27) hk hK rfl rfl dX0_other_27 rfl rfl
    · refine g_iconst (pc := 14) (v := 0) hk dX0_other_14 rfl ?_
      exact c_zret (pc := 15) hk hK rfl rfl dX0_other_15 rfl rfl
def rm_c_put : Room := { frames := 1, cells := 0, slots := 0, locals := 40 }
theorem hv_c_put : yX0_put.cls = RX0 ∧ yX0_put.cls ≠ "java/lang/invoke/MethodHandle" ∧ yX0_put.cls ≠ "java/lang/invoke/VarHandle" ∧ (parseMethodDescriptor yX0_put.desc).map (fun d => d.parameters.length) = some 1 := by decide +kernel
theorem cm_put_l3 {K : KT} {Γ : CG} (hk : KOK K cX0_put 3 RX0 rm_c_put none) (hK : CK Γ (kS K)) (v1 : Int32) : ∀ (n : Nat) (σ : CS) (v2 : Int32), GGo K (cQ K Γ rm_c_put (fun r : CS => ((none : Option Value), r))) (C_put_l3 v1 n σ v2) 3 (CI Γ (kS K) σ) 0 0 3 [(0, .ref (gA Γ 300)), (1, .int v1), (2, .int v2)] [] := by
  intro n
  induction n with
  | zero =>
    intro σ v2
    unfold C_put_l3
    exact g_none
  | succ n ih =>
    intro σ v2
    unfold C_put_l3
    refine g_iload_n (pc := 3) hk dX0_put_3 rfl ?_
    refine g_if_lt (pc := 4) (tgt := 36) hk dX0_put_4 rfl ?_ ?_
    · exact c_vret (pc := 36) hk hK rfl dX0_put_36 rfl rfl
    · refine g_aload_n (pc := 7) hk dX0_put_7 rfl ?_
      refine c_getR (pc := 8) hk hK cr_2 cf_2 dX0_put_8 ?_
      refine g_aload_n (pc := 11) hk dX0_put_11 rfl ?_
      refine c_getI (pc := 12) hk hK ci_3 cf_3 dX0_put_12 ?_
      refine g_iload_n (pc := 15) hk dX0_put_15 rfl ?_
      refine g_iload_n (pc := 16) hk dX0_put_16 rfl ?_
      refine g_ishr (pc := 17) hk dX0_put_17 ?_
      refine g_i2b (pc := 18) hk dX0_put_18 ?_
      refine c_bast (pc := 19) (k := 200) hk hK cbv_200 dX0_put_19 (fun σ1 => ?_)
      refine g_aload_n (pc := 20) hk dX0_put_20 rfl ?_
      refine g_dup (pc := 21) hk dX0_put_21 rfl ?_
      refine c_getI (pc := 22) hk hK ci_3 cf_3 dX0_put_22 ?_
      refine g_iconst (pc := 25) (v := 1) hk dX0_put_25 rfl ?_
      refine g_iadd (pc := 26) hk dX0_put_26 ?_
      refine c_putI (pc := 27) hk hK ci_3 cf_3 dX0_put_27 (fun σ2 => ?_)
      refine g_iincN (pc := 30) (v := (-8)) (ls' := fun x3 => [(2, .int x3), (0, .ref (gA Γ 300)), (1, .int v1)]) hk dX0_put_30 rfl rfl (by decide) (fun _ => rfl) (fun x3 => ?_)
      refine g_goto (pc := 33) (tgt := 3) hk dX0_put_33 rfl ?_
      refine g_sub (ls' := [(0, .ref (gA Γ 300)), (1, .int v1), (2, .int x3)]) [1, 2, 0] rfl ?_
      exact ih σ2 x3
theorem cm_put (Γ : CG) (σ : CS) (v1 : Int32)  (r : CS) (h : C_put σ v1 = some r) : CMet Γ yX0_put cX0_put 3 none rm_c_put [.ref (gA Γ 300), .int v1] σ none r := by
  refine c_met (view := (fun r : CS => ((none : Option Value), r))) (own := RX0) rfl (by decide) rfl (ls0 := [(0, .ref (gA Γ 300)), (1, .int v1)]) rfl (fun K hk hK => ?_) r h
  unfold C_put
  refine g_bipush (pc := 0) (v := 24) hk dX0_put_0 rfl ?_
  refine g_istore_n (pc := 2) (i := 2) (ls' := [(2, .int 24), (0, .ref (gA Γ 300)), (1, .int v1)]) hk dX0_put_2 rfl (by decide) rfl ?_
  refine g_sub (ls' := [(0, .ref (gA Γ 300)), (1, .int v1), (2, .int 24)]) [1, 2, 0] rfl ?_
  exact cm_put_l3 hk hK v1 FU σ 24
def rm_c_feed : Room := { frames := 2, cells := 0, slots := 0, locals := 62 }
theorem hv_c_feed : yX0_feed.cls = RX0 ∧ yX0_feed.cls ≠ "java/lang/invoke/MethodHandle" ∧ yX0_feed.cls ≠ "java/lang/invoke/VarHandle" ∧ (parseMethodDescriptor yX0_feed.desc).map (fun d => d.parameters.length) = some 5 := by decide +kernel
theorem cm_feed (Γ : CG) (σ : CS) (v1 : Int32) (v2 : Int32) (v3 : Int32) (v4 : Int32) (v5 : Int32)  (r : Int32 × CS) (h : C_feed σ v1 v2 v3 v4 v5 = some r) : CMet Γ yX0_feed cX0_feed 6 (some .int) rm_c_feed [.ref (gA Γ 300), .int v1, .int v2, .int v3, .int v4, .int v5] σ (some (.int r.1)) r.2 := by
  refine c_met (view := (fun r : Int32 × CS => (some (Value.int r.1), r.2))) (own := RX0) rfl (by decide) rfl (ls0 := [(0, .ref (gA Γ 300)), (1, .int v1), (2, .int v2), (3, .int v3), (4, .int v4), (5, .int v5)]) rfl (fun K hk hK => ?_) r h
  unfold C_feed
  refine g_aload_n (pc := 0) hk dX0_feed_0 rfl ?_
  refine c_getI (pc := 1) hk hK ci_3 cf_3 dX0_feed_1 ?_
  refine g_bipush (pc := 4) (v := 20) hk dX0_feed_4 rfl ?_
  refine g_iadd (pc := 6) hk dX0_feed_6 ?_
  refine g_sipush (pc := 7) (v := 300) hk dX0_feed_7 rfl ?_
  refine g_icmp_le (pc := 10) (tgt := 15) hk dX0_feed_10 rfl ?_ ?_
  · refine g_aload_n (pc := 15) hk dX0_feed_15 rfl ?_
    refine g_iload_n (pc := 16) hk dX0_feed_16 rfl ?_
    refine g_ob1 (fun σ2 h1 => ?_)
    refine c_callV (pc := 17) hk hK (rec_X hK) [.int v1] [] (cm_put Γ σ v1 σ2 h1) (lw_V q314 q316 qs0 q124 q317) hv_c_put rfl rfl rfl dX0_feed_17 rfl rfl ⟨rfl, rfl⟩ ?_
    refine g_aload_n (pc := 20) hk dX0_feed_20 rfl ?_
    refine g_iload_n (pc := 21) hk dX0_feed_21 rfl ?_
    refine g_ob1 (fun σ4 h3 => ?_)
    refine c_callV (pc := 22) hk hK (rec_X hK) [.int v2] [] (cm_put Γ σ2 v2 σ4 h3) (lw_V q314 q316 qs0 q124 q317) hv_c_put rfl rfl rfl dX0_feed_22 rfl rfl ⟨rfl, rfl⟩ ?_
    refine g_aload_n (pc := 25) hk dX0_feed_25 rfl ?_
    refine g_iload_n (pc := 26) hk dX0_feed_26 rfl ?_
    refine g_ob1 (fun σ6 h5 => ?_)
    refine c_callV (pc := 27) hk hK (rec_X hK) [.int v3] [] (cm_put Γ σ4 v3 σ6 h5) (lw_V q314 q316 qs0 q124 q317) hv_c_put rfl rfl rfl dX0_feed_27 rfl rfl ⟨rfl, rfl⟩ ?_
    refine g_aload_n (pc := 30) hk dX0_feed_30 rfl ?_
    refine g_iload (pc := 31) hk dX0_feed_31 rfl ?_
    refine g_ob1 (fun σ8 h7 => ?_)
    refine c_callV (pc := 33) hk hK (rec_X hK) [.int v4] [] (cm_put Γ σ6 v4 σ8 h7) (lw_V q314 q316 qs0 q124 q317) hv_c_put rfl rfl rfl dX0_feed_33 rfl rfl ⟨rfl, rfl⟩ ?_
    refine g_aload_n (pc := 36) hk dX0_feed_36 rfl ?_
    refine g_iload (pc := 37) hk dX0_feed_37 rfl ?_
    refine g_ob1 (fun σ10 h9 => ?_)
    refine c_callV (pc := 39) hk hK (rec_X hK) [.int v5] [] (cm_put Γ σ8 v5 σ10 h9) (lw_V q314 q316 qs0 q124 q317) hv_c_put rfl rfl rfl dX0_feed_39 rfl rfl ⟨rfl, rfl⟩ ?_
    refine g_aload_n (pc := 42) hk dX0_feed_42 rfl ?_
    refine c_getI (pc := 43) hk hK ci_3 cf_3 dX0_feed_43 ?_
    exact c_iret (pc := 46) hk hK rfl dX0_feed_46 rfl rfl
  · refine g_iconst (pc := 13) (v := (-1)) hk dX0_feed_13 rfl ?_
    exact c_iret (pc := 14) hk hK rfl dX0_feed_14 rfl rfl
def rm_c_end : Room := { frames := 2, cells := 0, slots := 0, locals := 62 }
theorem hv_c_end : yX0_end.cls = RX0 ∧ yX0_end.cls ≠ "java/lang/invoke/MethodHandle" ∧ yX0_end.cls ≠ "java/lang/invoke/VarHandle" ∧ (parseMethodDescriptor yX0_end.desc).map (fun d => d.parameters.length) = some 1 := by decide +kernel
theorem cm_end (Γ : CG) (σ : CS) (v1 : Int32)  (r : Int32 × CS) (h : C_end σ v1 = some r) : CMet Γ yX0_end cX0_end 2 (some .int) rm_c_end [.ref (gA Γ 300), .int v1] σ (some (.int r.1)) r.2 := by
  refine c_met (view := (fun r : Int32 × CS => (some (Value.int r.1), r.2))) (own := RX0) rfl (by decide) rfl (ls0 := [(0, .ref (gA Γ 300)), (1, .int v1)]) rfl (fun K hk hK => ?_) r h
  unfold C_end
  refine g_iload_n (pc := 0) hk dX0_end_0 rfl ?_
  refine g_iconst (pc := 1) (v := 0) hk dX0_end_1 rfl ?_
  refine g_aload_n (pc := 2) hk dX0_end_2 rfl ?_
  refine c_getI (pc := 3) hk hK ci_3 cf_3 dX0_end_3 ?_
  refine g_ob1 (fun r1 h2 => ?_)
  refine g_callP (pc := 6) hk [.int v1, .int 0, .int (cI σ 3)] [] (cm_in v1 0 (cI σ 3) r1 h2) (lw_S q296 q297 q124 q298) hs_c_in rfl ⟨rfl, rfl⟩ rfl rfl dX0_end_6 rfl rfl ⟨rfl, rfl⟩ ?_
  refine g_if_ne (pc := 9) (tgt := 14) hk dX0_end_9 rfl ?_ ?_
  · refine g_aload_n (pc := 14) hk dX0_end_14 rfl ?_
    refine g_iload_n (pc := 15) hk dX0_end_15 rfl ?_
    refine c_putI (pc := 16) hk hK ci_3 cf_3 dX0_end_16 (fun σ3 => ?_)
    refine g_iload_n (pc := 19) hk dX0_end_19 rfl ?_
    exact c_iret (pc := 20) hk hK rfl dX0_end_20 rfl rfl
  · refine g_iconst (pc := 12) (v := (-1)) hk dX0_end_12 rfl ?_
    exact c_iret (pc := 13) hk hK rfl dX0_end_13 rfl rfl
def rm_c_fault : Room := { frames := 1, cells := 0, slots := 0, locals := 40 }
theorem hv_c_fault : yX0_fault.cls = RX0 ∧ yX0_fault.cls ≠ "java/lang/invoke/MethodHandle" ∧ yX0_fault.cls ≠ "java/lang/invoke/VarHandle" ∧ (parseMethodDescriptor yX0_fault.desc).map (fun d => d.parameters.length) = some 1 := by decide +kernel
theorem cm_fault (Γ : CG) (σ : CS) (v1 : Int32)  (r : Int32) (h : C_fault σ v1 = some r) : CMet Γ yX0_fault cX0_fault 2 (some .int) rm_c_fault [.ref (gA Γ 300), .int v1] σ (some (.int r)) σ := by
  refine c_met (view := (fun r : Int32 => (some (Value.int r), σ))) (own := RX0) rfl (by decide) rfl (ls0 := [(0, .ref (gA Γ 300)), (1, .int v1)]) rfl (fun K hk hK => ?_) r h
  unfold C_fault
  refine g_iload_n (pc := 0) hk dX0_fault_0 rfl ?_
  refine g_if_ne (pc := 1) (tgt := 11) hk dX0_fault_1 rfl ?_ ?_
  · refine g_iload_n (pc := 11) hk dX0_fault_11 rfl ?_
    refine g_iconst (pc := 12) (v := 1) hk dX0_fault_12 rfl ?_
    refine g_icmp_ne (pc := 13) (tgt := 23) hk dX0_fault_13 rfl ?_ ?_
    · refine g_iconst (pc := 23) (v := (-1)) hk dX0_fault_23 rfl ?_
      exact c_iret (pc := 24) hk hK rfl dX0_fault_24 rfl rfl
    · refine g_aload_n (pc := 16) hk dX0_fault_16 rfl ?_
      refine c_getI (pc := 17) hk hK ci_5 cf_5 dX0_fault_17 ?_
      refine g_goto (pc := 20) (tgt := 24) hk dX0_fault_20 rfl ?_
      exact c_iret (pc := 24) hk hK rfl dX0_fault_24 rfl rfl
  · refine g_aload_n (pc := 4) hk dX0_fault_4 rfl ?_
    refine c_getI (pc := 5) hk hK ci_4 cf_4 dX0_fault_5 ?_
    refine g_goto (pc := 8) (tgt := 24) hk dX0_fault_8 rfl ?_
    exact c_iret (pc := 24) hk hK rfl dX0_fault_24 rfl rfl
def rm_c_isText : Room := { frames := 2, cells := 0, slots := 0, locals := 62 }
theorem hv_c_isText : yX0_isText.cls = RX0 ∧ yX0_isText.cls ≠ "java/lang/invoke/MethodHandle" ∧ yX0_isText.cls ≠ "java/lang/invoke/VarHandle" ∧ (parseMethodDescriptor yX0_isText.desc).map (fun d => d.parameters.length) = some 1 := by decide +kernel
theorem cm_isText (Γ : CG) (σ : CS) (v1 : Int32)  (r : Int32) (h : C_isText σ v1 = some r) : CMet Γ yX0_isText cX0_isText 2 (some .boolean) rm_c_isText [.ref (gA Γ 300), .int v1] σ (some (.int r)) σ := by
  refine c_met (view := (fun r : Int32 => (some (Value.int r), σ))) (own := RX0) rfl (by decide) rfl (ls0 := [(0, .ref (gA Γ 300)), (1, .int v1)]) rfl (fun K hk hK => ?_) r h
  unfold C_isText
  refine g_iload_n (pc := 0) hk dX0_isText_0 rfl ?_
  refine g_iconst (pc := 1) (v := 0) hk dX0_isText_1 rfl ?_
  refine g_aload_n (pc := 2) hk dX0_isText_2 rfl ?_
  refine c_getR (pc := 3) hk hK cr_0 cf_0 dX0_isText_3 ?_
  refine c_getS (pc := 6) (w := 0) hk hK (by decide) sr_0 sn_0 dX0_isText_6 ?_
  refine g_iconst (pc := 9) (v := 1) hk dX0_isText_9 rfl ?_
  refine c_ialdC (pc := 10) (k := 0) (j := 1) hk hK cav_0 rfl rfl dX0_isText_10 ?_
  refine g_iconst (pc := 11) (v := 1) hk dX0_isText_11 rfl ?_
  refine g_isub (pc := 12) hk dX0_isText_12 ?_
  refine g_ob1 (fun r1 h2 => ?_)
  refine g_callP (pc := 13) hk [.int v1, .int 0, .int ((cA σ 0 1) - 1)] [] (cm_in v1 0 ((cA σ 0 1) - 1) r1 h2) (lw_S q296 q297 q124 q298) hs_c_in rfl ⟨rfl, rfl⟩ rfl rfl dX0_isText_13 rfl rfl ⟨rfl, rfl⟩ ?_
  exact g_gd (fun h3 => c_zret (pc := 16) hk hK h3 rfl dX0_isText_16 rfl rfl)
def rm_c_by : Room := { frames := 3, cells := 0, slots := 0, locals := 83 }
theorem hv_c_by : yX0_by.cls = RX0 ∧ yX0_by.cls ≠ "java/lang/invoke/MethodHandle" ∧ yX0_by.cls ≠ "java/lang/invoke/VarHandle" ∧ (parseMethodDescriptor yX0_by.desc).map (fun d => d.parameters.length) = some 1 := by decide +kernel
theorem cm_by_j15 {K : KT} {Γ : CG} (hk : KOK K cX0_by 2 RX0 rm_c_by (some .boolean)) (hK : CK Γ (kS K)) (σ : CS) (v1 : Int32) : GGo K (cQ K Γ rm_c_by (fun r : Int32 × CS => (some (Value.int r.1), r.2))) (C_by_j15 σ v1) 2 (CI Γ (kS K) σ) 0 0 15 [(0, .ref (gA Γ 300)), (1, .int v1)] [] := by
  unfold C_by_j15
  refine g_aload_n (pc := 15) hk dX0_by_15 rfl ?_
  refine c_getR (pc := 16) hk hK cr_0 cf_0 dX0_by_16 ?_
  refine c_getS (pc := 19) (w := 0) hk hK (by decide) sr_0 sn_0 dX0_by_19 ?_
  refine g_iconst (pc := 22) (v := 2) hk dX0_by_22 rfl ?_
  refine g_iload_n (pc := 23) hk dX0_by_23 rfl ?_
  refine c_iastC (pc := 24) (k := 0) (j := 2) hk hK cav_0 rfl rfl dX0_by_24 (fun σ1 => ?_)
  refine g_iconst (pc := 25) (v := 1) hk dX0_by_25 rfl ?_
  exact c_zret (pc := 26) hk hK rfl rfl dX0_by_26 rfl rfl
theorem cm_by (Γ : CG) (σ : CS) (v1 : Int32)  (r : Int32 × CS) (h : C_by σ v1 = some r) : CMet Γ yX0_by cX0_by 2 (some .boolean) rm_c_by [.ref (gA Γ 300), .int v1] σ (some (.int r.1)) r.2 := by
  refine c_met (view := (fun r : Int32 × CS => (some (Value.int r.1), r.2))) (own := RX0) rfl (by decide) rfl (ls0 := [(0, .ref (gA Γ 300)), (1, .int v1)]) rfl (fun K hk hK => ?_) r h
  unfold C_by
  refine g_iload_n (pc := 0) hk dX0_by_0 rfl ?_
  refine g_iconst (pc := 1) (v := (-1)) hk dX0_by_1 rfl ?_
  refine g_icmp_eq (pc := 2) (tgt := 15) hk dX0_by_2 rfl ?_ ?_
  · exact cm_by_j15 hk hK σ v1
  · refine g_aload_n (pc := 5) hk dX0_by_5 rfl ?_
    refine g_iload_n (pc := 6) hk dX0_by_6 rfl ?_
    refine g_ob1 (fun r2 h3 => ?_)
    refine c_callV (pc := 7) hk hK (rec_X hK) [.int v1] [] (cm_isText Γ σ v1 r2 h3) (lw_V q872 q874 qs24 q124 q875) hv_c_isText rfl rfl rfl dX0_by_7 rfl rfl ⟨rfl, rfl⟩ ?_
    refine g_if_ne (pc := 10) (tgt := 15) hk dX0_by_10 rfl ?_ ?_
    · exact cm_by_j15 hk hK σ v1
    · refine g_iconst (pc := 13) (v := 0) hk dX0_by_13 rfl ?_
      exact c_zret (pc := 14) hk hK rfl rfl dX0_by_14 rfl rfl
def rm_c_isPerson : Room := { frames := 2, cells := 0, slots := 0, locals := 62 }
theorem hv_c_isPerson : yX0_isPerson.cls = RX0 ∧ yX0_isPerson.cls ≠ "java/lang/invoke/MethodHandle" ∧ yX0_isPerson.cls ≠ "java/lang/invoke/VarHandle" ∧ (parseMethodDescriptor yX0_isPerson.desc).map (fun d => d.parameters.length) = some 1 := by decide +kernel
theorem cm_isPerson (Γ : CG) (σ : CS) (v1 : Int32)  (r : Int32) (h : C_isPerson σ v1 = some r) : CMet Γ yX0_isPerson cX0_isPerson 2 (some .boolean) rm_c_isPerson [.ref (gA Γ 300), .int v1] σ (some (.int r)) σ := by
  refine c_met (view := (fun r : Int32 => (some (Value.int r), σ))) (own := RX0) rfl (by decide) rfl (ls0 := [(0, .ref (gA Γ 300)), (1, .int v1)]) rfl (fun K hk hK => ?_) r h
  unfold C_isPerson
  refine g_iload_n (pc := 0) hk dX0_isPerson_0 rfl ?_
  refine g_iconst (pc := 1) (v := 0) hk dX0_isPerson_1 rfl ?_
  refine g_aload_n (pc := 2) hk dX0_isPerson_2 rfl ?_
  refine c_getR (pc := 3) hk hK cr_0 cf_0 dX0_isPerson_3 ?_
  refine c_getS (pc := 6) (w := 0) hk hK (by decide) sr_0 sn_0 dX0_isPerson_6 ?_
  refine g_iconst (pc := 9) (v := 0) hk dX0_isPerson_9 rfl ?_
  refine c_ialdC (pc := 10) (k := 0) (j := 0) hk hK cav_0 rfl rfl dX0_isPerson_10 ?_
  refine g_iconst (pc := 11) (v := 1) hk dX0_isPerson_11 rfl ?_
  refine g_isub (pc := 12) hk dX0_isPerson_12 ?_
  refine g_ob1 (fun r1 h2 => ?_)
  refine g_callP (pc := 13) hk [.int v1, .int 0, .int ((cA σ 0 0) - 1)] [] (cm_in v1 0 ((cA σ 0 0) - 1) r1 h2) (lw_S q296 q297 q124 q298) hs_c_in rfl ⟨rfl, rfl⟩ rfl rfl dX0_isPerson_13 rfl rfl ⟨rfl, rfl⟩ ?_
  exact g_gd (fun h3 => c_zret (pc := 16) hk hK h3 rfl dX0_isPerson_16 rfl rfl)
def rm_s_keeps : Room := { frames := 2, cells := 0, slots := 0, locals := 61 }
theorem hv_s_keeps : yX1_keeps.cls = RX1 ∧ yX1_keeps.cls ≠ "java/lang/invoke/MethodHandle" ∧ yX1_keeps.cls ≠ "java/lang/invoke/VarHandle" ∧ (parseMethodDescriptor yX1_keeps.desc).map (fun d => d.parameters.length) = some 0 := by decide +kernel
theorem sm_keeps_j52 {K : KT} {Γ : CG} (hk : KOK K cX1_keeps 2 RX1 rm_s_keeps none) (hK : CK Γ (kS K)) (σ : CS) (w : Nat) (hw : w < 2) : GGo K (cQ K Γ rm_s_keeps (fun r : CS => ((none : Option Value), r))) (S_keeps_j52 σ w) 2 (CI Γ (kS K) σ) 0 0 52 [(0, .ref (gA Γ (301 + w)))] [] := by
  unfold S_keeps_j52
  refine g_aload_n (pc := 52) hk dX1_keeps_52 rfl ?_
  refine s_getR (pc := 53) (w := w) hk hK hw sr_1 sf_1 dX1_keeps_53 ?_
  refine g_aload_n (pc := 56) hk dX1_keeps_56 rfl ?_
  refine s_getR (pc := 57) (w := w) hk hK hw sr_9 sf_9 dX1_keeps_57 ?_
  refine g_aload_n (pc := 60) hk dX1_keeps_60 rfl ?_
  refine s_getR (pc := 61) (w := w) hk hK hw sr_0 sf_0 dX1_keeps_61 ?_
  refine g_iconst (pc := 64) (v := 3) hk dX1_keeps_64 rfl ?_
  refine c_ialdC (pc := 65) (k := (100 * w + 0)) (j := 3) hk hK (cav_s0 hw) rfl rfl dX1_keeps_65 ?_
  refine c_aald (pc := 66) (w := w) (j := 9) hk hK hw (by decide) (by decide) rfl dX1_keeps_66 (fun h1 => ?_)
  refine g_ob1 (fun σ3 h2 => ?_)
  refine c_callS (pc := 67) hk hK [.ref (gA Γ (100 * w + 1)), .ref (gA Γ ((100 * w + 50) + (cA σ (100 * w + 0) 3).toNatClampNeg))] [] (sm_copy Γ σ (100 * w + 1) 148 ((100 * w + 50) + (cA σ (100 * w + 0) 3).toNatClampNeg) 148 (cav_s1 hw) (cav_row9 (w := w) hw h1) σ3 h2) (lw_S q230 q231 q125 q232) hs_s_copy rfl rfl rfl dX1_keeps_67 rfl rfl ⟨rfl, rfl⟩ ?_
  refine g_aload_n (pc := 70) hk dX1_keeps_70 rfl ?_
  refine s_getR (pc := 71) (w := w) hk hK hw sr_0 sf_0 dX1_keeps_71 ?_
  refine g_iconst (pc := 74) (v := 3) hk dX1_keeps_74 rfl ?_
  refine g_dup2 (pc := 75) hk dX1_keeps_75 rfl rfl ?_
  refine c_ialdC (pc := 76) (k := (100 * w + 0)) (j := 3) hk hK (cav_s0 hw) rfl rfl dX1_keeps_76 ?_
  refine g_iconst (pc := 77) (v := 1) hk dX1_keeps_77 rfl ?_
  refine g_iadd (pc := 78) hk dX1_keeps_78 ?_
  refine c_iastC (pc := 79) (k := (100 * w + 0)) (j := 3) hk hK (cav_s0 hw) rfl rfl dX1_keeps_79 (fun σ4 => ?_)
  exact c_vret (pc := 80) hk hK rfl dX1_keeps_80 rfl rfl
theorem sm_keeps_l13 {K : KT} {Γ : CG} (hk : KOK K cX1_keeps 2 RX1 rm_s_keeps none) (hK : CK Γ (kS K)) (w : Nat) (hw : w < 2) : ∀ (n : Nat) (σ : CS) (v1 : Int32), GGo K (cQ K Γ rm_s_keeps (fun r : CS => ((none : Option Value), r))) (S_keeps_l13 w n σ v1) 2 (CI Γ (kS K) σ) 0 0 13 [(0, .ref (gA Γ (301 + w))), (1, .int v1)] [] := by
  intro n
  induction n with
  | zero =>
    intro σ v1
    unfold S_keeps_l13
    exact g_none
  | succ n ih =>
    intro σ v1
    unfold S_keeps_l13
    refine g_iload_n (pc := 13) hk dX1_keeps_13 rfl ?_
    refine g_bipush (pc := 14) (v := 30) hk dX1_keeps_14 rfl ?_
    refine g_icmp_ge (pc := 16) (tgt := 42) hk dX1_keeps_16 rfl ?_ ?_
    · refine g_aload_n (pc := 42) hk dX1_keeps_42 rfl ?_
      refine s_getR (pc := 43) (w := w) hk hK hw sr_0 sf_0 dX1_keeps_43 ?_
      refine g_iconst (pc := 46) (v := 3) hk dX1_keeps_46 rfl ?_
      refine g_dup2 (pc := 47) hk dX1_keeps_47 rfl rfl ?_
      refine c_ialdC (pc := 48) (k := (100 * w + 0)) (j := 3) hk hK (cav_s0 hw) rfl rfl dX1_keeps_48 ?_
      refine g_iconst (pc := 49) (v := 1) hk dX1_keeps_49 rfl ?_
      refine g_isub (pc := 50) hk dX1_keeps_50 ?_
      refine c_iastC (pc := 51) (k := (100 * w + 0)) (j := 3) hk hK (cav_s0 hw) rfl rfl dX1_keeps_51 (fun σ5 => ?_)
      refine g_sub (ls' := [(0, .ref (gA Γ (301 + w)))]) [0] rfl ?_
      exact sm_keeps_j52 hk hK σ5 w hw
    · refine g_aload_n (pc := 19) hk dX1_keeps_19 rfl ?_
      refine s_getR (pc := 20) (w := w) hk hK hw sr_9 sf_9 dX1_keeps_20 ?_
      refine g_iload_n (pc := 23) hk dX1_keeps_23 rfl ?_
      refine c_aald (pc := 24) (w := w) (j := 9) hk hK hw (by decide) (by decide) rfl dX1_keeps_24 (fun h6 => ?_)
      refine g_aload_n (pc := 25) hk dX1_keeps_25 rfl ?_
      refine s_getR (pc := 26) (w := w) hk hK hw sr_9 sf_9 dX1_keeps_26 ?_
      refine g_iload_n (pc := 29) hk dX1_keeps_29 rfl ?_
      refine g_iconst (pc := 30) (v := 1) hk dX1_keeps_30 rfl ?_
      refine g_isub (pc := 31) hk dX1_keeps_31 ?_
      refine c_aald (pc := 32) (w := w) (j := 9) hk hK hw (by decide) (by decide) rfl dX1_keeps_32 (fun h7 => ?_)
      refine g_ob1 (fun σ9 h8 => ?_)
      refine c_callS (pc := 33) hk hK [.ref (gA Γ ((100 * w + 50) + v1.toNatClampNeg)), .ref (gA Γ ((100 * w + 50) + (v1 - 1).toNatClampNeg))] [] (sm_copy Γ σ ((100 * w + 50) + v1.toNatClampNeg) 148 ((100 * w + 50) + (v1 - 1).toNatClampNeg) 148 (cav_row9 (w := w) hw h6) (cav_row9 (w := w) hw h7) σ9 h8) (lw_S q230 q231 q125 q232) hs_s_copy rfl rfl rfl dX1_keeps_33 rfl rfl ⟨rfl, rfl⟩ ?_
      refine g_iincN (pc := 36) (v := 1) (ls' := fun x10 => [(1, .int x10), (0, .ref (gA Γ (301 + w)))]) hk dX1_keeps_36 rfl rfl (by decide) (fun _ => rfl) (fun x10 => ?_)
      refine g_goto (pc := 39) (tgt := 13) hk dX1_keeps_39 rfl ?_
      refine g_sub (ls' := [(0, .ref (gA Γ (301 + w))), (1, .int x10)]) [1, 0] rfl ?_
      exact ih σ9 x10
theorem sm_keeps (Γ : CG) (σ : CS) (w : Nat) (hw : w < 2) (r : CS) (h : S_keeps σ w = some r) : CMet Γ yX1_keeps cX1_keeps 2 none rm_s_keeps [.ref (gA Γ (301 + w))] σ none r := by
  refine c_met (view := (fun r : CS => ((none : Option Value), r))) (own := RX1) rfl (by decide) rfl (ls0 := [(0, .ref (gA Γ (301 + w)))]) rfl (fun K hk hK => ?_) r h
  unfold S_keeps
  refine g_aload_n (pc := 0) hk dX1_keeps_0 rfl ?_
  refine s_getR (pc := 1) (w := w) hk hK hw sr_0 sf_0 dX1_keeps_1 ?_
  refine g_iconst (pc := 4) (v := 3) hk dX1_keeps_4 rfl ?_
  refine c_ialdC (pc := 5) (k := (100 * w + 0)) (j := 3) hk hK (cav_s0 hw) rfl rfl dX1_keeps_5 ?_
  refine g_bipush (pc := 6) (v := 30) hk dX1_keeps_6 rfl ?_
  refine g_icmp_ne (pc := 8) (tgt := 52) hk dX1_keeps_8 rfl ?_ ?_
  · exact sm_keeps_j52 hk hK σ w hw
  · refine g_iconst (pc := 11) (v := 1) hk dX1_keeps_11 rfl ?_
    refine g_istore_n (pc := 12) (i := 1) (ls' := [(1, .int 1), (0, .ref (gA Γ (301 + w)))]) hk dX1_keeps_12 rfl (by decide) rfl ?_
    refine g_sub (ls' := [(0, .ref (gA Γ (301 + w))), (1, .int 1)]) [1, 0] rfl ?_
    exact sm_keeps_l13 hk hK w hw FU σ 1
def rm_c_draws : Room := { frames := 1, cells := 0, slots := 0, locals := 40 }
theorem hs_c_draws : yX0_draws.cls ≠ "java/lang/invoke/MethodHandle" ∧ yX0_draws.cls ≠ "java/lang/invoke/VarHandle" ∧ (parseMethodDescriptor yX0_draws.desc).map (fun d => d.parameters.length) = some 1 := by decide +kernel
theorem cm_draws (Γ : CG) (σ : CS) (k0 : Nat) (hk0 : cAv k0 148) (r : CS) (h : C_draws σ k0 = some r) : CMet Γ yX0_draws cX0_draws 1 none rm_c_draws [.ref (gA Γ k0)] σ none r := by
  refine c_met (view := (fun r : CS => ((none : Option Value), r))) (own := RX0) rfl (by decide) rfl (ls0 := [(0, .ref (gA Γ k0))]) rfl (fun K hk hK => ?_) r h
  unfold C_draws
  refine g_aload_n (pc := 0) hk dX0_draws_0 rfl ?_
  refine g_iconst (pc := 1) (v := 2) hk dX0_draws_1 rfl ?_
  refine g_aload_n (pc := 2) hk dX0_draws_2 rfl ?_
  refine g_iconst (pc := 3) (v := 2) hk dX0_draws_3 rfl ?_
  refine c_ialdC (pc := 4) (k := k0) (j := 2) hk hK hk0 rfl rfl dX0_draws_4 ?_
  refine g_sipush (pc := 5) (v := 457) hk dX0_draws_5 rfl ?_
  refine g_imul (pc := 8) hk dX0_draws_8 ?_
  refine g_sipush (pc := 9) (v := 347) hk dX0_draws_9 rfl ?_
  refine g_iadd (pc := 12) hk dX0_draws_12 ?_
  refine g_sipush (pc := 13) (v := 30631) hk dX0_draws_13 rfl ?_
  refine g_irem (pc := 16) hk dX0_draws_16 (by decide) ?_
  refine c_iastC (pc := 17) (k := k0) (j := 2) hk hK hk0 rfl rfl dX0_draws_17 (fun σ1 => ?_)
  exact c_vret (pc := 18) hk hK rfl dX0_draws_18 rfl rfl
def rm_c_isScarred : Room := { frames := 2, cells := 0, slots := 0, locals := 61 }
theorem hv_c_isScarred : yX0_isScarred.cls = RX0 ∧ yX0_isScarred.cls ≠ "java/lang/invoke/MethodHandle" ∧ yX0_isScarred.cls ≠ "java/lang/invoke/VarHandle" ∧ (parseMethodDescriptor yX0_isScarred.desc).map (fun d => d.parameters.length) = some 3 := by decide +kernel
theorem cm_isScarred_j15 {K : KT} {Γ : CG} (hk : KOK K cX0_isScarred 6 RX0 rm_c_isScarred (some .boolean)) (hK : CK Γ (kS K)) (σ : CS) (k1 : Nat) (v2 : Int32) (s0 : Int32) (hk1 : cAv k1 148) : GGo K (cQ K Γ rm_c_isScarred (fun r : Int32 × CS => (some (Value.int r.1), r.2))) (C_isScarred_j15 σ k1 v2 s0) 6 (CI Γ (kS K) σ) 0 0 15 [(0, .ref (gA Γ 300)), (1, .ref (gA Γ k1)), (2, .int v2)] [.int s0] := by
  unfold C_isScarred_j15
  refine g_istore (pc := 15) (i := 4) (ls' := [(4, .int s0), (0, .ref (gA Γ 300)), (1, .ref (gA Γ k1)), (2, .int v2)]) hk dX0_isScarred_15 (by decide) rfl ?_
  refine g_aload_n (pc := 17) hk dX0_isScarred_17 rfl ?_
  refine g_ob1 (fun σ2 h1 => ?_)
  refine c_callS (pc := 18) hk hK [.ref (gA Γ k1)] [] (cm_draws Γ σ k1 hk1 σ2 h1) (lw_S q1022 q1023 q124 q1024) hs_c_draws rfl rfl rfl dX0_isScarred_18 rfl rfl ⟨rfl, rfl⟩ ?_
  refine g_iload (pc := 21) hk dX0_isScarred_21 rfl ?_
  refine g_if_ne (pc := 23) (tgt := 28) hk dX0_isScarred_23 rfl ?_ ?_
  · refine g_bipush (pc := 28) (v := 19) hk dX0_isScarred_28 rfl ?_
    refine g_aload_n (pc := 30) hk dX0_isScarred_30 rfl ?_
    refine c_getR (pc := 31) hk hK cr_0 cf_0 dX0_isScarred_31 ?_
    refine c_getS (pc := 34) (w := 0) hk hK (by decide) sr_2 sn_2 dX0_isScarred_34 ?_
    refine g_iload_n (pc := 37) hk dX0_isScarred_37 rfl ?_
    refine c_iald (pc := 38) (k := 2) hk hK cav_2 dX0_isScarred_38 ?_
    refine g_iadd (pc := 39) hk dX0_isScarred_39 ?_
    refine g_istoreN (pc := 40) (i := 5) (ls' := fun x3 => [(5, .int x3), (4, .int s0), (0, .ref (gA Γ 300)), (1, .ref (gA Γ k1)), (2, .int v2)]) hk dX0_isScarred_40 (by decide) (fun _ => rfl) (fun x3 => ?_)
    refine g_aload_n (pc := 42) hk dX0_isScarred_42 rfl ?_
    refine g_iload (pc := 43) hk dX0_isScarred_43 rfl ?_
    refine g_bipush (pc := 45) (v := 99) hk dX0_isScarred_45 rfl ?_
    refine g_aload_n (pc := 47) hk dX0_isScarred_47 rfl ?_
    refine g_iload (pc := 48) hk dX0_isScarred_48 rfl ?_
    refine c_iald (pc := 50) (k := k1) hk hK hk1 dX0_isScarred_50 ?_
    refine g_iconst (pc := 51) (v := 1) hk dX0_isScarred_51 rfl ?_
    refine g_iadd (pc := 52) hk dX0_isScarred_52 ?_
    refine g_i_min (pc := 53) hk q1017 rfl rfl rfl dX0_isScarred_53 ⟨rfl, rfl⟩ ?_
    refine c_iast (pc := 56) (k := k1) hk hK hk1 dX0_isScarred_56 (fun σ4 => ?_)
    refine g_aload_n (pc := 57) hk dX0_isScarred_57 rfl ?_
    refine g_bipush (pc := 58) (v := 11) hk dX0_isScarred_58 rfl ?_
    refine g_iload_n (pc := 60) hk dX0_isScarred_60 rfl ?_
    refine g_iadd (pc := 61) hk dX0_isScarred_61 ?_
    refine g_bipush (pc := 62) (v := 9) hk dX0_isScarred_62 rfl ?_
    refine g_aload_n (pc := 64) hk dX0_isScarred_64 rfl ?_
    refine g_bipush (pc := 65) (v := 11) hk dX0_isScarred_65 rfl ?_
    refine g_iload_n (pc := 67) hk dX0_isScarred_67 rfl ?_
    refine g_iadd (pc := 68) hk dX0_isScarred_68 ?_
    refine c_iald (pc := 69) (k := k1) hk hK hk1 dX0_isScarred_69 ?_
    refine g_iconst (pc := 70) (v := 1) hk dX0_isScarred_70 rfl ?_
    refine g_iadd (pc := 71) hk dX0_isScarred_71 ?_
    refine g_i_min (pc := 72) hk q1017 rfl rfl rfl dX0_isScarred_72 ⟨rfl, rfl⟩ ?_
    refine c_iast (pc := 75) (k := k1) hk hK hk1 dX0_isScarred_75 (fun σ5 => ?_)
    refine g_iconst (pc := 76) (v := 1) hk dX0_isScarred_76 rfl ?_
    exact c_zret (pc := 77) hk hK rfl rfl dX0_isScarred_77 rfl rfl
  · refine g_iconst (pc := 26) (v := 0) hk dX0_isScarred_26 rfl ?_
    exact c_zret (pc := 27) hk hK rfl rfl dX0_isScarred_27 rfl rfl
theorem cm_isScarred (Γ : CG) (σ : CS) (k1 : Nat) (v2 : Int32) (v3 : Int32) (hk1 : cAv k1 148) (r : Int32 × CS) (h : C_isScarred σ k1 v2 v3 = some r) : CMet Γ yX0_isScarred cX0_isScarred 6 (some .boolean) rm_c_isScarred [.ref (gA Γ 300), .ref (gA Γ k1), .int v2, .int v3] σ (some (.int r.1)) r.2 := by
  refine c_met (view := (fun r : Int32 × CS => (some (Value.int r.1), r.2))) (own := RX0) rfl (by decide) rfl (ls0 := [(0, .ref (gA Γ 300)), (1, .ref (gA Γ k1)), (2, .int v2), (3, .int v3)]) rfl (fun K hk hK => ?_) r h
  unfold C_isScarred
  refine g_aload_n (pc := 0) hk dX0_isScarred_0 rfl ?_
  refine g_iconst (pc := 1) (v := 2) hk dX0_isScarred_1 rfl ?_
  refine c_ialdC (pc := 2) (k := k1) (j := 2) hk hK hk1 rfl rfl dX0_isScarred_2 ?_
  refine g_bipush (pc := 3) (v := 10) hk dX0_isScarred_3 rfl ?_
  refine g_irem (pc := 5) hk dX0_isScarred_5 (by decide) ?_
  refine g_iload_n (pc := 6) hk dX0_isScarred_6 rfl ?_
  refine g_icmp_ge (pc := 7) (tgt := 14) hk dX0_isScarred_7 rfl ?_ ?_
  · refine g_iconst (pc := 14) (v := 0) hk dX0_isScarred_14 rfl ?_
    refine g_sub (ls' := [(0, .ref (gA Γ 300)), (1, .ref (gA Γ k1)), (2, .int v2)]) [0, 1, 2] rfl ?_
    exact cm_isScarred_j15 hk hK σ k1 v2 0 hk1
  · refine g_iconst (pc := 10) (v := 1) hk dX0_isScarred_10 rfl ?_
    refine g_goto (pc := 11) (tgt := 15) hk dX0_isScarred_11 rfl ?_
    refine g_sub (ls' := [(0, .ref (gA Γ 300)), (1, .ref (gA Γ k1)), (2, .int v2)]) [0, 1, 2] rfl ?_
    exact cm_isScarred_j15 hk hK σ k1 v2 1 hk1
def rm_c_powered : Room := { frames := 2, cells := 0, slots := 0, locals := 63 }
theorem hs_c_powered : yX0_powered.cls ≠ "java/lang/invoke/MethodHandle" ∧ yX0_powered.cls ≠ "java/lang/invoke/VarHandle" ∧ (parseMethodDescriptor yX0_powered.desc).map (fun d => d.parameters.length) = some 2 := by decide +kernel
theorem cm_powered_l26 {K : KT} (hk : KOK K cX0_powered 8 RX0 rm_c_powered (some .long)) (v0 : Int64) : ∀ (n : Nat) (v4 : Int64) (v6 : Int64), GGo K (pQ K (fun r : Int64 => some (Value.long r))) (C_powered_l26 v0 n v4 v6) 8 (pI K) 0 0 26 [(0, .long v0), (4, .long v4), (6, .long v6)] [] := by
  intro n
  induction n with
  | zero =>
    intro v4 v6
    unfold C_powered_l26
    exact g_none
  | succ n ih =>
    intro v4 v6
    unfold C_powered_l26
    refine g_lload (pc := 26) hk dX0_powered_26 rfl ?_
    refine g_lconst (pc := 28) (v := 0) hk dX0_powered_28 rfl ?_
    refine g_lcmp_le (pc := 29) (tgt := 60) hk dX0_powered_29 dX0_powered_30 rfl ?_ ?_
    · refine g_lload (pc := 60) hk dX0_powered_60 rfl ?_
      exact p_lret (pc := 62) hk rfl dX0_powered_62
    · refine g_ldc2 (pc := 33) (v := (-1000000)) hk q995 dX0_powered_33 ?_
      refine g_ldc2 (pc := 36) (v := 1000000) hk q996 dX0_powered_36 ?_
      refine g_lload (pc := 39) hk dX0_powered_39 rfl ?_
      refine g_lload_n (pc := 41) hk dX0_powered_41 rfl ?_
      refine g_lmul (pc := 42) hk dX0_powered_42 ?_
      refine g_l_min (pc := 43) hk q997 rfl rfl rfl dX0_powered_43 ⟨rfl, rfl⟩ ?_
      refine g_l_max (pc := 46) hk q1000 rfl rfl rfl dX0_powered_46 ⟨rfl, rfl⟩ ?_
      refine g_lstoreN (pc := 49) (i := 4) (ls' := fun x1 => [(4, .long x1), (0, .long v0), (6, .long v6)]) hk dX0_powered_49 (by decide) (fun _ => rfl) (fun x1 => ?_)
      refine g_lload (pc := 51) hk dX0_powered_51 rfl ?_
      refine g_lconst (pc := 53) (v := 1) hk dX0_powered_53 rfl ?_
      refine g_lsub (pc := 54) hk dX0_powered_54 ?_
      refine g_lstoreN (pc := 55) (i := 6) (ls' := fun x2 => [(6, .long x2), (4, .long x1), (0, .long v0)]) hk dX0_powered_55 (by decide) (fun _ => rfl) (fun x2 => ?_)
      refine g_goto (pc := 57) (tgt := 26) hk dX0_powered_57 rfl ?_
      refine g_sub (ls' := [(0, .long v0), (4, .long x1), (6, .long x2)]) [2, 1, 0] rfl ?_
      exact ih x1 x2
theorem cm_powered_j24 {K : KT} (hk : KOK K cX0_powered 8 RX0 rm_c_powered (some .long)) (v0 : Int64) (v4 : Int64) (s0 : Int64) : GGo K (pQ K (fun r : Int64 => some (Value.long r))) (C_powered_j24 v0 v4 s0) 8 (pI K) 0 0 24 [(0, .long v0), (4, .long v4)] [.long s0] := by
  unfold C_powered_j24
  refine g_lstore (pc := 24) (i := 6) (ls' := [(6, .long s0), (0, .long v0), (4, .long v4)]) hk dX0_powered_24 (by decide) rfl ?_
  refine g_sub (ls' := [(0, .long v0), (4, .long v4), (6, .long s0)]) [1, 2, 0] rfl ?_
  exact cm_powered_l26 hk v0 FU v4 s0
theorem cm_powered (v0 : Int64) (v2 : Int64)  (r : Int64) (h : C_powered v0 v2 = some r) : PMet yX0_powered cX0_powered 8 (some .long) rm_c_powered [.long v0, .long v2] (some (.long r)) := by
  refine p_met (view := (fun r : Int64 => some (Value.long r))) (own := RX0) rfl (by decide) rfl (ls0 := [(0, .long v0), (2, .long v2)]) rfl (fun K hk => ?_) r h
  unfold C_powered
  refine g_lconst (pc := 0) (v := 1) hk dX0_powered_0 rfl ?_
  refine g_lstore (pc := 1) (i := 4) (ls' := [(4, .long 1), (0, .long v0), (2, .long v2)]) hk dX0_powered_1 (by decide) rfl ?_
  refine g_lload_n (pc := 3) hk dX0_powered_3 rfl ?_
  refine g_ldc2 (pc := 4) (v := 40) hk q993 dX0_powered_4 ?_
  refine g_lcmp_le (pc := 7) (tgt := 23) hk dX0_powered_7 dX0_powered_8 rfl ?_ ?_
  · refine g_lload_n (pc := 23) hk dX0_powered_23 rfl ?_
    refine g_sub (ls' := [(0, .long v0), (4, .long 1)]) [1, 0] rfl ?_
    exact cm_powered_j24 hk v0 1 v2
  · refine g_ldc2 (pc := 11) (v := 40) hk q993 dX0_powered_11 ?_
    refine g_lload_n (pc := 14) hk dX0_powered_14 rfl ?_
    refine g_ldc2 (pc := 15) (v := 2) hk q994 dX0_powered_15 ?_
    refine g_lrem (pc := 18) hk dX0_powered_18 (by decide) ?_
    refine g_ladd (pc := 19) hk dX0_powered_19 ?_
    refine g_goto (pc := 20) (tgt := 24) hk dX0_powered_20 rfl ?_
    refine g_sub (ls' := [(0, .long v0), (4, .long 1)]) [1, 0] rfl ?_
    exact cm_powered_j24 hk v0 1 (40 + (l_rem v2 2))
def rm_c_shortOf : Room := { frames := 1, cells := 0, slots := 0, locals := 40 }
theorem hs_c_shortOf : yX0_shortOf.cls ≠ "java/lang/invoke/MethodHandle" ∧ yX0_shortOf.cls ≠ "java/lang/invoke/VarHandle" ∧ (parseMethodDescriptor yX0_shortOf.desc).map (fun d => d.parameters.length) = some 1 := by decide +kernel
theorem cm_shortOf (v0 : Int64)  (r : Int64) (h : C_shortOf v0 = some r) : PMet yX0_shortOf cX0_shortOf 2 (some .long) rm_c_shortOf [.long v0] (some (.long r)) := by
  refine p_met (view := (fun r : Int64 => some (Value.long r))) (own := RX0) rfl (by decide) rfl (ls0 := [(0, .long v0)]) rfl (fun K hk => ?_) r h
  unfold C_shortOf
  refine g_lload_n (pc := 0) hk dX0_shortOf_0 rfl ?_
  refine g_ldc2 (pc := 1) (v := 8) hk q1011 dX0_shortOf_1 ?_
  refine g_lcmp_le (pc := 4) (tgt := 24) hk dX0_shortOf_4 dX0_shortOf_5 rfl ?_ ?_
  · refine g_lload_n (pc := 24) hk dX0_shortOf_24 rfl ?_
    exact p_lret (pc := 25) hk rfl dX0_shortOf_25
  · refine g_ldc2 (pc := 8) (v := 8) hk q1011 dX0_shortOf_8 ?_
    refine g_lload_n (pc := 11) hk dX0_shortOf_11 rfl ?_
    refine g_ldc2 (pc := 12) (v := 8) hk q1011 dX0_shortOf_12 ?_
    refine g_lsub (pc := 15) hk dX0_shortOf_15 ?_
    refine g_ldc2 (pc := 16) (v := 840) hk q1012 dX0_shortOf_16 ?_
    refine g_lrem (pc := 19) hk dX0_shortOf_19 (by decide) ?_
    refine g_ladd (pc := 20) hk dX0_shortOf_20 ?_
    refine g_goto (pc := 21) (tgt := 25) hk dX0_shortOf_21 rfl ?_
    exact p_lret (pc := 25) hk rfl dX0_shortOf_25
def rm_c_held : Room := { frames := 2, cells := 0, slots := 0, locals := 63 }
theorem hs_c_held : yX0_held.cls ≠ "java/lang/invoke/MethodHandle" ∧ yX0_held.cls ≠ "java/lang/invoke/VarHandle" ∧ (parseMethodDescriptor yX0_held.desc).map (fun d => d.parameters.length) = some 3 := by decide +kernel
theorem cm_held (v0 : Int64) (v2 : Int32) (v3 : Int32)  (r : Int32) (h : C_held v0 v2 v3 = some r) : PMet yX0_held cX0_held 4 (some .int) rm_c_held [.long v0, .int v2, .int v3] (some (.int r)) := by
  refine p_met (view := (fun r : Int32 => some (Value.int r))) (own := RX0) rfl (by decide) rfl (ls0 := [(0, .long v0), (2, .int v2), (3, .int v3)]) rfl (fun K hk => ?_) r h
  unfold C_held
  refine g_iload_n (pc := 0) hk dX0_held_0 rfl ?_
  refine g_i2l (pc := 1) hk dX0_held_1 ?_
  refine g_iload_n (pc := 2) hk dX0_held_2 rfl ?_
  refine g_i2l (pc := 3) hk dX0_held_3 ?_
  refine g_lload_n (pc := 4) hk dX0_held_4 rfl ?_
  refine g_l_min (pc := 5) hk q997 rfl rfl rfl dX0_held_5 ⟨rfl, rfl⟩ ?_
  refine g_l_max (pc := 8) hk q1000 rfl rfl rfl dX0_held_8 ⟨rfl, rfl⟩ ?_
  refine g_l2i (pc := 11) hk dX0_held_11 ?_
  exact p_iret (pc := 12) hk rfl dX0_held_12
def rm_c_canCalm : Room := { frames := 3, cells := 0, slots := 0, locals := 83 }
theorem hv_c_canCalm : yX0_canCalm.cls = RX0 ∧ yX0_canCalm.cls ≠ "java/lang/invoke/MethodHandle" ∧ yX0_canCalm.cls ≠ "java/lang/invoke/VarHandle" ∧ (parseMethodDescriptor yX0_canCalm.desc).map (fun d => d.parameters.length) = some 1 := by decide +kernel
theorem cm_canCalm (Γ : CG) (σ : CS) (v1 : Int32)  (r : Int32) (h : C_canCalm σ v1 = some r) : CMet Γ yX0_canCalm cX0_canCalm 2 (some .boolean) rm_c_canCalm [.ref (gA Γ 300), .int v1] σ (some (.int r)) σ := by
  refine c_met (view := (fun r : Int32 => (some (Value.int r), σ))) (own := RX0) rfl (by decide) rfl (ls0 := [(0, .ref (gA Γ 300)), (1, .int v1)]) rfl (fun K hk hK => ?_) r h
  unfold C_canCalm
  refine g_aload_n (pc := 0) hk dX0_canCalm_0 rfl ?_
  refine g_iload_n (pc := 1) hk dX0_canCalm_1 rfl ?_
  refine g_ob1 (fun r1 h2 => ?_)
  refine c_callV (pc := 2) hk hK (rec_X hK) [.int v1] [] (cm_isPerson Γ σ v1 r1 h2) (lw_V q880 q882 qs25 q124 q883) hv_c_isPerson rfl rfl rfl dX0_canCalm_2 rfl rfl ⟨rfl, rfl⟩ ?_
  refine g_if_eq (pc := 5) (tgt := 27) hk dX0_canCalm_5 rfl ?_ ?_
  · refine g_iconst (pc := 27) (v := 0) hk dX0_canCalm_27 rfl ?_
    exact c_zret (pc := 28) hk hK rfl rfl dX0_canCalm_28 rfl rfl
  · refine g_aload_n (pc := 8) hk dX0_canCalm_8 rfl ?_
    refine c_getR (pc := 9) hk hK cr_0 cf_0 dX0_canCalm_9 ?_
    refine c_getS (pc := 12) (w := 0) hk hK (by decide) sr_1 sn_1 dX0_canCalm_12 ?_
    refine g_bipush (pc := 15) (v := 11) hk dX0_canCalm_15 rfl ?_
    refine g_iload_n (pc := 17) hk dX0_canCalm_17 rfl ?_
    refine g_iadd (pc := 18) hk dX0_canCalm_18 ?_
    refine c_iald (pc := 19) (k := 1) hk hK cav_1 dX0_canCalm_19 ?_
    refine g_if_le (pc := 20) (tgt := 27) hk dX0_canCalm_20 rfl ?_ ?_
    · refine g_iconst (pc := 27) (v := 0) hk dX0_canCalm_27 rfl ?_
      exact c_zret (pc := 28) hk hK rfl rfl dX0_canCalm_28 rfl rfl
    · refine g_iconst (pc := 23) (v := 1) hk dX0_canCalm_23 rfl ?_
      refine g_goto (pc := 24) (tgt := 28) hk dX0_canCalm_24 rfl ?_
      exact c_zret (pc := 28) hk hK rfl rfl dX0_canCalm_28 rfl rfl
def rm_c_calm : Room := { frames := 4, cells := 0, slots := 0, locals := 104 }
theorem hv_c_calm : yX0_calm.cls = RX0 ∧ yX0_calm.cls ≠ "java/lang/invoke/MethodHandle" ∧ yX0_calm.cls ≠ "java/lang/invoke/VarHandle" ∧ (parseMethodDescriptor yX0_calm.desc).map (fun d => d.parameters.length) = some 1 := by decide +kernel
theorem cm_calm (Γ : CG) (σ : CS) (v1 : Int32)  (r : Int32 × CS) (h : C_calm σ v1 = some r) : CMet Γ yX0_calm cX0_calm 2 (some .boolean) rm_c_calm [.ref (gA Γ 300), .int v1] σ (some (.int r.1)) r.2 := by
  refine c_met (view := (fun r : Int32 × CS => (some (Value.int r.1), r.2))) (own := RX0) rfl (by decide) rfl (ls0 := [(0, .ref (gA Γ 300)), (1, .int v1)]) rfl (fun K hk hK => ?_) r h
  unfold C_calm
  refine g_aload_n (pc := 0) hk dX0_calm_0 rfl ?_
  refine g_iload_n (pc := 1) hk dX0_calm_1 rfl ?_
  refine g_ob1 (fun r1 h2 => ?_)
  refine c_callV (pc := 2) hk hK (rec_X hK) [.int v1] [] (cm_canCalm Γ σ v1 r1 h2) (lw_V q1032 q1034 qs30 q124 q1035) hv_c_canCalm rfl rfl rfl dX0_calm_2 rfl rfl ⟨rfl, rfl⟩ ?_
  refine g_if_ne (pc := 5) (tgt := 10) hk dX0_calm_5 rfl ?_ ?_
  · refine g_aload_n (pc := 10) hk dX0_calm_10 rfl ?_
    refine c_getR (pc := 11) hk hK cr_0 cf_0 dX0_calm_11 ?_
    refine g_ob1 (fun σ4 h3 => ?_)
    refine c_callV (pc := 14) hk hK (rec_S (w := 0) hK (by decide)) [] [] (sm_keeps Γ σ 0 (by decide) σ4 h3) (lw_V q884 q885 q886 q125 q887) hv_s_keeps rfl rfl rfl dX0_calm_14 rfl rfl ⟨rfl, rfl⟩ ?_
    refine g_aload_n (pc := 17) hk dX0_calm_17 rfl ?_
    refine c_getR (pc := 18) hk hK cr_0 cf_0 dX0_calm_18 ?_
    refine c_getS (pc := 21) (w := 0) hk hK (by decide) sr_1 sn_1 dX0_calm_21 ?_
    refine g_bipush (pc := 24) (v := 11) hk dX0_calm_24 rfl ?_
    refine g_iload_n (pc := 26) hk dX0_calm_26 rfl ?_
    refine g_iadd (pc := 27) hk dX0_calm_27 ?_
    refine g_dup2 (pc := 28) hk dX0_calm_28 rfl rfl ?_
    refine c_iald (pc := 29) (k := 1) hk hK cav_1 dX0_calm_29 ?_
    refine g_iconst (pc := 30) (v := 1) hk dX0_calm_30 rfl ?_
    refine g_isub (pc := 31) hk dX0_calm_31 ?_
    refine c_iast (pc := 32) (k := 1) hk hK cav_1 dX0_calm_32 (fun σ5 => ?_)
    refine g_iconst (pc := 33) (v := 1) hk dX0_calm_33 rfl ?_
    exact c_zret (pc := 34) hk hK rfl rfl dX0_calm_34 rfl rfl
  · refine g_iconst (pc := 8) (v := 0) hk dX0_calm_8 rfl ?_
    exact c_zret (pc := 9) hk hK rfl rfl dX0_calm_9 rfl rfl
def rm_c_passes : Room := { frames := 2, cells := 0, slots := 0, locals := 61 }
theorem hv_c_passes : yX0_passes.cls = RX0 ∧ yX0_passes.cls ≠ "java/lang/invoke/MethodHandle" ∧ yX0_passes.cls ≠ "java/lang/invoke/VarHandle" ∧ (parseMethodDescriptor yX0_passes.desc).map (fun d => d.parameters.length) = some 1 := by decide +kernel
theorem cm_passes_l2 {K : KT} {Γ : CG} (hk : KOK K cX0_passes 3 RX0 rm_c_passes none) (hK : CK Γ (kS K)) (k1 : Nat) (hk1 : cAv k1 148) : ∀ (n : Nat) (σ : CS) (v2 : Int32), GGo K (cQ K Γ rm_c_passes (fun r : CS => ((none : Option Value), r))) (C_passes_l2 k1 n σ v2) 3 (CI Γ (kS K) σ) 0 0 2 [(0, .ref (gA Γ 300)), (1, .ref (gA Γ k1)), (2, .int v2)] [] := by
  intro n
  induction n with
  | zero =>
    intro σ v2
    unfold C_passes_l2
    exact g_none
  | succ n ih =>
    intro σ v2
    unfold C_passes_l2
    refine g_iload_n (pc := 2) hk dX0_passes_2 rfl ?_
    refine g_aload_n (pc := 3) hk dX0_passes_3 rfl ?_
    refine c_getR (pc := 4) hk hK cr_0 cf_0 dX0_passes_4 ?_
    refine c_getS (pc := 7) (w := 0) hk hK (by decide) sr_0 sn_0 dX0_passes_7 ?_
    refine g_iconst (pc := 10) (v := 0) hk dX0_passes_10 rfl ?_
    refine c_ialdC (pc := 11) (k := 0) (j := 0) hk hK cav_0 rfl rfl dX0_passes_11 ?_
    refine g_icmp_ge (pc := 12) (tgt := 38) hk dX0_passes_12 rfl ?_ ?_
    · refine g_aload_n (pc := 38) hk dX0_passes_38 rfl ?_
      refine g_iconst (pc := 39) (v := 0) hk dX0_passes_39 rfl ?_
      refine g_dup2 (pc := 40) hk dX0_passes_40 rfl rfl ?_
      refine c_ialdC (pc := 41) (k := k1) (j := 0) hk hK hk1 rfl rfl dX0_passes_41 ?_
      refine g_iconst (pc := 42) (v := 1) hk dX0_passes_42 rfl ?_
      refine g_iadd (pc := 43) hk dX0_passes_43 ?_
      refine c_iastC (pc := 44) (k := k1) (j := 0) hk hK hk1 rfl rfl dX0_passes_44 (fun σ1 => ?_)
      exact c_vret (pc := 45) hk hK rfl dX0_passes_45 rfl rfl
    · refine g_aload_n (pc := 15) hk dX0_passes_15 rfl ?_
      refine g_iconst (pc := 16) (v := 3) hk dX0_passes_16 rfl ?_
      refine g_iload_n (pc := 17) hk dX0_passes_17 rfl ?_
      refine g_iadd (pc := 18) hk dX0_passes_18 ?_
      refine g_bipush (pc := 19) (v := 99) hk dX0_passes_19 rfl ?_
      refine g_aload_n (pc := 21) hk dX0_passes_21 rfl ?_
      refine g_iconst (pc := 22) (v := 3) hk dX0_passes_22 rfl ?_
      refine g_iload_n (pc := 23) hk dX0_passes_23 rfl ?_
      refine g_iadd (pc := 24) hk dX0_passes_24 ?_
      refine c_iald (pc := 25) (k := k1) hk hK hk1 dX0_passes_25 ?_
      refine g_iconst (pc := 26) (v := 1) hk dX0_passes_26 rfl ?_
      refine g_iadd (pc := 27) hk dX0_passes_27 ?_
      refine g_i_min (pc := 28) hk q1017 rfl rfl rfl dX0_passes_28 ⟨rfl, rfl⟩ ?_
      refine c_iast (pc := 31) (k := k1) hk hK hk1 dX0_passes_31 (fun σ2 => ?_)
      refine g_iincN (pc := 32) (v := 1) (ls' := fun x3 => [(2, .int x3), (0, .ref (gA Γ 300)), (1, .ref (gA Γ k1))]) hk dX0_passes_32 rfl rfl (by decide) (fun _ => rfl) (fun x3 => ?_)
      refine g_goto (pc := 35) (tgt := 2) hk dX0_passes_35 rfl ?_
      refine g_sub (ls' := [(0, .ref (gA Γ 300)), (1, .ref (gA Γ k1)), (2, .int x3)]) [1, 2, 0] rfl ?_
      exact ih σ2 x3
theorem cm_passes (Γ : CG) (σ : CS) (k1 : Nat) (hk1 : cAv k1 148) (r : CS) (h : C_passes σ k1 = some r) : CMet Γ yX0_passes cX0_passes 3 none rm_c_passes [.ref (gA Γ 300), .ref (gA Γ k1)] σ none r := by
  refine c_met (view := (fun r : CS => ((none : Option Value), r))) (own := RX0) rfl (by decide) rfl (ls0 := [(0, .ref (gA Γ 300)), (1, .ref (gA Γ k1))]) rfl (fun K hk hK => ?_) r h
  unfold C_passes
  refine g_iconst (pc := 0) (v := 0) hk dX0_passes_0 rfl ?_
  refine g_istore_n (pc := 1) (i := 2) (ls' := [(2, .int 0), (0, .ref (gA Γ 300)), (1, .ref (gA Γ k1))]) hk dX0_passes_1 rfl (by decide) rfl ?_
  refine g_sub (ls' := [(0, .ref (gA Γ 300)), (1, .ref (gA Γ k1)), (2, .int 0)]) [1, 2, 0] rfl ?_
  exact cm_passes_l2 hk hK k1 hk1 FU σ 0
def rm_c_sumOf : Room := { frames := 1, cells := 0, slots := 0, locals := 40 }
theorem hv_c_sumOf : yX0_sumOf.cls = RX0 ∧ yX0_sumOf.cls ≠ "java/lang/invoke/MethodHandle" ∧ yX0_sumOf.cls ≠ "java/lang/invoke/VarHandle" ∧ (parseMethodDescriptor yX0_sumOf.desc).map (fun d => d.parameters.length) = some 2 := by decide +kernel
theorem cm_sumOf_l5 {K : KT} {Γ : CG} (hk : KOK K cX0_sumOf 5 RX0 rm_c_sumOf (some .int)) (hK : CK Γ (kS K)) (σ : CS) (k1 : Nat) (v2 : Int32) (hk1 : cAv k1 148) : ∀ (n : Nat) (v3 : Int32) (v4 : Int32), GGo K (cQ K Γ rm_c_sumOf (fun r : Int32 => (some (Value.int r), σ))) (C_sumOf_l5 σ k1 v2 n v3 v4) 5 (CI Γ (kS K) σ) 0 0 5 [(0, .ref (gA Γ 300)), (1, .ref (gA Γ k1)), (2, .int v2), (3, .int v3), (4, .int v4)] [] := by
  intro n
  induction n with
  | zero =>
    intro v3 v4
    unfold C_sumOf_l5
    exact g_none
  | succ n ih =>
    intro v3 v4
    unfold C_sumOf_l5
    refine g_iload (pc := 5) hk dX0_sumOf_5 rfl ?_
    refine g_aload_n (pc := 7) hk dX0_sumOf_7 rfl ?_
    refine c_getR (pc := 8) hk hK cr_0 cf_0 dX0_sumOf_8 ?_
    refine c_getS (pc := 11) (w := 0) hk hK (by decide) sr_0 sn_0 dX0_sumOf_11 ?_
    refine g_iconst (pc := 14) (v := 0) hk dX0_sumOf_14 rfl ?_
    refine c_ialdC (pc := 15) (k := 0) (j := 0) hk hK cav_0 rfl rfl dX0_sumOf_15 ?_
    refine g_icmp_ge (pc := 16) (tgt := 34) hk dX0_sumOf_16 rfl ?_ ?_
    · refine g_iload_n (pc := 34) hk dX0_sumOf_34 rfl ?_
      exact c_iret (pc := 35) hk hK rfl dX0_sumOf_35 rfl rfl
    · refine g_iload_n (pc := 19) hk dX0_sumOf_19 rfl ?_
      refine g_aload_n (pc := 20) hk dX0_sumOf_20 rfl ?_
      refine g_iload_n (pc := 21) hk dX0_sumOf_21 rfl ?_
      refine g_iload (pc := 22) hk dX0_sumOf_22 rfl ?_
      refine g_iadd (pc := 24) hk dX0_sumOf_24 ?_
      refine c_iald (pc := 25) (k := k1) hk hK hk1 dX0_sumOf_25 ?_
      refine g_iadd (pc := 26) hk dX0_sumOf_26 ?_
      refine g_istore_nN (pc := 27) (i := 3) (ls' := fun x1 => [(3, .int x1), (0, .ref (gA Γ 300)), (1, .ref (gA Γ k1)), (2, .int v2), (4, .int v4)]) hk dX0_sumOf_27 rfl (by decide) (fun _ => rfl) (fun x1 => ?_)
      refine g_iincN (pc := 28) (v := 1) (ls' := fun x2 => [(4, .int x2), (3, .int x1), (0, .ref (gA Γ 300)), (1, .ref (gA Γ k1)), (2, .int v2)]) hk dX0_sumOf_28 rfl rfl (by decide) (fun _ => rfl) (fun x2 => ?_)
      refine g_goto (pc := 31) (tgt := 5) hk dX0_sumOf_31 rfl ?_
      refine g_sub (ls' := [(0, .ref (gA Γ 300)), (1, .ref (gA Γ k1)), (2, .int v2), (3, .int x1), (4, .int x2)]) [2, 3, 4, 1, 0] rfl ?_
      exact ih x1 x2
theorem cm_sumOf (Γ : CG) (σ : CS) (k1 : Nat) (v2 : Int32) (hk1 : cAv k1 148) (r : Int32) (h : C_sumOf σ k1 v2 = some r) : CMet Γ yX0_sumOf cX0_sumOf 5 (some .int) rm_c_sumOf [.ref (gA Γ 300), .ref (gA Γ k1), .int v2] σ (some (.int r)) σ := by
  refine c_met (view := (fun r : Int32 => (some (Value.int r), σ))) (own := RX0) rfl (by decide) rfl (ls0 := [(0, .ref (gA Γ 300)), (1, .ref (gA Γ k1)), (2, .int v2)]) rfl (fun K hk hK => ?_) r h
  unfold C_sumOf
  refine g_iconst (pc := 0) (v := 0) hk dX0_sumOf_0 rfl ?_
  refine g_istore_n (pc := 1) (i := 3) (ls' := [(3, .int 0), (0, .ref (gA Γ 300)), (1, .ref (gA Γ k1)), (2, .int v2)]) hk dX0_sumOf_1 rfl (by decide) rfl ?_
  refine g_iconst (pc := 2) (v := 0) hk dX0_sumOf_2 rfl ?_
  refine g_istore (pc := 3) (i := 4) (ls' := [(4, .int 0), (3, .int 0), (0, .ref (gA Γ 300)), (1, .ref (gA Γ k1)), (2, .int v2)]) hk dX0_sumOf_3 (by decide) rfl ?_
  refine g_sub (ls' := [(0, .ref (gA Γ 300)), (1, .ref (gA Γ k1)), (2, .int v2), (3, .int 0), (4, .int 0)]) [2, 3, 4, 1, 0] rfl ?_
  exact cm_sumOf_l5 hk hK σ k1 v2 hk1 FU 0 0
def rm_c_day : Room := { frames := 3, cells := 0, slots := 0, locals := 83 }
theorem hv_c_day : yX0_day.cls = RX0 ∧ yX0_day.cls ≠ "java/lang/invoke/MethodHandle" ∧ yX0_day.cls ≠ "java/lang/invoke/VarHandle" ∧ (parseMethodDescriptor yX0_day.desc).map (fun d => d.parameters.length) = some 1 := by decide +kernel
theorem cm_day_l31 {K : KT} {Γ : CG} (hk : KOK K cX0_day 3 RX0 rm_c_day (some .int)) (hK : CK Γ (kS K)) (v1 : Int32) : ∀ (n : Nat) (σ : CS) (v2 : Int32), GGo K (cQ K Γ rm_c_day (fun r : Int32 × CS => (some (Value.int r.1), r.2))) (C_day_l31 v1 n σ v2) 3 (CI Γ (kS K) σ) 0 0 31 [(0, .ref (gA Γ 300)), (1, .int v1), (2, .int v2)] [] := by
  intro n
  induction n with
  | zero =>
    intro σ v2
    unfold C_day_l31
    exact g_none
  | succ n ih =>
    intro σ v2
    unfold C_day_l31
    refine g_iload_n (pc := 31) hk dX0_day_31 rfl ?_
    refine g_iload_n (pc := 32) hk dX0_day_32 rfl ?_
    refine g_icmp_ge (pc := 33) (tgt := 60) hk dX0_day_33 rfl ?_ ?_
    · refine g_aload_n (pc := 60) hk dX0_day_60 rfl ?_
      refine g_aload_n (pc := 61) hk dX0_day_61 rfl ?_
      refine c_getR (pc := 62) hk hK cr_0 cf_0 dX0_day_62 ?_
      refine c_getS (pc := 65) (w := 0) hk hK (by decide) sr_1 sn_1 dX0_day_65 ?_
      refine g_iconst (pc := 68) (v := 3) hk dX0_day_68 rfl ?_
      refine g_ob1 (fun r3 h4 => ?_)
      refine c_callV (pc := 69) hk hK (rec_X hK) [.ref (gA Γ 1), .int 3] [] (cm_sumOf Γ σ 1 3 cav_1 r3 h4) (lw_V q1044 q1046 qs32 q124 q1047) hv_c_sumOf rfl rfl rfl dX0_day_69 rfl rfl ⟨rfl, rfl⟩ ?_
      exact c_iret (pc := 72) hk hK rfl dX0_day_72 rfl rfl
    · refine g_aload_n (pc := 36) hk dX0_day_36 rfl ?_
      refine c_getR (pc := 37) hk hK cr_0 cf_0 dX0_day_37 ?_
      refine g_ob1 (fun σ6 h5 => ?_)
      refine c_callV (pc := 40) hk hK (rec_S (w := 0) hK (by decide)) [] [] (sm_keeps Γ σ 0 (by decide) σ6 h5) (lw_V q884 q885 q886 q125 q887) hv_s_keeps rfl rfl rfl dX0_day_40 rfl rfl ⟨rfl, rfl⟩ ?_
      refine g_aload_n (pc := 43) hk dX0_day_43 rfl ?_
      refine g_aload_n (pc := 44) hk dX0_day_44 rfl ?_
      refine c_getR (pc := 45) hk hK cr_0 cf_0 dX0_day_45 ?_
      refine c_getS (pc := 48) (w := 0) hk hK (by decide) sr_1 sn_1 dX0_day_48 ?_
      refine g_ob1 (fun σ8 h7 => ?_)
      refine c_callV (pc := 51) hk hK (rec_X hK) [.ref (gA Γ 1)] [] (cm_passes Γ σ6 1 cav_1 σ8 h7) (lw_V q1040 q1042 qs31 q124 q1043) hv_c_passes rfl rfl rfl dX0_day_51 rfl rfl ⟨rfl, rfl⟩ ?_
      refine g_iincN (pc := 54) (v := 1) (ls' := fun x9 => [(2, .int x9), (0, .ref (gA Γ 300)), (1, .int v1)]) hk dX0_day_54 rfl rfl (by decide) (fun _ => rfl) (fun x9 => ?_)
      refine g_goto (pc := 57) (tgt := 31) hk dX0_day_57 rfl ?_
      refine g_sub (ls' := [(0, .ref (gA Γ 300)), (1, .int v1), (2, .int x9)]) [1, 2, 0] rfl ?_
      exact ih σ8 x9
theorem cm_day (Γ : CG) (σ : CS) (v1 : Int32)  (r : Int32 × CS) (h : C_day σ v1 = some r) : CMet Γ yX0_day cX0_day 3 (some .int) rm_c_day [.ref (gA Γ 300), .int v1] σ (some (.int r.1)) r.2 := by
  refine c_met (view := (fun r : Int32 × CS => (some (Value.int r.1), r.2))) (own := RX0) rfl (by decide) rfl (ls0 := [(0, .ref (gA Γ 300)), (1, .int v1)]) rfl (fun K hk hK => ?_) r h
  unfold C_day
  refine g_iload_n (pc := 0) hk dX0_day_0 rfl ?_
  refine g_iconst (pc := 1) (v := 1) hk dX0_day_1 rfl ?_
  refine g_bipush (pc := 2) (v := 60) hk dX0_day_2 rfl ?_
  refine g_ob1 (fun r1 h2 => ?_)
  refine g_callP (pc := 4) hk [.int v1, .int 1, .int 60] [] (cm_in v1 1 60 r1 h2) (lw_S q296 q297 q124 q298) hs_c_in rfl ⟨rfl, rfl⟩ rfl rfl dX0_day_4 rfl rfl ⟨rfl, rfl⟩ ?_
  refine g_if_eq (pc := 7) (tgt := 27) hk dX0_day_7 rfl ?_ ?_
  · refine g_iconst (pc := 27) (v := (-1)) hk dX0_day_27 rfl ?_
    exact c_iret (pc := 28) hk hK rfl dX0_day_28 rfl rfl
  · refine g_aload_n (pc := 10) hk dX0_day_10 rfl ?_
    refine c_getR (pc := 11) hk hK cr_0 cf_0 dX0_day_11 ?_
    refine c_getS (pc := 14) (w := 0) hk hK (by decide) sr_1 sn_1 dX0_day_14 ?_
    refine g_iconst (pc := 17) (v := 0) hk dX0_day_17 rfl ?_
    refine c_ialdC (pc := 18) (k := 1) (j := 0) hk hK cav_1 rfl rfl dX0_day_18 ?_
    refine g_iload_n (pc := 19) hk dX0_day_19 rfl ?_
    refine g_iadd (pc := 20) hk dX0_day_20 ?_
    refine g_sipush (pc := 21) (v := 9999) hk dX0_day_21 rfl ?_
    refine g_icmp_le (pc := 24) (tgt := 29) hk dX0_day_24 rfl ?_ ?_
    · refine g_iconst (pc := 29) (v := 0) hk dX0_day_29 rfl ?_
      refine g_istore_n (pc := 30) (i := 2) (ls' := [(2, .int 0), (0, .ref (gA Γ 300)), (1, .int v1)]) hk dX0_day_30 rfl (by decide) rfl ?_
      refine g_sub (ls' := [(0, .ref (gA Γ 300)), (1, .int v1), (2, .int 0)]) [1, 2, 0] rfl ?_
      exact cm_day_l31 hk hK v1 FU σ 0
    · refine g_iconst (pc := 27) (v := (-1)) hk dX0_day_27 rfl ?_
      exact c_iret (pc := 28) hk hK rfl dX0_day_28 rfl rfl
def rm_c_passesAll : Room := { frames := 4, cells := 0, slots := 0, locals := 105 }
theorem hv_c_passesAll : yX0_passesAll.cls = RX0 ∧ yX0_passesAll.cls ≠ "java/lang/invoke/MethodHandle" ∧ yX0_passesAll.cls ≠ "java/lang/invoke/VarHandle" ∧ (parseMethodDescriptor yX0_passesAll.desc).map (fun d => d.parameters.length) = some 1 := by decide +kernel
theorem cm_passesAll_l2 {K : KT} {Γ : CG} (hk : KOK K cX0_passesAll 3 RX0 rm_c_passesAll (some .boolean)) (hK : CK Γ (kS K)) (v1 : Int32) : ∀ (n : Nat) (σ : CS) (v2 : Int32), GGo K (cQ K Γ rm_c_passesAll (fun r : Int32 × CS => (some (Value.int r.1), r.2))) (C_passesAll_l2 v1 n σ v2) 3 (CI Γ (kS K) σ) 0 0 2 [(0, .ref (gA Γ 300)), (1, .int v1), (2, .int v2)] [] := by
  intro n
  induction n with
  | zero =>
    intro σ v2
    unfold C_passesAll_l2
    exact g_none
  | succ n ih =>
    intro σ v2
    unfold C_passesAll_l2
    refine g_iload_n (pc := 2) hk dX0_passesAll_2 rfl ?_
    refine g_iload_n (pc := 3) hk dX0_passesAll_3 rfl ?_
    refine g_icmp_ge (pc := 4) (tgt := 24) hk dX0_passesAll_4 rfl ?_ ?_
    · refine g_iconst (pc := 24) (v := 1) hk dX0_passesAll_24 rfl ?_
      exact c_zret (pc := 25) hk hK rfl rfl dX0_passesAll_25 rfl rfl
    · refine g_aload_n (pc := 7) hk dX0_passesAll_7 rfl ?_
      refine g_iconst (pc := 8) (v := 1) hk dX0_passesAll_8 rfl ?_
      refine g_ob2 (fun r1 σ3 h2 => ?_)
      refine c_callV (pc := 9) hk hK (rec_X hK) [.int 1] [] (cm_day Γ σ 1 (r1, σ3) h2) (lw_V q1079 q1037 q1038 q124 q1039) hv_c_day rfl rfl rfl dX0_passesAll_9 rfl rfl ⟨rfl, rfl⟩ ?_
      refine g_iconst (pc := 12) (v := (-1)) hk dX0_passesAll_12 rfl ?_
      refine g_icmp_ne (pc := 13) (tgt := 18) hk dX0_passesAll_13 rfl ?_ ?_
      · refine g_iincN (pc := 18) (v := 1) (ls' := fun x4 => [(2, .int x4), (0, .ref (gA Γ 300)), (1, .int v1)]) hk dX0_passesAll_18 rfl rfl (by decide) (fun _ => rfl) (fun x4 => ?_)
        refine g_goto (pc := 21) (tgt := 2) hk dX0_passesAll_21 rfl ?_
        refine g_sub (ls' := [(0, .ref (gA Γ 300)), (1, .int v1), (2, .int x4)]) [1, 2, 0] rfl ?_
        exact ih σ3 x4
      · refine g_iconst (pc := 16) (v := 0) hk dX0_passesAll_16 rfl ?_
        exact c_zret (pc := 17) hk hK rfl rfl dX0_passesAll_17 rfl rfl
theorem cm_passesAll (Γ : CG) (σ : CS) (v1 : Int32)  (r : Int32 × CS) (h : C_passesAll σ v1 = some r) : CMet Γ yX0_passesAll cX0_passesAll 3 (some .boolean) rm_c_passesAll [.ref (gA Γ 300), .int v1] σ (some (.int r.1)) r.2 := by
  refine c_met (view := (fun r : Int32 × CS => (some (Value.int r.1), r.2))) (own := RX0) rfl (by decide) rfl (ls0 := [(0, .ref (gA Γ 300)), (1, .int v1)]) rfl (fun K hk hK => ?_) r h
  unfold C_passesAll
  refine g_iconst (pc := 0) (v := 0) hk dX0_passesAll_0 rfl ?_
  refine g_istore_n (pc := 1) (i := 2) (ls' := [(2, .int 0), (0, .ref (gA Γ 300)), (1, .int v1)]) hk dX0_passesAll_1 rfl (by decide) rfl ?_
  refine g_sub (ls' := [(0, .ref (gA Γ 300)), (1, .int v1), (2, .int 0)]) [1, 2, 0] rfl ?_
  exact cm_passesAll_l2 hk hK v1 FU σ 0
def rm_c_undo : Room := { frames := 2, cells := 0, slots := 0, locals := 61 }
theorem hv_c_undo : yX0_undo.cls = RX0 ∧ yX0_undo.cls ≠ "java/lang/invoke/MethodHandle" ∧ yX0_undo.cls ≠ "java/lang/invoke/VarHandle" ∧ (parseMethodDescriptor yX0_undo.desc).map (fun d => d.parameters.length) = some 0 := by decide +kernel
theorem cm_undo (Γ : CG) (σ : CS)   (r : Int32 × CS) (h : C_undo σ = some r) : CMet Γ yX0_undo cX0_undo 1 (some .int) rm_c_undo [.ref (gA Γ 300)] σ (some (.int r.1)) r.2 := by
  refine c_met (view := (fun r : Int32 × CS => (some (Value.int r.1), r.2))) (own := RX0) rfl (by decide) rfl (ls0 := [(0, .ref (gA Γ 300))]) rfl (fun K hk hK => ?_) r h
  unfold C_undo
  refine g_aload_n (pc := 0) hk dX0_undo_0 rfl ?_
  refine c_getR (pc := 1) hk hK cr_0 cf_0 dX0_undo_1 ?_
  refine c_getS (pc := 4) (w := 0) hk hK (by decide) sr_0 sn_0 dX0_undo_4 ?_
  refine g_iconst (pc := 7) (v := 3) hk dX0_undo_7 rfl ?_
  refine c_ialdC (pc := 8) (k := 0) (j := 3) hk hK cav_0 rfl rfl dX0_undo_8 ?_
  refine g_if_ne (pc := 9) (tgt := 14) hk dX0_undo_9 rfl ?_ ?_
  · refine g_aload_n (pc := 14) hk dX0_undo_14 rfl ?_
    refine c_getR (pc := 15) hk hK cr_0 cf_0 dX0_undo_15 ?_
    refine c_getS (pc := 18) (w := 0) hk hK (by decide) sr_0 sn_0 dX0_undo_18 ?_
    refine g_iconst (pc := 21) (v := 3) hk dX0_undo_21 rfl ?_
    refine g_dup2 (pc := 22) hk dX0_undo_22 rfl rfl ?_
    refine c_ialdC (pc := 23) (k := 0) (j := 3) hk hK cav_0 rfl rfl dX0_undo_23 ?_
    refine g_iconst (pc := 24) (v := 1) hk dX0_undo_24 rfl ?_
    refine g_isub (pc := 25) hk dX0_undo_25 ?_
    refine c_iastC (pc := 26) (k := 0) (j := 3) hk hK cav_0 rfl rfl dX0_undo_26 (fun σ1 => ?_)
    refine g_aload_n (pc := 27) hk dX0_undo_27 rfl ?_
    refine c_getR (pc := 28) hk hK cr_0 cf_0 dX0_undo_28 ?_
    refine c_getS (pc := 31) (w := 0) hk hK (by decide) sr_9 sn_9 dX0_undo_31 ?_
    refine g_aload_n (pc := 34) hk dX0_undo_34 rfl ?_
    refine c_getR (pc := 35) hk hK cr_0 cf_0 dX0_undo_35 ?_
    refine c_getS (pc := 38) (w := 0) hk hK (by decide) sr_0 sn_0 dX0_undo_38 ?_
    refine g_iconst (pc := 41) (v := 3) hk dX0_undo_41 rfl ?_
    refine c_ialdC (pc := 42) (k := 0) (j := 3) hk hK cav_0 rfl rfl dX0_undo_42 ?_
    refine c_aald (pc := 43) (w := 0) (j := 9) hk hK (by decide) (by decide) (by decide) rfl dX0_undo_43 (fun h2 => ?_)
    refine g_aload_n (pc := 44) hk dX0_undo_44 rfl ?_
    refine c_getR (pc := 45) hk hK cr_0 cf_0 dX0_undo_45 ?_
    refine c_getS (pc := 48) (w := 0) hk hK (by decide) sr_1 sn_1 dX0_undo_48 ?_
    refine g_ob1 (fun σ4 h3 => ?_)
    refine c_callSN (pc := 51) hk hK [.ref (gA Γ (50 + (cA σ1 0 3).toNatClampNeg)), .ref (gA Γ 1)] [] (sm_copy Γ σ1 (50 + (cA σ1 0 3).toNatClampNeg) 148 1 148 (cav_row9 (w := 0) (by decide) h2) cav_1 σ4 h3) cn_1092 q231 q125 q232 hs_s_copy rfl rfl rfl dX0_undo_51 rfl rfl ⟨rfl, rfl⟩ ?_
    refine g_aload_n (pc := 54) hk dX0_undo_54 rfl ?_
    refine c_getR (pc := 55) hk hK cr_0 cf_0 dX0_undo_55 ?_
    refine c_getS (pc := 58) (w := 0) hk hK (by decide) sr_0 sn_0 dX0_undo_58 ?_
    refine g_iconst (pc := 61) (v := 3) hk dX0_undo_61 rfl ?_
    refine c_ialdC (pc := 62) (k := 0) (j := 3) hk hK cav_0 rfl rfl dX0_undo_62 ?_
    exact c_iret (pc := 63) hk hK rfl dX0_undo_63 rfl rfl
  · refine g_iconst (pc := 12) (v := (-1)) hk dX0_undo_12 rfl ?_
    exact c_iret (pc := 13) hk hK rfl dX0_undo_13 rfl rfl
def rm_c_told : Room := { frames := 3, cells := 0, slots := 0, locals := 82 }
theorem hv_c_told : yX0_told.cls = RX0 ∧ yX0_told.cls ≠ "java/lang/invoke/MethodHandle" ∧ yX0_told.cls ≠ "java/lang/invoke/VarHandle" ∧ (parseMethodDescriptor yX0_told.desc).map (fun d => d.parameters.length) = some 1 := by decide +kernel
theorem cm_told (Γ : CG) (σ : CS) (v1 : Int32)  (r : Int32) (h : C_told σ v1 = some r) : CMet Γ yX0_told cX0_told 2 (some .int) rm_c_told [.ref (gA Γ 300), .int v1] σ (some (.int r)) σ := by
  refine c_met (view := (fun r : Int32 => (some (Value.int r), σ))) (own := RX0) rfl (by decide) rfl (ls0 := [(0, .ref (gA Γ 300)), (1, .int v1)]) rfl (fun K hk hK => ?_) r h
  unfold C_told
  refine g_iload_n (pc := 0) hk dX0_told_0 rfl ?_
  refine g_ob1 (fun r1 h2 => ?_)
  refine g_callP (pc := 1) hk [.int v1] [] (cm_isChair v1 r1 h2) (lw_S q307 q308 q124 q309) hs_c_isChair rfl ⟨rfl, rfl⟩ rfl rfl dX0_told_1 rfl rfl ⟨rfl, rfl⟩ ?_
  refine g_if_eq (pc := 4) (tgt := 19) hk dX0_told_4 rfl ?_ ?_
  · refine g_iconst (pc := 19) (v := (-1)) hk dX0_told_19 rfl ?_
    exact c_iret (pc := 20) hk hK rfl dX0_told_20 rfl rfl
  · refine g_aload_n (pc := 7) hk dX0_told_7 rfl ?_
    refine c_getR (pc := 8) hk hK cr_0 cf_0 dX0_told_8 ?_
    refine c_getS (pc := 11) (w := 0) hk hK (by decide) sr_2 sn_2 dX0_told_11 ?_
    refine g_iload_n (pc := 14) hk dX0_told_14 rfl ?_
    refine c_iald (pc := 15) (k := 2) hk hK cav_2 dX0_told_15 ?_
    refine g_goto (pc := 16) (tgt := 20) hk dX0_told_16 rfl ?_
    exact c_iret (pc := 20) hk hK rfl dX0_told_20 rfl rfl
def rm_c_is : Room := { frames := 2, cells := 0, slots := 0, locals := 62 }
theorem hv_c_is : yX0_is.cls = RX0 ∧ yX0_is.cls ≠ "java/lang/invoke/MethodHandle" ∧ yX0_is.cls ≠ "java/lang/invoke/VarHandle" ∧ (parseMethodDescriptor yX0_is.desc).map (fun d => d.parameters.length) = some 1 := by decide +kernel
theorem cm_is (Γ : CG) (σ : CS) (v1 : Int32)  (r : Int32) (h : C_is σ v1 = some r) : CMet Γ yX0_is cX0_is 2 (some .int) rm_c_is [.ref (gA Γ 300), .int v1] σ (some (.int r)) σ := by
  refine c_met (view := (fun r : Int32 => (some (Value.int r), σ))) (own := RX0) rfl (by decide) rfl (ls0 := [(0, .ref (gA Γ 300)), (1, .int v1)]) rfl (fun K hk hK => ?_) r h
  unfold C_is
  refine g_iload_n (pc := 0) hk dX0_is_0 rfl ?_
  refine g_iconst (pc := 1) (v := 0) hk dX0_is_1 rfl ?_
  refine g_iconst (pc := 2) (v := 2) hk dX0_is_2 rfl ?_
  refine g_ob1 (fun r1 h2 => ?_)
  refine g_callP (pc := 3) hk [.int v1, .int 0, .int 2] [] (cm_in v1 0 2 r1 h2) (lw_S q296 q297 q124 q298) hs_c_in rfl ⟨rfl, rfl⟩ rfl rfl dX0_is_3 rfl rfl ⟨rfl, rfl⟩ ?_
  refine g_if_eq (pc := 6) (tgt := 21) hk dX0_is_6 rfl ?_ ?_
  · refine g_bipush (pc := 21) (v := (-2)) hk dX0_is_21 rfl ?_
    exact c_iret (pc := 23) hk hK rfl dX0_is_23 rfl rfl
  · refine g_aload_n (pc := 9) hk dX0_is_9 rfl ?_
    refine c_getR (pc := 10) hk hK cr_0 cf_0 dX0_is_10 ?_
    refine c_getS (pc := 13) (w := 0) hk hK (by decide) sr_1 sn_1 dX0_is_13 ?_
    refine g_iload_n (pc := 16) hk dX0_is_16 rfl ?_
    refine c_iald (pc := 17) (k := 1) hk hK cav_1 dX0_is_17 ?_
    refine g_goto (pc := 18) (tgt := 23) hk dX0_is_18 rfl ?_
    exact c_iret (pc := 23) hk hK rfl dX0_is_23 rfl rfl
def rm_c_book : Room := { frames := 2, cells := 0, slots := 0, locals := 62 }
theorem hv_c_book : yX0_book.cls = RX0 ∧ yX0_book.cls ≠ "java/lang/invoke/MethodHandle" ∧ yX0_book.cls ≠ "java/lang/invoke/VarHandle" ∧ (parseMethodDescriptor yX0_book.desc).map (fun d => d.parameters.length) = some 2 := by decide +kernel
theorem cm_book (Γ : CG) (σ : CS) (v1 : Int32) (v2 : Int32)  (r : Int32) (h : C_book σ v1 v2 = some r) : CMet Γ yX0_book cX0_book 3 (some .int) rm_c_book [.ref (gA Γ 300), .int v1, .int v2] σ (some (.int r)) σ := by
  refine c_met (view := (fun r : Int32 => (some (Value.int r), σ))) (own := RX0) rfl (by decide) rfl (ls0 := [(0, .ref (gA Γ 300)), (1, .int v1), (2, .int v2)]) rfl (fun K hk hK => ?_) r h
  unfold C_book
  refine g_iload_n (pc := 0) hk dX0_book_0 rfl ?_
  refine g_iconst (pc := 1) (v := (-1)) hk dX0_book_1 rfl ?_
  refine g_icmp_ne (pc := 2) (tgt := 16) hk dX0_book_2 rfl ?_ ?_
  · refine g_iload_n (pc := 16) hk dX0_book_16 rfl ?_
    refine g_iconst (pc := 17) (v := 0) hk dX0_book_17 rfl ?_
    refine g_aload_n (pc := 18) hk dX0_book_18 rfl ?_
    refine c_getR (pc := 19) hk hK cr_0 cf_0 dX0_book_19 ?_
    refine c_getS (pc := 22) (w := 0) hk hK (by decide) sr_1 sn_1 dX0_book_22 ?_
    refine g_bipush (pc := 25) (v := 27) hk dX0_book_25 rfl ?_
    refine c_ialdC (pc := 27) (k := 1) (j := 27) hk hK cav_1 rfl rfl dX0_book_27 ?_
    refine g_iconst (pc := 28) (v := 1) hk dX0_book_28 rfl ?_
    refine g_isub (pc := 29) hk dX0_book_29 ?_
    refine g_ob1 (fun r1 h2 => ?_)
    refine g_callP (pc := 30) hk [.int v1, .int 0, .int ((cA σ 1 27) - 1)] [] (cm_in v1 0 ((cA σ 1 27) - 1) r1 h2) (lw_S q296 q297 q124 q298) hs_c_in rfl ⟨rfl, rfl⟩ rfl rfl dX0_book_30 rfl rfl ⟨rfl, rfl⟩ ?_
    refine g_if_eq (pc := 33) (tgt := 64) hk dX0_book_33 rfl ?_ ?_
    · refine g_bipush (pc := 64) (v := (-2)) hk dX0_book_64 rfl ?_
      exact c_iret (pc := 66) hk hK rfl dX0_book_66 rfl rfl
    · refine g_iload_n (pc := 36) hk dX0_book_36 rfl ?_
      refine g_iconst (pc := 37) (v := 0) hk dX0_book_37 rfl ?_
      refine g_iconst (pc := 38) (v := 3) hk dX0_book_38 rfl ?_
      refine g_ob1 (fun r3 h4 => ?_)
      refine g_callP (pc := 39) hk [.int v2, .int 0, .int 3] [] (cm_in v2 0 3 r3 h4) (lw_S q296 q297 q124 q298) hs_c_in rfl ⟨rfl, rfl⟩ rfl rfl dX0_book_39 rfl rfl ⟨rfl, rfl⟩ ?_
      refine g_if_eq (pc := 42) (tgt := 64) hk dX0_book_42 rfl ?_ ?_
      · refine g_bipush (pc := 64) (v := (-2)) hk dX0_book_64 rfl ?_
        exact c_iret (pc := 66) hk hK rfl dX0_book_66 rfl rfl
      · refine g_aload_n (pc := 45) hk dX0_book_45 rfl ?_
        refine c_getR (pc := 46) hk hK cr_0 cf_0 dX0_book_46 ?_
        refine c_getS (pc := 49) (w := 0) hk hK (by decide) sr_1 sn_1 dX0_book_49 ?_
        refine g_bipush (pc := 52) (v := 28) hk dX0_book_52 rfl ?_
        refine g_iconst (pc := 54) (v := 4) hk dX0_book_54 rfl ?_
        refine g_iload_n (pc := 55) hk dX0_book_55 rfl ?_
        refine g_imul (pc := 56) hk dX0_book_56 ?_
        refine g_iadd (pc := 57) hk dX0_book_57 ?_
        refine g_iload_n (pc := 58) hk dX0_book_58 rfl ?_
        refine g_iadd (pc := 59) hk dX0_book_59 ?_
        refine c_iald (pc := 60) (k := 1) hk hK cav_1 dX0_book_60 ?_
        refine g_goto (pc := 61) (tgt := 66) hk dX0_book_61 rfl ?_
        exact c_iret (pc := 66) hk hK rfl dX0_book_66 rfl rfl
  · refine g_aload_n (pc := 5) hk dX0_book_5 rfl ?_
    refine c_getR (pc := 6) hk hK cr_0 cf_0 dX0_book_6 ?_
    refine c_getS (pc := 9) (w := 0) hk hK (by decide) sr_1 sn_1 dX0_book_9 ?_
    refine g_bipush (pc := 12) (v := 27) hk dX0_book_12 rfl ?_
    refine c_ialdC (pc := 14) (k := 1) (j := 27) hk hK cav_1 rfl rfl dX0_book_14 ?_
    exact c_iret (pc := 15) hk hK rfl dX0_book_15 rfl rfl
def rm_c_has : Room := { frames := 1, cells := 0, slots := 0, locals := 40 }
theorem hs_c_has : yX0_has.cls ≠ "java/lang/invoke/MethodHandle" ∧ yX0_has.cls ≠ "java/lang/invoke/VarHandle" ∧ (parseMethodDescriptor yX0_has.desc).map (fun d => d.parameters.length) = some 2 := by decide +kernel
theorem cm_has (v0 : Int32) (v1 : Int32)  (r : Int32) (h : C_has v0 v1 = some r) : PMet yX0_has cX0_has 2 (some .boolean) rm_c_has [.int v0, .int v1] (some (.int r)) := by
  refine p_met (view := (fun r : Int32 => some (Value.int r))) (own := RX0) rfl (by decide) rfl (ls0 := [(0, .int v0), (1, .int v1)]) rfl (fun K hk => ?_) r h
  unfold C_has
  refine g_iload_n (pc := 0) hk dX0_has_0 rfl ?_
  refine g_iload_n (pc := 1) hk dX0_has_1 rfl ?_
  refine g_ishr (pc := 2) hk dX0_has_2 ?_
  refine g_iconst (pc := 3) (v := 1) hk dX0_has_3 rfl ?_
  refine g_iand (pc := 4) hk dX0_has_4 ?_
  refine g_iconst (pc := 5) (v := 1) hk dX0_has_5 rfl ?_
  refine g_icmp_ne (pc := 6) (tgt := 13) hk dX0_has_6 rfl ?_ ?_
  · refine g_iconst (pc := 13) (v := 0) hk dX0_has_13 rfl ?_
    exact p_zret (pc := 14) hk rfl rfl dX0_has_14
  · refine g_iconst (pc := 9) (v := 1) hk dX0_has_9 rfl ?_
    refine g_goto (pc := 10) (tgt := 14) hk dX0_has_10 rfl ?_
    exact p_zret (pc := 14) hk rfl rfl dX0_has_14
def rm_c_afterOthers : Room := { frames := 2, cells := 0, slots := 0, locals := 61 }
theorem hv_c_afterOthers : yX0_afterOthers.cls = RX0 ∧ yX0_afterOthers.cls ≠ "java/lang/invoke/MethodHandle" ∧ yX0_afterOthers.cls ≠ "java/lang/invoke/VarHandle" ∧ (parseMethodDescriptor yX0_afterOthers.desc).map (fun d => d.parameters.length) = some 2 := by decide +kernel
theorem cm_afterOthers_l9 {K : KT} {Γ : CG} (hk : KOK K cX0_afterOthers 7 RX0 rm_c_afterOthers (some .int)) (hK : CK Γ (kS K)) (σ : CS) : ∀ (n : Nat) (v4 : Int32) (v5 : Int64), GGo K (cQ K Γ rm_c_afterOthers (fun r : Int32 => (some (Value.int r), σ))) (C_afterOthers_l9 σ n v4 v5) 7 (CI Γ (kS K) σ) 0 0 9 [(0, .ref (gA Γ 300)), (4, .int v4), (5, .long v5)] [] := by
  intro n
  induction n with
  | zero =>
    intro v4 v5
    unfold C_afterOthers_l9
    exact g_none
  | succ n ih =>
    intro v4 v5
    unfold C_afterOthers_l9
    refine g_lload (pc := 9) hk dX0_afterOthers_9 rfl ?_
    refine g_lconst (pc := 11) (v := 0) hk dX0_afterOthers_11 rfl ?_
    refine g_lcmp_le (pc := 12) (tgt := 37) hk dX0_afterOthers_12 dX0_afterOthers_13 rfl ?_ ?_
    · refine g_iload (pc := 37) hk dX0_afterOthers_37 rfl ?_
      exact c_iret (pc := 39) hk hK rfl dX0_afterOthers_39 rfl rfl
    · refine g_aload_n (pc := 16) hk dX0_afterOthers_16 rfl ?_
      refine c_getR (pc := 17) hk hK cr_0 cf_0 dX0_afterOthers_17 ?_
      refine c_getS (pc := 20) (w := 0) hk hK (by decide) sr_2 sn_2 dX0_afterOthers_20 ?_
      refine g_iload (pc := 23) hk dX0_afterOthers_23 rfl ?_
      refine c_iald (pc := 25) (k := 2) hk hK cav_2 dX0_afterOthers_25 ?_
      refine g_istoreN (pc := 26) (i := 4) (ls' := fun x3 => [(4, .int x3), (0, .ref (gA Γ 300)), (5, .long v5)]) hk dX0_afterOthers_26 (by decide) (fun _ => rfl) (fun x3 => ?_)
      refine g_lload (pc := 28) hk dX0_afterOthers_28 rfl ?_
      refine g_lconst (pc := 30) (v := 1) hk dX0_afterOthers_30 rfl ?_
      refine g_lsub (pc := 31) hk dX0_afterOthers_31 ?_
      refine g_lstoreN (pc := 32) (i := 5) (ls' := fun x4 => [(5, .long x4), (4, .int x3), (0, .ref (gA Γ 300))]) hk dX0_afterOthers_32 (by decide) (fun _ => rfl) (fun x4 => ?_)
      refine g_goto (pc := 34) (tgt := 9) hk dX0_afterOthers_34 rfl ?_
      refine g_sub (ls' := [(0, .ref (gA Γ 300)), (4, .int x3), (5, .long x4)]) [2, 1, 0] rfl ?_
      exact ih x3 x4
theorem cm_afterOthers (Γ : CG) (σ : CS) (v1 : Int32) (v2 : Int64)  (r : Int32) (h : C_afterOthers σ v1 v2 = some r) : CMet Γ yX0_afterOthers cX0_afterOthers 7 (some .int) rm_c_afterOthers [.ref (gA Γ 300), .int v1, .long v2] σ (some (.int r)) σ := by
  refine c_met (view := (fun r : Int32 => (some (Value.int r), σ))) (own := RX0) rfl (by decide) rfl (ls0 := [(0, .ref (gA Γ 300)), (1, .int v1), (2, .long v2)]) rfl (fun K hk hK => ?_) r h
  unfold C_afterOthers
  refine g_iload_n (pc := 0) hk dX0_afterOthers_0 rfl ?_
  refine g_istore (pc := 1) (i := 4) (ls' := [(4, .int v1), (0, .ref (gA Γ 300)), (1, .int v1), (2, .long v2)]) hk dX0_afterOthers_1 (by decide) rfl ?_
  refine g_lload_n (pc := 3) hk dX0_afterOthers_3 rfl ?_
  refine g_ob1 (fun r1 h2 => ?_)
  refine g_callP (pc := 4) hk [.long v2] [] (cm_shortOf v2 r1 h2) (lw_S q1124 q1009 q124 q1010) hs_c_shortOf rfl ⟨rfl, rfl⟩ rfl rfl dX0_afterOthers_4 rfl rfl ⟨rfl, rfl⟩ ?_
  refine g_lstore (pc := 7) (i := 5) (ls' := [(5, .long r1), (4, .int v1), (0, .ref (gA Γ 300)), (1, .int v1), (2, .long v2)]) hk dX0_afterOthers_7 (by decide) rfl ?_
  refine g_sub (ls' := [(0, .ref (gA Γ 300)), (4, .int v1), (5, .long r1)]) [2, 1, 0] rfl ?_
  exact cm_afterOthers_l9 hk hK σ FU v1 r1
def rm_c_after : Room := { frames := 3, cells := 0, slots := 0, locals := 87 }
theorem hv_c_after : yX0_after.cls = RX0 ∧ yX0_after.cls ≠ "java/lang/invoke/MethodHandle" ∧ yX0_after.cls ≠ "java/lang/invoke/VarHandle" ∧ (parseMethodDescriptor yX0_after.desc).map (fun d => d.parameters.length) = some 2 := by decide +kernel
theorem cm_after (Γ : CG) (σ : CS) (v1 : Int32) (v2 : Int64)  (r : Int32) (h : C_after σ v1 v2 = some r) : CMet Γ yX0_after cX0_after 4 (some .int) rm_c_after [.ref (gA Γ 300), .int v1, .long v2] σ (some (.int r)) σ := by
  refine c_met (view := (fun r : Int32 => (some (Value.int r), σ))) (own := RX0) rfl (by decide) rfl (ls0 := [(0, .ref (gA Γ 300)), (1, .int v1), (2, .long v2)]) rfl (fun K hk hK => ?_) r h
  unfold C_after
  refine g_iload_n (pc := 0) hk dX0_after_0 rfl ?_
  refine g_ob1 (fun r1 h2 => ?_)
  refine g_callP (pc := 1) hk [.int v1] [] (cm_isChair v1 r1 h2) (lw_S q307 q308 q124 q309) hs_c_isChair rfl ⟨rfl, rfl⟩ rfl rfl dX0_after_1 rfl rfl ⟨rfl, rfl⟩ ?_
  refine g_if_eq (pc := 4) (tgt := 22) hk dX0_after_4 rfl ?_ ?_
  · refine g_iconst (pc := 22) (v := (-1)) hk dX0_after_22 rfl ?_
    exact c_iret (pc := 23) hk hK rfl dX0_after_23 rfl rfl
  · refine g_lload_n (pc := 7) hk dX0_after_7 rfl ?_
    refine g_lconst (pc := 8) (v := 0) hk dX0_after_8 rfl ?_
    refine g_lcmp_lt (pc := 9) (tgt := 22) hk dX0_after_9 dX0_after_10 rfl ?_ ?_
    · refine g_iconst (pc := 22) (v := (-1)) hk dX0_after_22 rfl ?_
      exact c_iret (pc := 23) hk hK rfl dX0_after_23 rfl rfl
    · refine g_aload_n (pc := 13) hk dX0_after_13 rfl ?_
      refine g_iload_n (pc := 14) hk dX0_after_14 rfl ?_
      refine g_lload_n (pc := 15) hk dX0_after_15 rfl ?_
      refine g_ob1 (fun r3 h4 => ?_)
      refine c_callV (pc := 16) hk hK (rec_X hK) [.int v1, .long v2] [] (cm_afterOthers Γ σ v1 v2 r3 h4) (lw_V q1120 q1122 qs35 q124 q1123) hv_c_afterOthers rfl rfl rfl dX0_after_16 rfl rfl ⟨rfl, rfl⟩ ?_
      refine g_goto (pc := 19) (tgt := 23) hk dX0_after_19 rfl ?_
      exact c_iret (pc := 23) hk hK rfl dX0_after_23 rfl rfl
def rm_c_ringOf : Room := { frames := 3, cells := 0, slots := 0, locals := 87 }
theorem hv_c_ringOf : yX0_ringOf.cls = RX0 ∧ yX0_ringOf.cls ≠ "java/lang/invoke/MethodHandle" ∧ yX0_ringOf.cls ≠ "java/lang/invoke/VarHandle" ∧ (parseMethodDescriptor yX0_ringOf.desc).map (fun d => d.parameters.length) = some 1 := by decide +kernel
theorem cm_ringOf_l14 {K : KT} {Γ : CG} (hk : KOK K cX0_ringOf 5 RX0 rm_c_ringOf (some .int)) (hK : CK Γ (kS K)) (σ : CS) : ∀ (n : Nat) (v2 : Int32) (v3 : Int32) (v4 : Int32), GGo K (cQ K Γ rm_c_ringOf (fun r : Int32 => (some (Value.int r), σ))) (C_ringOf_l14 σ n v2 v3 v4) 5 (CI Γ (kS K) σ) 0 0 14 [(0, .ref (gA Γ 300)), (2, .int v2), (3, .int v3), (4, .int v4)] [] := by
  intro n
  induction n with
  | zero =>
    intro v2 v3 v4
    unfold C_ringOf_l14
    exact g_none
  | succ n ih =>
    intro v2 v3 v4
    unfold C_ringOf_l14
    refine g_iload (pc := 14) hk dX0_ringOf_14 rfl ?_
    refine g_bipush (pc := 16) (v := 8) hk dX0_ringOf_16 rfl ?_
    refine g_icmp_ge (pc := 18) (tgt := 43) hk dX0_ringOf_18 rfl ?_ ?_
    · refine g_iload_n (pc := 43) hk dX0_ringOf_43 rfl ?_
      exact c_iret (pc := 44) hk hK rfl dX0_ringOf_44 rfl rfl
    · refine g_iload_n (pc := 21) hk dX0_ringOf_21 rfl ?_
      refine g_iconst (pc := 22) (v := 1) hk dX0_ringOf_22 rfl ?_
      refine g_iload_n (pc := 23) hk dX0_ringOf_23 rfl ?_
      refine g_ishl (pc := 24) hk dX0_ringOf_24 ?_
      refine g_ior (pc := 25) hk dX0_ringOf_25 ?_
      refine g_istore_nN (pc := 26) (i := 3) (ls' := fun x3 => [(3, .int x3), (0, .ref (gA Γ 300)), (2, .int v2), (4, .int v4)]) hk dX0_ringOf_26 rfl (by decide) (fun _ => rfl) (fun x3 => ?_)
      refine g_aload_n (pc := 27) hk dX0_ringOf_27 rfl ?_
      refine c_getR (pc := 28) hk hK cr_0 cf_0 dX0_ringOf_28 ?_
      refine c_getS (pc := 31) (w := 0) hk hK (by decide) sr_2 sn_2 dX0_ringOf_31 ?_
      refine g_iload_n (pc := 34) hk dX0_ringOf_34 rfl ?_
      refine c_iald (pc := 35) (k := 2) hk hK cav_2 dX0_ringOf_35 ?_
      refine g_istore_nN (pc := 36) (i := 2) (ls' := fun x4 => [(2, .int x4), (3, .int x3), (0, .ref (gA Γ 300)), (4, .int v4)]) hk dX0_ringOf_36 rfl (by decide) (fun _ => rfl) (fun x4 => ?_)
      refine g_iincN (pc := 37) (v := 1) (ls' := fun x5 => [(4, .int x5), (2, .int x4), (3, .int x3), (0, .ref (gA Γ 300))]) hk dX0_ringOf_37 rfl rfl (by decide) (fun _ => rfl) (fun x5 => ?_)
      refine g_goto (pc := 40) (tgt := 14) hk dX0_ringOf_40 rfl ?_
      refine g_sub (ls' := [(0, .ref (gA Γ 300)), (2, .int x4), (3, .int x3), (4, .int x5)]) [3, 1, 2, 0] rfl ?_
      exact ih x4 x3 x5
theorem cm_ringOf (Γ : CG) (σ : CS) (v1 : Int32)  (r : Int32) (h : C_ringOf σ v1 = some r) : CMet Γ yX0_ringOf cX0_ringOf 5 (some .int) rm_c_ringOf [.ref (gA Γ 300), .int v1] σ (some (.int r)) σ := by
  refine c_met (view := (fun r : Int32 => (some (Value.int r), σ))) (own := RX0) rfl (by decide) rfl (ls0 := [(0, .ref (gA Γ 300)), (1, .int v1)]) rfl (fun K hk hK => ?_) r h
  unfold C_ringOf
  refine g_aload_n (pc := 0) hk dX0_ringOf_0 rfl ?_
  refine g_iload_n (pc := 1) hk dX0_ringOf_1 rfl ?_
  refine g_ldc2 (pc := 2) (v := 8) hk q1011 dX0_ringOf_2 ?_
  refine g_ob1 (fun r1 h2 => ?_)
  refine c_callV (pc := 5) hk hK (rec_X hK) [.int v1, .long 8] [] (cm_afterOthers Γ σ v1 8 r1 h2) (lw_V q1120 q1122 qs35 q124 q1123) hv_c_afterOthers rfl rfl rfl dX0_ringOf_5 rfl rfl ⟨rfl, rfl⟩ ?_
  refine g_istore_n (pc := 8) (i := 2) (ls' := [(2, .int r1), (0, .ref (gA Γ 300)), (1, .int v1)]) hk dX0_ringOf_8 rfl (by decide) rfl ?_
  refine g_iconst (pc := 9) (v := 0) hk dX0_ringOf_9 rfl ?_
  refine g_istore_n (pc := 10) (i := 3) (ls' := [(3, .int 0), (2, .int r1), (0, .ref (gA Γ 300)), (1, .int v1)]) hk dX0_ringOf_10 rfl (by decide) rfl ?_
  refine g_iconst (pc := 11) (v := 0) hk dX0_ringOf_11 rfl ?_
  refine g_istore (pc := 12) (i := 4) (ls' := [(4, .int 0), (3, .int 0), (2, .int r1), (0, .ref (gA Γ 300)), (1, .int v1)]) hk dX0_ringOf_12 (by decide) rfl ?_
  refine g_sub (ls' := [(0, .ref (gA Γ 300)), (2, .int r1), (3, .int 0), (4, .int 0)]) [3, 2, 1, 0] rfl ?_
  exact cm_ringOf_l14 hk hK σ FU r1 0 0
def rm_i_bitCount : Room := { frames := 1, cells := 0, slots := 0, locals := 40 }
theorem hs_i_bitCount : yJ15_bitCount.cls ≠ "java/lang/invoke/MethodHandle" ∧ yJ15_bitCount.cls ≠ "java/lang/invoke/VarHandle" ∧ (parseMethodDescriptor yJ15_bitCount.desc).map (fun d => d.parameters.length) = some 1 := by decide +kernel
theorem im_bitCount (v0 : Int32)  (r : Int32) (h : I_bitCount v0 = some r) : PMet yJ15_bitCount cJ15_bitCount 1 (some .int) rm_i_bitCount [.int v0] (some (.int r)) := by
  refine p_met (view := (fun r : Int32 => some (Value.int r))) (own := RJ15) rfl (by decide) rfl (ls0 := [(0, .int v0)]) rfl (fun K hk => ?_) r h
  unfold I_bitCount
  refine g_iload_n (pc := 0) hk dJ15_bitCount_0 rfl ?_
  refine g_iload_n (pc := 1) hk dJ15_bitCount_1 rfl ?_
  refine g_iconst (pc := 2) (v := 1) hk dJ15_bitCount_2 rfl ?_
  refine g_iushr (pc := 3) hk dJ15_bitCount_3 ?_
  refine g_ldcw (pc := 4) (v := 1431655765) hk q1136 dJ15_bitCount_4 ?_
  refine g_iand (pc := 7) hk dJ15_bitCount_7 ?_
  refine g_isub (pc := 8) hk dJ15_bitCount_8 ?_
  refine g_istore_nN (pc := 9) (i := 0) (ls' := fun x1 => [(0, .int x1)]) hk dJ15_bitCount_9 rfl (by decide) (fun _ => rfl) (fun x1 => ?_)
  refine g_iload_n (pc := 10) hk dJ15_bitCount_10 rfl ?_
  refine g_ldcw (pc := 11) (v := 858993459) hk q1137 dJ15_bitCount_11 ?_
  refine g_iand (pc := 14) hk dJ15_bitCount_14 ?_
  refine g_iload_n (pc := 15) hk dJ15_bitCount_15 rfl ?_
  refine g_iconst (pc := 16) (v := 2) hk dJ15_bitCount_16 rfl ?_
  refine g_iushr (pc := 17) hk dJ15_bitCount_17 ?_
  refine g_ldcw (pc := 18) (v := 858993459) hk q1137 dJ15_bitCount_18 ?_
  refine g_iand (pc := 21) hk dJ15_bitCount_21 ?_
  refine g_iadd (pc := 22) hk dJ15_bitCount_22 ?_
  refine g_istore_nN (pc := 23) (i := 0) (ls' := fun x2 => [(0, .int x2)]) hk dJ15_bitCount_23 rfl (by decide) (fun _ => rfl) (fun x2 => ?_)
  refine g_iload_n (pc := 24) hk dJ15_bitCount_24 rfl ?_
  refine g_iload_n (pc := 25) hk dJ15_bitCount_25 rfl ?_
  refine g_iconst (pc := 26) (v := 4) hk dJ15_bitCount_26 rfl ?_
  refine g_iushr (pc := 27) hk dJ15_bitCount_27 ?_
  refine g_iadd (pc := 28) hk dJ15_bitCount_28 ?_
  refine g_ldcw (pc := 29) (v := 252645135) hk q1138 dJ15_bitCount_29 ?_
  refine g_iand (pc := 32) hk dJ15_bitCount_32 ?_
  refine g_istore_nN (pc := 33) (i := 0) (ls' := fun x3 => [(0, .int x3)]) hk dJ15_bitCount_33 rfl (by decide) (fun _ => rfl) (fun x3 => ?_)
  refine g_iload_n (pc := 34) hk dJ15_bitCount_34 rfl ?_
  refine g_iload_n (pc := 35) hk dJ15_bitCount_35 rfl ?_
  refine g_bipush (pc := 36) (v := 8) hk dJ15_bitCount_36 rfl ?_
  refine g_iushr (pc := 38) hk dJ15_bitCount_38 ?_
  refine g_iadd (pc := 39) hk dJ15_bitCount_39 ?_
  refine g_istore_nN (pc := 40) (i := 0) (ls' := fun x4 => [(0, .int x4)]) hk dJ15_bitCount_40 rfl (by decide) (fun _ => rfl) (fun x4 => ?_)
  refine g_iload_n (pc := 41) hk dJ15_bitCount_41 rfl ?_
  refine g_iload_n (pc := 42) hk dJ15_bitCount_42 rfl ?_
  refine g_bipush (pc := 43) (v := 16) hk dJ15_bitCount_43 rfl ?_
  refine g_iushr (pc := 45) hk dJ15_bitCount_45 ?_
  refine g_iadd (pc := 46) hk dJ15_bitCount_46 ?_
  refine g_istore_nN (pc := 47) (i := 0) (ls' := fun x5 => [(0, .int x5)]) hk dJ15_bitCount_47 rfl (by decide) (fun _ => rfl) (fun x5 => ?_)
  refine g_iload_n (pc := 48) hk dJ15_bitCount_48 rfl ?_
  refine g_bipush (pc := 49) (v := 63) hk dJ15_bitCount_49 rfl ?_
  refine g_iand (pc := 51) hk dJ15_bitCount_51 ?_
  exact p_iret (pc := 52) hk rfl dJ15_bitCount_52
def rm_c_tailOf : Room := { frames := 4, cells := 0, slots := 0, locals := 111 }
theorem hv_c_tailOf : yX0_tailOf.cls = RX0 ∧ yX0_tailOf.cls ≠ "java/lang/invoke/MethodHandle" ∧ yX0_tailOf.cls ≠ "java/lang/invoke/VarHandle" ∧ (parseMethodDescriptor yX0_tailOf.desc).map (fun d => d.parameters.length) = some 1 := by decide +kernel
theorem cm_tailOf_l2 {K : KT} {Γ : CG} (hk : KOK K cX0_tailOf 3 RX0 rm_c_tailOf (some .int)) (hK : CK Γ (kS K)) (σ : CS) (v1 : Int32) : ∀ (n : Nat) (v2 : Int32), GGo K (cQ K Γ rm_c_tailOf (fun r : Int32 => (some (Value.int r), σ))) (C_tailOf_l2 σ v1 n v2) 3 (CI Γ (kS K) σ) 0 0 2 [(0, .ref (gA Γ 300)), (1, .int v1), (2, .int v2)] [] := by
  intro n
  induction n with
  | zero =>
    intro v2
    unfold C_tailOf_l2
    exact g_none
  | succ n ih =>
    intro v2
    unfold C_tailOf_l2
    refine g_aload_n (pc := 2) hk dX0_tailOf_2 rfl ?_
    refine g_iload_n (pc := 3) hk dX0_tailOf_3 rfl ?_
    refine g_ob1 (fun r1 h2 => ?_)
    refine c_callV (pc := 4) hk hK (rec_X hK) [.int v1] [] (cm_ringOf Γ σ v1 r1 h2) (lw_V q1129 q1131 qs36 q124 q1132) hv_c_ringOf rfl rfl rfl dX0_tailOf_4 rfl rfl ⟨rfl, rfl⟩ ?_
    refine g_aload_n (pc := 7) hk dX0_tailOf_7 rfl ?_
    refine g_iload_n (pc := 8) hk dX0_tailOf_8 rfl ?_
    refine g_iload_n (pc := 9) hk dX0_tailOf_9 rfl ?_
    refine g_i2l (pc := 10) hk dX0_tailOf_10 ?_
    refine g_ob1 (fun r3 h4 => ?_)
    refine c_callV (pc := 11) hk hK (rec_X hK) [.int v1, .long (Int32.toInt64 v2)] [.int r1] (cm_afterOthers Γ σ v1 (Int32.toInt64 v2) r3 h4) (lw_V q1120 q1122 qs35 q124 q1123) hv_c_afterOthers rfl rfl rfl dX0_tailOf_11 rfl rfl ⟨rfl, rfl⟩ ?_
    refine g_ob1 (fun r5 h6 => ?_)
    refine g_callP (pc := 14) hk [.int r1, .int r3] [] (cm_has r1 r3 r5 h6) (lw_S q1113 q1114 q124 q1115) hs_c_has rfl ⟨rfl, rfl⟩ rfl rfl dX0_tailOf_14 rfl rfl ⟨rfl, rfl⟩ ?_
    refine g_if_ne (pc := 17) (tgt := 26) hk dX0_tailOf_17 rfl ?_ ?_
    · refine g_iload_n (pc := 26) hk dX0_tailOf_26 rfl ?_
      exact c_iret (pc := 27) hk hK rfl dX0_tailOf_27 rfl rfl
    · refine g_iincN (pc := 20) (v := 1) (ls' := fun x7 => [(2, .int x7), (0, .ref (gA Γ 300)), (1, .int v1)]) hk dX0_tailOf_20 rfl rfl (by decide) (fun _ => rfl) (fun x7 => ?_)
      refine g_goto (pc := 23) (tgt := 2) hk dX0_tailOf_23 rfl ?_
      refine g_sub (ls' := [(0, .ref (gA Γ 300)), (1, .int v1), (2, .int x7)]) [1, 2, 0] rfl ?_
      exact ih x7
theorem cm_tailOf (Γ : CG) (σ : CS) (v1 : Int32)  (r : Int32) (h : C_tailOf σ v1 = some r) : CMet Γ yX0_tailOf cX0_tailOf 3 (some .int) rm_c_tailOf [.ref (gA Γ 300), .int v1] σ (some (.int r)) σ := by
  refine c_met (view := (fun r : Int32 => (some (Value.int r), σ))) (own := RX0) rfl (by decide) rfl (ls0 := [(0, .ref (gA Γ 300)), (1, .int v1)]) rfl (fun K hk hK => ?_) r h
  unfold C_tailOf
  refine g_iconst (pc := 0) (v := 0) hk dX0_tailOf_0 rfl ?_
  refine g_istore_n (pc := 1) (i := 2) (ls' := [(2, .int 0), (0, .ref (gA Γ 300)), (1, .int v1)]) hk dX0_tailOf_1 rfl (by decide) rfl ?_
  refine g_sub (ls' := [(0, .ref (gA Γ 300)), (1, .int v1), (2, .int 0)]) [1, 2, 0] rfl ?_
  exact cm_tailOf_l2 hk hK σ v1 FU 0
def rm_c_ring : Room := { frames := 5, cells := 0, slots := 0, locals := 133 }
theorem hv_c_ring : yX0_ring.cls = RX0 ∧ yX0_ring.cls ≠ "java/lang/invoke/MethodHandle" ∧ yX0_ring.cls ≠ "java/lang/invoke/VarHandle" ∧ (parseMethodDescriptor yX0_ring.desc).map (fun d => d.parameters.length) = some 2 := by decide +kernel
theorem cm_ring (Γ : CG) (σ : CS) (v1 : Int32) (v2 : Int32)  (r : Int32) (h : C_ring σ v1 v2 = some r) : CMet Γ yX0_ring cX0_ring 4 (some .int) rm_c_ring [.ref (gA Γ 300), .int v1, .int v2] σ (some (.int r)) σ := by
  refine c_met (view := (fun r : Int32 => (some (Value.int r), σ))) (own := RX0) rfl (by decide) rfl (ls0 := [(0, .ref (gA Γ 300)), (1, .int v1), (2, .int v2)]) rfl (fun K hk hK => ?_) r h
  unfold C_ring
  refine g_iload_n (pc := 0) hk dX0_ring_0 rfl ?_
  refine g_ob1 (fun r1 h2 => ?_)
  refine g_callP (pc := 1) hk [.int v1] [] (cm_isChair v1 r1 h2) (lw_S q307 q308 q124 q309) hs_c_isChair rfl ⟨rfl, rfl⟩ rfl rfl dX0_ring_1 rfl rfl ⟨rfl, rfl⟩ ?_
  refine g_if_eq (pc := 4) (tgt := 16) hk dX0_ring_4 rfl ?_ ?_
  · refine g_iconst (pc := 16) (v := (-1)) hk dX0_ring_16 rfl ?_
    exact c_iret (pc := 17) hk hK rfl dX0_ring_17 rfl rfl
  · refine g_iload_n (pc := 7) hk dX0_ring_7 rfl ?_
    refine g_iconst (pc := 8) (v := 0) hk dX0_ring_8 rfl ?_
    refine g_iconst (pc := 9) (v := 2) hk dX0_ring_9 rfl ?_
    refine g_ob1 (fun r3 h4 => ?_)
    refine g_callP (pc := 10) hk [.int v2, .int 0, .int 2] [] (cm_in v2 0 2 r3 h4) (lw_S q296 q297 q124 q298) hs_c_in rfl ⟨rfl, rfl⟩ rfl rfl dX0_ring_10 rfl rfl ⟨rfl, rfl⟩ ?_
    refine g_if_ne (pc := 13) (tgt := 18) hk dX0_ring_13 rfl ?_ ?_
    · refine g_aload_n (pc := 18) hk dX0_ring_18 rfl ?_
      refine g_iload_n (pc := 19) hk dX0_ring_19 rfl ?_
      refine g_ob1 (fun r5 h6 => ?_)
      refine c_callV (pc := 20) hk hK (rec_X hK) [.int v1] [] (cm_ringOf Γ σ v1 r5 h6) (lw_V q1129 q1131 qs36 q124 q1132) hv_c_ringOf rfl rfl rfl dX0_ring_20 rfl rfl ⟨rfl, rfl⟩ ?_
      refine g_istore_n (pc := 23) (i := 3) (ls' := [(3, .int r5), (0, .ref (gA Γ 300)), (1, .int v1), (2, .int v2)]) hk dX0_ring_23 rfl (by decide) rfl ?_
      refine g_iload_n (pc := 24) hk dX0_ring_24 rfl ?_
      refine g_if_ne (pc := 25) (tgt := 35) hk dX0_ring_25 rfl ?_ ?_
      · refine g_iload_n (pc := 35) hk dX0_ring_35 rfl ?_
        refine g_iconst (pc := 36) (v := 1) hk dX0_ring_36 rfl ?_
        refine g_icmp_ne (pc := 37) (tgt := 48) hk dX0_ring_37 rfl ?_ ?_
        · refine g_iload_n (pc := 48) hk dX0_ring_48 rfl ?_
          exact c_iret (pc := 49) hk hK rfl dX0_ring_49 rfl rfl
        · refine g_aload_n (pc := 40) hk dX0_ring_40 rfl ?_
          refine g_iload_n (pc := 41) hk dX0_ring_41 rfl ?_
          refine g_ob1 (fun r7 h8 => ?_)
          refine c_callV (pc := 42) hk hK (rec_X hK) [.int v1] [] (cm_tailOf Γ σ v1 r7 h8) (lw_V q1139 q1141 qs37 q124 q1142) hv_c_tailOf rfl rfl rfl dX0_ring_42 rfl rfl ⟨rfl, rfl⟩ ?_
          refine g_goto (pc := 45) (tgt := 49) hk dX0_ring_45 rfl ?_
          exact c_iret (pc := 49) hk hK rfl dX0_ring_49 rfl rfl
      · refine g_iload_n (pc := 28) hk dX0_ring_28 rfl ?_
        refine g_ob1 (fun r9 h10 => ?_)
        refine g_callP (pc := 29) hk [.int r5] [] (im_bitCount r5 r9 h10) (lw_S q1133 q1134 q155 q1135) hs_i_bitCount rfl ⟨rfl, rfl⟩ rfl rfl dX0_ring_29 rfl rfl ⟨rfl, rfl⟩ ?_
        refine g_goto (pc := 32) (tgt := 49) hk dX0_ring_32 rfl ?_
        exact c_iret (pc := 49) hk hK rfl dX0_ring_49 rfl rfl
    · refine g_iconst (pc := 16) (v := (-1)) hk dX0_ring_16 rfl ?_
      exact c_iret (pc := 17) hk hK rfl dX0_ring_17 rfl rfl
def rm_c_meet : Room := { frames := 3, cells := 0, slots := 0, locals := 87 }
theorem hv_c_meet : yX0_meet.cls = RX0 ∧ yX0_meet.cls ≠ "java/lang/invoke/MethodHandle" ∧ yX0_meet.cls ≠ "java/lang/invoke/VarHandle" ∧ (parseMethodDescriptor yX0_meet.desc).map (fun d => d.parameters.length) = some 2 := by decide +kernel
theorem cm_meet_l18 {K : KT} {Γ : CG} (hk : KOK K cX0_meet 4 RX0 rm_c_meet (some .int)) (hK : CK Γ (kS K)) (σ : CS) (v1 : Int32) (v2 : Int32) : ∀ (n : Nat) (v3 : Int32), GGo K (cQ K Γ rm_c_meet (fun r : Int32 => (some (Value.int r), σ))) (C_meet_l18 σ v1 v2 n v3) 4 (CI Γ (kS K) σ) 0 0 18 [(0, .ref (gA Γ 300)), (1, .int v1), (2, .int v2), (3, .int v3)] [] := by
  intro n
  induction n with
  | zero =>
    intro v3
    unfold C_meet_l18
    exact g_none
  | succ n ih =>
    intro v3
    unfold C_meet_l18
    refine g_iload_n (pc := 18) hk dX0_meet_18 rfl ?_
    refine g_bipush (pc := 19) (v := 8) hk dX0_meet_19 rfl ?_
    refine g_icmp_gt (pc := 21) (tgt := 49) hk dX0_meet_21 rfl ?_ ?_
    · refine g_iconst (pc := 49) (v := (-1)) hk dX0_meet_49 rfl ?_
      exact c_iret (pc := 50) hk hK rfl dX0_meet_50 rfl rfl
    · refine g_aload_n (pc := 24) hk dX0_meet_24 rfl ?_
      refine g_iload_n (pc := 25) hk dX0_meet_25 rfl ?_
      refine g_iload_n (pc := 26) hk dX0_meet_26 rfl ?_
      refine g_i2l (pc := 27) hk dX0_meet_27 ?_
      refine g_ob1 (fun r5 h6 => ?_)
      refine c_callV (pc := 28) hk hK (rec_X hK) [.int v1, .long (Int32.toInt64 v3)] [] (cm_afterOthers Γ σ v1 (Int32.toInt64 v3) r5 h6) (lw_V q1120 q1122 qs35 q124 q1123) hv_c_afterOthers rfl rfl rfl dX0_meet_28 rfl rfl ⟨rfl, rfl⟩ ?_
      refine g_aload_n (pc := 31) hk dX0_meet_31 rfl ?_
      refine g_iload_n (pc := 32) hk dX0_meet_32 rfl ?_
      refine g_iload_n (pc := 33) hk dX0_meet_33 rfl ?_
      refine g_i2l (pc := 34) hk dX0_meet_34 ?_
      refine g_ob1 (fun r7 h8 => ?_)
      refine c_callV (pc := 35) hk hK (rec_X hK) [.int v2, .long (Int32.toInt64 v3)] [.int r5] (cm_afterOthers Γ σ v2 (Int32.toInt64 v3) r7 h8) (lw_V q1120 q1122 qs35 q124 q1123) hv_c_afterOthers rfl rfl rfl dX0_meet_35 rfl rfl ⟨rfl, rfl⟩ ?_
      refine g_icmp_ne (pc := 38) (tgt := 43) hk dX0_meet_38 rfl ?_ ?_
      · refine g_iincN (pc := 43) (v := 1) (ls' := fun x9 => [(3, .int x9), (0, .ref (gA Γ 300)), (1, .int v1), (2, .int v2)]) hk dX0_meet_43 rfl rfl (by decide) (fun _ => rfl) (fun x9 => ?_)
        refine g_goto (pc := 46) (tgt := 18) hk dX0_meet_46 rfl ?_
        refine g_sub (ls' := [(0, .ref (gA Γ 300)), (1, .int v1), (2, .int v2), (3, .int x9)]) [1, 2, 3, 0] rfl ?_
        exact ih x9
      · refine g_iload_n (pc := 41) hk dX0_meet_41 rfl ?_
        exact c_iret (pc := 42) hk hK rfl dX0_meet_42 rfl rfl
theorem cm_meet (Γ : CG) (σ : CS) (v1 : Int32) (v2 : Int32)  (r : Int32) (h : C_meet σ v1 v2 = some r) : CMet Γ yX0_meet cX0_meet 4 (some .int) rm_c_meet [.ref (gA Γ 300), .int v1, .int v2] σ (some (.int r)) σ := by
  refine c_met (view := (fun r : Int32 => (some (Value.int r), σ))) (own := RX0) rfl (by decide) rfl (ls0 := [(0, .ref (gA Γ 300)), (1, .int v1), (2, .int v2)]) rfl (fun K hk hK => ?_) r h
  unfold C_meet
  refine g_iload_n (pc := 0) hk dX0_meet_0 rfl ?_
  refine g_ob1 (fun r1 h2 => ?_)
  refine g_callP (pc := 1) hk [.int v1] [] (cm_isChair v1 r1 h2) (lw_S q307 q308 q124 q309) hs_c_isChair rfl ⟨rfl, rfl⟩ rfl rfl dX0_meet_1 rfl rfl ⟨rfl, rfl⟩ ?_
  refine g_if_eq (pc := 4) (tgt := 14) hk dX0_meet_4 rfl ?_ ?_
  · refine g_iconst (pc := 14) (v := (-1)) hk dX0_meet_14 rfl ?_
    exact c_iret (pc := 15) hk hK rfl dX0_meet_15 rfl rfl
  · refine g_iload_n (pc := 7) hk dX0_meet_7 rfl ?_
    refine g_ob1 (fun r3 h4 => ?_)
    refine g_callP (pc := 8) hk [.int v2] [] (cm_isChair v2 r3 h4) (lw_S q307 q308 q124 q309) hs_c_isChair rfl ⟨rfl, rfl⟩ rfl rfl dX0_meet_8 rfl rfl ⟨rfl, rfl⟩ ?_
    refine g_if_ne (pc := 11) (tgt := 16) hk dX0_meet_11 rfl ?_ ?_
    · refine g_iconst (pc := 16) (v := 0) hk dX0_meet_16 rfl ?_
      refine g_istore_n (pc := 17) (i := 3) (ls' := [(3, .int 0), (0, .ref (gA Γ 300)), (1, .int v1), (2, .int v2)]) hk dX0_meet_17 rfl (by decide) rfl ?_
      refine g_sub (ls' := [(0, .ref (gA Γ 300)), (1, .int v1), (2, .int v2), (3, .int 0)]) [1, 2, 3, 0] rfl ?_
      exact cm_meet_l18 hk hK σ v1 v2 FU 0
    · refine g_iconst (pc := 14) (v := (-1)) hk dX0_meet_14 rfl ?_
      exact c_iret (pc := 15) hk hK rfl dX0_meet_15 rfl rfl
