/-! A STATE's constructor (made by mkdx35.py) -/
set_option maxRecDepth 100000
def stF (m i q : Nat) : Int32 := if i = 0 then (if q = 2 then -1 else 0) else if i = 1 then (if q = 2 then 223 else 0) else if i = 2 then (if q < m then nI q ^^^ 1 else 0) else if i = 4 then (if q < m then 1 else 0) else if i < 6 then 0 else if i < 6 + m then 10 else 0
theorem upd_ap {f : Nat → Int32} {i q : Nat} {v : Int32} : upd f i v q = if q = i then v else f q := rfl
theorem up_at {c : Nat → Nat → Int32} {k : Nat} {f : Nat → Int32} : va_up c k f k = f := if_pos rfl
theorem up_ne {c : Nat → Nat → Int32} {k i : Nat} {f : Nat → Int32} (h : i ≠ k) : va_up c k f i = c i := if_neg h
theorem stF_z (i q : Nat) : va_up (va_up c00 0 (upd (c00 0) 2 (-1))) 1 (upd (va_up c00 0 (upd (c00 0) 2 (-1)) 1) 2 223) i q = stF 0 i q := by
  by_cases e1 : i = 1
  · subst e1; rw [up_at, upd_ap, up_ne (by decide)]; rfl
  rw [up_ne e1]
  by_cases e0 : i = 0
  · subst e0; rw [up_at, upd_ap]; rfl
  rw [up_ne e0]
  unfold stF
  rw [if_neg e0, if_neg e1]
  by_cases e2 : i = 2
  · rw [if_pos e2, if_neg (Nat.not_lt_zero _)]; rfl
  rw [if_neg e2]
  by_cases e4 : i = 4
  · rw [if_pos e4, if_neg (Nat.not_lt_zero _)]; rfl
  rw [if_neg e4]
  by_cases e6 : i < 6
  · rw [if_pos e6]; rfl
  · rw [if_neg e6, if_neg e6]; rfl
theorem stF_s (m i q : Nat) (hm : m < 8) : va_up (va_up (va_up (stF m) 2 (upd (stF m 2) m (nI m ^^^ 1))) 4 (upd (stF m 4) m 1)) (6 + m) (fun _ => 10) i q = stF (m + 1) i q := by
  by_cases e6 : i = 6 + m
  · subst e6
    rw [up_at]
    unfold stF
    rw [if_neg (by omega), if_neg (by omega), if_neg (by omega), if_neg (by omega), if_neg (by omega), if_pos (by omega)]
  rw [up_ne e6]
  by_cases e4 : i = 4
  · subst e4
    rw [up_at, upd_ap]
    show (if q = m then (1 : Int32) else if q < m then 1 else 0) = if q < m + 1 then 1 else 0
    by_cases eq : q = m
    · rw [if_pos eq, if_pos (by omega)]
    · rw [if_neg eq]
      by_cases el : q < m
      · rw [if_pos el, if_pos (by omega)]
      · rw [if_neg el, if_neg (by omega)]
  rw [up_ne e4]
  by_cases e2 : i = 2
  · subst e2
    rw [up_at, upd_ap]
    show (if q = m then nI m ^^^ 1 else if q < m then nI q ^^^ 1 else 0) = if q < m + 1 then nI q ^^^ 1 else 0
    by_cases eq : q = m
    · rw [if_pos eq, if_pos (by omega), eq]
    · rw [if_neg eq]
      by_cases el : q < m
      · rw [if_pos el, if_pos (by omega)]
      · rw [if_neg el, if_neg (by omega)]
  rw [up_ne e2]
  unfold stF
  by_cases e0 : i = 0
  · rw [if_pos e0, if_pos e0]
  by_cases e1 : i = 1
  · rw [if_neg e0, if_neg e0, if_pos e1, if_pos e1]
  rw [if_neg e0, if_neg e1, if_neg e2, if_neg e4, if_neg e0, if_neg e1, if_neg e2, if_neg e4]
  by_cases e7 : i < 6
  · rw [if_pos e7, if_pos e7]
  · rw [if_neg e7, if_neg e7]
    by_cases e8 : i < 6 + m
    · rw [if_pos e8, if_pos (by omega)]
    · rw [if_neg e8, if_neg (by omega)]
def fsS (b : Nat) : List Value := [.ref (b + 0), .ref (b + 1), .ref (b + 2), .ref (b + 3), .ref (b + 4), .ref (b + 5), .ref (b + 14), .ref (b + 23), .ref (b + 30), .ref (b + 39), .ref (b + 70)]
def fs0 : List Value := [.null, .null, .null, .null, .null, .null, .null, .null, .null, .null, .null]
def rm_x_st : Room := { frames := 3, cells := 71, slots := 4838, locals := 140 }
theorem hi_X1 : yX1_init.cls ≠ "java/lang/invoke/MethodHandle" ∧ yX1_init.cls ≠ "java/lang/invoke/VarHandle" ∧ (parseMethodDescriptor yX1_init.desc).map (fun d => d.parameters.length) = some 0 := by decide +kernel
theorem hs_x_fi : yJ0_fill.cls ≠ "java/lang/invoke/MethodHandle" ∧ yJ0_fill.cls ≠ "java/lang/invoke/VarHandle" ∧ (parseMethodDescriptor yJ0_fill.desc).map (fun d => d.parameters.length) = some 2 := by decide +kernel
theorem cFr.of {Γ : CG} {a : Nat} {H H1 : Heap} (ha : cSt Γ a) (h : pFr a H H1) : cFr Γ H H1 := ⟨h.1, fun q hq hn => h.2 q hq (fun e => hn (by rw [e]; exact ha))⟩
theorem n_X1 {Γ : CG} {tx : TXs Tx} {H0 : Heap} {a : Nat} (hao : ∀ U, gX Γ U → AO2 U ∧ va_AO RX4 U) (hcst : cSt Γ a) (hf : va_at (gD Γ) ccl (a, .inr (1, fs0)) H0) : NMet Γ tx yX1_init cX1_init 2 rm_x_st [.ref a] H0 a (fun H1 => va_at (gD Γ) ccl (a, .inr (1, fsS H0.size)) H1 ∧ AW Γ H0.size 71 (stF 8) H1) := by
  refine n_met (view := fun _ : Unit => fun H1 => va_at (gD Γ) ccl (a, .inr (1, fsS H0.size)) H1 ∧ AW Γ H0.size 71 (stF 8) H1) (comp := some ()) (own := RX1) rfl (by decide) rfl (ls0 := [(0, .ref a)]) rfl (fun K hk hK htr hnm hH hE => nw_in (a := a) hH ?_) () rfl
  obtain ⟨hao2, haoT⟩ := hao _ hK.2.2.1
  have hO := hK.2.2.2
  generalize hb : H0.size = b
  have ha : a < b := by rw [← hb]; exact hf.lt
  have hb2 : b = (kS K).heap.size := by rw [hH, hb]
  have hA := (hK.1.2 0 _ rfl).1
  refine g_aload_n (pc := 0) hk dX1_init_0 rfl ?_
  refine x_objI (pc := 1) hk q171 q164 q165 rfl rfl rfl dX1_init_1 ?_
  refine g_I (I' := NS Γ K a b fs0 0 c00) (fun H locs hI => ⟨hI.1, hI.2.1, by rw [hI.2.2]; exact hf, by rw [hI.2.2, hb]; rfl, fun i hi => absurd hi (Nat.not_lt_zero _)⟩) ?_
  refine g_aload_n (pc := 4) hk dX1_init_4 rfl ?_
  refine g_bipush (pc := 5) (v := 6) hk dX1_init_5 rfl ?_
  refine ns_newI (pc := 7) (N := 6) hk hK ha hb2 rfl (by decide) rfl (by decide) rfl (by decide) (by decide) dX1_init_7 ?_
  refine ns_put (pc := 9) hk hK ha 0 9 (by decide) q179 rfl rfl hnm rfl rfl rfl dX1_init_9 ?_
  refine g_aload_n (pc := 12) hk dX1_init_12 rfl ?_
  refine g_sipush (pc := 13) (v := 148) hk dX1_init_13 rfl ?_
  refine ns_newI (pc := 16) (N := 148) hk hK ha hb2 rfl (by decide) rfl (by decide) rfl (by decide) (by decide) dX1_init_16 ?_
  refine ns_put (pc := 18) hk hK ha 1 15 (by decide) q181 rfl rfl hnm rfl rfl rfl dX1_init_18 ?_
  refine g_aload_n (pc := 21) hk dX1_init_21 rfl ?_
  refine g_bipush (pc := 22) (v := 8) hk dX1_init_22 rfl ?_
  refine ns_newI (pc := 24) (N := 8) hk hK ha hb2 rfl (by decide) rfl (by decide) rfl (by decide) (by decide) dX1_init_24 ?_
  refine ns_put (pc := 26) hk hK ha 2 18 (by decide) q183 rfl rfl hnm rfl rfl rfl dX1_init_26 ?_
  refine g_aload_n (pc := 29) hk dX1_init_29 rfl ?_
  refine g_bipush (pc := 30) (v := 8) hk dX1_init_30 rfl ?_
  refine ns_newI (pc := 32) (N := 8) hk hK ha hb2 rfl (by decide) rfl (by decide) rfl (by decide) (by decide) dX1_init_32 ?_
  refine ns_put (pc := 34) hk hK ha 3 21 (by decide) q185 rfl rfl hnm rfl rfl rfl dX1_init_34 ?_
  refine g_aload_n (pc := 37) hk dX1_init_37 rfl ?_
  refine g_bipush (pc := 38) (v := 8) hk dX1_init_38 rfl ?_
  refine ns_newI (pc := 40) (N := 8) hk hK ha hb2 rfl (by decide) rfl (by decide) rfl (by decide) (by decide) dX1_init_40 ?_
  refine ns_put (pc := 42) hk hK ha 4 24 (by decide) q187 rfl rfl hnm rfl rfl rfl dX1_init_42 ?_
  refine g_aload_n (pc := 45) hk dX1_init_45 rfl ?_
  refine g_bipush (pc := 46) (v := 8) hk dX1_init_46 rfl ?_
  refine g_bipush (pc := 48) (v := 8) hk dX1_init_48 rfl ?_
  refine ns_multi (pc := 50) (N := 8) (M := 8) hk hK hao2 ha hb2 rfl rfl (by decide) (by decide) rfl (by decide) (by decide) q172 (by decide) (by decide) dX1_init_50 ?_
  refine ns_put (pc := 54) hk hK ha 5 29 (by decide) q189 rfl rfl hnm rfl rfl rfl dX1_init_54 ?_
  refine g_aload_n (pc := 57) hk dX1_init_57 rfl ?_
  refine g_bipush (pc := 58) (v := 8) hk dX1_init_58 rfl ?_
  refine g_bipush (pc := 60) (v := 8) hk dX1_init_60 rfl ?_
  refine ns_multi (pc := 62) (N := 8) (M := 8) hk hK hao2 ha hb2 rfl rfl (by decide) (by decide) rfl (by decide) (by decide) q172 (by decide) (by decide) dX1_init_62 ?_
  refine ns_put (pc := 66) hk hK ha 6 32 (by decide) q191 rfl rfl hnm rfl rfl rfl dX1_init_66 ?_
  refine g_aload_n (pc := 69) hk dX1_init_69 rfl ?_
  refine g_bipush (pc := 70) (v := 6) hk dX1_init_70 rfl ?_
  refine g_iconst (pc := 72) (v := 2) hk dX1_init_72 rfl ?_
  refine ns_multi (pc := 73) (N := 6) (M := 2) hk hK hao2 ha hb2 rfl rfl (by decide) (by decide) rfl (by decide) (by decide) q172 (by decide) (by decide) dX1_init_73 ?_
  refine ns_put (pc := 77) hk hK ha 7 35 (by decide) q193 rfl rfl hnm rfl rfl rfl dX1_init_77 ?_
  refine g_aload_n (pc := 80) hk dX1_init_80 rfl ?_
  refine g_bipush (pc := 81) (v := 8) hk dX1_init_81 rfl ?_
  refine g_iconst (pc := 83) (v := 2) hk dX1_init_83 rfl ?_
  refine ns_multi (pc := 84) (N := 8) (M := 2) hk hK hao2 ha hb2 rfl rfl (by decide) (by decide) rfl (by decide) (by decide) q172 (by decide) (by decide) dX1_init_84 ?_
  refine ns_put (pc := 88) hk hK ha 8 38 (by decide) q195 rfl rfl hnm rfl rfl rfl dX1_init_88 ?_
  refine g_aload_n (pc := 91) hk dX1_init_91 rfl ?_
  refine g_bipush (pc := 92) (v := 30) hk dX1_init_92 rfl ?_
  refine g_sipush (pc := 94) (v := 148) hk dX1_init_94 rfl ?_
  refine ns_multi (pc := 97) (N := 30) (M := 148) hk hK hao2 ha hb2 rfl rfl (by decide) (by decide) rfl (by decide) (by decide) q172 (by decide) (by decide) dX1_init_97 ?_
  refine ns_put (pc := 101) hk hK ha 9 41 (by decide) q197 rfl rfl hnm rfl rfl rfl dX1_init_101 ?_
  refine g_aload_n (pc := 104) hk dX1_init_104 rfl ?_
  refine g_iconst (pc := 105) (v := 4) hk dX1_init_105 rfl ?_
  refine ns_anewT (pc := 106) hk hK haoT ha hb2 rfl q174 (by decide) (by decide) dX1_init_106 ?_
  refine ns_put (pc := 109) hk hK ha 10 46 (by decide) q199 rfl rfl hnm rfl rfl rfl dX1_init_109 ?_
  refine g_widen (cs' := 71) (sl' := 4838) (by decide) (by decide) ?_
  refine g_I (I' := NS Γ K a b (fsS b) 71 c00) (fun _ _ h => h) ?_
  refine g_aload_n (pc := 112) hk dX1_init_112 rfl ?_
  refine x_get (pc := 113) (fs := fsS b) hk hK (ci := 1) rfl in_X1 (fun _ _ h => h.2.2.1) 0 (by decide) q179 (Or.inl rfl) rfl dX1_init_113 ?_
  refine g_iconst (pc := 116) (v := 2) hk dX1_init_116 rfl ?_
  refine g_iconst (pc := 117) (v := (-1)) hk dX1_init_117 rfl ?_
  refine x_iastG (pc := 118) (n := 6) (j := 2) hk hA (fun H locs hI => hI.2.2.2.arr (i := 0) (by decide) rfl (by decide)) (by decide) rfl dX1_init_118 ?_
  refine g_I (I' := NS Γ K a b (fsS b) 71 (va_up c00 0 (upd (c00 0) 2 (-1)))) (fun H1 locs1 hI => ?_) ?_
  · obtain ⟨H, locs, ⟨h1, h2, h3, h4⟩, h5, h6, h7, h8⟩ := hI
    exact ⟨⟨by have := h1.1; omega, fun q hq hn9 => (h7 q (by omega)).trans (h1.2 q hq hn9)⟩, fun l hl => (h8 l hl).elim (h2 l) (fun e => Or.inr (by rw [e]; omega)), h3.kept (h7 _ (by omega)), h4.put (i := 0) rfl (by decide) h5 h6 h7⟩
  refine g_aload_n (pc := 119) hk dX1_init_119 rfl ?_
  refine x_get (pc := 120) (fs := fsS b) hk hK (ci := 1) rfl in_X1 (fun _ _ h => h.2.2.1) 1 (by decide) q181 (Or.inl rfl) rfl dX1_init_120 ?_
  refine g_iconst (pc := 123) (v := 2) hk dX1_init_123 rfl ?_
  refine g_sipush (pc := 124) (v := 223) hk dX1_init_124 rfl ?_
  refine x_iastG (pc := 127) (n := 148) (j := 2) hk hA (fun H locs hI => hI.2.2.2.arr (i := 1) (by decide) rfl (by decide)) (by decide) rfl dX1_init_127 ?_
  refine g_I (I' := NS Γ K a b (fsS b) 71 (stF 0)) (fun H1 locs1 hI => ?_) ?_
  · obtain ⟨H, locs, ⟨h1, h2, h3, h4⟩, h5, h6, h7, h8⟩ := hI
    refine ⟨⟨by have := h1.1; omega, fun q hq hn9 => (h7 q (by omega)).trans (h1.2 q hq hn9)⟩, fun l hl => (h8 l hl).elim (h2 l) (fun e => Or.inr (by rw [e]; omega)), h3.kept (h7 _ (by omega)), (h4.put (i := 1) rfl (by decide) h5 h6 h7).ext (fun i hi h0 q hq => ?_)⟩
    exact stF_z i q
  refine g_iconst (pc := 128) (v := 0) hk dX1_init_128 rfl ?_
  refine g_istore_n (pc := 129) (i := 1) hk dX1_init_129 rfl (by decide) rfl ?_
  have lp : ∀ d m, m + d = 8 → GGo K (nQ K a rm_x_st (fun _ : Unit => fun H1 => va_at (gD Γ) ccl (a, .inr (1, fsS b)) H1 ∧ AW Γ b 71 (stF 8) H1)) (some ()) 2 (NS Γ K a b (fsS b) 71 (stF m)) 71 4838 130 [(0, .ref a), (1, .int (nI m))] [] := by
    intro d
    induction d with
    | zero =>
      intro m hm
      obtain rfl : m = 8 := by omega
      refine g_iload_n (pc := 130) hk dX1_init_130 rfl ?_
      refine g_bipush (pc := 131) (v := 8) hk dX1_init_131 rfl ?_
      refine g_no (c := nI 8 < 8) (by decide) ?_
      refine g_icmp_ge (pc := 133) (tgt := 169) hk dX1_init_133 rfl ?_ g_none
      exact nw_ret (pc := 169) hk (fun H e => e) dX1_init_169 (by decide) (by decide)
    | succ d ih =>
      intro m hm
      have hm8 : (nI m).toNatClampNeg = m := nI_clamp (by omega)
      have hb8 : inb (nI m) 8 = true := inb_nI (by omega) (by omega)
      refine g_iload_n (pc := 130) hk dX1_init_130 rfl ?_
      refine g_bipush (pc := 131) (v := 8) hk dX1_init_131 rfl ?_
      refine g_yes (c := nI m < 8) (nI_lt (b := 8) (by omega) (by decide)) ?_
      refine g_icmp_ge (pc := 133) (tgt := 169) hk dX1_init_133 rfl g_none ?_
      refine g_aload_n (pc := 136) hk dX1_init_136 rfl ?_
      refine x_get (pc := 137) (fs := fsS b) hk hK (ci := 1) rfl in_X1 (fun _ _ h => h.2.2.1) 2 (by decide) q183 (Or.inl rfl) rfl dX1_init_137 ?_
      refine g_iload_n (pc := 140) hk dX1_init_140 rfl ?_
      refine g_iload_n (pc := 141) hk dX1_init_141 rfl ?_
      refine g_iconst (pc := 142) (v := 1) hk dX1_init_142 rfl ?_
      refine g_ixor (pc := 143) hk dX1_init_143 ?_
      refine x_iastG (pc := 144) (n := 8) (j := m) hk hA (fun H locs hI => hI.2.2.2.arr (i := 2) (by decide) rfl (by decide)) hb8 hm8 dX1_init_144 ?_
      refine g_I (I' := NS Γ K a b (fsS b) 71 (va_up (stF m) 2 (upd (stF m 2) m (nI m ^^^ 1)))) (fun H1 locs1 hI => ?_) ?_
      · obtain ⟨H, locs, ⟨h1, h2, h3, h4⟩, h5, h6, h7, h8⟩ := hI
        exact ⟨⟨by have := h1.1; omega, fun q hq hn9 => (h7 q (by omega)).trans (h1.2 q hq hn9)⟩, fun l hl => (h8 l hl).elim (h2 l) (fun e => Or.inr (by rw [e]; omega)), h3.kept (h7 _ (by omega)), h4.put (i := 2) rfl (by decide) h5 h6 h7⟩
      refine g_aload_n (pc := 145) hk dX1_init_145 rfl ?_
      refine x_get (pc := 146) (fs := fsS b) hk hK (ci := 1) rfl in_X1 (fun _ _ h => h.2.2.1) 4 (by decide) q187 (Or.inl rfl) rfl dX1_init_146 ?_
      refine g_iload_n (pc := 149) hk dX1_init_149 rfl ?_
      refine g_iconst (pc := 150) (v := 1) hk dX1_init_150 rfl ?_
      refine x_iastG (pc := 151) (n := 8) (j := m) hk hA (fun H locs hI => hI.2.2.2.arr (i := 4) (by decide) rfl (by decide)) hb8 hm8 dX1_init_151 ?_
      refine g_I (I' := NS Γ K a b (fsS b) 71 (va_up (va_up (stF m) 2 (upd (stF m 2) m (nI m ^^^ 1))) 4 (upd (stF m 4) m 1))) (fun H1 locs1 hI => ?_) ?_
      · obtain ⟨H, locs, ⟨h1, h2, h3, h4⟩, h5, h6, h7, h8⟩ := hI
        exact ⟨⟨by have := h1.1; omega, fun q hq hn9 => (h7 q (by omega)).trans (h1.2 q hq hn9)⟩, fun l hl => (h8 l hl).elim (h2 l) (fun e => Or.inr (by rw [e]; omega)), h3.kept (h7 _ (by omega)), h4.put (i := 4) rfl (by decide) h5 h6 h7⟩
      refine g_aload_n (pc := 152) hk dX1_init_152 rfl ?_
      refine x_get (pc := 153) (fs := fsS b) hk hK (ci := 1) rfl in_X1 (fun _ _ h => h.2.2.1) 5 (by decide) q189 (Or.inl rfl) rfl dX1_init_153 ?_
      refine g_iload_n (pc := 156) hk dX1_init_156 rfl ?_
      refine x_aald (pc := 157) (n := 8) (fv := fun q => .ref (b + 5 + 1 + q)) hk (fun H locs hI => hI.2.2.2.2 5 (by decide)) ((hK.1.2 2 _ rfl).1) rfl hb8 dX1_init_157 ?_
      rw [hm8]
      refine g_bipush (pc := 158) (v := 10) hk dX1_init_158 rfl ?_
      refine o_callS (pc := 160) (tx := tx) (rmY := rm_x_fi) (Pre := fun _ _ => True) (v := fun _ => none) (fr := fun q => q = b + 5 + 1 + m) (R := fun H H1 => H1.size = H.size ∧ H1[b + 5 + 1 + m]? = some (arrV (gC Γ 0) 8 (fun _ => .int 10))) hk hK (fun H locs hI => hO.2.1 _ _ _ _ (cFr.of hcst hI.1) (by rw [hH]; exact hE)) (fun _ _ _ _ _ => trivial) (fun _ _ _ => trivial) [.ref (b + 5 + 1 + m), .int 10] [] (fun H locs hI => o_fill (f := va_up (va_up (stF m) 2 (upd (stF m 2) m (nI m ^^^ 1))) 4 (upd (stF m 4) m 1) (6 + m)) (by decide) (by
        have := hI.2.2.2.arr (i := 6 + m) (by omega) (by unfold stN; rw [if_neg (by omega), if_neg (by omega), if_neg (by omega), if_neg (by omega), if_neg (by omega)]) (by omega)
        rw [show stL (6 + m) = 8 by unfold stL; rw [if_neg (by omega), if_neg (by omega), if_pos (by omega)]] at this
        rw [show b + 5 + 1 + m = b + (6 + m) by omega]
        exact this)) (lw_S q176 q177 q126 q178) hs_x_fi (rmFit_i (by decide) (by decide)) rfl rfl dX1_init_160 rfl ⟨by decide, by decide⟩ (fun H9 locs9 hI9 => ?_)
      refine g_I (I' := NS Γ K a b (fsS b) 71 (stF (m + 1))) (fun H1 locs1 hI => ?_) ?_
      · obtain ⟨⟨h5, h6⟩, ⟨h7, h8⟩, h10⟩ := hI
        obtain ⟨h1, h2, h3, h4⟩ := hI9
        have hz9 := h4.1
        have hall : ∀ q : Nat, q ≠ b + (6 + m) → H1[q]? = H9[q]? := fun q hq => by
          rcases Nat.lt_or_ge q H9.size with h | h
          · exact h8 q h (by omega)
          · rw [Array.getElem?_eq_none (by omega), Array.getElem?_eq_none h]
        refine ⟨⟨by have := h1.1; omega, fun q hq hn9 => (hall q (by omega)).trans (h1.2 q hq hn9)⟩, fun l hl => ?_, h3.kept (hall _ (by omega)), (h4.put (i := 6 + m) (f := fun _ => 10) (by unfold stN; rw [if_neg (by omega), if_neg (by omega), if_neg (by omega), if_neg (by omega), if_neg (by omega)]) (by omega) (by
          rw [show stL (6 + m) = 8 by unfold stL; rw [if_neg (by omega), if_neg (by omega), if_pos (by omega)], show b + (6 + m) = b + 5 + 1 + m by omega]
          exact h6) h5 hall).ext (fun i hi h0 q hq => ?_)⟩
        · rcases h10 l hl with h | h | h
          · exact h2 l h
          · exact Or.inr (by rw [show l.base = b + 5 + 1 + m from h]; omega)
          · exact Or.inr (by omega)
        · exact stF_s m i q (by omega)
      refine g_iinc (pc := 163) (v := 1) hk dX1_init_163 rfl rfl (by decide) rfl ?_
      refine g_goto (pc := 166) (tgt := 130) hk dX1_init_166 rfl ?_
      refine g_ls (ls' := [(0, .ref a), (1, .int (nI (m + 1)))]) ⟨rfl, by rw [nI_succ]; rfl, trivial⟩ ?_
      exact ih (m + 1) (by omega)
  refine g_ls (ls' := [(0, .ref a), (1, .int (nI 0))]) ⟨rfl, rfl, trivial⟩ ?_
  rw [← hb] at lp ⊢
  exact lp 8 0 rfl
