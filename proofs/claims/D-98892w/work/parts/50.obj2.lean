/-! THE OBJECT's constructor, walked (made by mkdx37.py) -/
set_option maxRecDepth 100000
section XST
variable {ρ : Type} {K : KT} {Q : ρ → State → Prop} {comp A B : Option ρ} {nL : Nat} {I : Heap → List Loc → Prop} {cs sl pc : Nat} {ls : List (Nat × Value)} {st : List Value} {cc : ByteArray} {rm : Room} {ret : Option FieldType} {Γ : CG} {own : String} {a s : Nat} {tx : TXs Tx}
/-- a new State, whole -/
theorem xs_state (hk : KOK K cc nL RX0 rm ret) (hK : CK Γ (kS K)) (htr : K.2.1.stackTraces = false) (hE0 : gE Γ tx (kS K) (kS K).heap) (hcst : cSt Γ a) (hao : ∀ U, gX Γ U → AO2 U ∧ va_AO RX4 U) (hs0 : s = (kS K).heap.size) {w : Nat} (hcw : cSt Γ (s + 72 * w)) {E : Heap → Prop} (hE : ∀ H H1, E H → H.size ≤ H1.size → (∀ q : Nat, q < H.size → H1[q]? = H[q]?) → E H1) (hr1 : 4 ≤ rm.frames) (hr2 : 8 + (2 + 11) + 140 ≤ rm.locals) (hst : Nat.ble ((st.map fun v => v.category).sum) 6 = true) (hc : cs + 72 ≤ rm.cells) (hs : sl + 4849 ≤ rm.slots) (hd1 : decode cc pc = .ok (.new 30, 3)) (hd2 : decode cc (pc + 3) = .ok (.dup, 1)) (hd3 : decode cc (pc + 4) = .ok (.invokespecial 32, 3))
    (kk : GGo K Q comp nL (NW K a (fun H => E H ∧ P12 Γ s w H ∧ H.size = s + 72 * w + 72)) (cs + 72) (sl + 4849) (pc + 7) ls (.ref (s + 72 * w) :: st)) : GGo K Q comp nL (NW K a (fun H => E H ∧ H.size = s + 72 * w)) cs sl pc ls st := by
  refine x_new (ci := 1) (N := 11) (fs := fs0) hk hK rfl in_X1 tyX1 tyX1_ok q166 q167 q125 (fun j hj => by
    rcases (show j = 0 ∨ j = 1 ∨ j = 2 ∨ j = 3 ∨ j = 4 ∨ j = 5 ∨ j = 6 ∨ j = 7 ∨ j = 8 ∨ j = 9 ∨ j = 10 by omega) with rfl | rfl | rfl | rfl | rfl | rfl | rfl | rfl | rfl | rfl | rfl <;> rfl) (by omega) (by omega) hd1 (fun q => ?_)
  refine g_dup hk hd2 rfl ?_
  refine g_at (fun H1 locs1 hI => ?_)
  obtain ⟨H, hI0, rfl, hz1, ho1, hv1, -⟩ := hI
  obtain ⟨h1, h2, h3, h4⟩ := hI0
  rw [h4] at hv1 ⊢
  have hF1 : pFr a (kS K).heap H1 := h1.trans ⟨by omega, fun q hq _ => ho1 q hq⟩
  refine x_init (a0 := s + 72 * w) (tx := tx) (rmY := rm_x_st) (R := fun H H2 => va_at (gD Γ) ccl (s + 72 * w, .inr (1, fsS H.size)) H2 ∧ AW Γ H.size 71 (stF 8) H2) hk hK htr (fun H9 locs e => by rw [e.1]; exact hK.2.2.2.2.1 _ _ _ _ (cFr.of hcst hF1) hE0) [] (.ref (s + 72 * w) :: st) (fun H9 locs e => by rw [e.1]; exact n_X1 hao hcw hv1) q168 q169 q125 q170 rfl hi_X1 (rmFit_i (by show 3 + 1 ≤ _; omega) hr2) rfl ?_ hd3 rfl ⟨by show cs + 1 + 71 ≤ _; omega, by show sl + 11 + 4838 ≤ _; omega⟩ ?_
  · have := Nat.le_of_ble_eq_true hst
    refine Nat.ble_eq.mpr ?_
    rw [List.map_cons, List.sum_cons]
    show 1 + (st.map fun v => v.category).sum ≤ 8
    omega
  · refine g_I (fun H2 locs2 hI => ?_) kk
    obtain ⟨H9, locs, ⟨rfl, rfl⟩, ⟨hv2, hA⟩, hF2, hlo⟩ := hI
    have hsz1 : H9.size = s + 72 * w + 1 := by omega
    have hold : ∀ q : Nat, q < H.size → H2[q]? = H[q]? := fun q hq => by rw [hF2.2 q (by omega) (by omega), ho1 q hq]
    have hz2 : H2.size = s + 72 * w + 72 := by have := hA.1; omega
    refine ⟨h1.trans ⟨by omega, fun q hq _ => hold q hq⟩, fun l hl => ?_, hE H H2 h3 (by omega) hold, ⟨by rw [← hsz1]; exact hv2, fun i hi => ?_⟩, hz2⟩
    · have hz9 := h1.1
      rcases hlo l hl with h | h | h
      · exact h2 l h
      · exact Or.inr (by rw [show l.base = s + 72 * w from h]; omega)
      · exact Or.inr (by omega)
    · have := hA.2 i hi
      rw [hsz1] at this
      exact this
end XST
def fsX0 : List Value := [.null, .null, .null, .int 0, .int 0, .int 0, .null, .null, .null, .null, .null, .null, .null, .null, .null, .int 0, .null]
def rm_x_ob : Room := { frames := 6, cells := 155, slots := 206819, locals := 300 }
theorem hi_X0 : yX0_init.cls ≠ "java/lang/invoke/MethodHandle" ∧ yX0_init.cls ≠ "java/lang/invoke/VarHandle" ∧ (parseMethodDescriptor yX0_init.desc).map (fun d => d.parameters.length) = some 0 := by decide +kernel
theorem n_X0 {Γ : CG} {tx : TXs Tx} {H0 : Heap} {a : Nat} {σ1 : CS} (hao : ∀ U, gX Γ U → AO2 U ∧ va_AO RX4 U) (h300 : gA Γ 300 = a) (hg : ∀ k, cval k = true → k ≠ 300 → gA Γ k = H0.size + oX k) (htx : ∀ w i, w < 2 → i < 4 → tx.1 w i = none) (hf : va_at (gD Γ) ccl (a, .inr (0, fsX0)) H0) (hbe : S_be (s00 tx) 1 0 = some σ1) : NMet Γ tx yX0_init cX0_init 1 rm_x_ob [.ref a] H0 a (fun H1 => CW Γ σ1 H1) := by
  refine n_met (view := fun _ : Unit => fun H1 => CW Γ σ1 H1) (comp := some ()) (own := RX0) rfl (by decide) rfl (ls0 := [(0, .ref a)]) rfl (fun K hk hK htr hnm hH hE => nw_in (a := a) hH ?_) () rfl
  have hO := hK.2.2.2
  generalize hb : H0.size = s at hg
  have ha : a < s := by rw [← hb]; exact hf.lt
  have hb2 : s = (kS K).heap.size := by rw [hH, hb]
  have hcst : cSt Γ a := ⟨300, rfl, h300.symm⟩
  have hE0 : gE Γ tx (kS K) (kS K).heap := by rw [hH]; exact hE
  have c301 : gA Γ 301 = s := hg 301 rfl (by decide)
  have c302 : gA Γ 302 = s + 72 := hg 302 rfl (by decide)
  refine g_aload_n (pc := 0) hk dX0_init_0 rfl ?_
  refine x_objI (pc := 1) hk q163 q164 q165 rfl rfl rfl dX0_init_1 ?_
  refine g_I (I' := NW K a (fun H => va_at (gD Γ) ccl (a, .inr (0, fsX0)) H ∧ H.size = s + 72 * 0)) (fun H locs hI => ⟨hI.1, hI.2.1, by rw [hI.2.2]; exact hf, by rw [hI.2.2, hb]; rfl⟩) ?_
  refine g_aload_n (pc := 4) hk dX0_init_4 rfl ?_
  refine xs_state (pc := 5) (w := 0) (E := fun H => va_at (gD Γ) ccl (a, .inr (0, fsX0)) H) hk hK htr hE0 hcst hao hb2 ⟨301, rfl, c301.symm⟩ (fun H H1 h z ho => h.kept (ho _ h.lt)) (by decide) (by decide) rfl (by decide) (by decide) dX0_init_5 dX0_init_8 dX0_init_9 ?_
  refine nw_putF (pc := 12) (ci := 0) (fs := fsX0) (ref := RX0) (P := fun H => P12 Γ s 0 H ∧ H.size = s + 72 * 0 + 72) hk hK rfl in_X0 tyX0 tyX0_ok nmX0 0 (by decide) q239 rfl rfl hnm rfl rfl rfl (show 0 < 17 by decide) (fun H H1 h z ho => ⟨h.1.kept (fun q hq _ => ho q (by omega)), by rw [z]; exact h.2⟩) dX0_init_12 ?_
  refine g_I (I' := NW K a (fun H => (va_at (gD Γ) ccl (a, .inr (0, fsX0.set 0 (.ref s))) H ∧ P12 Γ s 0 H) ∧ H.size = s + 72 * 1)) (fun H locs hI => ⟨hI.1, hI.2.1, ⟨hI.2.2.1, hI.2.2.2.1⟩, hI.2.2.2.2⟩) ?_
  refine g_aload_n (pc := 15) hk dX0_init_15 rfl ?_
  refine xs_state (pc := 16) (w := 1) (E := fun H => va_at (gD Γ) ccl (a, .inr (0, fsX0.set 0 (.ref s))) H ∧ P12 Γ s 0 H) hk hK htr hE0 hcst hao hb2 ⟨302, rfl, c302.symm⟩ (fun H H1 h z ho => ⟨h.1.kept (ho _ h.1.lt), h.2.kept (fun q _ hq => ho q hq)⟩) (by decide) (by decide) rfl (by decide) (by decide) dX0_init_16 dX0_init_19 dX0_init_20 ?_
  refine g_I (I' := NX Γ K a s (fsX0.set 0 (.ref s)) 0) (fun H locs hI => ⟨hI.1, hI.2.1, hI.2.2.1.1, hI.2.2.1.2, hI.2.2.2.1, hI.2.2.2.2, fun i hi => absurd hi (Nat.not_lt_zero _)⟩) ?_
  refine xs_putF (pc := 23) hk hK ha 1 37 (by decide) q240 rfl rfl hnm rfl rfl rfl dX0_init_23 ?_
  refine g_aload_n (pc := 26) hk dX0_init_26 rfl ?_
  refine g_sipush (pc := 27) (v := 300) hk dX0_init_27 rfl ?_
  refine xs_newB (pc := 30) (N := 300) hk hK rfl (by decide) rfl (by decide) (by decide) dX0_init_30 ?_
  refine xs_putF (pc := 32) hk hK ha 2 40 (by decide) q241 rfl rfl hnm rfl rfl rfl dX0_init_32 ?_
  refine g_aload_n (pc := 35) hk dX0_init_35 rfl ?_
  refine g_iconst (pc := 36) (v := (-1)) hk dX0_init_36 rfl ?_
  refine xs_put (pc := 37) hk hK ha 4 44 (by decide) q243 rfl rfl rfl rfl rfl dX0_init_37 ?_
  refine g_aload_n (pc := 40) hk dX0_init_40 rfl ?_
  refine g_iconst (pc := 41) (v := (-1)) hk dX0_init_41 rfl ?_
  refine xs_put (pc := 42) hk hK ha 5 48 (by decide) q244 rfl rfl rfl rfl rfl dX0_init_42 ?_
  refine g_aload_n (pc := 45) hk dX0_init_45 rfl ?_
  refine g_bipush (pc := 46) (v := 15) hk dX0_init_46 rfl ?_
  refine xs_newI (pc := 48) (N := 15) hk hK rfl (by decide) rfl (by decide) (by decide) dX0_init_48 ?_
  refine xs_putF (pc := 50) hk hK ha 6 51 (by decide) q245 rfl rfl hnm rfl rfl rfl dX0_init_50 ?_
  refine g_aload_n (pc := 53) hk dX0_init_53 rfl ?_
  refine g_sipush (pc := 54) (v := 148) hk dX0_init_54 rfl ?_
  refine xs_newI (pc := 57) (N := 148) hk hK rfl (by decide) rfl (by decide) (by decide) dX0_init_57 ?_
  refine xs_putF (pc := 59) hk hK ha 7 55 (by decide) q246 rfl rfl hnm rfl rfl rfl dX0_init_59 ?_
  refine g_aload_n (pc := 62) hk dX0_init_62 rfl ?_
  refine g_bipush (pc := 63) (v := 8) hk dX0_init_63 rfl ?_
  refine xs_newI (pc := 65) (N := 8) hk hK rfl (by decide) rfl (by decide) (by decide) dX0_init_65 ?_
  refine xs_putF (pc := 67) hk hK ha 8 58 (by decide) q247 rfl rfl hnm rfl rfl rfl dX0_init_67 ?_
  refine g_aload_n (pc := 70) hk dX0_init_70 rfl ?_
  refine g_ldc (pc := 71) (v := 65536) hk q225 dX0_init_71 ?_
  refine xs_newI (pc := 73) (N := 65536) hk hK rfl (by decide) rfl (by decide) (by decide) dX0_init_73 ?_
  refine xs_putF (pc := 75) hk hK ha 9 62 (by decide) q248 rfl rfl hnm rfl rfl rfl dX0_init_75 ?_
  refine g_aload_n (pc := 78) hk dX0_init_78 rfl ?_
  refine g_ldc (pc := 79) (v := 65536) hk q225 dX0_init_79 ?_
  refine xs_newI (pc := 81) (N := 65536) hk hK rfl (by decide) rfl (by decide) (by decide) dX0_init_81 ?_
  refine xs_putF (pc := 83) hk hK ha 10 65 (by decide) q249 rfl rfl hnm rfl rfl rfl dX0_init_83 ?_
  refine g_aload_n (pc := 86) hk dX0_init_86 rfl ?_
  refine g_bipush (pc := 87) (v := 24) hk dX0_init_87 rfl ?_
  refine xs_newI (pc := 89) (N := 24) hk hK rfl (by decide) rfl (by decide) (by decide) dX0_init_89 ?_
  refine xs_putF (pc := 91) hk hK ha 11 68 (by decide) q250 rfl rfl hnm rfl rfl rfl dX0_init_91 ?_
  refine g_aload_n (pc := 94) hk dX0_init_94 rfl ?_
  refine g_ldc (pc := 95) (v := 65536) hk q225 dX0_init_95 ?_
  refine xs_newB (pc := 97) (N := 65536) hk hK rfl (by decide) rfl (by decide) (by decide) dX0_init_97 ?_
  refine xs_putF (pc := 99) hk hK ha 12 71 (by decide) q251 rfl rfl hnm rfl rfl rfl dX0_init_99 ?_
  refine g_aload_n (pc := 102) hk dX0_init_102 rfl ?_
  refine g_iconst (pc := 103) (v := 5) hk dX0_init_103 rfl ?_
  refine xs_newI (pc := 104) (N := 5) hk hK rfl (by decide) rfl (by decide) (by decide) dX0_init_104 ?_
  refine xs_putF (pc := 106) hk hK ha 13 74 (by decide) q252 rfl rfl hnm rfl rfl rfl dX0_init_106 ?_
  refine g_aload_n (pc := 109) hk dX0_init_109 rfl ?_
  refine g_iconst (pc := 110) (v := 5) hk dX0_init_110 rfl ?_
  refine xs_newI (pc := 111) (N := 5) hk hK rfl (by decide) rfl (by decide) (by decide) dX0_init_111 ?_
  refine xs_putF (pc := 113) hk hK ha 14 77 (by decide) q253 rfl rfl hnm rfl rfl rfl dX0_init_113 ?_
  refine g_aload_n (pc := 116) hk dX0_init_116 rfl ?_
  refine g_bipush (pc := 117) (v := 8) hk dX0_init_117 rfl ?_
  refine xs_newI (pc := 119) (N := 8) hk hK rfl (by decide) rfl (by decide) (by decide) dX0_init_119 ?_
  refine xs_putF (pc := 121) hk hK ha 16 80 (by decide) q255 rfl rfl hnm rfl rfl rfl dX0_init_121 ?_
  refine g_widen (cs' := 155) (sl' := 206819) (by decide) (by decide) ?_
  refine g_I (I' := CI Γ (kS K) (s00 tx)) (fun H locs hI => ?_) ?_
  · obtain ⟨h1, h2, h3, h4, h5, h6, h7⟩ := hI
    have e : cfx Γ (s00 tx) = [.ref s, .ref (s + 72), .ref (s + 144), .int 0, .int (-1), .int (-1), .ref (s + 144 + 1), .ref (s + 144 + 2), .ref (s + 144 + 3), .ref (s + 144 + 4), .ref (s + 144 + 5), .ref (s + 144 + 6), .ref (s + 144 + 7), .ref (s + 144 + 8), .ref (s + 144 + 9), .int 0, .ref (s + 144 + 10)] := by
      unfold cfx
      rw [c301, c302, hg 200 rfl (by decide), hg 201 rfl (by decide), hg 202 rfl (by decide), hg 203 rfl (by decide), hg 204 rfl (by decide), hg 205 rfl (by decide), hg 206 rfl (by decide), hg 207 rfl (by decide), hg 208 rfl (by decide), hg 209 rfl (by decide), hg 210 rfl (by decide)]
      rfl
    exact ⟨CW.made htx hg (by rw [h300, e]; exact h3) h4 h5 h7, hO.2.1 _ _ _ _ (cFr.of hcst h1) hE0, cFr.of hcst h1, fun l hl => (h2 l hl).elim (fun z => Or.inl (by rw [show l.base = a from z]; exact hcst)) Or.inr⟩
  rw [← h300]
  refine g_aload_n (pc := 124) hk dX0_init_124 rfl ?_
  refine c_getR (pc := 125) hk hK cr_1 cf_1 dX0_init_125 ?_
  refine g_aload_n (pc := 128) hk dX0_init_128 rfl ?_
  refine c_getR (pc := 129) hk hK cr_0 cf_0 dX0_init_129 ?_
  refine c_callV (pc := 132) hk hK (rec_S (w := 1) hK (by decide)) [.ref (gA Γ 301)] [] (sm_be Γ (s00 tx) 1 0 (by decide) (by decide) σ1 hbe) (lw_V q226 q227 q228 q125 q229) hv_s_be rfl rfl rfl dX0_init_132 rfl rfl ⟨rfl, rfl⟩ ?_
  have hcs2 : ∀ q, cSt Γ q → q = gA Γ 300 ∨ (kS K).heap.size ≤ q := fun q hq => by
    obtain ⟨k, hk9, rfl⟩ := hq
    by_cases e : k = 300
    · exact Or.inl (by rw [e])
    · exact Or.inr (by rw [hg k hk9 e, hb2]; omega)
  refine n_vret (pc := 135) hk (fun H locs hI => ⟨hI.1, ⟨hI.2.2.1.1, fun q hq hn => hI.2.2.1.2 q hq (fun hc => (hcs2 q hc).elim hn (fun z => by omega))⟩, fun l hl => ?_⟩) dX0_init_135 (by decide) (by decide)
  rcases hI.2.2.2 l hl with z | z
  · exact hcs2 _ z
  · exact Or.inr z
