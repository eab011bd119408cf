/-! TOKENS: letters, digits -/
def K_let2 (c : Int32) : Option Int32 := if c < 65 then some 0 else if 90 < c then some 0 else some 1
def K_isLetter (c : Int32) : Option Int32 := if c < 97 then K_let2 c else if 122 < c then K_let2 c else some 1
def K_isDigit (c : Int32) : Option Int32 := if c < 48 then some 0 else if 57 < c then some 0 else some 1
theorem hs_k_isLetter : yX3_isLetter.cls ≠ "java/lang/invoke/MethodHandle" ∧ yX3_isLetter.cls ≠ "java/lang/invoke/VarHandle" ∧ (parseMethodDescriptor yX3_isLetter.desc).map (fun d => d.parameters.length) = some 1 := by decide +kernel
theorem hs_k_isDigit : yX3_isDigit.cls ≠ "java/lang/invoke/MethodHandle" ∧ yX3_isDigit.cls ≠ "java/lang/invoke/VarHandle" ∧ (parseMethodDescriptor yX3_isDigit.desc).map (fun d => d.parameters.length) = some 1 := by decide +kernel
theorem k_isLetter_12 {K : KT} (hk : KOK K cX3_isLetter 1 RX3 (rmK 1) (some .boolean)) (c : Int32) : GGo K (pQ K (fun r : Int32 => some (.int r))) (K_let2 c) 1 (pI K) 0 0 12 [(0, .int c)] [] := by
  unfold K_let2
  refine g_iload_n (pc := 12) hk dX3_isLetter_12 rfl ?_
  refine g_bipush (pc := 13) (v := 65) hk dX3_isLetter_13 rfl ?_
  refine g_icmp_lt (pc := 15) (tgt := 28) hk dX3_isLetter_15 rfl ?_ ?_
  · refine g_iconst (pc := 28) (v := 0) hk dX3_isLetter_28 rfl ?_
    exact p_zret (pc := 29) hk rfl rfl dX3_isLetter_29
  refine g_iload_n (pc := 18) hk dX3_isLetter_18 rfl ?_
  refine g_bipush (pc := 19) (v := 90) hk dX3_isLetter_19 rfl ?_
  refine g_icmp_gt (pc := 21) (tgt := 28) hk dX3_isLetter_21 rfl ?_ ?_
  · refine g_iconst (pc := 28) (v := 0) hk dX3_isLetter_28 rfl ?_
    exact p_zret (pc := 29) hk rfl rfl dX3_isLetter_29
  · refine g_iconst (pc := 24) (v := 1) hk dX3_isLetter_24 rfl ?_
    refine g_goto (pc := 25) (tgt := 29) hk dX3_isLetter_25 rfl ?_
    exact p_zret (pc := 29) hk rfl rfl dX3_isLetter_29
theorem k_isLetter (c : Int32) (r : Int32) (h : K_isLetter c = some r) : PMet yX3_isLetter cX3_isLetter 1 (some .boolean) (rmK 1) [.int c] (some (.int r)) := by
  refine p_met (view := fun r : Int32 => some (.int r)) (own := RX3) rfl (by decide) rfl (ls0 := [(0, .int c)]) rfl (fun K hk => ?_) r h
  unfold K_isLetter
  refine g_iload_n (pc := 0) hk dX3_isLetter_0 rfl ?_
  refine g_bipush (pc := 1) (v := 97) hk dX3_isLetter_1 rfl ?_
  refine g_icmp_lt (pc := 3) (tgt := 12) hk dX3_isLetter_3 rfl ?_ ?_
  · exact k_isLetter_12 hk c
  refine g_iload_n (pc := 6) hk dX3_isLetter_6 rfl ?_
  refine g_bipush (pc := 7) (v := 122) hk dX3_isLetter_7 rfl ?_
  refine g_icmp_le (pc := 9) (tgt := 24) hk dX3_isLetter_9 rfl ?_ ?_
  · refine g_iconst (pc := 24) (v := 1) hk dX3_isLetter_24 rfl ?_
    refine g_goto (pc := 25) (tgt := 29) hk dX3_isLetter_25 rfl ?_
    exact p_zret (pc := 29) hk rfl rfl dX3_isLetter_29
  · exact k_isLetter_12 hk c
theorem k_isDigit (c : Int32) (r : Int32) (h : K_isDigit c = some r) : PMet yX3_isDigit cX3_isDigit 1 (some .boolean) (rmK 1) [.int c] (some (.int r)) := by
  refine p_met (view := fun r : Int32 => some (.int r)) (own := RX3) rfl (by decide) rfl (ls0 := [(0, .int c)]) rfl (fun K hk => ?_) r h
  unfold K_isDigit
  refine g_iload_n (pc := 0) hk dX3_isDigit_0 rfl ?_
  refine g_bipush (pc := 1) (v := 48) hk dX3_isDigit_1 rfl ?_
  refine g_icmp_lt (pc := 3) (tgt := 16) hk dX3_isDigit_3 rfl ?_ ?_
  · refine g_iconst (pc := 16) (v := 0) hk dX3_isDigit_16 rfl ?_
    exact p_zret (pc := 17) hk rfl rfl dX3_isDigit_17
  refine g_iload_n (pc := 6) hk dX3_isDigit_6 rfl ?_
  refine g_bipush (pc := 7) (v := 57) hk dX3_isDigit_7 rfl ?_
  refine g_icmp_gt (pc := 9) (tgt := 16) hk dX3_isDigit_9 rfl ?_ ?_
  · refine g_iconst (pc := 16) (v := 0) hk dX3_isDigit_16 rfl ?_
    exact p_zret (pc := 17) hk rfl rfl dX3_isDigit_17
  · refine g_iconst (pc := 12) (v := 1) hk dX3_isDigit_12 rfl ?_
    refine g_goto (pc := 13) (tgt := 17) hk dX3_isDigit_13 rfl ?_
    exact p_zret (pc := 17) hk rfl rfl dX3_isDigit_17

/-! STRINGS that are constants: length, charAt -/
def StrAt (Γ : CG) (U : State) (H : Heap) (a b : Nat) (bs : List Int32) : Prop := va_O RJ4 a (cSt Γ) U H ∧ va_OF RJ4 "coder" "B" (.int 0) a (cSt Γ) U H ∧ va_OF RJ4 "value" "[B" (.ref b) a (cSt Γ) U H ∧ va_T .byte b bs.length (fun j => .int (bs.getD j 0)) (cSt Γ) U H
/-- what String's methods read of statics -/
def SST (Γ : CG) (U : State) (H : Heap) : Prop := va_Z RJ4 "COMPACT_STRINGS" "Z" (.int 1) (cSt Γ) U H ∧ ∃ t, va_Z "jdk/internal/util/Preconditions" "SIOOBE_FORMATTER" "Ljava/util/function/BiFunction;" (.ref t) (cSt Γ) U H
section XSTR
variable {ρ : Type} {K : KT} {Q : ρ → State → Prop} {comp A B : Option ρ} {nL : Nat} {I : Heap → List Loc → Prop} {cs sl pc : Nat} {ls : List (Nat × Value)} {st : List Value} {cc : ByteArray} {rm : Room} {ret : Option FieldType} {Γ : CG} {own : String} {tx : TXs Tx}
theorem x_of (hk : KOK K cc nL own rm ret) {o n d : String} {v : Value} {t idx : Nat} {P : Nat → Prop} (hB : ∀ H locs, I H locs → va_OF o n d v t P (kS K) H) (hl : Cond.fieldLink own idx o n d ∈ lw_all) (hd : decode cc pc = .ok (.getfield idx, 3)) (kk : GGo K Q comp nL I cs sl (pc + 3) ls (v :: st)) : GGo K Q comp nL I cs sl pc ls (.ref t :: st) := by
  intro r hr H locs lsA hI hh
  obtain ⟨cf, kc, fi, f, cell, h1, h2, h3, h4, h5, h6⟩ := hB H locs hI
  exact W.getf hk.1 hk.2.1 hk.2.2.2.1 (hk.2.2.2.2.1 _ hl) h1 h2 h3 h4 (v := v) h5 rfl rfl hd (kk r hr H locs lsA hI hh)
theorem x_alenT (hk : KOK K cc nL own rm ret) {ty : FieldType} {t N : Nat} {f : Nat → Value} {P : Nat → Prop} (hB : ∀ H locs, I H locs → va_T ty t N f P (kS K) H) (hd : decode cc pc = .ok (.arraylength, 1)) (kk : GGo K Q comp nL I cs sl (pc + 1) ls (.int (Int32.ofNat N) :: st)) : GGo K Q comp nL I cs sl pc ls (.ref t :: st) := by
  intro r hr H locs lsA hI hh
  obtain ⟨cell, h1, h2, h3, h4, h5, h6, h7⟩ := hB H locs hI
  exact W.alen (n := Int32.ofNat N) hk.1 hk.2.1 h1 h2 h5 rfl rfl hd (kk r hr H locs lsA hI hh)
theorem x_baldT (hk : KOK K cc nL own rm ret) {t N : Nat} {f : Nat → Int32} {i : Int32} {P : Nat → Prop} (hB : ∀ H locs, I H locs → va_T .byte t N (fun j => .int (f j)) P (kS K) H) (hin : inb i N = true) (hd : decode cc pc = .ok (.baload, 1)) (kk : GGo K Q comp nL I cs sl (pc + 1) ls (.int (f i.toNatClampNeg) :: st)) : GGo K Q comp nL I cs sl pc ls (.int i :: .ref t :: st) := by
  intro r hr H locs lsA hI hh
  obtain ⟨cell, h1, h2, h3, h4, h5, h6, h7⟩ := hB H locs hI
  have hv := inb_vp hin
  have hlt := inb_lt hin
  exact W.bald (v := .int (f i.toNatClampNeg)) hk.1 hk.2.1 h1 h2 h3 (fun q => q.elim (fun z => hv (Or.inl z)) (fun z => by omega)) (h6 _ hlt) rfl rfl hd (kk r hr H locs lsA hI hh)
theorem x_baldA (hk : KOK K cc nL own rm ret) {cA : ClassId} {n a : Nat} {f : Nat → Int32} {i : Int32} (hcell : ∀ H locs, I H locs → H[a]? = some (arrV cA n (fun j => .int (f j)))) (hty : ArrOfT (kS K) cA .byte) (hin : inb i n = true) (hd : decode cc pc = .ok (.baload, 1)) (kk : GGo K Q comp nL I cs sl (pc + 1) ls (.int (f i.toNatClampNeg) :: st)) : GGo K Q comp nL I cs sl pc ls (.int i :: .ref a :: st) := by
  intro r hr H locs lsA hI hh
  have hv := inb_vp hin
  exact W.bald (v := .int (f i.toNatClampNeg)) hk.1 hk.2.1 (hcell H locs hI) (hty _ _) (fun q => by cases q) (by rw [arrV_size]; exact hv) (by rw [arrV_read _ _ (inb_lt hin)]) rfl rfl hd (kk r hr H locs lsA hI hh)
theorem p_nret {view : ρ → Option Value} {x : Int32} {r0 : ρ} {ty : FieldType} (hk : KOK K cc nL own rm (some ty)) (hn : narrow ty (.int x) = .int x) (hv : view r0 = some (.int x)) (hd : decode cc pc = .ok (.ireturn, 1)) : GGo K (pQ K view) (some r0) nL (pI K) 0 0 pc ls [.int x] := by
  intro r hr H locs lsA hI hh
  cases hr
  obtain ⟨rfl, rfl⟩ := hI
  refine W.zret hk.1 hk.2.1 hk.2.2.2.2.2.2.1 hn (fun t ht hW => ?_) (fun _ h => by cases h) hd hk.2.2.2.2.2.1
  rw [hv]
  exact ⟨rfl, ht⟩
end XSTR
section STRM
variable {Γ : CG} {tx : TXs Tx} {H0 : Heap} {a b : Nat} {bs : List Int32}
theorem s_coder (hst : ∀ tx U H, gE Γ tx U H → SST Γ U H ∧ StrAt Γ U H a b bs) : RMet Γ tx yJ4_coder cJ4_coder 1 (some .byte) (rmK 1) [.ref a] H0 (some (.int 0)) := by
  refine r_met (view := fun r : Int32 => some (.int r)) (comp := some 0) (own := RJ4) rfl (by decide) rfl (ls0 := [(0, .ref a)]) rfl (fun K hk hK hH hE => ?_) _ rfl
  have hs := hst _ _ _ hE
  refine x_gets (pc := 0) (C := RJ4) (v := .int 1) hk (rd hH (P := fun H => va_Z RJ4 "COMPACT_STRINGS" "Z" (.int 1) (cSt Γ) (kS K) H) hs.1.1) q431 dJ4_coder_0 ?_
  refine g_no (c := (1 : Int32) = 0) (by decide) ?_
  refine g_if_eq (pc := 3) (tgt := 13) hk dJ4_coder_3 rfl g_none ?_
  refine g_aload_n (pc := 6) hk dJ4_coder_6 rfl ?_
  refine x_of (pc := 7) hk (rd hH (P := fun H => va_OF RJ4 "coder" "B" (.int 0) a (cSt Γ) (kS K) H) hs.2.2.1) q2079 dJ4_coder_7 ?_
  refine g_goto (pc := 10) (tgt := 14) hk dJ4_coder_10 rfl ?_
  exact p_nret (pc := 14) hk rfl rfl dJ4_coder_14
theorem s_latin (hst : ∀ tx U H, gE Γ tx U H → SST Γ U H ∧ StrAt Γ U H a b bs) : RMet Γ tx yJ4_isLatin1 cJ4_isLatin1 1 (some .boolean) (rmK 1) [.ref a] H0 (some (.int 1)) := by
  refine r_met (view := fun r : Int32 => some (.int r)) (comp := some 1) (own := RJ4) rfl (by decide) rfl (ls0 := [(0, .ref a)]) rfl (fun K hk hK hH hE => ?_) _ rfl
  have hs := hst _ _ _ hE
  refine x_gets (pc := 0) (C := RJ4) (v := .int 1) hk (rd hH (P := fun H => va_Z RJ4 "COMPACT_STRINGS" "Z" (.int 1) (cSt Γ) (kS K) H) hs.1.1) q431 dJ4_isLatin1_0 ?_
  refine g_no (c := (1 : Int32) = 0) (by decide) ?_
  refine g_if_eq (pc := 3) (tgt := 17) hk dJ4_isLatin1_3 rfl g_none ?_
  refine g_aload_n (pc := 6) hk dJ4_isLatin1_6 rfl ?_
  refine x_of (pc := 7) hk (rd hH (P := fun H => va_OF RJ4 "coder" "B" (.int 0) a (cSt Γ) (kS K) H) hs.2.2.1) q2079 dJ4_isLatin1_7 ?_
  refine g_yes (c := (0 : Int32) = 0) rfl ?_
  refine g_if_ne (pc := 10) (tgt := 17) hk dJ4_isLatin1_10 rfl g_none ?_
  refine g_iconst (pc := 13) (v := 1) hk dJ4_isLatin1_13 rfl ?_
  refine g_goto (pc := 14) (tgt := 18) hk dJ4_isLatin1_14 rfl ?_
  exact p_zret (pc := 18) hk rfl rfl dJ4_isLatin1_18
theorem hv_coder : yJ4_coder.cls = RJ4 ∧ yJ4_coder.cls ≠ "java/lang/invoke/MethodHandle" ∧ yJ4_coder.cls ≠ "java/lang/invoke/VarHandle" ∧ (parseMethodDescriptor yJ4_coder.desc).map (fun d => d.parameters.length) = some 0 := by decide +kernel
theorem hv_latin : yJ4_isLatin1.cls = RJ4 ∧ yJ4_isLatin1.cls ≠ "java/lang/invoke/MethodHandle" ∧ yJ4_isLatin1.cls ≠ "java/lang/invoke/VarHandle" ∧ (parseMethodDescriptor yJ4_isLatin1.desc).map (fun d => d.parameters.length) = some 0 := by decide +kernel
theorem s_rec {K : KT} {I : Heap → List Loc → Prop} (h : ∀ H locs, I H locs → va_O RJ4 a (cSt Γ) (kS K) H) : ∀ H locs, I H locs → ∃ cell : Cell, H[a]? = some cell ∧ cell.vm.isStatics = false ∧ (kS K).vm.findClass RJ4 = some cell.cls := fun H locs hI => by
  obtain ⟨cell, h1, h2, h3, -⟩ := h H locs hI
  exact ⟨cell, h1, h2, h3⟩
theorem s_length (hst : ∀ tx U H, gE Γ tx U H → SST Γ U H ∧ StrAt Γ U H a b bs) : RMet Γ tx yJ4_length cJ4_length 1 (some .int) (rmK 2) [.ref a] H0 (some (.int (nI bs.length))) := by
  refine r_met (view := fun r : Int32 => some (.int r)) (comp := some (nI bs.length)) (own := RJ4) rfl (by decide) rfl (ls0 := [(0, .ref a)]) rfl (fun K hk hK hH hE => ?_) _ rfl
  have hs := hst _ _ _ hE
  obtain ⟨hb1, hb2⟩ := hs.2.2.2
  refine g_aload_n (pc := 0) hk dJ4_length_0 rfl ?_
  refine x_of (pc := 1) hk (rd hH (P := fun H => va_OF RJ4 "value" "[B" (.ref b) a (cSt Γ) (kS K) H) hb1) q2078 dJ4_length_1 ?_
  refine x_alenT (pc := 4) hk (rd hH (P := fun H => va_T .byte b bs.length (fun j => .int (bs.getD j 0)) (cSt Γ) (kS K) H) hb2) dJ4_length_4 ?_
  refine g_aload_n (pc := 5) hk dJ4_length_5 rfl ?_
  refine x_callV (pc := 6) (tx := tx) (v := some (.int 0)) (rmY := rmK 1) hk hK (rd hH hE) (s_rec (rd hH (P := fun H => va_O RJ4 a (cSt Γ) (kS K) H) hs.2.1)) [] _ (rd hH (s_coder hst)) (lw_V q427 q428 q429 q134 q430) hv_coder rfl ⟨rfl, rfl⟩ rfl rfl dJ4_length_6 rfl rfl ⟨Nat.zero_le _, Nat.zero_le _⟩ ?_
  refine g_ishr (pc := 9) hk dJ4_length_9 ?_
  have e : i_shr (Int32.ofNat bs.length) 0 = nI bs.length := by
    unfold i_shr
    show Int32.ofNat bs.length >>> (0 &&& 31) = _
    simp [nI]
  rw [e]
  exact p_iret (pc := 10) hk rfl dJ4_length_10
theorem p_checkIndex6r {i n : Int32} {w : Nat} (h0 : ¬ i < 0) (h1 : i < n) : PMet yJ6_checkIndex cJ6_checkIndex 3 (some .int) (rmK 1) [.int i, .int n, .ref w] (some (.int i)) := by
  refine p_met (view := fun r : Int32 => some (.int r)) (comp := if i < 0 then none else if i < n then some i else none) (own := RJ6) rfl (by decide) rfl (ls0 := [(0, .int i), (1, .int n), (2, .ref w)]) rfl (fun K hk => ?_) _ (by rw [if_neg h0, if_pos h1])
  refine g_iload_n (pc := 0) hk dJ6_checkIndex_0 rfl ?_
  refine g_if_lt (pc := 1) (tgt := 9) hk dJ6_checkIndex_1 rfl g_none ?_
  refine g_iload_n (pc := 4) hk dJ6_checkIndex_4 rfl ?_
  refine g_iload_n (pc := 5) hk dJ6_checkIndex_5 rfl ?_
  refine g_icmp_lt (pc := 6) (tgt := 16) hk dJ6_checkIndex_6 rfl ?_ g_none
  refine g_iload_n (pc := 16) hk dJ6_checkIndex_16 rfl ?_
  exact p_iret (pc := 17) hk rfl dJ6_checkIndex_17
theorem hs_s4check : yJ4_checkIndex.cls ≠ "java/lang/invoke/MethodHandle" ∧ yJ4_checkIndex.cls ≠ "java/lang/invoke/VarHandle" ∧ (parseMethodDescriptor yJ4_checkIndex.desc).map (fun d => d.parameters.length) = some 2 := by decide +kernel
theorem s_check (hst : ∀ tx U H, gE Γ tx U H → SST Γ U H ∧ StrAt Γ U H a b bs) {i n : Int32} (h0 : ¬ i < 0) (h1 : i < n) : RMet Γ tx yJ4_checkIndex cJ4_checkIndex 2 none (rmK 2) [.int i, .int n] H0 none := by
  refine r_met (view := fun _ : Unit => none) (comp := some ()) (own := RJ4) rfl (by decide) rfl (ls0 := [(0, .int i), (1, .int n)]) rfl (fun K hk hK hH hE => ?_) _ rfl
  have hs := hst _ _ _ hE
  obtain ⟨w, hw⟩ := hs.1.2
  refine g_iload_n (pc := 0) hk dJ4_checkIndex_0 rfl ?_
  refine g_iload_n (pc := 1) hk dJ4_checkIndex_1 rfl ?_
  refine x_gets (pc := 2) (C := "jdk/internal/util/Preconditions") (v := .ref w) hk (rd hH (P := fun H => va_Z "jdk/internal/util/Preconditions" "SIOOBE_FORMATTER" "Ljava/util/function/BiFunction;" (.ref w) (cSt Γ) (kS K) H) hw) q447 dJ4_checkIndex_2 ?_
  refine g_callP (pc := 5) hk [.int i, .int n, .ref w] [] (p_checkIndex6r h0 h1) (lw_S q449 q450 q136 q451) hs_j6_checkIndex rfl ⟨rfl, rfl⟩ rfl rfl dJ4_checkIndex_5 rfl rfl ⟨rfl, rfl⟩ ?_
  refine g_pop (pc := 8) hk dJ4_checkIndex_8 rfl ?_
  exact p_vret (pc := 9) hk rfl dJ4_checkIndex_9
def chV (x : Int32) : Int32 := ((x &&& 255).toUInt32 % 65536).toInt32
theorem chV_nar (x : Int32) : narrow .char (.int (chV x)) = .int (chV x) := pk_nc _
theorem hs_s5charAt : yJ5_charAt.cls ≠ "java/lang/invoke/MethodHandle" ∧ yJ5_charAt.cls ≠ "java/lang/invoke/VarHandle" ∧ (parseMethodDescriptor yJ5_charAt.desc).map (fun d => d.parameters.length) = some 2 := by decide +kernel
theorem hv_s4charAt : yJ4_charAt.cls = RJ4 ∧ yJ4_charAt.cls ≠ "java/lang/invoke/MethodHandle" ∧ yJ4_charAt.cls ≠ "java/lang/invoke/VarHandle" ∧ (parseMethodDescriptor yJ4_charAt.desc).map (fun d => d.parameters.length) = some 1 := by decide +kernel
theorem hv_s4length : yJ4_length.cls = RJ4 ∧ yJ4_length.cls ≠ "java/lang/invoke/MethodHandle" ∧ yJ4_length.cls ≠ "java/lang/invoke/VarHandle" ∧ (parseMethodDescriptor yJ4_length.desc).map (fun d => d.parameters.length) = some 0 := by decide +kernel
theorem g_i2c9 {ρ : Type} {K : KT} {Q : ρ → State → Prop} {comp : Option ρ} {nL : Nat} {I : Heap → List Loc → Prop} {cs sl pc : Nat} {ls : List (Nat × Value)} {st : List Value} {cc : ByteArray} {rm : Room} {ret : Option FieldType} {own : String} (hk : KOK K cc nL own rm ret) {x : Int32} (hd : decode cc pc = .ok (.i2c, 1)) (k : GGo K Q comp nL I cs sl (pc + 1) ls (.int (x.toUInt32 % 65536).toInt32 :: st)) : GGo K Q comp nL I cs sl pc ls (.int x :: st) := fun r hr H locs lsA hI hh => lv_i2c hk.1 hk.2.1 hd rfl (k r hr H locs lsA hI hh)
theorem s5_charAt (hst : ∀ tx U H, gE Γ tx U H → SST Γ U H ∧ StrAt Γ U H a b bs) {i : Int32} (hin : inb i bs.length = true) (hlen : bs.length < 2 ^ 31) : RMet Γ tx yJ5_charAt cJ5_charAt 2 (some .char) (rmK 3) [.ref b, .int i] H0 (some (.int (chV (bs.getD i.toNatClampNeg 0)))) := by
  refine r_met (view := fun r : Int32 => some (.int r)) (comp := some (chV (bs.getD i.toNatClampNeg 0))) (own := RJ5) rfl (by decide) rfl (ls0 := [(0, .ref b), (1, .int i)]) rfl (fun K hk hK hH hE => ?_) _ rfl
  have hb2 := (hst _ _ _ hE).2.2.2.2
  obtain ⟨j, hj, rfl⟩ : ∃ j, j < bs.length ∧ i = nI j := by
    have h0 : ¬ i < 0 := fun z => inb_vp hin (Or.inl z)
    obtain ⟨j, hj, rfl⟩ := nI_of h0
    exact ⟨j, by have := inb_lt hin; rw [nI_clamp hj] at this; exact this, rfl⟩
  refine g_iload_n (pc := 0) hk dJ5_charAt_0 rfl ?_
  refine g_aload_n (pc := 1) hk dJ5_charAt_1 rfl ?_
  refine x_alenT (pc := 2) hk (rd hH (P := fun H => va_T .byte b bs.length (fun j => .int (bs.getD j 0)) (cSt Γ) (kS K) H) hb2) dJ5_charAt_2 ?_
  refine x_callS (pc := 3) (tx := tx) (v := none) (rmY := rmK 2) hk hK (rd hH hE) [.int (nI j), .int (Int32.ofNat bs.length)] [] (rd hH (s_check hst (nI_pos (by omega)) (nI_lt hj hlen))) (lw_S q444 q445 q134 q446) hs_s4check rfl ⟨rfl, rfl⟩ rfl rfl dJ5_charAt_3 rfl rfl ⟨Nat.zero_le _, Nat.zero_le _⟩ ?_
  refine g_aload_n (pc := 6) hk dJ5_charAt_6 rfl ?_
  refine g_iload_n (pc := 7) hk dJ5_charAt_7 rfl ?_
  refine x_baldT (pc := 8) (f := fun j => bs.getD j 0) hk (rd hH (P := fun H => va_T .byte b bs.length (fun j => .int (bs.getD j 0)) (cSt Γ) (kS K) H) hb2) hin dJ5_charAt_8 ?_
  refine g_sipush (pc := 9) (v := 255) hk dJ5_charAt_9 rfl ?_
  refine g_iand (pc := 12) hk dJ5_charAt_12 ?_
  refine g_i2c9 (pc := 13) hk dJ5_charAt_13 ?_
  exact p_nret (pc := 14) hk (chV_nar _) rfl dJ5_charAt_14
theorem s_charAt (hst : ∀ tx U H, gE Γ tx U H → SST Γ U H ∧ StrAt Γ U H a b bs) {i : Int32} (hin : inb i bs.length = true) (hlen : bs.length < 2 ^ 31) : RMet Γ tx yJ4_charAt cJ4_charAt 2 (some .char) (rmK 4) [.ref a, .int i] H0 (some (.int (chV (bs.getD i.toNatClampNeg 0)))) := by
  refine r_met (view := fun r : Int32 => some (.int r)) (comp := some (chV (bs.getD i.toNatClampNeg 0))) (own := RJ4) rfl (by decide) rfl (ls0 := [(0, .ref a), (1, .int i)]) rfl (fun K hk hK hH hE => ?_) _ rfl
  have hs := hst _ _ _ hE
  obtain ⟨hb1, hb2⟩ := hs.2.2.2
  refine g_aload_n (pc := 0) hk dJ4_charAt_0 rfl ?_
  refine x_callV (pc := 1) (tx := tx) (v := some (.int 1)) (rmY := rmK 1) hk hK (rd hH hE) (s_rec (rd hH (P := fun H => va_O RJ4 a (cSt Γ) (kS K) H) hs.2.1)) [] _ (rd hH (s_latin hst)) (lw_V q437 q438 q439 q134 q440) hv_latin rfl ⟨rfl, rfl⟩ rfl rfl dJ4_charAt_1 rfl rfl ⟨Nat.zero_le _, Nat.zero_le _⟩ ?_
  refine g_no (c := (1 : Int32) = 0) (by decide) ?_
  refine g_if_eq (pc := 4) (tgt := 16) hk dJ4_charAt_4 rfl g_none ?_
  refine g_aload_n (pc := 7) hk dJ4_charAt_7 rfl ?_
  refine x_of (pc := 8) hk (rd hH (P := fun H => va_OF RJ4 "value" "[B" (.ref b) a (cSt Γ) (kS K) H) hb1) q2078 dJ4_charAt_8 ?_
  refine g_iload_n (pc := 11) hk dJ4_charAt_11 rfl ?_
  refine x_callS (pc := 12) (tx := tx) (v := some (.int (chV (bs.getD i.toNatClampNeg 0)))) (rmY := rmK 3) hk hK (rd hH hE) [.ref b, .int i] [] (rd hH (s5_charAt hst hin hlen)) (lw_S q441 q442 q135 q443) hs_s5charAt rfl ⟨rfl, rfl⟩ rfl rfl dJ4_charAt_12 rfl rfl ⟨Nat.zero_le _, Nat.zero_le _⟩ ?_
  exact p_nret (pc := 15) hk (chV_nar _) rfl dJ4_charAt_15
end STRM

/-! Tokens: isWord -/
def kwL (π : PPar) (tok : Int32) : List Int32 → Nat → Option Int32
  | [], _ => some 1
  | x :: t, j => if inb (tok + nI j) 300 = true then (if π.2.2 (tok + nI j).toNatClampNeg = chV x then kwL π tok t (j + 1) else some 0) else none
def K_isWord (π : PPar) (τ : TKS) (bs : List Int32) : Option Int32 := if τ.1 - τ.2.1 = nI bs.length then kwL π τ.2.1 bs 0 else some 0
section ISW
variable {Γ : CG} {tx : TXs Tx} {H0 : Heap} {a b : Nat} {bs : List Int32} {π : PPar} {τ : TKS}
theorem k_isWord_l (hst : ∀ tx U H, gE Γ tx U H → SST Γ U H ∧ StrAt Γ U H a b bs) (hlen : bs.length < 2 ^ 31) (ht : va_at (gD Γ) ccl (π.1, .inr (2, tkF Γ π τ)) H0) (htp : H0[gA Γ 200]? = some (arrV (gC Γ 1) 300 (fun j => .int (π.2.2 j)))) {K : KT} (hk : KOK K cX3_isWord 3 RX3 (rmK 5) (some .boolean)) (hK : CK Γ (kS K)) (hH : (kS K).heap = H0) (hE : gE Γ tx (kS K) H0) : ∀ (rest pre : List Int32), bs = pre ++ rest → GGo K (pQ K (fun r : Int32 => some (.int r))) (kwL π τ.2.1 rest pre.length) 3 (pI K) 0 0 20 [(0, .ref π.1), (1, .ref a), (2, .int (nI pre.length))] [] := by
  intro rest
  have hs := hst _ _ _ hE
  have hrec := s_rec (I := pI K) (rd hH (P := fun H => va_O RJ4 a (cSt Γ) (kS K) H) hs.2.1)
  induction rest with
  | nil =>
    intro pre hf
    rw [List.append_nil] at hf
    have hn : ¬ nI pre.length < nI bs.length := by rw [hf]; exact fun h => Int32.lt_irrefl h
    unfold kwL
    refine g_iload_n (pc := 20) hk dX3_isWord_20 rfl ?_
    refine g_aload_n (pc := 21) hk dX3_isWord_21 rfl ?_
    refine x_callV (pc := 22) (tx := tx) (v := some (.int (nI bs.length))) (rmY := rmK 2) hk hK (rd hH hE) hrec [] _ (rd hH (s_length hst)) (lw_V q423 q424 q425 q134 q426) hv_s4length rfl ⟨rfl, rfl⟩ rfl rfl dX3_isWord_22 rfl rfl ⟨Nat.zero_le _, Nat.zero_le _⟩ ?_
    refine g_no hn ?_
    refine g_icmp_ge (pc := 25) (tgt := 55) hk dX3_isWord_25 rfl ?_ g_none
    refine g_iconst (pc := 55) (v := 1) hk dX3_isWord_55 rfl ?_
    exact p_zret (pc := 56) hk rfl rfl dX3_isWord_56
  | cons x rest ih =>
    intro pre hf
    have hlt : pre.length < bs.length := by rw [hf, List.length_append, List.length_cons]; omega
    have hy : nI pre.length < nI bs.length := nI_lt hlt hlen
    have hx : bs.getD (nI pre.length).toNatClampNeg 0 = x := by rw [nI_clamp (by omega), hf]; simp
    unfold kwL
    refine g_gd (fun hin => ?_)
    refine g_iload_n (pc := 20) hk dX3_isWord_20 rfl ?_
    refine g_aload_n (pc := 21) hk dX3_isWord_21 rfl ?_
    refine x_callV (pc := 22) (tx := tx) (v := some (.int (nI bs.length))) (rmY := rmK 2) hk hK (rd hH hE) hrec [] _ (rd hH (s_length hst)) (lw_V q423 q424 q425 q134 q426) hv_s4length rfl ⟨rfl, rfl⟩ rfl rfl dX3_isWord_22 rfl rfl ⟨Nat.zero_le _, Nat.zero_le _⟩ ?_
    refine g_yes hy ?_
    refine g_icmp_ge (pc := 25) (tgt := 55) hk dX3_isWord_25 rfl g_none ?_
    refine g_aload_n (pc := 28) hk dX3_isWord_28 rfl ?_
    refine x_get (pc := 29) (v := .ref (gA Γ 200)) hk hK (ci := 2) rfl in_X3 (rd hH ht) 0 (by decide) q333 (Or.inl rfl) rfl dX3_isWord_29 ?_
    refine g_aload_n (pc := 32) hk dX3_isWord_32 rfl ?_
    refine x_get (pc := 33) (v := .int τ.2.1) hk hK (ci := 2) rfl in_X3 (rd hH ht) 3 (by decide) q336 (Or.inl rfl) rfl dX3_isWord_33 ?_
    refine g_iload_n (pc := 36) hk dX3_isWord_36 rfl ?_
    refine g_iadd (pc := 37) hk dX3_isWord_37 ?_
    refine x_baldA (pc := 38) hk (rd hH htp) ((hK.1.2 1 _ rfl).1) hin dX3_isWord_38 ?_
    refine g_aload_n (pc := 39) hk dX3_isWord_39 rfl ?_
    refine g_iload_n (pc := 40) hk dX3_isWord_40 rfl ?_
    refine x_callV (pc := 41) (tx := tx) (v := some (.int (chV x))) (rmY := rmK 4) hk hK (rd hH hE) hrec [.int (nI pre.length)] _ (rd hH (hx ▸ s_charAt hst (inb_nI hlt hlen) hlen)) (lw_V q433 q434 q435 q134 q436) hv_s4charAt rfl ⟨rfl, rfl⟩ rfl rfl dX3_isWord_41 rfl rfl ⟨Nat.zero_le _, Nat.zero_le _⟩ ?_
    refine g_icmp_eq (pc := 44) (tgt := 49) hk dX3_isWord_44 rfl ?_ ?_
    · refine g_iinc (pc := 49) (v := 1) hk dX3_isWord_49 rfl rfl (by decide) rfl ?_
      refine g_goto (pc := 52) (tgt := 20) hk dX3_isWord_52 rfl ?_
      have := ih (pre ++ [x]) (by rw [hf, List.append_assoc]; rfl)
      rw [List.length_append, List.length_singleton, ← nI_1] at this
      exact g_ls (ls' := [(0, .ref π.1), (1, .ref a), (2, .int (nI pre.length + 1))]) ⟨rfl, rfl, rfl, trivial⟩ this
    · refine g_iconst (pc := 47) (v := 0) hk dX3_isWord_47 rfl ?_
      exact p_zret (pc := 48) hk rfl rfl dX3_isWord_48
theorem k_isWord (hst : ∀ tx U H, gE Γ tx U H → SST Γ U H ∧ StrAt Γ U H a b bs) (hlen : bs.length < 2 ^ 31) (ht : va_at (gD Γ) ccl (π.1, .inr (2, tkF Γ π τ)) H0) (htp : H0[gA Γ 200]? = some (arrV (gC Γ 1) 300 (fun j => .int (π.2.2 j)))) {r : Int32} (hr : K_isWord π τ bs = some r) : RMet Γ tx yX3_isWord cX3_isWord 3 (some .boolean) (rmK 5) [.ref π.1, .ref a] H0 (some (.int r)) := by
  refine r_met (view := fun r : Int32 => some (.int r)) (own := RX3) rfl (by decide) rfl (ls0 := [(0, .ref π.1), (1, .ref a)]) rfl (fun K hk hK hH hE => ?_) _ hr
  have hs := hst _ _ _ hE
  have hrec := s_rec (I := pI K) (rd hH (P := fun H => va_O RJ4 a (cSt Γ) (kS K) H) hs.2.1)
  unfold K_isWord
  refine g_aload_n (pc := 0) hk dX3_isWord_0 rfl ?_
  refine x_get (pc := 1) (v := .int τ.1) hk hK (ci := 2) rfl in_X3 (rd hH ht) 2 (by decide) q335 (Or.inl rfl) rfl dX3_isWord_1 ?_
  refine g_aload_n (pc := 4) hk dX3_isWord_4 rfl ?_
  refine x_get (pc := 5) (v := .int τ.2.1) hk hK (ci := 2) rfl in_X3 (rd hH ht) 3 (by decide) q336 (Or.inl rfl) rfl dX3_isWord_5 ?_
  refine g_isub (pc := 8) hk dX3_isWord_8 ?_
  refine g_aload_n (pc := 9) hk dX3_isWord_9 rfl ?_
  refine x_callV (pc := 10) (tx := tx) (v := some (.int (nI bs.length))) (rmY := rmK 2) hk hK (rd hH hE) hrec [] _ (rd hH (s_length hst)) (lw_V q423 q424 q425 q134 q426) hv_s4length rfl ⟨rfl, rfl⟩ rfl rfl dX3_isWord_10 rfl rfl ⟨Nat.zero_le _, Nat.zero_le _⟩ ?_
  refine g_icmp_eq (pc := 13) (tgt := 18) hk dX3_isWord_13 rfl ?_ ?_
  · refine g_iconst (pc := 18) (v := 0) hk dX3_isWord_18 rfl ?_
    refine g_istore_n (pc := 19) (i := 2) hk dX3_isWord_19 rfl (by decide) rfl ?_
    exact g_ls (ls' := [(0, .ref π.1), (1, .ref a), (2, .int (nI ([] : List Int32).length))]) ⟨rfl, rfl, rfl, trivial⟩ (k_isWord_l hst hlen ht htp hk hK hH hE bs [] rfl)
  · refine g_iconst (pc := 16) (v := 0) hk dX3_isWord_16 rfl ?_
    exact p_zret (pc := 17) hk rfl rfl dX3_isWord_17
end ISW
def K_mayName (kind x : Int32) : Option Int32 := if x < 5 then some 1 else if x = 6 then (if kind = 202 then some 1 else some 0) else (if kind = 202 then some 0 else some 1)
theorem k_mayName {Γ : CG} {tx : TXs Tx} {H0 : Heap} {π : PPar} {τ : TKS} (ht : va_at (gD Γ) ccl (π.1, .inr (2, tkF Γ π τ)) H0) {x r : Int32} (hr : K_mayName τ.2.2.2.2.2 x = some r) : RMet Γ tx yX3_mayName cX3_mayName 2 (some .boolean) (rmK 1) [.ref π.1, .int x] H0 (some (.int r)) := by
  refine r_met (view := fun r : Int32 => some (.int r)) (own := RX3) rfl (by decide) rfl (ls0 := [(0, .ref π.1), (1, .int x)]) rfl (fun K hk hK hH hE => ?_) _ hr
  unfold K_mayName
  refine g_iload_n (pc := 0) hk dX3_mayName_0 rfl ?_
  refine g_iconst (pc := 1) (v := 5) hk dX3_mayName_1 rfl ?_
  refine g_icmp_lt (pc := 2) (tgt := 34) hk dX3_mayName_2 rfl ?_ ?_
  · refine g_iconst (pc := 34) (v := 1) hk dX3_mayName_34 rfl ?_
    refine g_goto (pc := 35) (tgt := 39) hk dX3_mayName_35 rfl ?_
    exact p_zret (pc := 39) hk rfl rfl dX3_mayName_39
  refine g_iload_n (pc := 5) hk dX3_mayName_5 rfl ?_
  refine g_bipush (pc := 6) (v := 6) hk dX3_mayName_6 rfl ?_
  refine g_icmp_ne (pc := 8) (tgt := 15) hk dX3_mayName_8 rfl ?_ ?_
  · refine g_iconst (pc := 15) (v := 0) hk dX3_mayName_15 rfl ?_
    refine g_aload_n (pc := 16) hk dX3_mayName_16 rfl ?_
    refine x_get (pc := 17) (v := .int τ.2.2.2.2.2) hk hK (ci := 2) rfl in_X3 (rd hH ht) 7 (by decide) q340 (Or.inl rfl) rfl dX3_mayName_17 ?_
    refine g_sipush (pc := 20) (v := 202) hk dX3_mayName_20 rfl ?_
    refine g_icmp_ne (pc := 23) (tgt := 30) hk dX3_mayName_23 rfl ?_ ?_
    · refine g_iconst (pc := 30) (v := 0) hk dX3_mayName_30 rfl ?_
      refine g_yes (c := (0 : Int32) = 0) rfl ?_
      refine g_icmp_ne (pc := 31) (tgt := 38) hk dX3_mayName_31 rfl g_none ?_
      refine g_iconst (pc := 34) (v := 1) hk dX3_mayName_34 rfl ?_
      refine g_goto (pc := 35) (tgt := 39) hk dX3_mayName_35 rfl ?_
      exact p_zret (pc := 39) hk rfl rfl dX3_mayName_39
    · refine g_iconst (pc := 26) (v := 1) hk dX3_mayName_26 rfl ?_
      refine g_goto (pc := 27) (tgt := 31) hk dX3_mayName_27 rfl ?_
      refine g_no (c := (0 : Int32) = 1) (by decide) ?_
      refine g_icmp_ne (pc := 31) (tgt := 38) hk dX3_mayName_31 rfl ?_ g_none
      refine g_iconst (pc := 38) (v := 0) hk dX3_mayName_38 rfl ?_
      exact p_zret (pc := 39) hk rfl rfl dX3_mayName_39
  · refine g_iconst (pc := 11) (v := 1) hk dX3_mayName_11 rfl ?_
    refine g_goto (pc := 12) (tgt := 16) hk dX3_mayName_12 rfl ?_
    refine g_aload_n (pc := 16) hk dX3_mayName_16 rfl ?_
    refine x_get (pc := 17) (v := .int τ.2.2.2.2.2) hk hK (ci := 2) rfl in_X3 (rd hH ht) 7 (by decide) q340 (Or.inl rfl) rfl dX3_mayName_17 ?_
    refine g_sipush (pc := 20) (v := 202) hk dX3_mayName_20 rfl ?_
    refine g_icmp_ne (pc := 23) (tgt := 30) hk dX3_mayName_23 rfl ?_ ?_
    · refine g_iconst (pc := 30) (v := 0) hk dX3_mayName_30 rfl ?_
      refine g_no (c := (1 : Int32) = 0) (by decide) ?_
      refine g_icmp_ne (pc := 31) (tgt := 38) hk dX3_mayName_31 rfl ?_ g_none
      refine g_iconst (pc := 38) (v := 0) hk dX3_mayName_38 rfl ?_
      exact p_zret (pc := 39) hk rfl rfl dX3_mayName_39
    · refine g_iconst (pc := 26) (v := 1) hk dX3_mayName_26 rfl ?_
      refine g_goto (pc := 27) (tgt := 31) hk dX3_mayName_27 rfl ?_
      refine g_yes (c := (1 : Int32) = 1) rfl ?_
      refine g_icmp_ne (pc := 31) (tgt := 38) hk dX3_mayName_31 rfl g_none ?_
      refine g_iconst (pc := 34) (v := 1) hk dX3_mayName_34 rfl ?_
      refine g_goto (pc := 35) (tgt := 39) hk dX3_mayName_35 rfl ?_
      exact p_zret (pc := 39) hk rfl rfl dX3_mayName_39
