/-! ArrayList's constructor, Chain, Text, Integer.valueOf -/
set_option maxRecDepth 100000
theorem va_Z.keptN {C n d : String} {v : Value} {A : Nat → Prop} {U : State} {H H1 : Heap} {a : Nat} (h : va_Z C n d v A U H) (hne : ∀ cell : Cell, H[a]? = some cell → cell.vm.isStatics = false) (hq : ∀ q : Nat, q < H.size → q ≠ a → H1[q]? = H[q]?) : va_Z C n d v A U H1 := by
  obtain ⟨cf, kf, fi, f, s, cell, h1, h2, h3, h4, h5, h6, h7, h8⟩ := h
  refine ⟨cf, kf, fi, f, s, cell, h1, h2, h3, h4, ?_, h6, h7, h8⟩
  rw [hq s (Array.getElem?_eq_some_iff.mp h5).1 (fun e => by rw [e] at h5; rw [hne cell h5] at h6; cases h6)]
  exact h5
theorem va_at.obj {D : va_G} {cl : List vw_C} {a ci : Nat} {fs : List Value} {H : Heap} (h : va_at D cl (a, .inr (ci, fs)) H) : ∀ cell : Cell, H[a]? = some cell → cell.vm.isStatics = false := by
  obtain ⟨r, h1, cell, g1, g2, g3, g4⟩ := h
  intro cell' hc
  cases hc.symm.trans g1
  rw [g3]
  rfl
theorem r_valueOf {Γ : CG} {tx : TXs Tx} (hΓ : DLX Γ) {H0 : Heap} {c : Nat} (hc : c < 128) : RMet Γ tx yJ15_valueOf cJ15_valueOf 1 (some (.object "java/lang/Integer")) (rmK 1) [.int (nI c)] H0 (some (.ref (gA Γ (1000 + (c + 128))))) := by
  refine r_met (view := fun r : Nat => some (.ref r)) (comp := some (gA Γ (1000 + (c + 128)))) (own := RJ15) rfl (by decide) rfl (ls0 := [(0, .int (nI c))]) rfl (fun K hk hK hH hE => ?_) _ rfl
  have hS := (hΓ.2 _ _ _ hE).2
  have e1 : (-128 : Int32).toInt = -128 := by decide
  refine g_iload_n (pc := 0) hk dJ15_valueOf_0 rfl ?_
  refine g_bipush (pc := 1) (v := (-128)) hk dJ15_valueOf_1 rfl ?_
  refine g_no (c := nI c < -128) (fun z => ?_) ?_
  · rw [Int32.lt_iff_toInt_lt, nI_toInt (by omega), e1] at z
    omega
  refine g_icmp_lt (pc := 3) (tgt := 23) hk dJ15_valueOf_3 rfl g_none ?_
  refine g_iload_n (pc := 6) hk dJ15_valueOf_6 rfl ?_
  refine x_gets (pc := 7) (C := "java/lang/Integer$IntegerCache") (v := .int 127) hk (rd hH hS.1) q811 dJ15_valueOf_7 ?_
  refine g_no (c := (127 : Int32) < nI c) (fun z => ?_) ?_
  · have := (nI_ltI (a := 127) (by omega) (by omega)).mp z
    omega
  refine g_icmp_gt (pc := 10) (tgt := 23) hk dJ15_valueOf_10 rfl g_none ?_
  refine x_gets (pc := 13) (C := "java/lang/Integer$IntegerCache") (v := .ref (gA Γ 900)) hk (rd hH hS.2.1) q813 dJ15_valueOf_13 ?_
  refine g_iload_n (pc := 16) hk dJ15_valueOf_16 rfl ?_
  refine g_sipush (pc := 17) (v := 128) hk dJ15_valueOf_17 rfl ?_
  refine g_iadd (pc := 20) hk dJ15_valueOf_20 ?_
  rw [show nI c + 128 = nI (c + 128) from nI_add c 128]
  refine x_aaldT (pc := 21) (N := 256) (j := c + 128) hk (rd hH hS.2.2) rfl (inb_nI (by omega) (by decide)) (nI_clamp (by omega)) dJ15_valueOf_21 ?_
  exact p_aret (pc := 22) hk (Or.inl ⟨_, rfl⟩) rfl dJ15_valueOf_22
theorem hs_valueOf : yJ15_valueOf.cls ≠ "java/lang/invoke/MethodHandle" ∧ yJ15_valueOf.cls ≠ "java/lang/invoke/VarHandle" ∧ (parseMethodDescriptor yJ15_valueOf.desc).map (fun d => d.parameters.length) = some 1 := by decide +kernel
theorem hi_J2 : yJ2_init.cls ≠ "java/lang/invoke/MethodHandle" ∧ yJ2_init.cls ≠ "java/lang/invoke/VarHandle" ∧ (parseMethodDescriptor yJ2_init.desc).map (fun d => d.parameters.length) = some 0 := by decide +kernel
theorem hi_J3 : yJ3_init.cls ≠ "java/lang/invoke/MethodHandle" ∧ yJ3_init.cls ≠ "java/lang/invoke/VarHandle" ∧ (parseMethodDescriptor yJ3_init.desc).map (fun d => d.parameters.length) = some 0 := by decide +kernel
theorem hi_X6 : yX6_init.cls ≠ "java/lang/invoke/MethodHandle" ∧ yX6_init.cls ≠ "java/lang/invoke/VarHandle" ∧ (parseMethodDescriptor yX6_init.desc).map (fun d => d.parameters.length) = some 1 := by decide +kernel
theorem hi_X4 : yX4_init.cls ≠ "java/lang/invoke/MethodHandle" ∧ yX4_init.cls ≠ "java/lang/invoke/VarHandle" ∧ (parseMethodDescriptor yX4_init.desc).map (fun d => d.parameters.length) = some 0 := by decide +kernel
section ALC
variable {Γ : CG} {tx : TXs Tx}
theorem n_J2 {H0 : Heap} {a : Nat} (hf : va_at (gD Γ) ccl (a, .inr (15, [.int 0, .null, .int 0])) H0) : NMet Γ tx yJ2_init cJ2_init 1 rm_x_r1 [.ref a] H0 a (fun H1 => va_at (gD Γ) ccl (a, .inr (15, [.int 0, .null, .int 0])) H1 ∧ H1.size = H0.size) := by
  refine n_met (view := fun _ : Unit => fun H1 => va_at (gD Γ) ccl (a, .inr (15, [.int 0, .null, .int 0])) H1 ∧ H1.size = H0.size) (comp := some ()) (own := RJ2) rfl (by decide) rfl (ls0 := [(0, .ref a)]) rfl (fun K hk hK htr hnm hH hE => nw_in (a := a) hH ?_) () rfl
  refine g_aload_n (pc := 0) hk dJ2_init_0 rfl ?_
  refine nw_sup (tx := tx) (pc := 1) hk hK htr hE n_J1 q378 q379 q131 q380 rfl hi_J1 rfl dJ2_init_1 ⟨Nat.le_refl _, Nat.le_refl _⟩ ?_
  refine g_I (I' := NW K a (fun H => va_at (gD Γ) ccl (a, .inr (15, [.int 0, .null, .int 0])) H ∧ H.size = H0.size)) (fun H locs hI => ⟨hI.1, hI.2.1, by rw [hI.2.2]; exact hf, by rw [hI.2.2]⟩) ?_
  refine g_aload_n (pc := 4) hk dJ2_init_4 rfl ?_
  refine g_iconst (pc := 5) (v := 0) hk dJ2_init_5 rfl ?_
  refine nw_put (pc := 6) (ci := 15) (fs := [.int 0, .null, .int 0]) (ref := RJ2) hk hK rfl in_J3 tyJ3 tyJ3_ok nmJ3 0 (by decide) q386 rfl rfl rfl rfl (show 0 < 3 by decide) (fun H H1 h e _ => e.trans h) dJ2_init_6 ?_
  exact nw_ret (pc := 9) hk (fun H e => e) dJ2_init_9 (Nat.zero_le _) (Nat.zero_le _)
/-- a new list -/
theorem n_J3 (hΓ : DLX Γ) {H0 : Heap} {a : Nat} (hf : va_at (gD Γ) ccl (a, .inr (15, [.int 0, .null, .int 0])) H0) : NMet Γ tx yJ3_init cJ3_init 1 rm_x_r2 [.ref a] H0 a (fun H1 => LHt Γ H1 a (gA Γ 600) [] ∧ H1.size = H0.size) := by
  refine n_met (view := fun _ : Unit => fun H1 => LHt Γ H1 a (gA Γ 600) [] ∧ H1.size = H0.size) (comp := some ()) (own := RJ3) rfl (by decide) rfl (ls0 := [(0, .ref a)]) rfl (fun K hk hK htr hnm hH hE => nw_in (a := a) hH ?_) () rfl
  have hS := (hΓ.2 _ _ _ hE).1
  refine g_aload_n (pc := 0) hk dJ3_init_0 rfl ?_
  refine x_init (tx := tx) (pc := 1) (rmY := rm_x_r1) (R := fun H H1 => va_at (gD Γ) ccl (a, .inr (15, [.int 0, .null, .int 0])) H1 ∧ H1.size = H.size) hk hK htr (fun H locs hI => by rw [hI.2.2]; exact hE) [] [] (fun H locs hI => by rw [hI.2.2]; exact n_J2 hf) q375 q376 q132 q377 rfl hi_J2 rfl rfl rfl dJ3_init_1 rfl ⟨Nat.le_refl _, Nat.le_refl _⟩ ?_
  refine g_I (I' := NW K a (fun H => va_at (gD Γ) ccl (a, .inr (15, [.int 0, .null, .int 0])) H ∧ H.size = H0.size)) (fun H1 locs1 hI => ?_) ?_
  · obtain ⟨H, locs, ⟨h1, h2, rfl⟩, h4, h5, h6⟩ := hI
    refine ⟨h1.trans h5, fun l hl => ?_, h4⟩
    rcases h6 l hl with h | h | h
    · exact h2 l h
    · exact Or.inl h
    · exact Or.inr (Nat.le_trans h1.1 h)
  refine g_aload_n (pc := 4) hk dJ3_init_4 rfl ?_
  refine x_gets (pc := 5) (C := RJ3) (v := .ref (gA Γ 600)) hk (fun H locs hI => hS.1.keptN hf.obj (fun q hq hne => by rw [← hH] at hq ⊢; exact hI.1.2 q hq hne)) q382 dJ3_init_5 ?_
  refine nw_put (pc := 8) (ci := 15) (fs := [.int 0, .null, .int 0]) (ref := RJ3) hk hK rfl in_J3 tyJ3 tyJ3_ok nmJ3 1 (by decide) q384 rfl rfl rfl rfl (show 1 < 3 by decide) (fun H H1 h e _ => e.trans h) dJ3_init_8 ?_
  exact nw_ret (pc := 11) hk (fun H e => ⟨⟨⟨0, e.1⟩, by decide, fun _ => rfl, fun h => absurd rfl h⟩, e.2⟩) dJ3_init_11 (Nat.zero_le _) (Nat.zero_le _)
end ALC
/-- a constructor that makes objects itself: the world's fixed part is older than b -/
def NMetB (Γ : CG) (tx : TXs Tx) (y : MethodName) (bytes : ByteArray) (maxL : Nat) (rm : Room) (av : List Value) (H0 : Heap) (a b : Nat) (R : Heap → Prop) : Prop :=
  ∀ l : Launch, l.stackTraces = false → Met l y (ws_ y bytes maxL none) rm (va_Pc av (fun U => (U.heap = H0 ∧ gEb Γ tx b U H0) ∧ CK Γ U)) (fun _ _ o t => o = .returned none ∧ R t.heap ∧ pFr a H0 t.heap) rm.cells rm.slots (xFr a H0.size)
section NB
variable {ρ : Type} {K : KT} {Q : ρ → State → Prop} {comp : Option ρ} {nL : Nat} {I : Heap → List Loc → Prop} {cs sl pc : Nat} {ls : List (Nat × Value)} {st : List Value} {cc : ByteArray} {rm : Room} {ret : Option FieldType} {Γ : CG} {own : String} {tx : TXs Tx}
theorem nb_met {y : MethodName} {bytes : ByteArray} {maxL : Nat} {rm : Room} {av : List Value} {H0 : Heap} {a b : Nat} {R : Heap → Prop} {ls0 : List (Nat × Value)} {own : String} (hc : y.cls = own) (hpl : plainName own = true) (hl : Nat.ble (lg_sl av).length maxL = true) (hls : lv_args 0 av = ls0)
    (body : ∀ K : KT, KOK K bytes maxL own rm none → CK Γ (kS K) → K.2.1.stackTraces = false → (kMe K).name = y.name → (kS K).heap = H0 → gEb Γ tx b (kS K) H0 → GGo K (nQ K a rm (fun _ : Unit => R)) (some ()) maxL (NW K a (fun H => H = H0)) 0 0 0 ls0 []) : NMetB Γ tx y bytes maxL rm av H0 a b R := by
  intro l hst
  subst hls
  refine Met.ofW (cc := bytes) (maxL := maxL) (ret := none) (by rw [hc]; exact hpl) rfl ?_
  intro p e s m args below meth c s₁ B hml hv
  obtain ⟨rfl, ⟨hH, hE⟩, hKK⟩ := hv
  subst hH
  have hts := atoms_spec (ws := ws_ y bytes maxL none) B.pre
  have hown : s.vm.findClass y.cls = some m.cls := findClass_of_methodNamed B.named
  rw [hc] at hown
  rw [lg_entry_eq]
  exact body (p, l, e, (headSpec (ws_ y bytes maxL none) rm).room, s, m, av.toArray, below, meth, c) ⟨B.exec, B.bytes, hml, hown, fun w h => hts w (List.mem_cons_of_mem _ h), B.notSynchronized, B.returns, rfl⟩ hKK hst (name_of_methodNamed B.named B.method).1 rfl hE () rfl s.heap [] _ ⟨pFr.rf, (fun _ h => by cases h), rfl⟩ (lv_entry av (Nat.le_of_ble_eq_true hl))
theorem NMetB_blind {b : Nat} {av : List Value} {H0 : Heap} : FrameBlind (va_Pc av (fun U => (U.heap = H0 ∧ gEb Γ tx b U H0) ∧ CK Γ U)) := fun a U g mk q => by
  obtain ⟨q0, q1, qK⟩ := q
  have hW : U.WarmedH (U.calling g mk a).vm := State.WarmedH.refl U
  exact ⟨q0, ⟨q1.1, q1.2.moved qK.2.2.2 hW.alike⟩, qK.warm hW⟩
theorem x_initB (hk : KOK K cc nL own rm ret) (hK : CK Γ (kS K)) (htr : K.2.1.stackTraces = false) {b : Nat} (hE : ∀ H locs, I H locs → gEb Γ tx b (kS K) H) {y : MethodName} {bytes : ByteArray} {maxL n idx : Nat} {rmY : Room} {stk : List Value} {a0 : Nat} (As : List Value) (st : List Value) {R : Heap → Heap → Prop} (hM : ∀ H locs, I H locs → NMetB Γ tx y bytes maxL rmY (.ref a0 :: As) H a0 b (R H)) (hl : Cond.methodLink own idx y ∈ lw_all) (hi : Cond.instanceMethod y ∈ lw_all) (hin : Cond.initialized y.cls ∈ lw_all) (hcd : Cond.code y bytes maxL none ∈ lw_all) (hnm : y.name = "<init>") (hy : y.cls ≠ "java/lang/invoke/MethodHandle" ∧ y.cls ≠ "java/lang/invoke/VarHandle" ∧ (parseMethodDescriptor y.desc).map (fun d => d.parameters.length) = some n) (hrm : rmFit maxL rmY rm = true) (hn : As.length = n) (hs : Nat.ble ((st.map fun v => v.category).sum) 8 = true) (hd : decode cc pc = .ok (.invokespecial idx, 3)) (hstk : stk = As.reverse ++ .ref a0 :: st) (hcs : cs + rmY.cells ≤ rm.cells ∧ sl + rmY.slots ≤ rm.slots)
    (kk : GGo K Q comp nL (fun H1 locs1 => ∃ H locs, I H locs ∧ R H H1 ∧ pFr a0 H H1 ∧ ∀ l ∈ locs1, l ∈ locs ∨ xFr a0 H.size l.base) (cs + rmY.cells) (sl + rmY.slots) (pc + 3) ls st) : GGo K Q comp nL I cs sl pc ls stk := by
  intro r hr H locs lsA hI hh T hT X
  obtain ⟨v', st₀, t, T', L, h0, X', hL, e1, e2, ⟨hv, hRv, hF⟩, stp⟩ := va_runI (g := F0 (kM K) pc lsA stk) (As := As) (rest := st) (cc := cc) (nL := nL) (own := own) (Ts := lw_all) ⟨hk.1, hk.2.1, hk.2.2.1, hk.2.2.2.1, hk.2.2.2.2.1⟩ (hM H locs hI K.2.1 htr) ⟨callB_of n hk.2.2.2.2.1 (lw_meth hcd) rfl rfl rfl (hk.2.2.2.2.1 _ hin) (hk.2.2.2.2.1 _ hl) hy (rmFit_ok hrm hk.2.2.2.2.2.2.2), hnm, hk.2.2.2.2.1 _ hi⟩ ⟨NMetB_blind, fun U hU hW => ⟨rfl, ⟨hU, (hE H locs hI).moved hK.2.2.2 hW.alike⟩, hK.warm hW⟩⟩ rfl hn hh.1 hstk (lv_room (Nat.le_of_ble_eq_true hs)) hd ⟨(by show cs + rmY.cells ≤ (kR K).cells; rw [hk.2.2.2.2.2.2.2]; exact hcs.1), (by show sl + rmY.slots ≤ (kR K).slots; rw [hk.2.2.2.2.2.2.2]; exact hcs.2)⟩ T hT X
  cases hv
  obtain ⟨t2, a1, b1⟩ := kk r hr T'.heap (locs ++ L) lsA ⟨H, locs, hI, by rw [e1]; exact hRv, by rw [e1]; exact hF, fun l hl => (List.mem_append.mp hl).elim Or.inl (fun h => Or.inr (hL l h))⟩ hh T' rfl X'
  exact ⟨t2, stp t2 a1, b1⟩
theorem x_initNB (hk : KOK K cc nL own rm ret) (hK : CK Γ (kS K)) (htr : K.2.1.stackTraces = false) {b : Nat} (hE : ∀ H locs, I H locs → gEb Γ tx b (kS K) H) {y : MethodName} {bytes : ByteArray} {maxL n idx : Nat} {rmY : Room} {stk : List Value} {a0 : Nat} (As : List Value) (st : List Value) {R : Heap → Heap → Prop} (hM : ∀ H locs, I H locs → NMetB Γ tx y bytes maxL rmY (.ref a0 :: As) H a0 b (R H)) {host : String} (hl : Cond.methodLinkNest own idx y host ∈ cnw) (hi : Cond.instanceMethod y ∈ lw_all) (hin : Cond.initialized y.cls ∈ lw_all) (hcd : Cond.code y bytes maxL none ∈ lw_all) (hnm : y.name = "<init>") (hy : y.cls ≠ "java/lang/invoke/MethodHandle" ∧ y.cls ≠ "java/lang/invoke/VarHandle" ∧ (parseMethodDescriptor y.desc).map (fun d => d.parameters.length) = some n) (hrm : rmFit maxL rmY rm = true) (hn : As.length = n) (hs : Nat.ble ((st.map fun v => v.category).sum) 8 = true) (hd : decode cc pc = .ok (.invokespecial idx, 3)) (hstk : stk = As.reverse ++ .ref a0 :: st) (hcs : cs + rmY.cells ≤ rm.cells ∧ sl + rmY.slots ≤ rm.slots)
    (kk : GGo K Q comp nL (fun H1 locs1 => ∃ H locs, I H locs ∧ R H H1 ∧ pFr a0 H H1 ∧ ∀ l ∈ locs1, l ∈ locs ∨ xFr a0 H.size l.base) (cs + rmY.cells) (sl + rmY.slots) (pc + 3) ls st) : GGo K Q comp nL I cs sl pc ls stk := by
  intro r hr H locs lsA hI hh T hT X
  obtain ⟨v', st₀, t, T', L, h0, X', hL, e1, e2, ⟨hv, hRv, hF⟩, stp⟩ := va_runIN (g := F0 (kM K) pc lsA stk) (As := As) (rest := st) (cc := cc) (nL := nL) (own := own) (Ts := lw_all) ⟨hk.1, hk.2.1, hk.2.2.1, hk.2.2.2.1, hk.2.2.2.2.1⟩ (hM H locs hI K.2.1 htr) ⟨va_cnB (host := host) n hk.2.2.2.2.1 (lw_meth hcd) rfl rfl rfl (hK.2.1 _ hl) (hk.2.2.2.2.1 _ hin) hy (rmFit_ok hrm hk.2.2.2.2.2.2.2), hnm, hk.2.2.2.2.1 _ hi⟩ ⟨NMetB_blind, fun U hU hW => ⟨rfl, ⟨hU, (hE H locs hI).moved hK.2.2.2 hW.alike⟩, hK.warm hW⟩⟩ rfl hn hh.1 hstk (lv_room (Nat.le_of_ble_eq_true hs)) hd ⟨(by show cs + rmY.cells ≤ (kR K).cells; rw [hk.2.2.2.2.2.2.2]; exact hcs.1), (by show sl + rmY.slots ≤ (kR K).slots; rw [hk.2.2.2.2.2.2.2]; exact hcs.2)⟩ T hT X
  cases hv
  obtain ⟨t2, a1, b1⟩ := kk r hr T'.heap (locs ++ L) lsA ⟨H, locs, hI, by rw [e1]; exact hRv, by rw [e1]; exact hF, fun l hl => (List.mem_append.mp hl).elim Or.inl (fun h => Or.inr (hL l h))⟩ hh T' rfl X'
  exact ⟨t2, stp t2 a1, b1⟩
/-- new ArrayList(): within a constructor's world -/
theorem nw_list (hΓ : DLX Γ) (hk : KOK K cc nL own rm ret) (hK : CK Γ (kS K)) (htr : K.2.1.stackTraces = false) {a b ix iy : Nat} {E : Heap → Prop} (hb : ∀ H locs, NW K a E H locs → gEb Γ tx b (kS K) H) (hE : ∀ H H1, E H → H.size ≤ H1.size → (∀ q : Nat, q < H.size → H1[q]? = H[q]?) → E H1) (hcl : Cond.classLink own ix RJ3 ∈ lw_all) (hl : Cond.methodLink own iy yJ3_init ∈ lw_all) (hrm : rmFit 1 rm_x_r2 rm = true) (hs : Nat.ble ((st.map fun v => v.category).sum) 6 = true) (hc : cs + 1 ≤ rm.cells) (hs2 : sl + 3 ≤ rm.slots) (hd1 : decode cc pc = .ok (.new ix, 3)) (hd2 : decode cc (pc + 3) = .ok (.dup, 1)) (hd3 : decode cc (pc + 4) = .ok (.invokespecial iy, 3))
    (kk : ∀ q, GGo K Q comp nL (NW K a (fun H => E H ∧ LHt Γ H q (gA Γ 600) [] ∧ (kS K).heap.size ≤ q ∧ H.size = q + 1 ∧ ∃ H' : Heap, E H' ∧ H'.size = q)) (cs + 1) (sl + 3) (pc + 7) ls (.ref q :: st)) : GGo K Q comp nL (NW K a E) cs sl pc ls st := by
  refine x_new (ci := 15) (N := 3) (fs := [.int 0, .null, .int 0]) hk hK rfl in_J3 tyJ3 tyJ3_ok hcl q371 q133 (fun j hj => by
    rcases (show j = 0 ∨ j = 1 ∨ j = 2 by omega) with rfl | rfl | rfl <;> rfl) hc hs2 hd1 (fun q => ?_)
  refine g_dup hk hd2 rfl ?_
  refine g_I (I' := fun H1 locs => ∃ H, NW K a E H locs ∧ q = H.size ∧ H1.size = H.size + 1 ∧ (∀ x, x < H.size → H1[x]? = H[x]?) ∧ va_at (gD Γ) ccl (q, .inr (15, [.int 0, .null, .int 0])) H1) (fun H1 locs hI => ?_) ?_
  · obtain ⟨H, h1, h2, h3, h4, h5, -⟩ := hI
    exact ⟨H, h1, h2, h3, h4, h5⟩
  refine x_init (tx := tx) (rmY := rm_x_r2) (R := fun H H1 => LHt Γ H1 q (gA Γ 600) [] ∧ H1.size = H.size) hk hK htr (fun H1 locs hI => ?_) [] (.ref q :: st) (fun H1 locs hI => ?_) hl q373 q133 q374 rfl hi_J3 hrm rfl ?_ hd3 rfl ⟨hc, hs2⟩ ?_
  · obtain ⟨H, h1, h2, h3, h4, h5⟩ := hI
    exact ((hb H locs h1).put (by omega) (fun x hx _ => h4 x hx)).ge hK.2.2.2
  · obtain ⟨H, h1, h2, h3, h4, h5⟩ := hI
    exact n_J3 hΓ h5
  · have := Nat.le_of_ble_eq_true hs
    refine Nat.ble_eq.mpr ?_
    rw [List.map_cons, List.sum_cons]
    show 1 + (st.map fun v => v.category).sum ≤ 8
    omega
  · refine g_I (fun H1 locs1 hI => ?_) (kk q)
    obtain ⟨H2, locs2, ⟨H, h1, h2, h3, h4, h5⟩, h6, h7, h8⟩ := hI
    have hold : ∀ x : Nat, x < H.size → H1[x]? = H[x]? := fun x hx => by rw [h7.2 x (by omega) (by omega), h4 x hx]
    refine ⟨h1.1.trans ⟨by omega, fun x hx _ => hold x hx⟩, fun z hz => ?_, hE H H1 h1.2.2 (by omega) hold, h6.1, by rw [h2]; exact h1.1.1, by omega, H, h1.2.2, h2.symm⟩
    have h9 := h1.1.1
    rcases h8 z hz with h | h | h
    · exact h1.2.1 z h
    · exact Or.inr (by rw [h, h2]; exact h9)
    · exact Or.inr (by omega)
end NB
