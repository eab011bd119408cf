/-! text(), walked -/
set_option maxRecDepth 100000
abbrev hhT : List (Nat × Nat × Nat × Nat) := [(30, 62, 70, 125), (30, 62, 96, 0), (70, 89, 96, 0), (96, 98, 96, 0)]
theorem met_ofWH {l : Launch} {y : MethodName} {ws ws' : List Cond} {rm : Room} {Pc : Array Value → State → Prop} {Qc : Array Value → State → Outcome → State → Prop} {mc ms : Nat} {free : Addr → Prop} {cc : ByteArray} {maxL : Nat} {ret : Option FieldType} {hh : List (Nat × Nat × Nat × Nat)}
    (hy : plainName y.cls = true) (hw : ws = Cond.codeWith y cc maxL ret hh :: ws')
    (body : ∀ p e s m args below meth c s₁, BodyLoose p l y (headSpec ws rm) cc maxL ret e s m args below meth c s₁ → c.maxLocals = maxL → Pc args s →
      W p l e (headSpec ws rm).room s m args below meth c s.heap [] 0 0 (MQ below Qc args s mc ms free) (entryFrame m args maxL)) : Met l y ws rm Pc Qc mc ms free := by
  refine MetFree.of_bodyS (code := cc) (maxLocals := maxL) (ret := ret) hy ?_ ?_
  · intro args s m h hn
    obtain ⟨m9, meth, c, hn9, h1, h2, h3, h4, -, h5, h6, -⟩ := Cond.codeWith_spec (atoms_spec (ws := ws) h _ (by rw [hw]; exact List.mem_cons_self))
    cases hn.symm.trans hn9
    exact ⟨meth, c, h1, h2, h3, h4, h5, h6⟩
  · intro p e s m args below meth c s₁ B hml hP _
    have hh0 : s₁.heap = s.heap := by rw [B.state]; rfl
    obtain ⟨t, a1, o, b1, b2, b3⟩ := body p e s m args below meth c s₁ B hml hP s₁ hh0 (Stand.of_body B)
    exact ⟨t, o, a1, b1, b2, b3⟩
def TxMet (Γ : CG) (rm : Room) (σ : CS) (res : Int32 → CS → Prop) : Prop :=
  ∀ (l : Launch) (sz : Nat), l.stackTraces = false → Met l yX0_text (wsW_ yX0_text cX0_text 5 (some .int) hhT) rm (cPc Γ [.ref (gA Γ 300)] σ sz) (fun a st oc t => ∃ v σ', res v σ' ∧ cQc Γ (some (.int v)) σ' a st oc t) rm.cells rm.slots (cAc Γ sz)
def xtQ (K : KT) (Γ : CG) (rm : Room) (res : Int32 → CS → Prop) : Unit → State → Prop := fun _ => MQ (kB K) (fun a st oc t => ∃ v σ', res v σ' ∧ cQc Γ (some (.int v)) σ' a st oc t) (kA K) (kS K) rm.cells rm.slots (cAc Γ (kS K).heap.size)
theorem text_met {Γ : CG} {rm : Room} {σ : CS} {res : Int32 → CS → Prop} (body : ∀ K : KT, KOK K cX0_text 5 RX0 rm (some .int) → CK Γ (kS K) → (kC K).exceptionTable.toList = tableOf hhT → K.2.1.stackTraces = false → GGo K (xtQ K Γ rm res) (some ()) 5 (CI Γ (kS K) σ) 0 0 0 [(0, .ref (gA Γ 300))] []) : TxMet Γ rm σ res := by
  intro l sz hst
  refine met_ofWH (cc := cX0_text) (maxL := 5) (ret := some .int) (hh := hhT) (by decide) rfl ?_
  intro p e s m args below meth c s₁ B hml hv
  obtain ⟨rfl, hsz, hP, hE, hKK⟩ := hv
  subst hsz
  have hts := atoms_spec (ws := wsW_ yX0_text cX0_text 5 (some .int) hhT) B.pre
  have hown : s.vm.findClass yX0_text.cls = some m.cls := findClass_of_methodNamed B.named
  have hTab := vx_table (x := yX0_text) B (hts _ List.mem_cons_self)
  rw [lg_entry_eq]
  exact body (p, l, e, (headSpec (wsW_ yX0_text cX0_text 5 (some .int) hhT) rm).room, s, m, [Value.ref (gA Γ 300)].toArray, below, meth, c) ⟨B.exec, B.bytes, hml, hown, fun w h => hts w (List.mem_cons_of_mem _ h), B.notSynchronized, B.returns, rfl⟩ hKK hTab hst () rfl s.heap [] _ ⟨hP, hE, cFr.rf, fun _ h => by cases h⟩ (lv_entry [Value.ref (gA Γ 300)] (Nat.le_of_ble_eq_true rfl))
theorem xt_iret {Γ : CG} {K : KT} {rm : Room} {res : Int32 → CS → Prop} {nL cs sl pc : Nat} {ls : List (Nat × Value)} {cc : ByteArray} {own : String} {σ : CS} {x : Int32} (hk : KOK K cc nL own rm (some .int)) (hK : CK Γ (kS K)) (hv : res x σ) (hd : decode cc pc = .ok (.ireturn, 1)) (h1 : cs ≤ rm.cells) (h2 : sl ≤ rm.slots) : GGo K (xtQ K Γ rm res) (some ()) nL (CI Γ (kS K) σ) cs sl pc ls [.int x] := by
  intro r hr H locs lsA hI hh
  refine W.widen h1 h2 ?_
  exact W.iret hk.1 hk.2.1 hk.2.2.2.2.2.2.1 (fun t ht hW => ⟨x, σ, hv, cI_end hK.2.2.2 hI ht hW⟩) hI.2.2.2 hd hk.2.2.2.2.2.1
def tX0 : TKS := (0, 0, 0, 0, 0, 0)
def tA1 (σ : CS) : CS := dI (dI σ 4 0) 5 (-1)
def tE (σ : CS) (e : Int32 × Int32) : CS := dI (dI (dI (tA1 σ) 4 e.1) 5 e.2) 3 0
def tX3 (σ : CS) (T : Tx) (q : Nat) : CS := ((tA1 σ).1, (tA1 σ).2.1, va_up σ.2.2.1 0 (va_up (σ.2.2.1 0) (cA σ 0 1).toNatClampNeg (some q)), va_up σ.2.2.2 q T)
def tR (σ : CS) (T : Tx) (q : Nat) : CS := eA (dI (tX3 σ T q) 3 0) 0 1 (cA σ 0 1 + 1)
def textR (σ : CS) (f : Nat → KRs Tx) (v : Int32) (σ' : CS) : Prop :=
  (cA σ 0 1 = 4 ∧ v = -1 ∧ σ' = σ) ∨ (cA σ 0 1 ≠ 4 ∧ ∃ a, (∃ e, (f a).1 = .inl e ∧ v = -1 ∧ σ' = tE σ e) ∨ ∃ T τ q, (f a).1 = .inr (T, τ) ∧ v = cA σ 0 1 + 1 - 1 ∧ σ' = tR σ T q ∧ ∀ w j, w < 3 → j < 4 → cT σ w j ≠ some q)
def DTT (Γ : CG) : Prop := DLX Γ ∧ ∀ (tx : TXs Tx) (U : State) (H : Heap) (i q : Nat) (T : Tx), CK Γ U → gE Γ tx U H → i < 4 → TextAt Γ H q T → (∀ w j, w < 3 → j < 4 → tx.1 w j ≠ some q) → gE Γ (va_up tx.1 0 (va_up (tx.1 0) i (some q)), va_up tx.2 q T) U H
theorem TextS.at {Γ : CG} {s k q : Nat} {H : Heap} {T : Tx} (hs : ∀ a, s ≤ a → ¬ cSt Γ a) (hk : k ≤ TD) (h : TextS Γ s k H q T) : TextAt Γ H q T := by
  obtain ⟨la, dl, a, lq, es, n, ⟨h1, h2, h3⟩, ⟨⟨h4, h5, h6⟩, h7, h8⟩, h9, h10, h11⟩ := h
  refine ⟨hs _ h4, la, dl, nI n, lq, es, h1, hs _ h5, h2, fun i hi => ?_, h3.list (hs _ h6) (fun e => hs _ (h8 e).1), h10, fun k y t z1 z2 => ?_⟩
  · rcases h9 i hi with z | ⟨x, y, z1, z2, z3⟩
    · exact Or.inl z
    · exact Or.inr ⟨x, y, z1, z2, (z3.kept (fun b _ w => ⟨hs b w.1, rfl⟩)).up hk⟩
  · obtain ⟨w1, w2⟩ := h11 k y t z1 z2
    exact ⟨hs _ w1.1, w2⟩
def rm_c_text (C S : Nat) : Room := { frames := 135, cells := C + 1, slots := S + 8, locals := 6600 }
theorem wr_ne {Γ : CG} {U : State} (hK : CK Γ U) {H : Heap} {q : Nat} {fs gs : List Value} (h : va_at (gD Γ) ccl (q, .inr (4, fs)) H) (h2 : va_at (gD Γ) ccl (gA Γ 300, .inr (0, gs)) H) : q ≠ gA Γ 300 := by
  intro e
  obtain ⟨c1, a1, -, a3⟩ := va_recv (q0 := 0) (ci := 4) hK.1 (va_P1 h) rfl rfl
  obtain ⟨c2, b1, -, b3⟩ := va_recv (q0 := 0) (ci := 0) hK.1 (va_P1 h2) rfl rfl
  rw [e] at a1
  cases a1.symm.trans b1
  obtain ⟨k1, d1, d2⟩ := Vm.findClass_spec a3
  obtain ⟨k2, f1, f2⟩ := Vm.findClass_spec b3
  cases d1.symm.trans f1
  exact absurd (d2.symm.trans f2) (by decide)
theorem hv_x3_read : yX3_read.cls = RX3 ∧ yX3_read.cls ≠ "java/lang/invoke/MethodHandle" ∧ yX3_read.cls ≠ "java/lang/invoke/VarHandle" ∧ (parseMethodDescriptor yX3_read.desc).map (fun d => d.parameters.length) = some 0 := hv_k_read
theorem k_text (Γ : CG) (hΓ : DTT Γ) (σ : CS) (f : Nat → KRs Tx) (C S : Nat) (hf : cA σ 0 1 ≠ 4 → inb (cA σ 0 1) 4 = true ∧ ∀ a, K_read (a, cI σ 3, cA σ 200) tX0 = some (f a) ∧ (f a).2.1 ≤ C ∧ (f a).2.2 ≤ S) : TxMet Γ (rm_c_text C S) σ (textR σ f) := by
  refine text_met (fun K hk hK hTab htr => ?_)
  have hO := hK.2.2.2
  have hX := hΓ.1.1.1.1.1.x hK
  refine g_aload_n (pc := 0) hk dX0_text_0 rfl ?_
  refine c_getR (pc := 1) hk hK cr_0 cf_0 dX0_text_1 ?_
  refine c_getS (pc := 4) (w := 0) hk hK (by decide) sr_0 sn_0 dX0_text_4 ?_
  refine g_iconst (pc := 7) (v := 1) hk dX0_text_7 rfl ?_
  refine c_ialdC (pc := 8) (k := 0) (j := 1) hk hK cav_0 rfl rfl dX0_text_8 ?_
  refine g_iconst (pc := 9) (v := 4) hk dX0_text_9 rfl ?_
  by_cases h4 : cA σ 0 1 = 4
  · refine g_yes (c := cA σ 0 1 = 4) h4 ?_
    refine g_icmp_ne (pc := 10) (tgt := 15) hk dX0_text_10 rfl g_none ?_
    refine g_iconst (pc := 13) (v := (-1)) hk dX0_text_13 rfl ?_
    exact xt_iret (pc := 14) hk hK (Or.inl ⟨h4, rfl, rfl⟩) dX0_text_14 (Nat.zero_le _) (Nat.zero_le _)
  refine g_no (c := cA σ 0 1 = 4) h4 ?_
  refine g_icmp_ne (pc := 10) (tgt := 15) hk dX0_text_10 rfl ?_ g_none
  obtain ⟨hin, hrd⟩ := hf h4
  refine g_aload_n (pc := 15) hk dX0_text_15 rfl ?_
  refine c_getI (pc := 16) hk hK ci_3 cf_3 dX0_text_16 ?_
  refine g_istore_n (pc := 19) (i := 1) hk dX0_text_19 rfl (by decide) rfl ?_
  refine g_aload_n (pc := 20) hk dX0_text_20 rfl ?_
  refine g_iconst (pc := 21) (v := 0) hk dX0_text_21 rfl ?_
  refine c_putI9 (pc := 22) hk hK ci_4 cf_4 dX0_text_22 ?_
  refine g_aload_n (pc := 25) hk dX0_text_25 rfl ?_
  refine g_iconst (pc := 26) (v := (-1)) hk dX0_text_26 rfl ?_
  refine c_putI9 (pc := 27) hk hK ci_5 cf_5 dX0_text_27 ?_
  refine g_aload_n (pc := 30) hk dX0_text_30 rfl ?_
  refine c_getR (pc := 31) hk hK cr_0 cf_0 dX0_text_31 ?_
  refine c_getS (pc := 34) (w := 0) hk hK (by decide) sr_10 sn_10 dX0_text_34 ?_
  refine g_aload_n (pc := 37) hk dX0_text_37 rfl ?_
  refine c_getR (pc := 38) hk hK cr_0 cf_0 dX0_text_38 ?_
  refine c_getS (pc := 41) (w := 0) hk hK (by decide) sr_0 sn_0 dX0_text_41 ?_
  refine g_iconst (pc := 44) (v := 1) hk dX0_text_44 rfl ?_
  refine c_ialdC (pc := 45) (k := 0) (j := 1) hk hK cav_0 rfl rfl dX0_text_45 ?_
  refine x_new (pc := 46) (ci := 2) (N := 8) (fs := [.null, .int 0, .int 0, .int 0, .int 0, .int 0, .int 0, .int 0]) hk hK rfl in_X3 tyX3 tyX3_ok q327 q328 q129 (fun j hj => by
    rcases (show j = 0 ∨ j = 1 ∨ j = 2 ∨ j = 3 ∨ j = 4 ∨ j = 5 ∨ j = 6 ∨ j = 7 by omega) with rfl | rfl | rfl | rfl | rfl | rfl | rfl | rfl <;> rfl) (by show 0 + 1 ≤ C + 1; omega) (by show 0 + 8 ≤ S + 8; omega) dX0_text_46 (fun tk => ?_)
  refine g_at (fun H1 locs1 hI => ?_)
  obtain ⟨H0, hI0, htk, hz1, ho1, hv1, -⟩ := hI
  have hst0 : ∀ b, H0.size ≤ b → ¬ cSt Γ b := fun b hb hc => by have := hI0.1.lt hc; omega
  have hz0 := hI0.2.2.1.1
  have same1 : ∀ b, cSt Γ b → H1[b]? = H0[b]? := fun b hb => ho1 b (hI0.1.lt hb)
  have c300 : cSt Γ (gA Γ 300) := ⟨300, rfl, rfl⟩
  have c200 : cSt Γ (gA Γ 200) := ⟨200, rfl, rfl⟩
  have c90 : cSt Γ (gA Γ 90) := ⟨90, rfl, rfl⟩
  have hW1 : CW Γ (tA1 σ) H1 := hI0.1.fr same1
  have fr1 : cFr Γ H0 H1 := ⟨by omega, fun b hb _ => ho1 b hb⟩
  refine g_dup (pc := 49) hk dX0_text_49 rfl ?_
  refine g_aload_n (pc := 50) hk dX0_text_50 rfl ?_
  refine x_get (pc := 51) (ci := 0) (fs := cfx Γ (tA1 σ)) hk hK rfl in_X0 (fun _ _ e => by rw [e.1]; exact hW1.2.2.2.2.1) 2 (by decide) cf_2 (Or.inl rfl) rfl dX0_text_51 ?_
  refine g_iload_n (pc := 54) hk dX0_text_54 rfl ?_
  refine x_init (tx := σ.2.2) (pc := 55) (rmY := rm_x_tk) (R := fun H H2 => va_at (gD Γ) ccl (tk, .inr (2, [.ref (gA Γ 200), .int (cI σ 3), .int 0, .int 0, .int 0, .int 0, .int 0, .int 0])) H2 ∧ H2.size = H.size) hk hK htr (fun H locs e => by rw [e.1]; exact hO.2.1 _ _ _ _ fr1 hI0.2.1) [.ref (gA Γ 200), .int (cI σ 3)] [.ref tk, .int (cA σ 0 1), .ref (gA Γ 90)] (fun H locs e => by rw [e.1]; exact n_X3 _ hv1) q329 q330 q129 q331 rfl hi_X3 (rmFit_i (by show 2 + 1 ≤ 135; decide) (by show 8 + (3 + 11) + 80 ≤ 6600; decide)) rfl rfl dX0_text_55 rfl ⟨by show 0 + 1 + 0 ≤ C + 1; omega, by show 0 + 8 + 0 ≤ S + 8; omega⟩ ?_
  refine g_at (fun H2 locs2 hI => ?_)
  obtain ⟨H, locs, ⟨rfl, rfl⟩, ⟨hv2, hz2⟩, hF2, hlo2⟩ := hI
  have hn300 : ∀ b, cSt Γ b → b ≠ tk := fun b hb e => by have := hI0.1.lt hb; omega
  have same2 : ∀ b, b < H0.size → H2[b]? = H0[b]? := fun b hb => by rw [hF2.2 b (by omega) (by omega), ho1 b hb]
  have fr2 : cFr Γ H0 H2 := ⟨by omega, fun b hb _ => same2 b hb⟩
  have hlocs2 : ∀ l ∈ locs2, cAc Γ (kS K).heap.size l.base := fun l hl => by
    rcases hlo2 l hl with h | h | h
    · exact hI0.2.2.2 l h
    · exact Or.inr (by rw [h]; omega)
    · exact Or.inr (by omega)
  have hPG : PG Γ σ.2.2 (tk, cI σ 3, cA σ 200) (kS K) H2 := ⟨⟨H0, hI0.2.1, fr2, by rw [htk]; exact Nat.le_refl _⟩, by rw [same2 _ (hI0.1.lt c200)]; exact hI0.1.2.1 200 300 cbv_200, hn300 _ c200⟩
  obtain ⟨hr, hrC, hrS⟩ := hrd tk
  have htks : va_at (gD Γ) ccl ((tk, cI σ 3, cA σ 200).1, .inr (2, tkF Γ (tk, cI σ 3, cA σ 200) tX0)) H2 := hv2
  have hfit : rmFit 2 (rm_x_rd (f tk)) (rm_c_text C S) = true := rmFit_i (by show 130 + 1 ≤ 135; decide) (by show 8 + (2 + 11) + 6400 ≤ 6600; decide)
  have hcells : 0 + 1 + 0 + (f tk).2.1 ≤ C + 1 ∧ 0 + 8 + 0 + (f tk).2.2 ≤ S + 8 := ⟨by omega, by omega⟩
  have hmet := k_read (tx := σ.2.2) hΓ.1 htks hr
  rcases hfk : (f tk).1 with e | ⟨T, τ9⟩
  · rw [hfk] at hmet
    refine x_callC (pc := 58) (tgt := 70) (tx := σ.2.2) (π := (tk, cI σ 3, cA σ 200)) (e := e) (rmY := rm_x_rd (f tk)) hk hK hX hTab (by decide) (by decide) q326 rfl htr (fun H locs e9 => by rw [e9.1]; exact hPG) (x_rec hK (ci := 2) rfl (fun _ _ e9 => by rw [e9.1]; exact htks)) [] [.int (cA σ 0 1), .ref (gA Γ 90)] (fun H locs e9 => by rw [e9.1]; exact hmet) (lw_V q358 q359 q360 q129 q361) hv_k_read hfit rfl rfl dX0_text_58 rfl hcells (fun qe => ?_)
    refine g_at (fun H3 locs3 hI => ?_)
    obtain ⟨H, locs, ⟨rfl, rfl⟩, ⟨fs, hw, hw6, hw7⟩, hF3, hlo3⟩ := hI
    have same3 : ∀ b, b < H0.size → H3[b]? = H0[b]? := fun b hb => by rw [hF3.2 b (by omega) (show b ≠ tk by omega), same2 b hb]
    have hz3 := hF3.1
    have hC3 : CI Γ (kS K) (tA1 σ) H3 locs3 := hI0.next hO (hI0.1.fr (fun b hb => same3 b (hI0.1.lt hb))) rfl ⟨by omega, fun b hb _ => same3 b hb⟩ (fun l hl => by
      rcases hlo3 l hl with h | h | h
      · exact Or.inr (hlocs2 l h)
      · exact Or.inr (Or.inr (by rw [show l.base = tk from h]; omega))
      · exact Or.inr (Or.inr (by omega)))
    have hne := wr_ne hK hw hC3.1.2.2.2.2.1
    have hJ : ∀ A B : Heap, va_at (gD Γ) ccl (qe, .inr (4, fs)) A → (∀ q : Nat, q ≠ gA Γ 300 → B[q]? = A[q]?) → va_at (gD Γ) ccl (qe, .inr (4, fs)) B := fun A B h ho => h.kept (ho _ hne)
    refine g_I (I' := fun H locs => CI Γ (kS K) (tA1 σ) H locs ∧ va_at (gD Γ) ccl (qe, .inr (4, fs)) H) (fun _ _ e9 => by rw [e9.1, e9.2]; exact ⟨hC3, hw⟩) ?_
    refine g_astore_n (pc := 70) (i := 2) hk dX0_text_70 rfl (by decide) rfl ?_
    refine g_aload_n (pc := 71) hk dX0_text_71 rfl ?_
    refine g_aload_n (pc := 72) hk dX0_text_72 rfl ?_
    refine x_getN (pc := 73) hk hK (ci := 4) (host := RX0) rfl in_X5 (fun _ _ e9 => e9.2) 6 (by decide) cn_528 rfl hw6 dX0_text_73 ?_
    refine c_putJ (pc := 76) hJ hk hK ci_4 cf_4 dX0_text_76 ?_
    refine g_aload_n (pc := 79) hk dX0_text_79 rfl ?_
    refine g_aload_n (pc := 80) hk dX0_text_80 rfl ?_
    refine x_getN (pc := 81) hk hK (ci := 4) (host := RX0) rfl in_X5 (fun _ _ e9 => e9.2) 7 (by decide) cn_530 rfl hw7 dX0_text_81 ?_
    refine c_putJ (pc := 84) hJ hk hK ci_5 cf_5 dX0_text_84 ?_
    refine g_iconst (pc := 87) (v := (-1)) hk dX0_text_87 rfl ?_
    refine g_istore_n (pc := 88) (i := 3) hk dX0_text_88 rfl (by decide) rfl ?_
    refine g_aload_n (pc := 89) hk dX0_text_89 rfl ?_
    refine g_iconst (pc := 90) (v := 0) hk dX0_text_90 rfl ?_
    refine c_putJ (pc := 91) hJ hk hK ci_3 cf_3 dX0_text_91 ?_
    refine g_iload_n (pc := 94) hk dX0_text_94 rfl ?_
    refine g_I (I' := CI Γ (kS K) (tE σ e)) (fun _ _ e9 => e9.1) ?_
    exact xt_iret (pc := 95) hk hK (Or.inr ⟨h4, tk, Or.inl ⟨e, hfk, rfl, rfl⟩⟩) dX0_text_95 hcells.1 hcells.2
  · rw [hfk] at hmet
    refine x_callR (pc := 58) (tx := σ.2.2) (π := (tk, cI σ 3, cA σ 200)) (rmY := rm_x_rd (f tk)) (R := fun H v H3 => ∃ q, v = some (.ref q) ∧ TextS Γ H2.size 75 H3 q T) hk hK htr (fun H locs e9 => by rw [e9.1]; exact hPG) (x_rec hK (ci := 2) rfl (fun _ _ e9 => by rw [e9.1]; exact htks)) [] [.int (cA σ 0 1), .ref (gA Γ 90)] (fun H locs e9 => by rw [e9.1]; exact hmet) (lw_V q358 q359 q360 q129 q361) hv_k_read hfit rfl rfl dX0_text_58 rfl hcells (fun v => ?_)
    refine g_at (fun H3 locs3 hI => ?_)
    obtain ⟨H, locs, ⟨rfl, rfl⟩, ⟨q, rfl, hT⟩, hF3, hlo3⟩ := hI
    have same3 : ∀ b, b < H0.size → H3[b]? = H0[b]? := fun b hb => by rw [hF3.2 b (by omega) (show b ≠ tk by omega), same2 b hb]
    have hz3 := hF3.1
    have hTA : TextAt Γ H3 q T := hT.at (fun b hb => hst0 b (by omega)) (by decide)
    have hqs : H0.size ≤ q := by
      obtain ⟨la, dl, a, lq, es, n, -, ⟨⟨h9, -, -⟩, -⟩, -⟩ := hT
      omega
    have hfresh : ∀ w j, w < 3 → j < 4 → cT σ w j ≠ some q := fun w j hw hj e => by
      obtain ⟨-, la, dl, n, lq, es, z, -⟩ := (hΓ.1.1.1.1.2 _ _ _ hI0.2.1).2.2 w j q hw hj e
      have := z.lt
      omega
    have hC3 : CI Γ (kS K) (tA1 σ) H3 locs3 := hI0.next hO (hI0.1.fr (fun b hb => same3 b (hI0.1.lt hb))) rfl ⟨by omega, fun b hb _ => same3 b hb⟩ (fun l hl => by
      rcases hlo3 l hl with h | h | h
      · exact Or.inr (hlocs2 l h)
      · exact Or.inr (Or.inr (by rw [show l.base = tk from h]; omega))
      · exact Or.inr (Or.inr (by omega)))
    obtain ⟨la, dl, a9, lq, es, n9, ⟨hq4, -, -⟩, -⟩ := hT
    refine x_aastT (pc := 61) (n := 4) (j := (cA σ 0 1).toNatClampNeg) (fv := cT σ 0) hk hK (fun _ _ e9 => by rw [e9.1]; exact hC3.1.2.2.2.1 0 (by decide)) (x_rec hK (ci := 3) rfl (fun _ _ e9 => by rw [e9.1]; exact hq4)) hin rfl dX0_text_61 ?_
    refine g_I (I' := CI Γ (kS K) (tX3 σ T q)) (fun H4 locs4 hI => ?_) ?_
    · obtain ⟨H, locs, ⟨rfl, rfl⟩, h5, h6, h7, h8⟩ := hI
      have hW4 : CW Γ (dT (tA1 σ) 0 (va_up (cT σ 0) (cA σ 0 1).toNatClampNeg (some q))) H4 := hC3.1.txt hO (w := 0) (by decide) h5 h7
      have hF4 : cFr Γ H H4 := cFr.put (k := 90) rfl h6 h7
      refine ⟨hW4, ?_, hC3.2.2.1.trans hF4, fun l hl => (h8 l hl).elim (hC3.2.2.2 l) (fun e9 => Or.inl (by rw [e9]; exact c90))⟩
      exact hO.2.1 _ _ _ _ hF4 (hΓ.2 σ.2.2 (kS K) H _ q T hK hC3.2.1 (inb_lt hin) hTA hfresh)
    refine g_aload_n (pc := 62) hk dX0_text_62 rfl ?_
    refine g_iconst (pc := 63) (v := 0) hk dX0_text_63 rfl ?_
    refine c_putI9 (pc := 64) hk hK ci_3 cf_3 dX0_text_64 ?_
    refine g_goto (pc := 67) (tgt := 106) hk dX0_text_67 rfl ?_
    refine g_aload_n (pc := 106) hk dX0_text_106 rfl ?_
    refine c_getR (pc := 107) hk hK cr_0 cf_0 dX0_text_107 ?_
    refine c_getS (pc := 110) (w := 0) hk hK (by decide) sr_0 sn_0 dX0_text_110 ?_
    refine g_iconst (pc := 113) (v := 1) hk dX0_text_113 rfl ?_
    refine g_dup2 (pc := 114) hk dX0_text_114 rfl rfl ?_
    refine c_ialdC (pc := 115) (k := 0) (j := 1) hk hK cav_0 rfl rfl dX0_text_115 ?_
    refine g_iconst (pc := 116) (v := 1) hk dX0_text_116 rfl ?_
    refine g_iadd (pc := 117) hk dX0_text_117 ?_
    refine c_iast9 (pc := 118) (k := 0) (j := 1) hk hK cav_0 rfl rfl dX0_text_118 ?_
    refine g_aload_n (pc := 119) hk dX0_text_119 rfl ?_
    refine c_getR (pc := 120) hk hK cr_0 cf_0 dX0_text_120 ?_
    refine c_getS (pc := 123) (w := 0) hk hK (by decide) sr_0 sn_0 dX0_text_123 ?_
    refine g_iconst (pc := 126) (v := 1) hk dX0_text_126 rfl ?_
    refine c_ialdC (pc := 127) (k := 0) (j := 1) hk hK cav_0 rfl rfl dX0_text_127 ?_
    refine g_iconst (pc := 128) (v := 1) hk dX0_text_128 rfl ?_
    refine g_isub (pc := 129) hk dX0_text_129 ?_
    exact xt_iret (pc := 130) hk hK (Or.inr ⟨h4, tk, Or.inr ⟨T, τ9, q, hfk, rfl, rfl, hfresh⟩⟩) dX0_text_130 hcells.1 hcells.2
