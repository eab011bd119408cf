/-! after, choice, ask -/
set_option maxRecDepth 100000
theorem PSt.and {π : PPar} {A B : Heap → Prop} (h : PSt π A) (h2 : PSt π B) : PSt π (fun H => A H ∧ B H) := fun H H1 e hF => ⟨h H H1 e.1 hF, h2 H H1 e.2 hF⟩
section PYS
variable {ρ : Type} {K : KT} {Q : ρ → State → Prop} {comp : Option ρ} {nL : Nat} {cs sl pc : Nat} {ls : List (Nat × Value)} {st stk : List Value} {cc : ByteArray} {rm : Room} {ret : Option FieldType} {Γ : CG} {π : PPar} {τ τ' : TKS} {tx : TXs Tx} {E : Heap → Prop} {view : ρ → PRes} {r0 : ρ}
theorem py_subD {α : Type} {inj : α → Den ⊕ ADen} {y : MethodName} {bytes : ByteArray} {maxL idx F L k a b : Nat} {rt : FieldType} {f : TKS → Option (KRs α)} {d : α} (hk : KOK K cc nL RX3 rm ret) (hK : CK Γ (kS K)) (htr : K.2.1.stackTraces = false) (hG : PG Γ tx π (kS K) (kS K).heap) (hE : PSt π E) (hS : subOK Γ tx π inj y bytes maxL rt F L k f) (hf : f τ = some (.inr (d, τ'), a, b)) (st : List Value) (hGd : GoodIn lw_all (wsV RX3 idx RX3 y (ws_ y bytes maxL (some rt)))) (hy : y.cls = RX3 ∧ y.cls ≠ "java/lang/invoke/MethodHandle" ∧ y.cls ≠ "java/lang/invoke/VarHandle" ∧ (parseMethodDescriptor y.desc).map (fun d => d.parameters.length) = some 0) (hF : F + 1 ≤ rm.frames) (hL : 8 + (maxL + 11) + L ≤ rm.locals) (hs : Nat.ble ((st.map fun v => v.category).sum) 8 = true) (hd : decode cc pc = .ok (.invokevirtual idx, 3)) (hstk : stk = .ref π.1 :: st) (hcs : cs + a ≤ rm.cells ∧ sl + b ≤ rm.slots)
    (kk : ∀ q, GGo K Q comp nL (PX K Γ π τ' (fun H => E H ∧ DNE Γ (kS K).heap.size k (inj d) q H)) (cs + a) (sl + b) (pc + 3) ls (.ref q :: st)) : GGo K Q comp nL (PX K Γ π τ E) cs sl pc ls stk :=
  py_subR (tx := tx) hk hK htr hG hE hS hf st hGd hy hF hL hs hd hstk hcs (fun q => g_I (fun H locs hI => by
    obtain ⟨h1, h2, h3, h4, H', -, h5, h6, h7⟩ := hI
    exact ⟨h1, h2, h3, h4, DNE.of h5.1 h7⟩) (kk q))
theorem py_opensR (hΓ : DKX Γ) (hk : KOK K cc nL RX3 rm ret) (hK : CK Γ (kS K)) (htr : K.2.1.stackTraces = false) (hG : PG Γ tx π (kS K) (kS K).heap) (hE : PSt π E) (hf : K_opens π τ = some (.inr τ')) (hF : 9 ≤ rm.frames) (hL : 540 ≤ rm.locals) (hs : Nat.ble ((st.map fun v => v.category).sum) 8 = true) (hd : decode cc pc = .ok (.invokevirtual 146, 3)) (hcs : cs + 1 ≤ rm.cells ∧ sl + 8 ≤ rm.slots) (kk : GGo K Q comp nL (PX K Γ π τ' E) (cs + 1) (sl + 8) (pc + 3) ls st) : GGo K Q comp nL (PX K Γ π τ E) cs sl pc ls (.ref π.1 :: st) :=
  px_callR (tx := tx) (rmY := rm_x_wn) (E' := fun _ => E) (V := fun v => v = none) (R := fun _ v H1 => v = none ∧ va_at (gD Γ) ccl (π.1, .inr (2, tkF Γ π τ')) H1) hk hK htr hG [] st (fun H ht _ _ => k_opens hΓ ht hf) (fun H v H1 h1 _ h3 h4 => ⟨h4.1, h4.2, hE _ _ h1 h3⟩) (lw_V q586 q588 qs11 q129 q589) hv_k_opens (rmFit_i hF (by show 8 + (1 + 11) + 500 ≤ _; omega)) rfl hs hd rfl hcs (fun v hv => by subst hv; exact kk)
theorem py_opensE {e : Int32 × Int32} (hΓ : DKX Γ) (hk : KOK K cc nL RX3 rm ret) (hK : CK Γ (kS K)) (htab : noTab K) (htr : K.2.1.stackTraces = false) (hG : PG Γ tx π (kS K) (kS K).heap) (hview : view r0 = .inl e) (hf : K_opens π τ = some (.inl e)) (hF : 9 ≤ rm.frames) (hL : 540 ≤ rm.locals) (hs : Nat.ble ((st.map fun v => v.category).sum) 8 = true) (hd : decode cc pc = .ok (.invokevirtual 146, 3)) (hcs : cs + 1 ≤ rm.cells ∧ sl + 8 ≤ rm.slots) : GGo K (xQ K Γ π rm view) (some r0) nL (PX K Γ π τ E) cs sl pc ls (.ref π.1 :: st) :=
  px_callE (tx := tx) (rmY := rm_x_wn) hk hK htab htr hG hview [] st (fun H ht _ _ => k_opens hΓ ht hf) (lw_V q586 q588 qs11 q129 q589) hv_k_opens (rmFit_i hF (by show 8 + (1 + 11) + 500 ≤ _; omega)) rfl hs hd rfl hcs
theorem py_wantR {w : Int32} (hΓ : DKX Γ) (hk : KOK K cc nL RX3 rm ret) (hK : CK Γ (kS K)) (htr : K.2.1.stackTraces = false) (hG : PG Γ tx π (kS K) (kS K).heap) (hE : PSt π E) (hf : K_want π w τ = some (.inr τ')) (hF : 9 ≤ rm.frames) (hL : 540 ≤ rm.locals) (hs : Nat.ble ((st.map fun v => v.category).sum) 8 = true) (hd : decode cc pc = .ok (.invokevirtual 111, 3)) (hcs : cs + 1 ≤ rm.cells ∧ sl + 8 ≤ rm.slots) (kk : GGo K Q comp nL (PX K Γ π τ' E) (cs + 1) (sl + 8) (pc + 3) ls st) : GGo K Q comp nL (PX K Γ π τ E) cs sl pc ls (.int w :: .ref π.1 :: st) :=
  px_callR (tx := tx) (rmY := rm_x_wn) (E' := fun _ => E) (V := fun v => v = none) (R := fun _ v H1 => v = none ∧ va_at (gD Γ) ccl (π.1, .inr (2, tkF Γ π τ')) H1) hk hK htr hG [.int w] st (fun H ht _ _ => k_want hΓ ht hf) (fun H v H1 h1 _ h3 h4 => ⟨h4.1, h4.2, hE _ _ h1 h3⟩) (lw_V q721 q723 qs18 q129 q724) hv_k_want (rmFit_i hF (by show 8 + (2 + 11) + 500 ≤ _; omega)) rfl hs hd rfl hcs (fun v hv => by subst hv; exact kk)
theorem py_wantE {w : Int32} {e : Int32 × Int32} (hΓ : DKX Γ) (hk : KOK K cc nL RX3 rm ret) (hK : CK Γ (kS K)) (htab : noTab K) (htr : K.2.1.stackTraces = false) (hG : PG Γ tx π (kS K) (kS K).heap) (hview : view r0 = .inl e) (hf : K_want π w τ = some (.inl e)) (hF : 9 ≤ rm.frames) (hL : 540 ≤ rm.locals) (hs : Nat.ble ((st.map fun v => v.category).sum) 8 = true) (hd : decode cc pc = .ok (.invokevirtual 111, 3)) (hcs : cs + 1 ≤ rm.cells ∧ sl + 8 ≤ rm.slots) : GGo K (xQ K Γ π rm view) (some r0) nL (PX K Γ π τ E) cs sl pc ls (.int w :: .ref π.1 :: st) :=
  px_callE (tx := tx) (rmY := rm_x_wn) hk hK htab htr hG hview [.int w] st (fun H ht _ _ => k_want hΓ ht hf) (lw_V q721 q723 qs18 q129 q724) hv_k_want (rmFit_i hF (by show 8 + (2 + 11) + 500 ≤ _; omega)) rfl hs hd rfl hcs
/-- open, less one -/
theorem py_close (hk : KOK K cc nL RX3 rm ret) (hK : CK Γ (kS K)) (hE : PSt π E) (hd : decode cc pc = .ok (.putfield 77, 3)) (kk : GGo K Q comp nL (PX K Γ π (dOpen τ) E) cs sl (pc + 3) ls st) : GGo K Q comp nL (PX K Γ π τ E) cs sl pc ls (.int (τ.2.2.2.2.1 - 1) :: .ref π.1 :: st) :=
  px_77 (f := fun _ => comp) hk hK hE hd kk
end PYS
/-- .. and apart from the cell c -/
def DNX (Γ : CG) (s k c : Nat) (e : Den ⊕ ADen) (q : Nat) (H : Heap) : Prop := DAt Γ (fun a => s ≤ a ∧ a ≠ c) H k e q
theorem DNE.x {Γ : CG} {s k : Nat} {e : Den ⊕ ADen} {q : Nat} {H H1 : Heap} (h : DNE Γ s k e q H) (ho : ∀ x : Nat, x < H.size → H1[x]? = H[x]?) : DNX Γ s k H.size e q H1 := DAt.kept (fun a ha h2 => ⟨⟨h2, by omega⟩, ho a ha⟩) h
theorem DNX.put {Γ : CG} {s k c : Nat} {e : Den ⊕ ADen} {q : Nat} {H H1 : Heap} (h : DNX Γ s k c e q H) (ho : ∀ x : Nat, x ≠ c → H1[x]? = H[x]?) : DNX Γ s k c e q H1 := DAt.kept (fun a ha h2 => ⟨h2, ho a h2.2⟩) h
theorem DNX.e {Γ : CG} {s k k' c : Nat} {e : Den ⊕ ADen} {q : Nat} {H : Heap} (h : DNX Γ s k c e q H) (hk : k ≤ k') : DAt Γ (fun a => s ≤ a) H k' e q := DAt.up (DAt.kept (fun a _ h2 => ⟨h2.1, rfl⟩) h) hk
theorem DNX.st {Γ : CG} {π : PPar} {s k c : Nat} {e : Den ⊕ ADen} {q : Nat} (hs : π.1 < s) : PSt π (DNX Γ s k c e q) := fun H H1 h hF => DAt.kept (fun a ha h2 => ⟨h2, hF.2 a ha (by have h3 : s ≤ a := h2.1; omega)⟩) h
section AFT
variable {Γ : CG} {tx : TXs Tx} {π : PPar}
theorem k_after (hΓ : DLX Γ) {F L k : Nat} {sub : TKS → Option (KRs Den)} (hS : subOK Γ tx π .inl yX3_one cX3_one 3 (.object "ShaveOfAnother$Sum") F L k sub) (hF : 24 ≤ F) (hL : 1200 ≤ L) : subOK Γ tx π .inl yX3_after cX3_after 3 (.object "ShaveOfAnother$Sum") (F + 1) (L + 40) (k + 1) (K_after π sub) := by
  intro H0 τ r ht hr
  refine x_met (view := fun r : KRs Den => vwS Γ π .inl H0 (k + 1) r.1) (comp := some r) (own := RX3) rfl (by decide) rfl (ls0 := [(0, .ref π.1)]) rfl (fun K hk hK htab htr hH hG => ?_) r rfl
  subst hH
  have ht9 := ht.lt
  refine px_in ?_ ht
  unfold K_after at hr
  refine g_aload_n (pc := 0) hk dX3_after_0 rfl ?_
  rcases obE_some hr with ⟨e, ho, h⟩ | ⟨τ1, ho, h⟩
  · cases h
    exact py_opensE (pc := 1) hΓ.1 hk hK htab htr hG rfl ho (by show 9 ≤ F + 1; omega) (by show 540 ≤ L + 40; omega) rfl dX3_after_1 ⟨by show 0 + 1 ≤ 1; omega, by show 0 + 8 ≤ 8; omega⟩
  have hc1 : 1 ≤ r.2.1 ∧ 8 ≤ r.2.2 := by
    rcases obK_some h with ⟨e, a, b, -, h⟩ | ⟨x, τ2, a, b, -, h⟩
    · cases h; exact ⟨Nat.le_add_right _ _, Nat.le_add_right _ _⟩
    rcases obE_some h with ⟨e, -, h⟩ | ⟨τ3, -, h⟩
    · cases h; exact ⟨by show 1 ≤ 1 + a + 1; omega, by show 8 ≤ 8 + b + 8; omega⟩
    rcases obK_some h with ⟨e, a1, b1, -, h⟩ | ⟨y, τ4, a1, b1, -, h⟩
    · cases h; exact ⟨by show 1 ≤ 1 + a + 1 + a1; omega, by show 8 ≤ 8 + b + 8 + b1; omega⟩
    · cases h; exact ⟨by show 1 ≤ 1 + a + 1 + a1 + 1; omega, by show 8 ≤ 8 + b + 8 + b1 + 2; omega⟩
  refine py_opensR (pc := 1) hΓ.1 hk hK htr hG PSt.tr ho (by show 9 ≤ F + 1; omega) (by show 540 ≤ L + 40; omega) rfl dX3_after_1 ⟨by show 0 + 1 ≤ r.2.1; omega, by show 0 + 8 ≤ r.2.2; omega⟩ ?_
  refine g_aload_n (pc := 4) hk dX3_after_4 rfl ?_
  rcases obK_some h with ⟨e, a, b, hx, h⟩ | ⟨x, τ2, a, b, hx, h⟩
  · cases h
    exact py_subE (pc := 5) hk hK htab htr hG rfl hS hx [] (lw_V q561 q563 qs8 q129 q564) hv_k_one (Nat.le_refl _) (by show 8 + (3 + 11) + L ≤ L + 40; omega) rfl dX3_after_5 rfl ⟨by show 0 + 1 + a ≤ 1 + a; omega, by show 0 + 8 + b ≤ 8 + b; omega⟩
  have hc2 : 1 + a + 1 ≤ r.2.1 ∧ 8 + b + 8 ≤ r.2.2 := by
    rcases obE_some h with ⟨e, -, h⟩ | ⟨τ3, -, h⟩
    · cases h; exact ⟨Nat.le_refl _, Nat.le_refl _⟩
    rcases obK_some h with ⟨e, a1, b1, -, h⟩ | ⟨y, τ4, a1, b1, -, h⟩
    · cases h; exact ⟨by show 1 + a + 1 ≤ 1 + a + 1 + a1; omega, by show 8 + b + 8 ≤ 8 + b + 8 + b1; omega⟩
    · cases h; exact ⟨by show 1 + a + 1 ≤ 1 + a + 1 + a1 + 1; omega, by show 8 + b + 8 ≤ 8 + b + 8 + b1 + 2; omega⟩
  refine py_subD (pc := 5) hk hK htr hG PSt.tr hS hx [] (lw_V q561 q563 qs8 q129 q564) hv_k_one (Nat.le_refl _) (by show 8 + (3 + 11) + L ≤ L + 40; omega) rfl dX3_after_5 rfl ⟨by show 0 + 1 + a ≤ r.2.1; omega, by show 0 + 8 + b ≤ r.2.2; omega⟩ (fun q1 => ?_)
  refine g_astore_n (pc := 8) (i := 1) hk dX3_after_8 rfl (by decide) rfl ?_
  refine g_aload_n (pc := 9) hk dX3_after_9 rfl ?_
  refine g_sipush (pc := 10) (v := 211) hk dX3_after_10 rfl ?_
  rcases obE_some h with ⟨e, hw, h⟩ | ⟨τ3, hw, h⟩
  · cases h
    exact py_wantE (pc := 13) hΓ.1 hk hK htab htr hG rfl hw (by show 9 ≤ F + 1; omega) (by show 540 ≤ L + 40; omega) rfl dX3_after_13 ⟨by show 0 + 1 + a + 1 ≤ 1 + a + 1; omega, by show 0 + 8 + b + 8 ≤ 8 + b + 8; omega⟩
  have st1 : PSt π (fun H => True ∧ DNE Γ (kS K).heap.size k (.inl x) q1 H) := PSt.tr.and (DNE.st ht9)
  refine py_wantR (pc := 13) hΓ.1 hk hK htr hG st1 hw (by show 9 ≤ F + 1; omega) (by show 540 ≤ L + 40; omega) rfl dX3_after_13 ⟨by show 0 + 1 + a + 1 ≤ r.2.1; omega, by show 0 + 8 + b + 8 ≤ r.2.2; omega⟩ ?_
  refine g_aload_n (pc := 16) hk dX3_after_16 rfl ?_
  rcases obK_some h with ⟨e, a1, b1, hy, h⟩ | ⟨y, τ4, a1, b1, hy, h⟩
  · cases h
    exact py_subE (pc := 17) hk hK htab htr hG rfl hS hy [] (lw_V q561 q563 qs8 q129 q564) hv_k_one (Nat.le_refl _) (by show 8 + (3 + 11) + L ≤ L + 40; omega) rfl dX3_after_17 rfl ⟨by show 0 + 1 + a + 1 + a1 ≤ 1 + a + 1 + a1; omega, by show 0 + 8 + b + 8 + b1 ≤ 8 + b + 8 + b1; omega⟩
  cases h
  refine py_subD (pc := 17) hk hK htr hG st1 hS hy [] (lw_V q561 q563 qs8 q129 q564) hv_k_one (Nat.le_refl _) (by show 8 + (3 + 11) + L ≤ L + 40; omega) rfl dX3_after_17 rfl ⟨by show 0 + 1 + a + 1 + a1 ≤ 1 + a + 1 + a1 + 1; omega, by show 0 + 8 + b + 8 + b1 ≤ 8 + b + 8 + b1 + 2; omega⟩ (fun q2 => ?_)
  refine g_astore_n (pc := 20) (i := 2) hk dX3_after_20 rfl (by decide) rfl ?_
  refine g_aload_n (pc := 21) hk dX3_after_21 rfl ?_
  refine g_dup (pc := 22) hk dX3_after_22 rfl ?_
  refine kg_77 (pc := 23) hk hK (fun _ _ e => e.1) dX3_after_23 ?_
  refine g_iconst (pc := 26) (v := 1) hk dX3_after_26 rfl ?_
  refine g_isub (pc := 27) hk dX3_after_27 ?_
  refine py_close (pc := 28) hk hK (st1.and (DNE.st ht9)) dX3_after_28 ?_
  refine py_new (pc := 31) (ci := 11) (N := 2) (fs := [.null, .null]) (E2 := fun c H => DNX Γ (kS K).heap.size k c (.inl x) q1 H ∧ DNX Γ (kS K).heap.size k c (.inl y) q2 H) hk hK rfl in_X12 tyX12 tyX12_ok q745 q746 q151 (fun j hj => by
    rcases (show j = 0 ∨ j = 1 by omega) with rfl | rfl <;> rfl) (by show 0 + 1 + a + 1 + a1 + 1 ≤ 1 + a + 1 + a1 + 1; omega) (by show 0 + 8 + b + 8 + b1 + 2 ≤ 8 + b + 8 + b1 + 2; omega) dX3_after_31 ht9 (fun H H1 hE _ ho _ => ⟨hE.1.2.x ho, hE.2.x ho⟩) (fun c => ?_)
  refine g_dup (pc := 34) hk dX3_after_34 rfl ?_
  refine g_aload_n (pc := 35) hk dX3_after_35 rfl ?_
  refine g_aload_n (pc := 36) hk dX3_after_36 rfl ?_
  refine py_rec (pc := 37) (ci := 11) (gs := [.ref q1, .ref q2]) hk hK htr hG [.ref q1, .ref q2] [.ref c] (fun H hf => n_X12 q1 q2 hf) cn_747 q748 q151 q749 rfl hi_X12 (by show 4 ≤ F + 1; omega) (by show 8 + (3 + 11) + 160 ≤ L + 40; omega) rfl rfl dX3_after_37 rfl ⟨by show 0 + 1 + a + 1 + a1 + 1 ≤ 1 + a + 1 + a1 + 1; omega, by show 0 + 8 + b + 8 + b1 + 2 ≤ 8 + b + 8 + b1 + 2; omega⟩ ht9 (fun H H1 hE _ ho => ⟨hE.1.put ho, hE.2.put ho⟩) ?_
  exact x_aretX (pc := 40) hk (Or.inl ⟨_, rfl⟩) rfl (fun H locs hI => ⟨⟨c, rfl, hI.1, Or.inr ⟨hI.2.2.2.2.2, Or.inr (Or.inr (Or.inl ⟨x, y, q1, q2, rfl, hI.2.2.2.2.1, hI.2.2.2.1.1.e (Nat.le_refl _), hI.2.2.2.1.2.e (Nat.le_refl _)⟩))⟩⟩, hI.2.1, hI.2.2.1⟩) dX3_after_40 (by show 0 + 1 + a + 1 + a1 + 1 ≤ 1 + a + 1 + a1 + 1; omega) (by show 0 + 8 + b + 8 + b1 + 2 ≤ 8 + b + 8 + b1 + 2; omega)
end AFT
