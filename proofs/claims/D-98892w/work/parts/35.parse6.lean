/-! choice, ask, one (made by mkdx23.py) -/
set_option maxRecDepth 100000
section PYX
variable {ρ : Type} {K : KT} {Q : ρ → State → Prop} {comp : Option ρ} {nL : Nat} {cs sl pc : Nat} {ls : List (Nat × Value)} {st stk : List Value} {cc : ByteArray} {rm : Room} {ret : Option FieldType} {Γ : CG} {π : PPar} {τ τ' : TKS} {tx : TXs Tx} {E : Heap → Prop} {view : ρ → PRes} {r0 : ρ}
/-- a parse method is called while an object waits to be filled -/
theorem py_subX {α : Type} {inj : α → Den ⊕ ADen} {y : MethodName} {bytes : ByteArray} {maxL idx F L k a b c ci : Nat} {fs : List Value} {rt : FieldType} {f : TKS → Option (KRs α)} {d : α} (hk : KOK K cc nL RX3 rm ret) (hK : CK Γ (kS K)) (htr : K.2.1.stackTraces = false) (hG : PG Γ tx π (kS K) (kS K).heap) (ht9 : π.1 < (kS K).heap.size) (hE : PSt π E) (hS : subOK Γ tx π inj y bytes maxL rt F L k f) (hf : f τ = some (.inr (d, τ'), a, b)) (st : List Value) (hGd : GoodIn lw_all (wsV RX3 idx RX3 y (ws_ y bytes maxL (some rt)))) (hy : y.cls = RX3 ∧ y.cls ≠ "java/lang/invoke/MethodHandle" ∧ y.cls ≠ "java/lang/invoke/VarHandle" ∧ (parseMethodDescriptor y.desc).map (fun d => d.parameters.length) = some 0) (hF : F + 1 ≤ rm.frames) (hL : 8 + (maxL + 11) + L ≤ rm.locals) (hs : Nat.ble ((st.map fun v => v.category).sum) 8 = true) (hd : decode cc pc = .ok (.invokevirtual idx, 3)) (hstk : stk = .ref π.1 :: st) (hcs : cs + a ≤ rm.cells ∧ sl + b ≤ rm.slots)
    (kk : ∀ q, GGo K Q comp nL (PX K Γ π τ' (fun H => (E H ∧ DNX Γ (kS K).heap.size k c (inj d) q H) ∧ va_at (gD Γ) ccl (c, .inr (ci, fs)) H ∧ (kS K).heap.size ≤ c)) (cs + a) (sl + b) (pc + 3) ls (.ref q :: st)) : GGo K Q comp nL (PX K Γ π τ (fun H => E H ∧ va_at (gD Γ) ccl (c, .inr (ci, fs)) H ∧ (kS K).heap.size ≤ c)) cs sl pc ls stk :=
  py_subR (tx := tx) hk hK htr hG (fun H H1 h hFr => ⟨hE _ _ h.1 hFr, h.2.1.kept (hFr.2 _ h.2.1.lt (by have := h.2.2; omega)), h.2.2⟩) hS hf st hGd hy hF hL hs hd hstk hcs (fun q => g_I (fun H locs hI => by
    obtain ⟨h1, h2, h3, ⟨h4, h4b, h4c⟩, H', ⟨-, h8, -⟩, h5, h6, h7⟩ := hI
    have hlt := h8.lt
    have hs0 := h5.1
    exact ⟨h1, h2, h3, ⟨h4, DAt.kept (fun x _ hx => ⟨⟨by have h9 : H'.size ≤ x := hx; omega, by have h9 : H'.size ≤ x := hx; omega⟩, rfl⟩) h7⟩, h4b, h4c⟩) (kk q))
theorem isCmp_or {s : Int32} (h : isCmp s = true) (h1 : ¬ s = 60) (h2 : ¬ s = 62) (h3 : ¬ s = 61) (h4 : ¬ s = 35) (h5 : ¬ s = 303) (h6 : ¬ s = 304) : False := by
  unfold isCmp at h
  simp only [Bool.or_eq_true, beq_iff_eq] at h
  rcases h with ((((h | h) | h) | h) | h) | h
  · exact h1 h
  · exact h2 h
  · exact h3 h
  · exact h4 h
  · exact h5 h
  · exact h6 h
end PYX
section CAO
variable {Γ : CG} {tx : TXs Tx} {π : PPar}
theorem k_choice (hΓ : DLX Γ) {F L k ke ks Fs Ls Fa La : Nat} {sub : TKS → Option (KRs Den)} {ei : TKS → Option (KRs ADen)} {one : TKS → Option (KRs Den)} {ask : TKS → Option (KRs ADen)} (hsub : K_sum π one = sub) (hei : K_either π ask = ei) (hS : subOK Γ tx π .inl yX3_sum cX3_sum 3 (.object "ShaveOfAnother$Sum") Fs Ls ks sub) (hA : subOK Γ tx π .inr yX3_either cX3_either 2 (.object "ShaveOfAnother$Asked") Fa La ke ei) (hSb : Fs ≤ F ∧ Ls ≤ L) (hAb : Fa ≤ F ∧ La ≤ L) (hks : ks ≤ k) (hke : ke ≤ k) (hF : 24 ≤ F) (hL : 1200 ≤ L) : subOK Γ tx π .inl yX3_choice cX3_choice 4 (.object "ShaveOfAnother$Sum") (F + 1) (L + 40) (k + 1) (K_choice π one ask) := by
  intro H0 τ r ht hr
  refine x_met (view := fun r : KRs Den => vwS Γ π .inl H0 (k + 1) r.1) (comp := some r) (own := RX3) rfl (by decide) rfl (ls0 := [(0, .ref π.1)]) rfl (fun K hk hK htab htr hH hG => ?_) r rfl
  subst hH
  have ht9 := ht.lt
  refine px_in ?_ ht
  unfold K_choice at hr
  rw [hsub, hei] at hr
  refine g_aload_n (pc := 0) hk dX3_choice_0 rfl ?_
  rcases obE_some hr with ⟨e, ho, h⟩ | ⟨τ1, ho, h⟩
  · cases h
    exact py_opensE (pc := 1) hΓ.1 hk hK htab htr hG rfl ho (by show 9 ≤ F + 1; omega) (by show 540 ≤ L + 40; omega) rfl dX3_choice_1 ⟨by show 0 + 1 ≤ 1; omega, by show 0 + 8 ≤ 8; omega⟩
  have c1 : 1 ≤ r.2.1 ∧ 8 ≤ r.2.2 := by
    rcases obK_some h with ⟨_, _, _, -, h⟩ | ⟨_, _, _, _, -, h⟩
    · cases h; dsimp only; omega
    rcases obE_some h with ⟨_, -, h⟩ | ⟨_, -, h⟩
    · cases h; dsimp only; omega
    rcases obK_some h with ⟨_, _, _, -, h⟩ | ⟨_, _, _, _, -, h⟩
    · cases h; dsimp only; omega
    rcases obE_some h with ⟨_, -, h⟩ | ⟨_, -, h⟩
    · cases h; dsimp only; omega
    rcases obK_some h with ⟨_, _, _, -, h⟩ | ⟨_, _, _, _, -, h⟩
    · cases h; dsimp only; omega
    rcases obE_some h with ⟨_, -, h⟩ | ⟨_, -, h⟩
    · cases h; dsimp only; omega
    cases h; dsimp only; omega
  refine py_opensR (pc := 1) hΓ.1 hk hK htr hG PSt.tr ho (by show 9 ≤ F + 1; omega) (by show 540 ≤ L + 40; omega) rfl dX3_choice_1 ⟨by show 0 + 1 ≤ r.2.1; omega, by show 0 + 8 ≤ r.2.2; omega⟩ ?_
  refine g_aload_n (pc := 4) hk dX3_choice_4 rfl ?_
  rcases obK_some h with ⟨e, a, b, hx, h⟩ | ⟨q0, τ2, a, b, hx, h⟩
  · cases h
    exact py_subE (pc := 5) hk hK htab htr hG rfl hA hx [] (lw_V q590 q592 qs12 q129 q593) hv_k_either (Nat.succ_le_succ hAb.1) (by have z9 := hAb.2; show 8 + (2 + 11) + _ ≤ L + 40; omega) rfl dX3_choice_5 rfl ⟨by show 0 + 1 + a ≤ 1 + a; omega, by show 0 + 8 + b ≤ 8 + b; omega⟩
  have c2 : 1 + a ≤ r.2.1 ∧ 8 + b ≤ r.2.2 := by
    rcases obE_some h with ⟨_, -, h⟩ | ⟨_, -, h⟩
    · cases h; dsimp only; omega
    rcases obK_some h with ⟨_, _, _, -, h⟩ | ⟨_, _, _, _, -, h⟩
    · cases h; dsimp only; omega
    rcases obE_some h with ⟨_, -, h⟩ | ⟨_, -, h⟩
    · cases h; dsimp only; omega
    rcases obK_some h with ⟨_, _, _, -, h⟩ | ⟨_, _, _, _, -, h⟩
    · cases h; dsimp only; omega
    rcases obE_some h with ⟨_, -, h⟩ | ⟨_, -, h⟩
    · cases h; dsimp only; omega
    cases h; dsimp only; omega
  refine py_subD (pc := 5) hk hK htr hG PSt.tr hA hx [] (lw_V q590 q592 qs12 q129 q593) hv_k_either (Nat.succ_le_succ hAb.1) (by have z9 := hAb.2; show 8 + (2 + 11) + _ ≤ L + 40; omega) rfl dX3_choice_5 rfl ⟨by show 0 + 1 + a ≤ r.2.1; omega, by show 0 + 8 + b ≤ r.2.2; omega⟩ (fun q1 => ?_)
  refine g_astore_n (pc := 8) (i := 1) hk dX3_choice_8 rfl (by decide) rfl ?_
  refine g_aload_n (pc := 9) hk dX3_choice_9 rfl ?_
  refine g_sipush (pc := 10) (v := 213) hk dX3_choice_10 rfl ?_
  have st1 : PSt π (fun H => True ∧ DNE Γ (kS K).heap.size ke (.inr q0) q1 H) := PSt.tr.and (DNE.st ht9)
  rcases obE_some h with ⟨e, hw, h⟩ | ⟨τ3, hw, h⟩
  · cases h
    exact py_wantE (pc := 13) hΓ.1 hk hK htab htr hG rfl hw (by show 9 ≤ F + 1; omega) (by show 540 ≤ L + 40; omega) rfl dX3_choice_13 ⟨by show 0 + 1 + a + 1 ≤ 1 + a + 1; omega, by show 0 + 8 + b + 8 ≤ 8 + b + 8; omega⟩
  have c3 : 1 + a + 1 ≤ r.2.1 ∧ 8 + b + 8 ≤ r.2.2 := by
    rcases obK_some h with ⟨_, _, _, -, h⟩ | ⟨_, _, _, _, -, h⟩
    · cases h; dsimp only; omega
    rcases obE_some h with ⟨_, -, h⟩ | ⟨_, -, h⟩
    · cases h; dsimp only; omega
    rcases obK_some h with ⟨_, _, _, -, h⟩ | ⟨_, _, _, _, -, h⟩
    · cases h; dsimp only; omega
    rcases obE_some h with ⟨_, -, h⟩ | ⟨_, -, h⟩
    · cases h; dsimp only; omega
    cases h; dsimp only; omega
  refine py_wantR (pc := 13) hΓ.1 hk hK htr hG st1 hw (by show 9 ≤ F + 1; omega) (by show 540 ≤ L + 40; omega) rfl dX3_choice_13 ⟨by show 0 + 1 + a + 1 ≤ r.2.1; omega, by show 0 + 8 + b + 8 ≤ r.2.2; omega⟩ ?_
  refine g_aload_n (pc := 16) hk dX3_choice_16 rfl ?_
  rcases obK_some h with ⟨e, a1, b1, hx, h⟩ | ⟨x, τ4, a1, b1, hx, h⟩
  · cases h
    exact py_subE (pc := 17) hk hK htab htr hG rfl hS hx [] (lw_V q547 q549 qs5 q129 q550) hv_k_sum (Nat.succ_le_succ hSb.1) (by have z9 := hSb.2; show 8 + (3 + 11) + _ ≤ L + 40; omega) rfl dX3_choice_17 rfl ⟨by show 0 + 1 + a + 1 + a1 ≤ 1 + a + 1 + a1; omega, by show 0 + 8 + b + 8 + b1 ≤ 8 + b + 8 + b1; omega⟩
  have c4 : 1 + a + 1 + a1 ≤ r.2.1 ∧ 8 + b + 8 + b1 ≤ r.2.2 := by
    rcases obE_some h with ⟨_, -, h⟩ | ⟨_, -, h⟩
    · cases h; dsimp only; omega
    rcases obK_some h with ⟨_, _, _, -, h⟩ | ⟨_, _, _, _, -, h⟩
    · cases h; dsimp only; omega
    rcases obE_some h with ⟨_, -, h⟩ | ⟨_, -, h⟩
    · cases h; dsimp only; omega
    cases h; dsimp only; omega
  refine py_subD (pc := 17) hk hK htr hG st1 hS hx [] (lw_V q547 q549 qs5 q129 q550) hv_k_sum (Nat.succ_le_succ hSb.1) (by have z9 := hSb.2; show 8 + (3 + 11) + _ ≤ L + 40; omega) rfl dX3_choice_17 rfl ⟨by show 0 + 1 + a + 1 + a1 ≤ r.2.1; omega, by show 0 + 8 + b + 8 + b1 ≤ r.2.2; omega⟩ (fun q2 => ?_)
  refine g_astore_n (pc := 20) (i := 2) hk dX3_choice_20 rfl (by decide) rfl ?_
  refine g_aload_n (pc := 21) hk dX3_choice_21 rfl ?_
  refine g_sipush (pc := 22) (v := 214) hk dX3_choice_22 rfl ?_
  have st2 := st1.and (DNE.st (Γ := Γ) (k := ks) (e := .inl x) (q := q2) ht9)
  rcases obE_some h with ⟨e, hw, h⟩ | ⟨τ5, hw, h⟩
  · cases h
    exact py_wantE (pc := 25) hΓ.1 hk hK htab htr hG rfl hw (by show 9 ≤ F + 1; omega) (by show 540 ≤ L + 40; omega) rfl dX3_choice_25 ⟨by show 0 + 1 + a + 1 + a1 + 1 ≤ 1 + a + 1 + a1 + 1; omega, by show 0 + 8 + b + 8 + b1 + 8 ≤ 8 + b + 8 + b1 + 8; omega⟩
  have c5 : 1 + a + 1 + a1 + 1 ≤ r.2.1 ∧ 8 + b + 8 + b1 + 8 ≤ r.2.2 := by
    rcases obK_some h with ⟨_, _, _, -, h⟩ | ⟨_, _, _, _, -, h⟩
    · cases h; dsimp only; omega
    rcases obE_some h with ⟨_, -, h⟩ | ⟨_, -, h⟩
    · cases h; dsimp only; omega
    cases h; dsimp only; omega
  refine py_wantR (pc := 25) hΓ.1 hk hK htr hG st2 hw (by show 9 ≤ F + 1; omega) (by show 540 ≤ L + 40; omega) rfl dX3_choice_25 ⟨by show 0 + 1 + a + 1 + a1 + 1 ≤ r.2.1; omega, by show 0 + 8 + b + 8 + b1 + 8 ≤ r.2.2; omega⟩ ?_
  refine g_aload_n (pc := 28) hk dX3_choice_28 rfl ?_
  rcases obK_some h with ⟨e, a2, b2, hx, h⟩ | ⟨y, τ6, a2, b2, hx, h⟩
  · cases h
    exact py_subE (pc := 29) hk hK htab htr hG rfl hS hx [] (lw_V q547 q549 qs5 q129 q550) hv_k_sum (Nat.succ_le_succ hSb.1) (by have z9 := hSb.2; show 8 + (3 + 11) + _ ≤ L + 40; omega) rfl dX3_choice_29 rfl ⟨by show 0 + 1 + a + 1 + a1 + 1 + a2 ≤ 1 + a + 1 + a1 + 1 + a2; omega, by show 0 + 8 + b + 8 + b1 + 8 + b2 ≤ 8 + b + 8 + b1 + 8 + b2; omega⟩
  have c6 : 1 + a + 1 + a1 + 1 + a2 ≤ r.2.1 ∧ 8 + b + 8 + b1 + 8 + b2 ≤ r.2.2 := by
    rcases obE_some h with ⟨_, -, h⟩ | ⟨_, -, h⟩
    · cases h; dsimp only; omega
    cases h; dsimp only; omega
  refine py_subD (pc := 29) hk hK htr hG st2 hS hx [] (lw_V q547 q549 qs5 q129 q550) hv_k_sum (Nat.succ_le_succ hSb.1) (by have z9 := hSb.2; show 8 + (3 + 11) + _ ≤ L + 40; omega) rfl dX3_choice_29 rfl ⟨by show 0 + 1 + a + 1 + a1 + 1 + a2 ≤ r.2.1; omega, by show 0 + 8 + b + 8 + b1 + 8 + b2 ≤ r.2.2; omega⟩ (fun q3 => ?_)
  refine g_astore_n (pc := 32) (i := 3) hk dX3_choice_32 rfl (by decide) rfl ?_
  refine g_aload_n (pc := 33) hk dX3_choice_33 rfl ?_
  refine g_sipush (pc := 34) (v := 215) hk dX3_choice_34 rfl ?_
  have st3 := st2.and (DNE.st (Γ := Γ) (k := ks) (e := .inl y) (q := q3) ht9)
  rcases obE_some h with ⟨e, hw, h⟩ | ⟨τ7, hw, h⟩
  · cases h
    exact py_wantE (pc := 37) hΓ.1 hk hK htab htr hG rfl hw (by show 9 ≤ F + 1; omega) (by show 540 ≤ L + 40; omega) rfl dX3_choice_37 ⟨by show 0 + 1 + a + 1 + a1 + 1 + a2 + 1 ≤ 1 + a + 1 + a1 + 1 + a2 + 1; omega, by show 0 + 8 + b + 8 + b1 + 8 + b2 + 8 ≤ 8 + b + 8 + b1 + 8 + b2 + 8; omega⟩
  cases h
  refine py_wantR (pc := 37) hΓ.1 hk hK htr hG st3 hw (by show 9 ≤ F + 1; omega) (by show 540 ≤ L + 40; omega) rfl dX3_choice_37 ⟨by show 0 + 1 + a + 1 + a1 + 1 + a2 + 1 ≤ 1 + a + 1 + a1 + 1 + a2 + 1 + 1; omega, by show 0 + 8 + b + 8 + b1 + 8 + b2 + 8 ≤ 8 + b + 8 + b1 + 8 + b2 + 8 + 3; omega⟩ ?_
  refine g_aload_n (pc := 40) hk dX3_choice_40 rfl ?_
  refine g_dup (pc := 41) hk dX3_choice_41 rfl ?_
  refine kg_77 (pc := 42) hk hK (fun _ _ e => e.1) dX3_choice_42 ?_
  refine g_iconst (pc := 45) (v := 1) hk dX3_choice_45 rfl ?_
  refine g_isub (pc := 46) hk dX3_choice_46 ?_
  refine py_close (pc := 47) hk hK st3 dX3_choice_47 ?_
  refine py_new (pc := 50) (ci := 10) (N := 3) (fs := [.null, .null, .null]) (E2 := fun c H => (DNX Γ (kS K).heap.size ke c (.inr q0) q1 H ∧ DNX Γ (kS K).heap.size ks c (.inl x) q2 H) ∧ DNX Γ (kS K).heap.size ks c (.inl y) q3 H) hk hK rfl in_X11 tyX11 tyX11_ok q725 q726 q150 (fun j hj => by
    rcases (show j = 0 ∨ j = 1 ∨ j = 2 by omega) with rfl | rfl | rfl <;> rfl) (by show 0 + 1 + a + 1 + a1 + 1 + a2 + 1 + 1 ≤ 1 + a + 1 + a1 + 1 + a2 + 1 + 1; omega) (by show 0 + 8 + b + 8 + b1 + 8 + b2 + 8 + 3 ≤ 8 + b + 8 + b1 + 8 + b2 + 8 + 3; omega) dX3_choice_50 ht9 (fun H H1 hE _ ho _ => ⟨⟨hE.1.1.2.x ho, hE.1.2.x ho⟩, hE.2.x ho⟩) (fun c => ?_)
  refine g_dup (pc := 53) hk dX3_choice_53 rfl ?_
  refine g_aload_n (pc := 54) hk dX3_choice_54 rfl ?_
  refine g_aload_n (pc := 55) hk dX3_choice_55 rfl ?_
  refine g_aload_n (pc := 56) hk dX3_choice_56 rfl ?_
  refine py_rec (pc := 57) (ci := 10) (gs := [.ref q1, .ref q2, .ref q3]) hk hK htr hG [.ref q1, .ref q2, .ref q3] [.ref c] (fun H hf => n_X11 q1 q2 q3 hf) cn_727 q728 q150 q729 rfl hi_X11 (by show 4 ≤ F + 1; omega) (by show 8 + (4 + 11) + 160 ≤ L + 40; omega) rfl rfl dX3_choice_57 rfl ⟨by show 0 + 1 + a + 1 + a1 + 1 + a2 + 1 + 1 ≤ 1 + a + 1 + a1 + 1 + a2 + 1 + 1; omega, by show 0 + 8 + b + 8 + b1 + 8 + b2 + 8 + 3 ≤ 8 + b + 8 + b1 + 8 + b2 + 8 + 3; omega⟩ ht9 (fun H H1 hE _ ho => ⟨⟨hE.1.1.put ho, hE.1.2.put ho⟩, hE.2.put ho⟩) ?_
  exact x_aretX (pc := 60) hk (Or.inl ⟨_, rfl⟩) rfl (fun H locs hI => ⟨⟨c, rfl, hI.1, Or.inr ⟨hI.2.2.2.2.2, Or.inr (Or.inr (Or.inr (Or.inl ⟨q0, x, y, q1, q2, q3, rfl, hI.2.2.2.2.1, hI.2.2.2.1.1.1.e hke, hI.2.2.2.1.1.2.e hks, hI.2.2.2.1.2.e hks⟩)))⟩⟩, hI.2.1, hI.2.2.1⟩) dX3_choice_60 (by show 0 + 1 + a + 1 + a1 + 1 + a2 + 1 + 1 ≤ 1 + a + 1 + a1 + 1 + a2 + 1 + 1; omega) (by show 0 + 8 + b + 8 + b1 + 8 + b2 + 8 + 3 ≤ 8 + b + 8 + b1 + 8 + b2 + 8 + 3; omega)
theorem k_ask (hΓ : DLX Γ) {F L k ka ks Fs Ls Fa La : Nat} {one : TKS → Option (KRs Den)} {ask : TKS → Option (KRs ADen)} (hS : subOK Γ tx π .inl yX3_sum cX3_sum 3 (.object "ShaveOfAnother$Sum") Fs Ls ks (K_sum π one)) (hA : subOK Γ tx π .inr yX3_ask cX3_ask 3 (.object "ShaveOfAnother$Asked") Fa La ka ask) (hSb : Fs ≤ F ∧ Ls ≤ L) (hAb : Fa ≤ F ∧ La ≤ L) (hks : ks ≤ k) (hka : ka ≤ k) (hF : 24 ≤ F) (hL : 1200 ≤ L) : subOK Γ tx π .inr yX3_ask cX3_ask 3 (.object "ShaveOfAnother$Asked") (F + 1) (L + 40) (k + 1) (K_ask π one ask) := by
  intro H0 τ r ht hr
  refine x_met (view := fun r : KRs ADen => vwS Γ π .inr H0 (k + 1) r.1) (comp := some r) (own := RX3) rfl (by decide) rfl (ls0 := [(0, .ref π.1)]) rfl (fun K hk hK htab htr hH hG => ?_) r rfl
  subst hH
  have ht9 := ht.lt
  refine px_in ?_ ht
  unfold K_ask at hr
  refine g_aload_n (pc := 0) hk dX3_ask_0 rfl ?_
  refine kg_25 (pc := 1) hk hK (fun _ _ e => e.1) dX3_ask_1 ?_
  refine g_sipush (pc := 4) (v := 218) hk dX3_ask_4 rfl ?_
  by_cases h1 : τ.2.2.1 = 218
  · rw [if_pos h1] at hr
    refine g_yes (c := τ.2.2.1 = 218) h1 ?_
    refine g_icmp_ne (pc := 7) (tgt := 38) hk dX3_ask_7 rfl g_none ?_
    refine g_aload_n (pc := 10) hk dX3_ask_10 rfl ?_
    rcases obE_some hr with ⟨e, ho, h⟩ | ⟨τ1, ho, h⟩
    · cases h
      exact py_opensE (pc := 11) hΓ.1 hk hK htab htr hG rfl ho (by show 9 ≤ F + 1; omega) (by show 540 ≤ L + 40; omega) rfl dX3_ask_11 ⟨by show 0 + 1 ≤ 1; omega, by show 0 + 8 ≤ 8; omega⟩
    have c1 : 2 ≤ r.2.1 ∧ 9 ≤ r.2.2 := by
      rcases obK_some h with ⟨_, _, _, -, h⟩ | ⟨_, _, _, _, -, h⟩
      · cases h; dsimp only; omega
      cases h; dsimp only; omega
    refine py_opensR (pc := 11) hΓ.1 hk hK htr hG PSt.tr ho (by show 9 ≤ F + 1; omega) (by show 540 ≤ L + 40; omega) rfl dX3_ask_11 ⟨by show 0 + 1 ≤ r.2.1; omega, by show 0 + 8 ≤ r.2.2; omega⟩ ?_
    refine py_new (pc := 14) (ci := 7) (N := 1) (fs := [.null]) (E2 := fun _ _ => True) hk hK rfl in_X8 tyX8 tyX8_ok q604 q605 q145 (fun j hj => by
      rcases (show j = 0 by omega) with rfl; rfl) (by show 0 + 1 + 1 ≤ r.2.1; omega) (by show 0 + 8 + 1 ≤ r.2.2; omega) dX3_ask_14 ht9 (fun _ _ _ _ _ _ => trivial) (fun c => ?_)
    refine g_dup (pc := 17) hk dX3_ask_17 rfl ?_
    refine g_aload_n (pc := 18) hk dX3_ask_18 rfl ?_
    rcases obK_some h with ⟨e, a, b, hx, h⟩ | ⟨x, τ2, a, b, hx, h⟩
    · cases h
      exact py_subE (pc := 19) hk hK htab htr hG rfl hA hx [.ref c, .ref c] (lw_V q600 q602 qs14 q129 q603) hv_k_ask (Nat.succ_le_succ hAb.1) (by have z9 := hAb.2; show 8 + (3 + 11) + _ ≤ L + 40; omega) rfl dX3_ask_19 rfl ⟨by show 0 + 1 + 1 + a ≤ 2 + a; omega, by show 0 + 8 + 1 + b ≤ 9 + b; omega⟩
    cases h
    refine py_subX (pc := 19) hk hK htr hG ht9 PSt.tr hA hx [.ref c, .ref c] (lw_V q600 q602 qs14 q129 q603) hv_k_ask (Nat.succ_le_succ hAb.1) (by have z9 := hAb.2; show 8 + (3 + 11) + _ ≤ L + 40; omega) rfl dX3_ask_19 rfl ⟨by show 0 + 1 + 1 + a ≤ 2 + a; omega, by show 0 + 8 + 1 + b ≤ 9 + b; omega⟩ (fun q => ?_)
    refine py_rec (pc := 22) (ci := 7) (gs := [.ref q]) hk hK htr hG [.ref q] [.ref c] (fun H hf => n_X8 q hf) cn_606 q607 q145 q608 rfl hi_X8 (by show 4 ≤ F + 1; omega) (by show 8 + (2 + 11) + 160 ≤ L + 40; omega) rfl rfl dX3_ask_22 rfl ⟨by show 0 + 1 + 1 + a ≤ 2 + a; omega, by show 0 + 8 + 1 + b ≤ 9 + b; omega⟩ ht9 (fun H H1 hE _ ho => ⟨trivial, hE.2.put ho⟩) ?_
    refine g_astore_n (pc := 25) (i := 1) hk dX3_ask_25 rfl (by decide) rfl ?_
    refine g_aload_n (pc := 26) hk dX3_ask_26 rfl ?_
    refine g_dup (pc := 27) hk dX3_ask_27 rfl ?_
    refine kg_77 (pc := 28) hk hK (fun _ _ e => e.1) dX3_ask_28 ?_
    refine g_iconst (pc := 31) (v := 1) hk dX3_ask_31 rfl ?_
    refine g_isub (pc := 32) hk dX3_ask_32 ?_
    refine py_close (pc := 33) hk hK (fun H H1 h hFr => ⟨⟨trivial, DNX.st ht9 H H1 h.1.2 hFr⟩, h.2.1.kept (hFr.2 _ h.2.1.lt (by have := h.2.2; omega)), h.2.2⟩) dX3_ask_33 ?_
    refine g_aload_n (pc := 36) hk dX3_ask_36 rfl ?_
    exact x_aretX (pc := 37) hk (Or.inl ⟨_, rfl⟩) rfl (fun H locs hI => ⟨⟨c, rfl, hI.1, Or.inr ⟨hI.2.2.2.2.2, Or.inr (Or.inr (Or.inr (Or.inr (Or.inr (Or.inl ⟨x, q, rfl, hI.2.2.2.2.1, hI.2.2.2.1.2.e hka⟩)))))⟩⟩, hI.2.1, hI.2.2.1⟩) dX3_ask_37 (by show 0 + 1 + 1 + a ≤ 2 + a; omega) (by show 0 + 8 + 1 + b ≤ 9 + b; omega)
  · rw [if_neg h1] at hr
    refine g_no (c := τ.2.2.1 = 218) h1 ?_
    refine g_icmp_ne (pc := 7) (tgt := 38) hk dX3_ask_7 rfl ?_ g_none
    refine g_aload_n (pc := 38) hk dX3_ask_38 rfl ?_
    rcases obK_some hr with ⟨e, a, b, hx, h⟩ | ⟨x, τ1, a, b, hx, h⟩
    · cases h
      exact py_subE (pc := 39) hk hK htab htr hG rfl hS hx [] (lw_V q547 q549 qs5 q129 q550) hv_k_sum (Nat.succ_le_succ hSb.1) (by have z9 := hSb.2; show 8 + (3 + 11) + _ ≤ L + 40; omega) rfl dX3_ask_39 rfl ⟨by show 0 + a ≤ a; omega, by show 0 + b ≤ b; omega⟩
    have c1 : a + 1 ≤ r.2.1 ∧ b + 3 ≤ r.2.2 := by
      split at h
      · obtain ⟨τ2, -, h⟩ := ob1_some h
        rcases obK_some h with ⟨_, _, _, -, h⟩ | ⟨_, _, _, _, -, h⟩
        all_goals (cases h; dsimp only; omega)
      · cases h; dsimp only; omega
    refine py_subD (pc := 39) hk hK htr hG PSt.tr hS hx [] (lw_V q547 q549 qs5 q129 q550) hv_k_sum (Nat.succ_le_succ hSb.1) (by have z9 := hSb.2; show 8 + (3 + 11) + _ ≤ L + 40; omega) rfl dX3_ask_39 rfl ⟨by show 0 + a ≤ r.2.1; omega, by show 0 + b ≤ r.2.2; omega⟩ (fun q1 => ?_)
    have st1 : PSt π (fun H => True ∧ DNE Γ (kS K).heap.size ks (.inl x) q1 H) := PSt.tr.and (DNE.st ht9)
    refine g_astore_n (pc := 42) (i := 1) hk dX3_ask_42 rfl (by decide) rfl ?_
    refine g_aload_n (pc := 43) hk dX3_ask_43 rfl ?_
    refine kg_25 (pc := 44) hk hK (fun _ _ e => e.1) dX3_ask_44 ?_
    refine g_istore_n (pc := 47) (i := 2) hk dX3_ask_47 rfl (by decide) rfl ?_
    have yes : isCmp τ1.2.2.1 = true → GGo K (xQ K Γ π { frames := F + 1, cells := r.2.1, slots := r.2.2, locals := L + 40 } (fun r : KRs ADen => vwS Γ π .inr (kS K).heap (k + 1) r.1)) (some r) 3 (PX K Γ π τ1 (fun H => True ∧ DNE Γ (kS K).heap.size ks (.inl x) q1 H)) (0 + a) (0 + b) 92 [(0, .ref π.1), (1, .ref q1), (2, .int τ1.2.2.1)] [] := by
      intro hc
      rw [if_pos hc] at h
      obtain ⟨τ2, hn, h⟩ := ob1_some h
      refine g_aload_n (pc := 92) hk dX3_ask_92 rfl ?_
      refine px_next (pc := 93) hΓ.1 hk hK htr hG st1 hn (rmFit_i (by show 6 + 1 ≤ F + 1; omega) (by show 8 + (3 + 11) + 400 ≤ L + 40; omega)) rfl dX3_ask_93 ⟨by show 0 + a ≤ r.2.1; omega, by show 0 + b ≤ r.2.2; omega⟩ ?_
      refine py_new (pc := 96) (ci := 8) (N := 3) (fs := [.int 0, .null, .null]) (E2 := fun c H => DNX Γ (kS K).heap.size ks c (.inl x) q1 H) hk hK rfl in_X9 tyX9 tyX9_ok q614 q615 q146 (fun j hj => by
        rcases (show j = 0 ∨ j = 1 ∨ j = 2 by omega) with rfl | rfl | rfl <;> rfl) (by show 0 + a + 1 ≤ r.2.1; omega) (by show 0 + b + 3 ≤ r.2.2; omega) dX3_ask_96 ht9 (fun H H1 hE _ ho _ => hE.2.x ho) (fun c => ?_)
      refine g_dup (pc := 99) hk dX3_ask_99 rfl ?_
      refine g_iload_n (pc := 100) hk dX3_ask_100 rfl ?_
      refine g_aload_n (pc := 101) hk dX3_ask_101 rfl ?_
      refine g_aload_n (pc := 102) hk dX3_ask_102 rfl ?_
      rcases obK_some h with ⟨e, a1, b1, hy, h⟩ | ⟨y, τ3, a1, b1, hy, h⟩
      · cases h
        exact py_subE (pc := 103) hk hK htab htr hG rfl hS hy [.ref q1, .int τ1.2.2.1, .ref c, .ref c] (lw_V q547 q549 qs5 q129 q550) hv_k_sum (Nat.succ_le_succ hSb.1) (by have z9 := hSb.2; show 8 + (3 + 11) + _ ≤ L + 40; omega) rfl dX3_ask_103 rfl ⟨by show 0 + a + 1 + a1 ≤ a + 1 + a1; omega, by show 0 + b + 3 + b1 ≤ b + 3 + b1; omega⟩
      cases h
      refine py_subX (pc := 103) hk hK htr hG ht9 (DNX.st ht9) hS hy [.ref q1, .int τ1.2.2.1, .ref c, .ref c] (lw_V q547 q549 qs5 q129 q550) hv_k_sum (Nat.succ_le_succ hSb.1) (by have z9 := hSb.2; show 8 + (3 + 11) + _ ≤ L + 40; omega) rfl dX3_ask_103 rfl ⟨by show 0 + a + 1 + a1 ≤ a + 1 + a1; omega, by show 0 + b + 3 + b1 ≤ b + 3 + b1; omega⟩ (fun q2 => ?_)
      refine py_rec (pc := 106) (ci := 8) (gs := [.int τ1.2.2.1, .ref q1, .ref q2]) hk hK htr hG [.int τ1.2.2.1, .ref q1, .ref q2] [.ref c] (fun H hf => n_X9 τ1.2.2.1 q1 q2 hf) cn_616 q617 q146 q618 rfl hi_X9 (by show 4 ≤ F + 1; omega) (by show 8 + (4 + 11) + 160 ≤ L + 40; omega) rfl rfl dX3_ask_106 rfl ⟨by show 0 + a + 1 + a1 ≤ a + 1 + a1; omega, by show 0 + b + 3 + b1 ≤ b + 3 + b1; omega⟩ ht9 (fun H H1 hE _ ho => ⟨hE.1.put ho, hE.2.put ho⟩) ?_
      exact x_aretX (pc := 109) hk (Or.inl ⟨_, rfl⟩) rfl (fun H locs hI => ⟨⟨c, rfl, hI.1, Or.inr ⟨hI.2.2.2.2.2, Or.inr (Or.inr (Or.inr (Or.inr (Or.inl ⟨τ1.2.2.1, x, y, q1, q2, rfl, hI.2.2.2.2.1, hI.2.2.2.1.1.e hks, hI.2.2.2.1.2.e hks⟩))))⟩⟩, hI.2.1, hI.2.2.1⟩) dX3_ask_109 (by show 0 + a + 1 + a1 ≤ a + 1 + a1; omega) (by show 0 + b + 3 + b1 ≤ b + 3 + b1; omega)
    refine g_ls (ls' := [(0, .ref π.1), (1, .ref q1), (2, .int τ1.2.2.1)]) ⟨rfl, rfl, rfl, trivial⟩ ?_
    by_cases hc : isCmp τ1.2.2.1 = true
    · have yes := yes hc
      refine g_iload_n (pc := 48) hk dX3_ask_48 rfl ?_
      refine g_bipush (pc := 49) (v := 60) hk dX3_ask_49 rfl ?_
      by_cases e0 : τ1.2.2.1 = 60
      · refine g_yes (c := τ1.2.2.1 = 60) e0 ?_
        refine g_icmp_eq (pc := 51) (tgt := 92) hk dX3_ask_51 rfl ?_ g_none
        exact yes
      refine g_no (c := τ1.2.2.1 = 60) e0 ?_
      refine g_icmp_eq (pc := 51) (tgt := 92) hk dX3_ask_51 rfl g_none ?_
      refine g_iload_n (pc := 54) hk dX3_ask_54 rfl ?_
      refine g_bipush (pc := 55) (v := 62) hk dX3_ask_55 rfl ?_
      by_cases e1 : τ1.2.2.1 = 62
      · refine g_yes (c := τ1.2.2.1 = 62) e1 ?_
        refine g_icmp_eq (pc := 57) (tgt := 92) hk dX3_ask_57 rfl ?_ g_none
        exact yes
      refine g_no (c := τ1.2.2.1 = 62) e1 ?_
      refine g_icmp_eq (pc := 57) (tgt := 92) hk dX3_ask_57 rfl g_none ?_
      refine g_iload_n (pc := 60) hk dX3_ask_60 rfl ?_
      refine g_bipush (pc := 61) (v := 61) hk dX3_ask_61 rfl ?_
      by_cases e2 : τ1.2.2.1 = 61
      · refine g_yes (c := τ1.2.2.1 = 61) e2 ?_
        refine g_icmp_eq (pc := 63) (tgt := 92) hk dX3_ask_63 rfl ?_ g_none
        exact yes
      refine g_no (c := τ1.2.2.1 = 61) e2 ?_
      refine g_icmp_eq (pc := 63) (tgt := 92) hk dX3_ask_63 rfl g_none ?_
      refine g_iload_n (pc := 66) hk dX3_ask_66 rfl ?_
      refine g_bipush (pc := 67) (v := 35) hk dX3_ask_67 rfl ?_
      by_cases e3 : τ1.2.2.1 = 35
      · refine g_yes (c := τ1.2.2.1 = 35) e3 ?_
        refine g_icmp_eq (pc := 69) (tgt := 92) hk dX3_ask_69 rfl ?_ g_none
        exact yes
      refine g_no (c := τ1.2.2.1 = 35) e3 ?_
      refine g_icmp_eq (pc := 69) (tgt := 92) hk dX3_ask_69 rfl g_none ?_
      refine g_iload_n (pc := 72) hk dX3_ask_72 rfl ?_
      refine g_sipush (pc := 73) (v := 303) hk dX3_ask_73 rfl ?_
      by_cases e4 : τ1.2.2.1 = 303
      · refine g_yes (c := τ1.2.2.1 = 303) e4 ?_
        refine g_icmp_eq (pc := 76) (tgt := 92) hk dX3_ask_76 rfl ?_ g_none
        exact yes
      refine g_no (c := τ1.2.2.1 = 303) e4 ?_
      refine g_icmp_eq (pc := 76) (tgt := 92) hk dX3_ask_76 rfl g_none ?_
      refine g_iload_n (pc := 79) hk dX3_ask_79 rfl ?_
      refine g_sipush (pc := 80) (v := 304) hk dX3_ask_80 rfl ?_
      by_cases e5 : τ1.2.2.1 = 304
      · refine g_yes (c := τ1.2.2.1 = 304) e5 ?_
        refine g_icmp_eq (pc := 83) (tgt := 92) hk dX3_ask_83 rfl ?_ g_none
        exact yes
      refine g_no (c := τ1.2.2.1 = 304) e5 ?_
      refine g_icmp_eq (pc := 83) (tgt := 92) hk dX3_ask_83 rfl g_none ?_
      exact (isCmp_or hc e0 e1 e2 e3 e4 e5).elim
    · rw [if_neg hc] at h
      cases h
      have ne : ∀ v : Int32, isCmp v = true → ¬ τ1.2.2.1 = v := fun v hv e => hc (by rw [e]; exact hv)
      refine g_iload_n (pc := 48) hk dX3_ask_48 rfl ?_
      refine g_bipush (pc := 49) (v := 60) hk dX3_ask_49 rfl ?_
      refine g_no (c := τ1.2.2.1 = 60) (ne 60 (by decide)) ?_
      refine g_icmp_eq (pc := 51) (tgt := 92) hk dX3_ask_51 rfl g_none ?_
      refine g_iload_n (pc := 54) hk dX3_ask_54 rfl ?_
      refine g_bipush (pc := 55) (v := 62) hk dX3_ask_55 rfl ?_
      refine g_no (c := τ1.2.2.1 = 62) (ne 62 (by decide)) ?_
      refine g_icmp_eq (pc := 57) (tgt := 92) hk dX3_ask_57 rfl g_none ?_
      refine g_iload_n (pc := 60) hk dX3_ask_60 rfl ?_
      refine g_bipush (pc := 61) (v := 61) hk dX3_ask_61 rfl ?_
      refine g_no (c := τ1.2.2.1 = 61) (ne 61 (by decide)) ?_
      refine g_icmp_eq (pc := 63) (tgt := 92) hk dX3_ask_63 rfl g_none ?_
      refine g_iload_n (pc := 66) hk dX3_ask_66 rfl ?_
      refine g_bipush (pc := 67) (v := 35) hk dX3_ask_67 rfl ?_
      refine g_no (c := τ1.2.2.1 = 35) (ne 35 (by decide)) ?_
      refine g_icmp_eq (pc := 69) (tgt := 92) hk dX3_ask_69 rfl g_none ?_
      refine g_iload_n (pc := 72) hk dX3_ask_72 rfl ?_
      refine g_sipush (pc := 73) (v := 303) hk dX3_ask_73 rfl ?_
      refine g_no (c := τ1.2.2.1 = 303) (ne 303 (by decide)) ?_
      refine g_icmp_eq (pc := 76) (tgt := 92) hk dX3_ask_76 rfl g_none ?_
      refine g_iload_n (pc := 79) hk dX3_ask_79 rfl ?_
      refine g_sipush (pc := 80) (v := 304) hk dX3_ask_80 rfl ?_
      refine g_no (c := τ1.2.2.1 = 304) (ne 304 (by decide)) ?_
      refine g_icmp_eq (pc := 83) (tgt := 92) hk dX3_ask_83 rfl g_none ?_
      refine g_aload_n (pc := 86) hk dX3_ask_86 rfl ?_
      refine g_iconst (pc := 87) (v := 1) hk dX3_ask_87 rfl ?_
      exact px_thr (pc := 88) hΓ.1 hk hK htab htr hG rfl (rmFit_i (by show 6 + 1 ≤ F + 1; omega) (by show 8 + (2 + 11) + 160 ≤ L + 40; omega)) ⟨by show 0 + a + 1 ≤ a + 1; omega, by show 0 + b + 8 ≤ b + 8; omega⟩ dX3_ask_88 dX3_ask_91
end CAO
