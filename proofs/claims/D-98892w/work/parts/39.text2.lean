/-! doing, walked (made by mkdx27.py) -/
set_option maxRecDepth 100000
section PYN
variable {ρ : Type} {K : KT} {Q : ρ → State → Prop} {comp : Option ρ} {nL : Nat} {cs sl pc : Nat} {ls : List (Nat × Value)} {st stk : List Value} {cc : ByteArray} {rm : Room} {ret : Option FieldType} {Γ : CG} {π : PPar} {τ : TKS} {tx : TXs Tx} {E : Heap → Prop} {view : ρ → PRes} {r0 : ρ}
theorem py_numR {lo hi : Int32} {x : Int32 × TKS} (hΓ : DKX Γ) (hk : KOK K cc nL RX3 rm ret) (hK : CK Γ (kS K)) (htr : K.2.1.stackTraces = false) (hG : PG Γ tx π (kS K) (kS K).heap) (hE : PSt π E) (hf : K_number π lo hi τ = some (.inr x)) (hF : 9 ≤ rm.frames) (hL : 540 ≤ rm.locals) (hs : Nat.ble ((st.map fun v => v.category).sum) 8 = true) (hd : decode cc pc = .ok (.invokevirtual 115, 3)) (hcs : cs + 1 ≤ rm.cells ∧ sl + 8 ≤ rm.slots) (kk : GGo K Q comp nL (PX K Γ π x.2 E) (cs + 1) (sl + 8) (pc + 3) ls (.int x.1 :: st)) : GGo K Q comp nL (PX K Γ π τ E) cs sl pc ls (.int hi :: .int lo :: .ref π.1 :: st) :=
  px_callR (tx := tx) (rmY := rm_x_wn) (τ' := x.2) (E' := fun _ => E) (V := fun v => v = some (.int x.1)) (R := fun _ v H1 => v = some (.int x.1) ∧ va_at (gD Γ) ccl (π.1, .inr (2, tkF Γ π x.2)) H1) hk hK htr hG [.int lo, .int hi] st (fun H ht _ _ => k_number hΓ ht hf) (fun H v H1 h1 _ h3 h4 => ⟨h4.1, h4.2, hE _ _ h1 h3⟩) (lw_V q567 q569 qs9 q129 q570) hv_k_number (rmFit_i hF (by show 8 + (4 + 11) + 500 ≤ _; omega)) rfl hs hd rfl hcs (fun v hv => by subst hv; exact kk)
theorem py_numE {lo hi : Int32} {e : Int32 × Int32} (hΓ : DKX Γ) (hk : KOK K cc nL RX3 rm ret) (hK : CK Γ (kS K)) (htab : noTab K) (htr : K.2.1.stackTraces = false) (hG : PG Γ tx π (kS K) (kS K).heap) (hview : view r0 = .inl e) (hf : K_number π lo hi τ = some (.inl e)) (hF : 9 ≤ rm.frames) (hL : 540 ≤ rm.locals) (hs : Nat.ble ((st.map fun v => v.category).sum) 8 = true) (hd : decode cc pc = .ok (.invokevirtual 115, 3)) (hcs : cs + 1 ≤ rm.cells ∧ sl + 8 ≤ rm.slots) : GGo K (xQ K Γ π rm view) (some r0) nL (PX K Γ π τ E) cs sl pc ls (.int hi :: .int lo :: .ref π.1 :: st) :=
  px_callE (tx := tx) (rmY := rm_x_wn) hk hK htab htr hG hview [.int lo, .int hi] st (fun H ht _ _ => k_number hΓ ht hf) (lw_V q567 q569 qs9 q129 q570) hv_k_number (rmFit_i hF (by show 8 + (4 + 11) + 500 ≤ _; omega)) rfl hs hd rfl hcs
theorem py_behR {w hi : Int32} {x : Int32 × TKS} (hΓ : DKX Γ) (hk : KOK K cc nL RX3 rm ret) (hK : CK Γ (kS K)) (htr : K.2.1.stackTraces = false) (hG : PG Γ tx π (kS K) (kS K).heap) (hE : PSt π E) (hf : K_behind π w hi τ = some (.inr x)) (hF : 11 ≤ rm.frames) (hL : 740 ≤ rm.locals) (hs : Nat.ble ((st.map fun v => v.category).sum) 8 = true) (hd : decode cc pc = .ok (.invokevirtual 119, 3)) (hcs : cs + 2 ≤ rm.cells ∧ sl + 16 ≤ rm.slots) (kk : GGo K Q comp nL (PX K Γ π x.2 E) (cs + 2) (sl + 16) (pc + 3) ls (.int x.1 :: st)) : GGo K Q comp nL (PX K Γ π τ E) cs sl pc ls (.int hi :: .int w :: .ref π.1 :: st) :=
  px_callR (tx := tx) (rmY := rm_x_bh) (τ' := x.2) (E' := fun _ => E) (V := fun v => v = some (.int x.1)) (R := fun _ v H1 => v = some (.int x.1) ∧ va_at (gD Γ) ccl (π.1, .inr (2, tkF Γ π x.2)) H1) hk hK htr hG [.int w, .int hi] st (fun H ht _ _ => k_behind hΓ ht hf) (fun H v H1 h1 _ h3 h4 => ⟨h4.1, h4.2, hE _ _ h1 h3⟩) (lw_V q843 q845 qs23 q129 q846) hv_k_behind (rmFit_i hF (by show 8 + (3 + 11) + 700 ≤ _; omega)) rfl hs hd rfl hcs (fun v hv => by subst hv; exact kk)
theorem py_behE {w hi : Int32} {e : Int32 × Int32} (hΓ : DKX Γ) (hk : KOK K cc nL RX3 rm ret) (hK : CK Γ (kS K)) (htab : noTab K) (htr : K.2.1.stackTraces = false) (hG : PG Γ tx π (kS K) (kS K).heap) (hview : view r0 = .inl e) (hf : K_behind π w hi τ = some (.inl e)) (hF : 11 ≤ rm.frames) (hL : 740 ≤ rm.locals) (hs : Nat.ble ((st.map fun v => v.category).sum) 8 = true) (hd : decode cc pc = .ok (.invokevirtual 119, 3)) (hcs : cs + 2 ≤ rm.cells ∧ sl + 16 ≤ rm.slots) : GGo K (xQ K Γ π rm view) (some r0) nL (PX K Γ π τ E) cs sl pc ls (.int hi :: .int w :: .ref π.1 :: st) :=
  px_callE (tx := tx) (rmY := rm_x_bh) hk hK htab htr hG hview [.int w, .int hi] st (fun H ht _ _ => k_behind hΓ ht hf) (lw_V q843 q845 qs23 q129 q846) hv_k_behind (rmFit_i hF (by show 8 + (3 + 11) + 700 ≤ _; omega)) rfl hs hd rfl hcs
end PYN
theorem hv_k_doing : yX3_doing.cls = RX3 ∧ yX3_doing.cls ≠ "java/lang/invoke/MethodHandle" ∧ yX3_doing.cls ≠ "java/lang/invoke/VarHandle" ∧ (parseMethodDescriptor yX3_doing.desc).map (fun d => d.parameters.length) = some 1 := by decide +kernel
section DOI
variable {Γ : CG} {tx : TXs Tx} {π : PPar}
theorem k_doing (hΓ : DLX Γ) {H0 : Heap} {τ : TKS} {cl : Int32} {r : KRs (Int32 × Int32 × Int32 × Int32)} (ht : va_at (gD Γ) ccl (π.1, .inr (2, tkF Γ π τ)) H0) (hkd : τ.2.2.2.2.2 = 203 ∨ τ.2.2.2.2.2 = 204 ∨ τ.2.2.2.2.2 = 205 ∨ τ.2.2.2.2.2 = 206 ∨ τ.2.2.2.2.2 = 207) (hr : K_doing π cl τ = some r) : XMet Γ tx π yX3_doing cX3_doing 3 (some (.object "ShaveOfAnother$Doing")) rm_x_do [.ref π.1, .int cl] H0 (vwD Γ π H0 r.1) := by
  refine x_met (view := fun r : KRs (Int32 × Int32 × Int32 × Int32) => vwD Γ π H0 r.1) (comp := some r) (own := RX3) rfl (by decide) rfl (ls0 := [(0, .ref π.1), (1, .int cl)]) rfl (fun K hk hK htab htr hH hG => ?_) r rfl
  subst hH
  have ht9 := ht.lt
  refine px_in ?_ ht
  unfold K_doing at hr
  have fin : ∀ (c : Nat) (x0 x1 x2 : Int32) (τ9 : TKS) (cs sl pc : Nat), r.1 = .inr ((x0, x1, x2, cl), τ9) → cs ≤ 4 → sl ≤ 28 → decode cX3_doing pc = .ok (.invokespecial 122, 3) → decode cX3_doing (pc + 3) = .ok (.areturn, 1) → ∀ ls, GGo K (xQ K Γ π rm_x_do (fun r : KRs (Int32 × Int32 × Int32 × Int32) => vwD Γ π (kS K).heap r.1)) (some r) 3 (PX K Γ π τ9 (fun H => True ∧ va_at (gD Γ) ccl (c, .inr (14, [.int 0, .int 0, .int 0, .int 0])) H ∧ (kS K).heap.size ≤ c)) cs sl pc ls [.int cl, .int x2, .int x1, .int x0, .ref c, .ref c] := by
    intro c x0 x1 x2 τ9 cs sl pc hr1 hc hs hd1 hd2 ls
    obtain ⟨po, a, b⟩ := r
    cases hr1
    refine py_rec (ci := 14) (gs := [.int x0, .int x1, .int x2, .int cl]) hk hK htr hG [.int x0, .int x1, .int x2, .int cl] [.ref c] (fun H hf => n_X15 x0 x1 x2 cl hf) cn_847 q848 q157 q849 rfl hi_X15 (by decide) (by decide) rfl rfl hd1 rfl ⟨hc, hs⟩ ht9 (fun _ _ _ _ _ => trivial) ?_
    exact x_aretX hk (Or.inl ⟨_, rfl⟩) rfl (fun H locs hI => ⟨⟨c, rfl, hI.1, hI.2.2.2.2.1, hI.2.2.2.2.2⟩, hI.2.1, hI.2.2.1⟩) hd2 hc hs
  have stc : ∀ c : Nat, PSt π (fun H => True ∧ va_at (gD Γ) ccl (c, .inr (14, [.int 0, .int 0, .int 0, .int 0])) H ∧ (kS K).heap.size ≤ c) := fun c H H1 h hFr => ⟨trivial, h.2.1.kept (hFr.2 _ h.2.1.lt (by have := h.2.2; omega)), h.2.2⟩
  refine g_aload_n (pc := 0) hk dX3_doing_0 rfl ?_
  refine kg_83 (pc := 1) hk hK (fun _ _ e => e.1) dX3_doing_1 ?_
  by_cases e203 : τ.2.2.2.2.2 = 203
  · rw [if_pos e203] at hr
    refine g_tabIn (pc := 4) (tgt := 40) hk 203 e203 dX3_doing_4 (by decide) (by decide) rfl rfl ?_
    refine g_aload_n (pc := 40) hk dX3_doing_40 rfl ?_
    refine g_iconst (pc := 41) (v := 0) hk dX3_doing_41 rfl ?_
    refine g_bipush (pc := 42) (v := 99) hk dX3_doing_42 rfl ?_
    rcases obE_some hr with ⟨e, hn, h⟩ | ⟨a, hn, h⟩
    · cases h
      exact py_numE (pc := 44) hΓ.1 hk hK htab htr hG rfl hn (by decide) (by decide) rfl dX3_doing_44 ⟨by decide, by decide⟩
    refine py_numR (pc := 44) hΓ.1 hk hK htr hG PSt.tr hn (by decide) (by decide) rfl dX3_doing_44 ⟨by decide, by decide⟩ ?_
    refine g_istore_n (pc := 47) (i := 2) hk dX3_doing_47 rfl (by decide) rfl ?_
    refine py_new (pc := 48) (ci := 14) (N := 4) (fs := [.int 0, .int 0, .int 0, .int 0]) (E2 := fun _ _ => True) hk hK rfl in_X15 tyX15 tyX15_ok q841 q842 q157 (fun j hj => by
      rcases (show j = 0 ∨ j = 1 ∨ j = 2 ∨ j = 3 by omega) with rfl | rfl | rfl | rfl <;> rfl) (by decide) (by decide) dX3_doing_48 ht9 (fun _ _ _ _ _ _ => trivial) (fun c => ?_)
    refine g_dup (pc := 51) hk dX3_doing_51 rfl ?_
    refine g_aload_n (pc := 52) hk dX3_doing_52 rfl ?_
    refine kg_83 (pc := 53) hk hK (fun _ _ e => e.1) dX3_doing_53 ?_
    refine g_iload_n (pc := 56) hk dX3_doing_56 rfl ?_
    refine g_aload_n (pc := 57) hk dX3_doing_57 rfl ?_
    refine g_sipush (pc := 58) (v := 208) hk dX3_doing_58 rfl ?_
    refine g_bipush (pc := 61) (v := 9) hk dX3_doing_61 rfl ?_
    rcases obE_some h with ⟨e, hb, h⟩ | ⟨b, hb, h⟩
    · cases h
      exact py_behE (pc := 63) hΓ.1 hk hK htab htr hG rfl hb (by decide) (by decide) rfl dX3_doing_63 ⟨by decide, by decide⟩
    refine py_behR (pc := 63) hΓ.1 hk hK htr hG (stc c) hb (by decide) (by decide) rfl dX3_doing_63 ⟨by decide, by decide⟩ ?_
    refine g_iload_n (pc := 66) hk dX3_doing_66 rfl ?_
    cases h
    exact fin c _ _ _ _ _ _ 67 rfl (by decide) (by decide) dX3_doing_67 dX3_doing_70 _
  rw [if_neg e203] at hr
  by_cases e204 : τ.2.2.2.2.2 = 204
  · rw [if_pos e204] at hr
    refine g_tabIn (pc := 4) (tgt := 71) hk 204 e204 dX3_doing_4 (by decide) (by decide) rfl rfl ?_
    refine g_aload_n (pc := 71) hk dX3_doing_71 rfl ?_
    refine g_iconst (pc := 72) (v := 0) hk dX3_doing_72 rfl ?_
    refine g_bipush (pc := 73) (v := 7) hk dX3_doing_73 rfl ?_
    rcases obE_some hr with ⟨e, hn, h⟩ | ⟨a, hn, h⟩
    · cases h
      exact py_numE (pc := 75) hΓ.1 hk hK htab htr hG rfl hn (by decide) (by decide) rfl dX3_doing_75 ⟨by decide, by decide⟩
    refine py_numR (pc := 75) hΓ.1 hk hK htr hG PSt.tr hn (by decide) (by decide) rfl dX3_doing_75 ⟨by decide, by decide⟩ ?_
    refine g_istore_n (pc := 78) (i := 2) hk dX3_doing_78 rfl (by decide) rfl ?_
    refine py_new (pc := 79) (ci := 14) (N := 4) (fs := [.int 0, .int 0, .int 0, .int 0]) (E2 := fun _ _ => True) hk hK rfl in_X15 tyX15 tyX15_ok q841 q842 q157 (fun j hj => by
      rcases (show j = 0 ∨ j = 1 ∨ j = 2 ∨ j = 3 by omega) with rfl | rfl | rfl | rfl <;> rfl) (by decide) (by decide) dX3_doing_79 ht9 (fun _ _ _ _ _ _ => trivial) (fun c => ?_)
    refine g_dup (pc := 82) hk dX3_doing_82 rfl ?_
    refine g_aload_n (pc := 83) hk dX3_doing_83 rfl ?_
    refine kg_83 (pc := 84) hk hK (fun _ _ e => e.1) dX3_doing_84 ?_
    refine g_iload_n (pc := 87) hk dX3_doing_87 rfl ?_
    refine g_aload_n (pc := 88) hk dX3_doing_88 rfl ?_
    refine g_sipush (pc := 89) (v := 209) hk dX3_doing_89 rfl ?_
    refine g_bipush (pc := 92) (v := 7) hk dX3_doing_92 rfl ?_
    rcases obE_some h with ⟨e, hb, h⟩ | ⟨b, hb, h⟩
    · cases h
      exact py_behE (pc := 94) hΓ.1 hk hK htab htr hG rfl hb (by decide) (by decide) rfl dX3_doing_94 ⟨by decide, by decide⟩
    refine py_behR (pc := 94) hΓ.1 hk hK htr hG (stc c) hb (by decide) (by decide) rfl dX3_doing_94 ⟨by decide, by decide⟩ ?_
    refine g_iload_n (pc := 97) hk dX3_doing_97 rfl ?_
    cases h
    exact fin c _ _ _ _ _ _ 98 rfl (by decide) (by decide) dX3_doing_98 dX3_doing_101 _
  rw [if_neg e204] at hr
  by_cases e207 : τ.2.2.2.2.2 = 207
  · rw [if_pos e207] at hr
    refine g_tabIn (pc := 4) (tgt := 102) hk 207 e207 dX3_doing_4 (by decide) (by decide) rfl rfl ?_
    refine py_new (pc := 102) (ci := 14) (N := 4) (fs := [.int 0, .int 0, .int 0, .int 0]) (E2 := fun _ _ => True) hk hK rfl in_X15 tyX15 tyX15_ok q841 q842 q157 (fun j hj => by
      rcases (show j = 0 ∨ j = 1 ∨ j = 2 ∨ j = 3 by omega) with rfl | rfl | rfl | rfl <;> rfl) (by decide) (by decide) dX3_doing_102 ht9 (fun _ _ _ _ _ _ => trivial) (fun c => ?_)
    refine g_dup (pc := 105) hk dX3_doing_105 rfl ?_
    refine g_aload_n (pc := 106) hk dX3_doing_106 rfl ?_
    refine kg_83 (pc := 107) hk hK (fun _ _ e => e.1) dX3_doing_107 ?_
    refine g_aload_n (pc := 110) hk dX3_doing_110 rfl ?_
    refine g_iconst (pc := 111) (v := 1) hk dX3_doing_111 rfl ?_
    refine g_bipush (pc := 112) (v := 60) hk dX3_doing_112 rfl ?_
    rcases obE_some hr with ⟨e, hn, h⟩ | ⟨a, hn, h⟩
    · cases h
      exact py_numE (pc := 114) hΓ.1 hk hK htab htr hG rfl hn (by decide) (by decide) rfl dX3_doing_114 ⟨by decide, by decide⟩
    refine py_numR (pc := 114) hΓ.1 hk hK htr hG (stc c) hn (by decide) (by decide) rfl dX3_doing_114 ⟨by decide, by decide⟩ ?_
    refine g_iconst (pc := 117) (v := (-1)) hk dX3_doing_117 rfl ?_
    refine g_iload_n (pc := 118) hk dX3_doing_118 rfl ?_
    cases h
    exact fin c _ _ _ _ _ _ 119 rfl (by decide) (by decide) dX3_doing_119 dX3_doing_122 _
  rw [if_neg e207] at hr
  have body : GGo K (xQ K Γ π rm_x_do (fun r : KRs (Int32 × Int32 × Int32 × Int32) => vwD Γ π (kS K).heap r.1)) (some r) 3 (PX K Γ π τ (fun _ => True)) 0 0 123 [(0, .ref π.1), (1, .int cl)] [] := by
    refine py_new (pc := 123) (ci := 14) (N := 4) (fs := [.int 0, .int 0, .int 0, .int 0]) (E2 := fun _ _ => True) hk hK rfl in_X15 tyX15 tyX15_ok q841 q842 q157 (fun j hj => by
      rcases (show j = 0 ∨ j = 1 ∨ j = 2 ∨ j = 3 by omega) with rfl | rfl | rfl | rfl <;> rfl) (by decide) (by decide) dX3_doing_123 ht9 (fun _ _ _ _ _ _ => trivial) (fun c => ?_)
    refine g_dup (pc := 126) hk dX3_doing_126 rfl ?_
    refine g_aload_n (pc := 127) hk dX3_doing_127 rfl ?_
    refine kg_83 (pc := 128) hk hK (fun _ _ e => e.1) dX3_doing_128 ?_
    refine g_aload_n (pc := 131) hk dX3_doing_131 rfl ?_
    refine g_iconst (pc := 132) (v := 0) hk dX3_doing_132 rfl ?_
    refine g_bipush (pc := 133) (v := 7) hk dX3_doing_133 rfl ?_
    rcases obE_some hr with ⟨e, hn, h⟩ | ⟨a, hn, h⟩
    · cases h
      exact py_numE (pc := 135) hΓ.1 hk hK htab htr hG rfl hn (by decide) (by decide) rfl dX3_doing_135 ⟨by decide, by decide⟩
    refine py_numR (pc := 135) hΓ.1 hk hK htr hG (stc c) hn (by decide) (by decide) rfl dX3_doing_135 ⟨by decide, by decide⟩ ?_
    refine g_iconst (pc := 138) (v := (-1)) hk dX3_doing_138 rfl ?_
    refine g_iload_n (pc := 139) hk dX3_doing_139 rfl ?_
    cases h
    exact fin c _ _ _ _ _ _ 140 rfl (by decide) (by decide) dX3_doing_140 dX3_doing_143 _
  rcases hkd with h | h | h | h | h
  · exact absurd h e203
  · exact absurd h e204
  · exact g_tabIn (pc := 4) (tgt := 123) hk 205 h dX3_doing_4 (by decide) (by decide) rfl rfl body
  · exact g_tabIn (pc := 4) (tgt := 123) hk 206 h dX3_doing_4 (by decide) (by decide) rfl rfl body
  · exact absurd h e207
end DOI
