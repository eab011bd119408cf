/-! THE PARSE METHODS' world; want, number, opens, behind, nameNow -/
set_option maxRecDepth 100000
def obE {α ρ : Type} (c : Option ((Int32 × Int32) ⊕ α)) (f : Int32 × Int32 → Option ρ) (k : α → Option ρ) : Option ρ := match c with
  | none => none
  | some (.inl e) => f e
  | some (.inr a) => k a
theorem g_obE {ρ α : Type} {K : KT} {Q : ρ → State → Prop} {c : Option ((Int32 × Int32) ⊕ α)} {f : Int32 × Int32 → Option ρ} {k : α → Option ρ} {nL : Nat} {I : Heap → List Loc → Prop} {cs sl pc : Nat} {ls : List (Nat × Value)} {st : List Value} (he : ∀ e, c = some (.inl e) → GGo K Q (f e) nL I cs sl pc ls st) (hk : ∀ a, c = some (.inr a) → GGo K Q (k a) nL I cs sl pc ls st) : GGo K Q (obE c f k) nL I cs sl pc ls st := by
  intro r hr
  cases hc : c with
  | none => rw [hc] at hr; cases hr
  | some x =>
    cases x with
    | inl e => rw [hc] at hr; exact he e hc r hr
    | inr a => rw [hc] at hr; exact hk a hc r hr
theorem g_res {ρ : Type} {K : KT} {Q : ρ → State → Prop} {comp : Option ρ} {nL : Nat} {I : Heap → List Loc → Prop} {cs sl pc : Nat} {ls : List (Nat × Value)} {st : List Value} (h : ∀ x, comp = some x → GGo K Q (some x) nL I cs sl pc ls st) : GGo K Q comp nL I cs sl pc ls st := fun r hr => h r hr r rfl
/-- within a parse method: the object's numbers; all older cells kept; what else holds -/
def PX (K : KT) (Γ : CG) (π : PPar) (τ : TKS) (E : Heap → Prop) : Heap → List Loc → Prop := fun H locs => va_at (gD Γ) ccl (π.1, .inr (2, tkF Γ π τ)) H ∧ pFr π.1 (kS K).heap H ∧ (∀ l ∈ locs, xFr π.1 (kS K).heap.size l.base) ∧ E H
/-- what holds on whatever a parse method does -/
def PSt (π : PPar) (E : Heap → Prop) : Prop := ∀ H H1, E H → pFr π.1 H H1 → E H1
theorem PSt.tr {π : PPar} : PSt π (fun _ => True) := fun _ _ _ _ => trivial
theorem hv_k_wrong : yX3_wrong.cls = RX3 ∧ yX3_wrong.cls ≠ "java/lang/invoke/MethodHandle" ∧ yX3_wrong.cls ≠ "java/lang/invoke/VarHandle" ∧ (parseMethodDescriptor yX3_wrong.desc).map (fun d => d.parameters.length) = some 1 := by decide +kernel
theorem hv_k_want : yX3_want.cls = RX3 ∧ yX3_want.cls ≠ "java/lang/invoke/MethodHandle" ∧ yX3_want.cls ≠ "java/lang/invoke/VarHandle" ∧ (parseMethodDescriptor yX3_want.desc).map (fun d => d.parameters.length) = some 1 := by decide +kernel
theorem hv_k_number : yX3_number.cls = RX3 ∧ yX3_number.cls ≠ "java/lang/invoke/MethodHandle" ∧ yX3_number.cls ≠ "java/lang/invoke/VarHandle" ∧ (parseMethodDescriptor yX3_number.desc).map (fun d => d.parameters.length) = some 2 := by decide +kernel
theorem hv_k_opens : yX3_opens.cls = RX3 ∧ yX3_opens.cls ≠ "java/lang/invoke/MethodHandle" ∧ yX3_opens.cls ≠ "java/lang/invoke/VarHandle" ∧ (parseMethodDescriptor yX3_opens.desc).map (fun d => d.parameters.length) = some 0 := by decide +kernel
theorem hv_k_behind : yX3_behind.cls = RX3 ∧ yX3_behind.cls ≠ "java/lang/invoke/MethodHandle" ∧ yX3_behind.cls ≠ "java/lang/invoke/VarHandle" ∧ (parseMethodDescriptor yX3_behind.desc).map (fun d => d.parameters.length) = some 2 := by decide +kernel
section PXR
variable {ρ : Type} {K : KT} {Q : ρ → State → Prop} {comp : Option ρ} {f : TKS → Option ρ} {nL : Nat} {cs sl pc : Nat} {ls : List (Nat × Value)} {st stk : List Value} {cc : ByteArray} {rm : Room} {ret : Option FieldType} {Γ : CG} {π : PPar} {τ τ' : TKS} {tx : TXs Tx} {E : Heap → Prop} {view : ρ → PRes} {r0 : ρ}
/-- a Wrong is made and thrown -/
theorem px_thr {c : Int32} (hΓ : DKX Γ) (hk : KOK K cc nL RX3 rm ret) (hK : CK Γ (kS K)) (htab : noTab K) (htr : K.2.1.stackTraces = false) (hG : PG Γ tx π (kS K) (kS K).heap) (hview : view r0 = .inl (c, τ.2.1)) (hrm : rmFit 2 rm_x_wr rm = true) (hc : cs + 1 ≤ rm.cells ∧ sl + 8 ≤ rm.slots) (hd1 : decode cc pc = .ok (.invokevirtual 70, 3)) (hd2 : decode cc (pc + 3) = .ok (.athrow, 1)) : GGo K (xQ K Γ π rm view) (some r0) nL (PX K Γ π τ E) cs sl pc ls [.int c, .ref π.1] := by
  refine x_callR (tx := tx) (rmY := rm_x_wr) (R := fun H => wrR Γ (c, τ.2.1) H) hk hK htr (fun H locs hI => hG.fr hI.2.1) (x_rec hK (ci := 2) rfl (fun _ _ e => e.1)) [.int c] [] (fun H locs hI => m_wrong hΓ.1 hI.1 c) (lw_V q479 q481 qs3 q129 q482) hv_k_wrong hrm rfl rfl hd1 rfl hc (fun v => ?_)
  intro r hr H1 locs1 lsA hI hh
  obtain ⟨H, locs, hP, ⟨q, rfl, hw, hz, ho⟩, hF, hl⟩ := hI
  refine x_athrow (pc := pc + 3) (I := fun H l => H = H1 ∧ l = locs1) hk hK htab hview (fun H9 l9 e => ?_) hd2 hc.1 hc.2 r hr H1 locs1 lsA ⟨rfl, rfl⟩ hh
  obtain ⟨rfl, rfl⟩ := e
  refine ⟨hw, hP.2.1.trans hF, fun l hl9 => ?_⟩
  rcases hl l hl9 with h | h | h
  · exact hP.2.2.1 l h
  · exact Or.inl h
  · exact Or.inr (Nat.le_trans hP.2.1.1 h)
/-- a parse method is called and returns -/
theorem px_callR {E' : Option Value → Heap → Prop} {R : Heap → Option Value → Heap → Prop} {V : Option Value → Prop} (hk : KOK K cc nL RX3 rm ret) (hK : CK Γ (kS K)) (htr : K.2.1.stackTraces = false) (hG : PG Γ tx π (kS K) (kS K).heap) {y : MethodName} {bytes : ByteArray} {maxL n idx : Nat} {retY : Option FieldType} {rmY : Room} (As : List Value) (st : List Value) (hM : ∀ H, va_at (gD Γ) ccl (π.1, .inr (2, tkF Γ π τ)) H → E H → pFr π.1 (kS K).heap H → XMet Γ tx π y bytes maxL retY rmY (.ref π.1 :: As) H (.inr (R H))) (hR : ∀ H v H1, E H → pFr π.1 (kS K).heap H → pFr π.1 H H1 → R H v H1 → V v ∧ va_at (gD Γ) ccl (π.1, .inr (2, tkF Γ π τ')) H1 ∧ E' v H1) (hGd : GoodIn lw_all (wsV RX3 idx RX3 y (ws_ y bytes maxL retY))) (hy : y.cls = RX3 ∧ y.cls ≠ "java/lang/invoke/MethodHandle" ∧ y.cls ≠ "java/lang/invoke/VarHandle" ∧ (parseMethodDescriptor y.desc).map (fun d => d.parameters.length) = some n) (hrm : rmFit maxL rmY rm = true) (hn : As.length = n) (hs : Nat.ble ((st.map fun v => v.category).sum) 8 = true) (hd : decode cc pc = .ok (.invokevirtual idx, 3)) (hstk : stk = As.reverse ++ .ref π.1 :: st) (hcs : cs + rmY.cells ≤ rm.cells ∧ sl + rmY.slots ≤ rm.slots)
    (kk : ∀ v, V v → GGo K Q comp nL (PX K Γ π τ' (E' v)) (cs + rmY.cells) (sl + rmY.slots) (pc + 3) ls (v.toList ++ st)) : GGo K Q comp nL (PX K Γ π τ E) cs sl pc ls stk := by
  refine x_callR (tx := tx) (rmY := rmY) (R := R) hk hK htr (fun H locs hI => hG.fr hI.2.1) (x_rec hK (ci := 2) rfl (fun _ _ e => e.1)) As st (fun H locs hI => hM H hI.1 hI.2.2.2 hI.2.1) hGd hy hrm hn hs hd hstk hcs (fun v => ?_)
  intro r hr H1 locs1 lsA hI hh
  obtain ⟨H, locs, hP, hRv, hF, hl⟩ := hI
  obtain ⟨hV, ht', hE'⟩ := hR H v H1 hP.2.2.2 hP.2.1 hF hRv
  refine kk v hV r hr H1 locs1 lsA ⟨ht', hP.2.1.trans hF, fun l hl9 => ?_, hE'⟩ hh
  rcases hl l hl9 with h | h | h
  · exact hP.2.2.1 l h
  · exact Or.inl h
  · exact Or.inr (Nat.le_trans hP.2.1.1 h)
/-- .. and throws -/
theorem px_callE {e : Int32 × Int32} (hk : KOK K cc nL RX3 rm ret) (hK : CK Γ (kS K)) (htab : noTab K) (htr : K.2.1.stackTraces = false) (hG : PG Γ tx π (kS K) (kS K).heap) (hview : view r0 = .inl e) {y : MethodName} {bytes : ByteArray} {maxL n idx : Nat} {retY : Option FieldType} {rmY : Room} (As : List Value) (st : List Value) (hM : ∀ H, va_at (gD Γ) ccl (π.1, .inr (2, tkF Γ π τ)) H → E H → pFr π.1 (kS K).heap H → XMet Γ tx π y bytes maxL retY rmY (.ref π.1 :: As) H (.inl e)) (hGd : GoodIn lw_all (wsV RX3 idx RX3 y (ws_ y bytes maxL retY))) (hy : y.cls = RX3 ∧ y.cls ≠ "java/lang/invoke/MethodHandle" ∧ y.cls ≠ "java/lang/invoke/VarHandle" ∧ (parseMethodDescriptor y.desc).map (fun d => d.parameters.length) = some n) (hrm : rmFit maxL rmY rm = true) (hn : As.length = n) (hs : Nat.ble ((st.map fun v => v.category).sum) 8 = true) (hd : decode cc pc = .ok (.invokevirtual idx, 3)) (hstk : stk = As.reverse ++ .ref π.1 :: st) (hcs : cs + rmY.cells ≤ rm.cells ∧ sl + rmY.slots ≤ rm.slots) : GGo K (xQ K Γ π rm view) (some r0) nL (PX K Γ π τ E) cs sl pc ls stk :=
  x_callE (tx := tx) (rmY := rmY) hk hK htab htr (fun H locs hI => hG.fr hI.2.1) (fun H locs hI => ⟨hI.2.1, hI.2.2.1⟩) hview (x_rec hK (ci := 2) rfl (fun _ _ e => e.1)) As st (fun H locs hI => hM H hI.1 hI.2.2.2 hI.2.1) hGd hy hrm hn hs hd hstk hcs
theorem px_77 {v : Int32} (hk : KOK K cc nL RX3 rm ret) (hK : CK Γ (kS K)) (hE : PSt π E) (hd : decode cc pc = .ok (.putfield 77, 3)) (kk : GGo K Q (f (sOpen τ v)) nL (PX K Γ π (sOpen τ v) E) cs sl (pc + 3) ls st) : GGo K Q (nm (sOpen τ v) f) nL (PX K Γ π τ E) cs sl pc ls (.int v :: .ref π.1 :: st) := by
  refine x_put (ci := 2) (fs := tkF Γ π τ) (ref := RX3) hk hK rfl in_X3 tyX3 tyX3_ok nmX3 (fun _ _ e => e.1) 6 (by decide) q339 rfl rfl rfl rfl (show 6 < 8 by decide) hd ?_
  refine g_I (I' := PX K Γ π (sOpen τ v) E) (fun H1 locs1 hI => ?_) kk
  obtain ⟨H, locs, ⟨-, h2, h3, h4⟩, h5, h6, h7, h8⟩ := hI
  have hF : pFr π.1 H H1 := ⟨by omega, fun q _ hq => h7 q hq⟩
  exact ⟨h5, h2.trans hF, fun l hl => (h8 l hl).elim (h3 l) Or.inl, hE _ _ h4 hF⟩
theorem px_83 {v : Int32} (hk : KOK K cc nL RX3 rm ret) (hK : CK Γ (kS K)) (hE : PSt π E) (hd : decode cc pc = .ok (.putfield 83, 3)) (kk : GGo K Q (f (sKind τ v)) nL (PX K Γ π (sKind τ v) E) cs sl (pc + 3) ls st) : GGo K Q (nm (sKind τ v) f) nL (PX K Γ π τ E) cs sl pc ls (.int v :: .ref π.1 :: st) := by
  refine x_put (ci := 2) (fs := tkF Γ π τ) (ref := RX3) hk hK rfl in_X3 tyX3 tyX3_ok nmX3 (fun _ _ e => e.1) 7 (by decide) q340 rfl rfl rfl rfl (show 7 < 8 by decide) hd ?_
  refine g_I (I' := PX K Γ π (sKind τ v) E) (fun H1 locs1 hI => ?_) kk
  obtain ⟨H, locs, ⟨-, h2, h3, h4⟩, h5, h6, h7, h8⟩ := hI
  have hF : pFr π.1 H H1 := ⟨by omega, fun q _ hq => h7 q hq⟩
  exact ⟨h5, h2.trans hF, fun l hl => (h8 l hl).elim (h3 l) Or.inl, hE _ _ h4 hF⟩
/-- next is called -/
theorem px_next {r : TKS} (hΓ : DKX Γ) (hk : KOK K cc nL RX3 rm ret) (hK : CK Γ (kS K)) (htr : K.2.1.stackTraces = false) (hG : PG Γ tx π (kS K) (kS K).heap) (hE : PSt π E) (hr : K_next π τ = some r) (hrm : rmFit 3 rm_x_nx rm = true) (hs : Nat.ble ((st.map fun v => v.category).sum) 8 = true) (hd : decode cc pc = .ok (.invokevirtual 74, 3)) (hcs : cs ≤ rm.cells ∧ sl ≤ rm.slots) (kk : GGo K Q comp nL (PX K Γ π r E) cs sl (pc + 3) ls st) : GGo K Q comp nL (PX K Γ π τ E) cs sl pc ls (.ref π.1 :: st) := by
  refine px_callR (tx := tx) (rmY := rm_x_nx) (E' := fun _ => E) (V := fun v => v = none) (R := fun H => tkR Γ π H r) hk hK htr hG [] st (fun H ht _ _ => k_next hΓ ht hr) (fun H v H1 h1 _ h3 h4 => ⟨h4.1, h4.2.1, hE _ _ h1 h3⟩) (lw_V q410 q412 qs1 q129 q413) hv_k_next hrm rfl hs hd rfl hcs (fun v hv => ?_)
  subst hv
  exact kk
/-- the start of a parse method -/
theorem px_in (hH : GGo K Q comp nL (PX K Γ π τ (fun _ => True)) cs sl pc ls st) (ht : va_at (gD Γ) ccl (π.1, .inr (2, tkF Γ π τ)) (kS K).heap) : GGo K Q comp nL (pI K) cs sl pc ls st := by
  refine g_I (fun H locs hI => ?_) hH
  obtain ⟨rfl, rfl⟩ := hI
  exact ⟨ht, pFr.rf, (fun _ h => by cases h), trivial⟩
end PXR
/-! want, number, opens, behind -/
def K_want (π : PPar) (s : Int32) (τ : TKS) : Option ((Int32 × Int32) ⊕ TKS) := if τ.2.2.1 = s then ob1 (K_next π τ) (fun r => some (.inr r)) else some (.inl (1, τ.2.1))
def K_number (π : PPar) (lo hi : Int32) (τ : TKS) : Option ((Int32 × Int32) ⊕ (Int32 × TKS)) := if τ.2.2.1 = 300 then (if τ.2.2.2.1 < lo then some (.inl (2, τ.2.1)) else if hi < τ.2.2.2.1 then some (.inl (2, τ.2.1)) else ob1 (K_next π τ) (fun r => some (.inr (τ.2.2.2.1, r)))) else some (.inl (1, τ.2.1))
def K_opens (π : PPar) (τ : TKS) : Option ((Int32 × Int32) ⊕ TKS) := if τ.2.2.2.2.1 = 8 then some (.inl (3, τ.2.1)) else nm (sOpen τ (τ.2.2.2.2.1 + 1)) (fun τ1 => ob1 (K_next π τ1) (fun r => some (.inr r)))
def K_behind (π : PPar) (w hi : Int32) (τ : TKS) : Option ((Int32 × Int32) ⊕ (Int32 × TKS)) := obE (K_want π w τ) (fun e => some (.inl e)) (fun τ1 => K_number π 0 hi τ1)
def vwT (Γ : CG) (π : PPar) : ((Int32 × Int32) ⊕ TKS) → PRes
  | .inl e => .inl e
  | .inr r => .inr (fun v H1 => v = none ∧ va_at (gD Γ) ccl (π.1, .inr (2, tkF Γ π r)) H1)
def vwN (Γ : CG) (π : PPar) : ((Int32 × Int32) ⊕ (Int32 × TKS)) → PRes
  | .inl e => .inl e
  | .inr r => .inr (fun v H1 => v = some (.int r.1) ∧ va_at (gD Γ) ccl (π.1, .inr (2, tkF Γ π r.2)) H1)
def rm_x_wn : Room := { frames := 8, cells := 1, slots := 8, locals := 500 }
def rm_x_bh : Room := { frames := 10, cells := 2, slots := 16, locals := 700 }
section WNT
variable {Γ : CG} {tx : TXs Tx} {π : PPar} {H0 : Heap} {τ : TKS}
theorem k_want (hΓ : DKX Γ) (ht : va_at (gD Γ) ccl (π.1, .inr (2, tkF Γ π τ)) H0) {s : Int32} {r : (Int32 × Int32) ⊕ TKS} (hr : K_want π s τ = some r) : XMet Γ tx π yX3_want cX3_want 2 none rm_x_wn [.ref π.1, .int s] H0 (vwT Γ π r) := by
  refine x_met (view := vwT Γ π) (own := RX3) rfl (by decide) rfl (ls0 := [(0, .ref π.1), (1, .int s)]) rfl (fun K hk hK htab htr hH hG => ?_) r hr
  subst hH
  refine px_in ?_ ht
  unfold K_want
  refine g_aload_n (pc := 0) hk dX3_want_0 rfl ?_
  refine kg_25 (pc := 1) hk hK (fun _ _ e => e.1) dX3_want_1 ?_
  refine g_iload_n (pc := 4) hk dX3_want_4 rfl ?_
  refine g_icmp_eq (pc := 5) (tgt := 14) hk dX3_want_5 rfl ?_ ?_
  · refine g_ob1 (fun r hr => ?_)
    refine g_aload_n (pc := 14) hk dX3_want_14 rfl ?_
    refine px_next (pc := 15) hΓ hk hK htr hG PSt.tr hr rfl rfl dX3_want_15 ⟨Nat.zero_le _, Nat.zero_le _⟩ ?_
    exact x_vretX (pc := 18) hk rfl (fun H locs hI => ⟨⟨rfl, hI.1⟩, hI.2.1, hI.2.2.1⟩) dX3_want_18 (Nat.zero_le _) (Nat.zero_le _)
  · refine g_aload_n (pc := 8) hk dX3_want_8 rfl ?_
    refine g_iconst (pc := 9) (v := 1) hk dX3_want_9 rfl ?_
    exact px_thr (pc := 10) hΓ hk hK htab htr hG rfl rfl ⟨by decide, by decide⟩ dX3_want_10 dX3_want_13
theorem k_number (hΓ : DKX Γ) (ht : va_at (gD Γ) ccl (π.1, .inr (2, tkF Γ π τ)) H0) {lo hi : Int32} {r : (Int32 × Int32) ⊕ (Int32 × TKS)} (hr : K_number π lo hi τ = some r) : XMet Γ tx π yX3_number cX3_number 4 (some .int) rm_x_wn [.ref π.1, .int lo, .int hi] H0 (vwN Γ π r) := by
  refine x_met (view := vwN Γ π) (own := RX3) rfl (by decide) rfl (ls0 := [(0, .ref π.1), (1, .int lo), (2, .int hi)]) rfl (fun K hk hK htab htr hH hG => ?_) r hr
  subst hH
  refine px_in ?_ ht
  unfold K_number
  refine g_aload_n (pc := 0) hk dX3_number_0 rfl ?_
  refine kg_25 (pc := 1) hk hK (fun _ _ e => e.1) dX3_number_1 ?_
  refine g_sipush (pc := 4) (v := 300) hk dX3_number_4 rfl ?_
  refine g_icmp_eq (pc := 7) (tgt := 16) hk dX3_number_7 rfl ?_ ?_
  · refine g_aload_n (pc := 16) hk dX3_number_16 rfl ?_
    refine kg_43 (pc := 17) hk hK (fun _ _ e => e.1) dX3_number_17 ?_
    refine g_iload_n (pc := 20) hk dX3_number_20 rfl ?_
    refine g_icmp_lt (pc := 21) (tgt := 32) hk dX3_number_21 rfl ?_ ?_
    · refine g_aload_n (pc := 32) hk dX3_number_32 rfl ?_
      refine g_iconst (pc := 33) (v := 2) hk dX3_number_33 rfl ?_
      exact px_thr (pc := 34) hΓ hk hK htab htr hG rfl rfl ⟨by decide, by decide⟩ dX3_number_34 dX3_number_37
    · refine g_aload_n (pc := 24) hk dX3_number_24 rfl ?_
      refine kg_43 (pc := 25) hk hK (fun _ _ e => e.1) dX3_number_25 ?_
      refine g_iload_n (pc := 28) hk dX3_number_28 rfl ?_
      refine g_icmp_le (pc := 29) (tgt := 38) hk dX3_number_29 rfl ?_ ?_
      rotate_left
      · refine g_aload_n (pc := 32) hk dX3_number_32 rfl ?_
        refine g_iconst (pc := 33) (v := 2) hk dX3_number_33 rfl ?_
        exact px_thr (pc := 34) hΓ hk hK htab htr hG rfl rfl ⟨by decide, by decide⟩ dX3_number_34 dX3_number_37
      · refine g_ob1 (fun r hr => ?_)
        refine g_aload_n (pc := 38) hk dX3_number_38 rfl ?_
        refine kg_43 (pc := 39) hk hK (fun _ _ e => e.1) dX3_number_39 ?_
        refine g_istore_n (pc := 42) (i := 3) hk dX3_number_42 rfl (by decide) rfl ?_
        refine g_aload_n (pc := 43) hk dX3_number_43 rfl ?_
        refine px_next (pc := 44) hΓ hk hK htr hG PSt.tr hr rfl rfl dX3_number_44 ⟨Nat.zero_le _, Nat.zero_le _⟩ ?_
        refine g_iload_n (pc := 47) hk dX3_number_47 rfl ?_
        exact x_iretX (pc := 48) hk rfl (fun H locs hI => ⟨⟨rfl, hI.1⟩, hI.2.1, hI.2.2.1⟩) dX3_number_48 (Nat.zero_le _) (Nat.zero_le _)
  · refine g_aload_n (pc := 10) hk dX3_number_10 rfl ?_
    refine g_iconst (pc := 11) (v := 1) hk dX3_number_11 rfl ?_
    exact px_thr (pc := 12) hΓ hk hK htab htr hG rfl rfl ⟨by decide, by decide⟩ dX3_number_12 dX3_number_15
theorem k_opens (hΓ : DKX Γ) (ht : va_at (gD Γ) ccl (π.1, .inr (2, tkF Γ π τ)) H0) {r : (Int32 × Int32) ⊕ TKS} (hr : K_opens π τ = some r) : XMet Γ tx π yX3_opens cX3_opens 1 none rm_x_wn [.ref π.1] H0 (vwT Γ π r) := by
  refine x_met (view := vwT Γ π) (own := RX3) rfl (by decide) rfl (ls0 := [(0, .ref π.1)]) rfl (fun K hk hK htab htr hH hG => ?_) r hr
  subst hH
  refine px_in ?_ ht
  unfold K_opens
  refine g_aload_n (pc := 0) hk dX3_opens_0 rfl ?_
  refine kg_77 (pc := 1) hk hK (fun _ _ e => e.1) dX3_opens_1 ?_
  refine g_bipush (pc := 4) (v := 8) hk dX3_opens_4 rfl ?_
  refine g_icmp_ne (pc := 6) (tgt := 15) hk dX3_opens_6 rfl ?_ ?_
  rotate_left
  · refine g_aload_n (pc := 9) hk dX3_opens_9 rfl ?_
    refine g_iconst (pc := 10) (v := 3) hk dX3_opens_10 rfl ?_
    exact px_thr (pc := 11) hΓ hk hK htab htr hG rfl rfl ⟨by decide, by decide⟩ dX3_opens_11 dX3_opens_14
  · refine g_aload_n (pc := 15) hk dX3_opens_15 rfl ?_
    refine g_dup (pc := 16) hk dX3_opens_16 rfl ?_
    refine kg_77 (pc := 17) hk hK (fun _ _ e => e.1) dX3_opens_17 ?_
    refine g_iconst (pc := 20) (v := 1) hk dX3_opens_20 rfl ?_
    refine g_iadd (pc := 21) hk dX3_opens_21 ?_
    refine px_77 (pc := 22) hk hK PSt.tr dX3_opens_22 ?_
    refine g_ob1 (fun r hr => ?_)
    refine g_aload_n (pc := 25) hk dX3_opens_25 rfl ?_
    refine px_next (pc := 26) hΓ hk hK htr hG PSt.tr hr rfl rfl dX3_opens_26 ⟨Nat.zero_le _, Nat.zero_le _⟩ ?_
    exact x_vretX (pc := 29) hk rfl (fun H locs hI => ⟨⟨rfl, hI.1⟩, hI.2.1, hI.2.2.1⟩) dX3_opens_29 (Nat.zero_le _) (Nat.zero_le _)
theorem k_behind (hΓ : DKX Γ) (ht : va_at (gD Γ) ccl (π.1, .inr (2, tkF Γ π τ)) H0) {w hi : Int32} {r : (Int32 × Int32) ⊕ (Int32 × TKS)} (hr : K_behind π w hi τ = some r) : XMet Γ tx π yX3_behind cX3_behind 3 (some .int) rm_x_bh [.ref π.1, .int w, .int hi] H0 (vwN Γ π r) := by
  refine x_met (view := vwN Γ π) (own := RX3) rfl (by decide) rfl (ls0 := [(0, .ref π.1), (1, .int w), (2, .int hi)]) rfl (fun K hk hK htab htr hH hG => ?_) r hr
  subst hH
  refine px_in ?_ ht
  unfold K_behind
  refine g_aload_n (pc := 0) hk dX3_behind_0 rfl ?_
  refine g_iload_n (pc := 1) hk dX3_behind_1 rfl ?_
  refine g_obE (fun e he => ?_) (fun τ1 he => ?_)
  · exact px_callE (pc := 2) hk hK htab htr hG rfl [.int w] [] (fun H ht _ _ => k_want hΓ ht he) (lw_V q721 q723 qs18 q129 q724) hv_k_want rfl rfl rfl dX3_behind_2 rfl ⟨by decide, by decide⟩
  · refine px_callR (pc := 2) (tx := tx) (rmY := rm_x_wn) (E' := fun _ _ => True) (V := fun v => v = none) (τ' := τ1) (R := fun _ v H1 => v = none ∧ va_at (gD Γ) ccl (π.1, .inr (2, tkF Γ π τ1)) H1) hk hK htr hG [.int w] [] (fun H ht _ _ => k_want hΓ ht he) (fun H v H1 _ _ _ h4 => ⟨h4.1, h4.2, trivial⟩) (lw_V q721 q723 qs18 q129 q724) hv_k_want rfl rfl rfl dX3_behind_2 rfl ⟨by decide, by decide⟩ (fun v hv => ?_)
    subst hv
    refine g_aload_n (pc := 5) hk dX3_behind_5 rfl ?_
    refine g_iconst (pc := 6) (v := 0) hk dX3_behind_6 rfl ?_
    refine g_iload_n (pc := 7) hk dX3_behind_7 rfl ?_
    refine g_res (fun x hr => ?_)
    rcases x with e | x
    · exact px_callE (pc := 8) (rmY := rm_x_wn) hk hK htab htr hG rfl [.int 0, .int hi] [] (fun H ht _ _ => k_number hΓ ht hr) (lw_V q567 q569 qs9 q129 q570) hv_k_number rfl rfl rfl dX3_behind_8 rfl ⟨by decide, by decide⟩
    · refine px_callR (pc := 8) (tx := tx) (rmY := rm_x_wn) (E' := fun _ _ => True) (V := fun v => v = some (.int x.1)) (τ' := x.2) (R := fun _ v H1 => v = some (.int x.1) ∧ va_at (gD Γ) ccl (π.1, .inr (2, tkF Γ π x.2)) H1) hk hK htr hG [.int 0, .int hi] [] (fun H ht _ _ => k_number hΓ ht hr) (fun H v H1 _ _ _ h4 => ⟨h4.1, h4.2, trivial⟩) (lw_V q567 q569 qs9 q129 q570) hv_k_number rfl rfl rfl dX3_behind_8 rfl ⟨by decide, by decide⟩ (fun v hv => ?_)
      subst hv
      exact x_iretX (pc := 11) hk rfl (fun H locs hI => ⟨⟨rfl, hI.1⟩, hI.2.1, hI.2.2.1⟩) dX3_behind_11 (by decide) (by decide)
end WNT
