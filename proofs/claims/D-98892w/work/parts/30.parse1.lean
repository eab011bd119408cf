/-! THE RECURSIVE PARSE METHODS: nameNow; results with costs; rows -/
set_option maxRecDepth 100000
theorem x_ialdT {ρ : Type} {K : KT} {Q : ρ → State → Prop} {comp : Option ρ} {nL : Nat} {I : Heap → List Loc → Prop} {cs sl pc : Nat} {ls : List (Nat × Value)} {st : List Value} {cc : ByteArray} {rm : Room} {ret : Option FieldType} {own : String} (hk : KOK K cc nL own rm ret) {t N j : Nat} {f : Nat → Int32} {i : Int32} {P : Nat → Prop} (hB : ∀ H locs, I H locs → va_T .int t N (fun j => .int (f j)) P (kS K) H) (hin : inb i N = true) (hj : i.toNatClampNeg = j) (hd : decode cc pc = .ok (.iaload, 1)) (kk : GGo K Q comp nL I cs sl (pc + 1) ls (.int (f j) :: st)) : GGo K Q comp nL I cs sl pc ls (.int i :: .ref t :: st) := by
  subst hj
  intro r hr H locs lsA hI hh
  obtain ⟨cell, h1, h2, h3, h4, h5, h6, h7⟩ := hB H locs hI
  have hv := inb_vp hin
  have hlt := inb_lt hin
  exact W.iald (v := .int (f i.toNatClampNeg)) hk.1 hk.2.1 h1 h2 h3 (fun q => q.elim (fun z => hv (Or.inl z)) (fun z => by omega)) (h6 _ hlt) rfl rfl hd (kk r hr H locs lsA hI hh)
def kNm (s : Int32) : List Int32 → Nat → Int32
  | [], _ => -1
  | x :: t, j => if x = s then nI j else kNm s t (j + 1)
section NN
variable {Γ : CG} {tx : TXs Tx} {H0 : Heap} {π : PPar} {τ : TKS}
theorem k_nameNow_l (hΓ : DLX Γ) (ht : va_at (gD Γ) ccl (π.1, .inr (2, tkF Γ π τ)) H0) {K : KT} (hk : KOK K cX3_nameNow 2 RX3 (rmK 1) (some .int)) (hK : CK Γ (kS K)) (hH : (kS K).heap = H0) (hE : gE Γ tx (kS K) H0) : ∀ (rest pre : List Int32), kNAMED = pre ++ rest → GGo K (pQ K (fun r : Int32 => some (.int r))) (some (kNm τ.2.2.1 rest pre.length)) 2 (pI K) 0 0 2 [(0, .ref π.1), (1, .int (nI pre.length))] [] := by
  have hS := hΓ.1.2.1 _ _ _ hE
  have hl9 : kNAMED.length = 7 := rfl
  intro rest
  induction rest with
  | nil =>
    intro pre hf
    rw [List.append_nil] at hf
    have hn : ¬ nI pre.length < nI 7 := by rw [← hf]; exact fun h => Int32.lt_irrefl h
    unfold kNm
    refine g_iload_n (pc := 2) hk dX3_nameNow_2 rfl ?_
    refine x_gets (pc := 3) (C := RX3) (v := .ref (gA Γ 570)) hk (rd hH hS.2.2.2.1) q762 dX3_nameNow_3 ?_
    refine x_alenT (pc := 6) hk (rd hH hS.2.2.2.2) dX3_nameNow_6 ?_
    refine g_no hn ?_
    refine g_icmp_ge (pc := 7) (tgt := 30) hk dX3_nameNow_7 rfl ?_ g_none
    refine g_iconst (pc := 30) (v := (-1)) hk dX3_nameNow_30 rfl ?_
    exact p_iret (pc := 31) hk rfl dX3_nameNow_31
  | cons x rest ih =>
    intro pre hf
    have hlt : pre.length < 7 := by rw [← hl9, hf, List.length_append, List.length_cons]; omega
    have hy : nI pre.length < nI 7 := nI_lt hlt (by decide)
    have hx : kNAMED.getD pre.length 0 = x := by rw [hf]; simp
    unfold kNm
    have e : (some (if x = τ.2.2.1 then nI pre.length else kNm τ.2.2.1 rest (pre.length + 1)) : Option Int32) = if x = τ.2.2.1 then some (nI pre.length) else some (kNm τ.2.2.1 rest (pre.length + 1)) := by split <;> rfl
    rw [e]
    refine g_iload_n (pc := 2) hk dX3_nameNow_2 rfl ?_
    refine x_gets (pc := 3) (C := RX3) (v := .ref (gA Γ 570)) hk (rd hH hS.2.2.2.1) q762 dX3_nameNow_3 ?_
    refine x_alenT (pc := 6) hk (rd hH hS.2.2.2.2) dX3_nameNow_6 ?_
    refine g_yes hy ?_
    refine g_icmp_ge (pc := 7) (tgt := 30) hk dX3_nameNow_7 rfl g_none ?_
    refine x_gets (pc := 10) (C := RX3) (v := .ref (gA Γ 570)) hk (rd hH hS.2.2.2.1) q762 dX3_nameNow_10 ?_
    refine g_iload_n (pc := 13) hk dX3_nameNow_13 rfl ?_
    refine x_ialdT (pc := 14) (N := 7) (j := pre.length) (f := fun j => kNAMED.getD j 0) hk (rd hH hS.2.2.2.2) (inb_nI hlt (by decide)) (nI_clamp (by omega)) dX3_nameNow_14 ?_
    rw [hx]
    refine g_aload_n (pc := 15) hk dX3_nameNow_15 rfl ?_
    refine kg_25 (pc := 16) hk hK (rd hH ht) dX3_nameNow_16 ?_
    refine g_icmp_ne (pc := 19) (tgt := 24) hk dX3_nameNow_19 rfl ?_ ?_
    · refine g_iinc (pc := 24) (v := 1) hk dX3_nameNow_24 rfl rfl (by decide) rfl ?_
      refine g_goto (pc := 27) (tgt := 2) hk dX3_nameNow_27 rfl ?_
      have := ih (pre ++ [x]) (by rw [hf, List.append_assoc]; rfl)
      rw [List.length_append, List.length_singleton] at this
      rw [nI_1]
      exact g_ls (ls' := [(0, .ref π.1), (1, .int (nI (pre.length + 1)))]) ⟨rfl, rfl, trivial⟩ this
    · refine g_iload_n (pc := 22) hk dX3_nameNow_22 rfl ?_
      exact p_iret (pc := 23) hk rfl dX3_nameNow_23
theorem k_nameNow (hΓ : DLX Γ) (ht : va_at (gD Γ) ccl (π.1, .inr (2, tkF Γ π τ)) H0) : RMet Γ tx yX3_nameNow cX3_nameNow 2 (some .int) (rmK 1) [.ref π.1] H0 (some (.int (kNm τ.2.2.1 kNAMED 0))) := by
  refine r_met (view := fun r : Int32 => some (.int r)) (own := RX3) rfl (by decide) rfl (ls0 := [(0, .ref π.1)]) rfl (fun K hk hK hH hE => ?_) _ rfl
  refine g_iconst (pc := 0) (v := 0) hk dX3_nameNow_0 rfl ?_
  refine g_istore_n (pc := 1) (i := 1) hk dX3_nameNow_1 rfl (by decide) rfl ?_
  exact g_ls (ls' := [(0, .ref π.1), (1, .int (nI ([] : List Int32).length))]) ⟨rfl, rfl, trivial⟩ (k_nameNow_l hΓ ht hk hK hH hE kNAMED [] rfl)
end NN
theorem hv_k_nameNow : yX3_nameNow.cls = RX3 ∧ yX3_nameNow.cls ≠ "java/lang/invoke/MethodHandle" ∧ yX3_nameNow.cls ≠ "java/lang/invoke/VarHandle" ∧ (parseMethodDescriptor yX3_nameNow.desc).map (fun d => d.parameters.length) = some 0 := by decide +kernel
theorem hv_k_mayName : yX3_mayName.cls = RX3 ∧ yX3_mayName.cls ≠ "java/lang/invoke/MethodHandle" ∧ yX3_mayName.cls ≠ "java/lang/invoke/VarHandle" ∧ (parseMethodDescriptor yX3_mayName.desc).map (fun d => d.parameters.length) = some 1 := by decide +kernel
/-! results: a fault and its place, or what was read and the numbers behind it; cells and slots made at most -/
abbrev KRs (α : Type) : Type := ((Int32 × Int32) ⊕ (α × TKS)) × Nat × Nat
def obK {α ρ : Type} (c : Option (KRs α)) (f : Int32 × Int32 → Nat → Nat → Option ρ) (k : α → TKS → Nat → Nat → Option ρ) : Option ρ := match c with
  | none => none
  | some (.inl e, a, b) => f e a b
  | some (.inr (d, τ), a, b) => k d τ a b
theorem obK_some {α ρ : Type} {c : Option (KRs α)} {f : Int32 × Int32 → Nat → Nat → Option ρ} {k : α → TKS → Nat → Nat → Option ρ} {r : ρ} (h : obK c f k = some r) : (∃ e a b, c = some (.inl e, a, b) ∧ f e a b = some r) ∨ (∃ d τ a b, c = some (.inr (d, τ), a, b) ∧ k d τ a b = some r) := by
  rcases c with _ | ⟨e | ⟨d, τ⟩, a, b⟩
  · cases h
  · exact Or.inl ⟨e, a, b, rfl, h⟩
  · exact Or.inr ⟨d, τ, a, b, rfl, h⟩
theorem obE_some {α ρ : Type} {c : Option ((Int32 × Int32) ⊕ α)} {f : Int32 × Int32 → Option ρ} {k : α → Option ρ} {r : ρ} (h : obE c f k = some r) : (∃ e, c = some (.inl e) ∧ f e = some r) ∨ (∃ a, c = some (.inr a) ∧ k a = some r) := by
  rcases c with _ | e | a
  · cases h
  · exact Or.inl ⟨e, rfl, h⟩
  · exact Or.inr ⟨a, rfl, h⟩
/-- what a parse method leaves: a fault; what it read lies in new cells -/
def vwS {α : Type} (Γ : CG) (π : PPar) (inj : α → Den ⊕ ADen) (H0 : Heap) (k : Nat) : ((Int32 × Int32) ⊕ (α × TKS)) → PRes
  | .inl e => .inl e
  | .inr r => .inr (fun v H1 => ∃ q, v = some (.ref q) ∧ va_at (gD Γ) ccl (π.1, .inr (2, tkF Γ π r.2)) H1 ∧ DAt Γ (fun a => H0.size ≤ a) H1 k (inj r.1) q)
/-- a parse method's contract -/
def subOK {α : Type} (Γ : CG) (tx : TXs Tx) (π : PPar) (inj : α → Den ⊕ ADen) (y : MethodName) (bytes : ByteArray) (maxL : Nat) (rt : FieldType) (F L k : Nat) (f : TKS → Option (KRs α)) : Prop :=
  ∀ H0 τ r, va_at (gD Γ) ccl (π.1, .inr (2, tkF Γ π τ)) H0 → f τ = some r → XMet Γ tx π y bytes maxL (some rt) { frames := F, cells := r.2.1, slots := r.2.2, locals := L } [.ref π.1] H0 (vwS Γ π inj H0 k r.1)
theorem subOK.R {α : Type} {Γ : CG} {tx : TXs Tx} {π : PPar} {inj : α → Den ⊕ ADen} {y : MethodName} {bytes : ByteArray} {maxL : Nat} {rt : FieldType} {F L k a b : Nat} {f : TKS → Option (KRs α)} (hS : subOK Γ tx π inj y bytes maxL rt F L k f) {H0 : Heap} {τ τ' : TKS} {d : α} (ht : va_at (gD Γ) ccl (π.1, .inr (2, tkF Γ π τ)) H0) (hf : f τ = some (.inr (d, τ'), a, b)) : XMet Γ tx π y bytes maxL (some rt) { frames := F, cells := a, slots := b, locals := L } [.ref π.1] H0 (.inr (fun v H1 => ∃ q, v = some (.ref q) ∧ va_at (gD Γ) ccl (π.1, .inr (2, tkF Γ π τ')) H1 ∧ DAt Γ (fun a => H0.size ≤ a) H1 k (inj d) q)) := by
  have h := hS H0 τ _ ht hf
  simp only [vwS] at h
  exact h
theorem subOK.E {α : Type} {Γ : CG} {tx : TXs Tx} {π : PPar} {inj : α → Den ⊕ ADen} {y : MethodName} {bytes : ByteArray} {maxL : Nat} {rt : FieldType} {F L k a b : Nat} {f : TKS → Option (KRs α)} (hS : subOK Γ tx π inj y bytes maxL rt F L k f) {H0 : Heap} {τ : TKS} {e : Int32 × Int32} (ht : va_at (gD Γ) ccl (π.1, .inr (2, tkF Γ π τ)) H0) (hf : f τ = some (.inl e, a, b)) : XMet Γ tx π y bytes maxL (some rt) { frames := F, cells := a, slots := b, locals := L } [.ref π.1] H0 (.inl e) := by
  have h := hS H0 τ _ ht hf
  simp only [vwS] at h
  exact h
theorem DAt.rg {Γ : CG} {Rg : Nat → Prop} {H : Heap} : ∀ {k : Nat} {e : Den ⊕ ADen} {q : Nat}, DAt Γ Rg H k e q → Rg q ∧ q < H.size := by
  intro k
  induction k with
  | zero =>
    intro e q h
    obtain ⟨h0, h | h⟩ := h
    · obtain ⟨n, he, h1⟩ := h; exact ⟨h0, h1.lt⟩
    · obtain ⟨n, he, h1⟩ := h; exact ⟨h0, h1.lt⟩
  | succ k ih =>
    intro e q h
    rcases h with h | ⟨h0, h⟩
    · exact ih h
    rcases h with h | h | h | h | h | h | h
    · obtain ⟨_, _, _, h1, _⟩ := h; exact ⟨h0, h1.lt⟩
    · obtain ⟨_, _, _, _, _, _, h1, _⟩ := h; exact ⟨h0, h1.lt⟩
    · obtain ⟨_, _, _, _, _, h1, _⟩ := h; exact ⟨h0, h1.lt⟩
    · obtain ⟨_, _, _, _, _, _, _, h1, _⟩ := h; exact ⟨h0, h1.lt⟩
    · obtain ⟨_, _, _, _, _, _, h1, _⟩ := h; exact ⟨h0, h1.lt⟩
    · obtain ⟨_, _, _, h1, _⟩ := h; exact ⟨h0, h1.lt⟩
    · obtain ⟨_, _, _, _, _, _, h1, _⟩ := h; exact ⟨h0, h1.lt⟩
/-- what lies at q is an object -/
theorem DAt.el {Γ : CG} {Rg : Nat → Prop} {K : KT} (hK : CK Γ (kS K)) {H : Heap} : ∀ {k : Nat} {e : Den ⊕ ADen} {q : Nat}, DAt Γ Rg H k e q → elO (kS K) H q := by
  have mk : ∀ {q ci N : Nat} {fs : List Value} {C : String} {T : u_T}, ccl[ci]? = some (C, T, N) → Cond.castable C "java/lang/Object" ∈ cxw → va_at (gD Γ) ccl (q, .inr (ci, fs)) H → elO (kS K) H q := fun hc hx ha => ⟨_, hx, x_rec (I := fun H' _ => H' = H) hK hc (fun _ _ e => by rw [e]; exact ha) H [] rfl⟩
  intro k
  induction k with
  | zero =>
    intro e q h
    obtain ⟨h0, h | h⟩ := h
    · obtain ⟨n, he, h1⟩ := h; exact mk rfl cx_2055 h1
    · obtain ⟨n, he, h1⟩ := h; exact mk rfl cx_2061 h1
  | succ k ih =>
    intro e q h
    rcases h with h | ⟨h0, h⟩
    · exact ih h
    rcases h with h | h | h | h | h | h | h
    · obtain ⟨_, _, _, h1, _⟩ := h; exact mk rfl cx_2062 h1
    · obtain ⟨_, _, _, _, _, _, h1, _⟩ := h; exact mk rfl cx_2054 h1
    · obtain ⟨_, _, _, _, _, h1, _⟩ := h; exact mk rfl cx_2060 h1
    · obtain ⟨_, _, _, _, _, _, _, h1, _⟩ := h; exact mk rfl cx_2059 h1
    · obtain ⟨_, _, _, _, _, _, h1, _⟩ := h; exact mk rfl cx_2057 h1
    · obtain ⟨_, _, _, h1, _⟩ := h; exact mk rfl cx_2056 h1
    · obtain ⟨_, _, _, _, _, _, h1, _⟩ := h; exact mk rfl cx_2058 h1
section PYR
variable {ρ : Type} {K : KT} {Q : ρ → State → Prop} {comp : Option ρ} {nL : Nat} {cs sl pc : Nat} {ls : List (Nat × Value)} {st stk : List Value} {cc : ByteArray} {rm : Room} {ret : Option FieldType} {Γ : CG} {π : PPar} {τ : TKS} {tx : TXs Tx} {E : Heap → Prop} {view : ρ → PRes} {r0 : ρ}
/-- a parse method is called and returns what it read -/
theorem py_subR {α : Type} {inj : α → Den ⊕ ADen} {y : MethodName} {bytes : ByteArray} {maxL idx F L k a b : Nat} {rt : FieldType} {f : TKS → Option (KRs α)} {d : α} {τ' : TKS} (hk : KOK K cc nL RX3 rm ret) (hK : CK Γ (kS K)) (htr : K.2.1.stackTraces = false) (hG : PG Γ tx π (kS K) (kS K).heap) (hE : PSt π E) (hS : subOK Γ tx π inj y bytes maxL rt F L k f) (hf : f τ = some (.inr (d, τ'), a, b)) (st : List Value) (hGd : GoodIn lw_all (wsV RX3 idx RX3 y (ws_ y bytes maxL (some rt)))) (hy : y.cls = RX3 ∧ y.cls ≠ "java/lang/invoke/MethodHandle" ∧ y.cls ≠ "java/lang/invoke/VarHandle" ∧ (parseMethodDescriptor y.desc).map (fun d => d.parameters.length) = some 0) (hF : F + 1 ≤ rm.frames) (hL : 8 + (maxL + 11) + L ≤ rm.locals) (hs : Nat.ble ((st.map fun v => v.category).sum) 8 = true) (hd : decode cc pc = .ok (.invokevirtual idx, 3)) (hstk : stk = .ref π.1 :: st) (hcs : cs + a ≤ rm.cells ∧ sl + b ≤ rm.slots)
    (kk : ∀ q, GGo K Q comp nL (PX K Γ π τ' (fun H => E H ∧ ∃ H' : Heap, E H' ∧ pFr π.1 (kS K).heap H' ∧ H'.size ≤ H.size ∧ DAt Γ (fun x => H'.size ≤ x) H k (inj d) q)) (cs + a) (sl + b) (pc + 3) ls (.ref q :: st)) : GGo K Q comp nL (PX K Γ π τ E) cs sl pc ls stk := by
  refine x_callR (tx := tx) (rmY := { frames := F, cells := a, slots := b, locals := L }) (R := fun H v H1 => ∃ q, v = some (.ref q) ∧ va_at (gD Γ) ccl (π.1, .inr (2, tkF Γ π τ')) H1 ∧ DAt Γ (fun a => H.size ≤ a) H1 k (inj d) q) hk hK htr (fun H locs hI => hG.fr hI.2.1) (x_rec hK (ci := 2) rfl (fun _ _ e => e.1)) [] st (fun H locs hI => hS.R hI.1 hf) hGd hy (rmFit_i hF hL) rfl hs hd hstk hcs (fun v => ?_)
  intro r hr H1 locs1 lsA hI hh
  obtain ⟨H, locs, hP, ⟨q, rfl, ht', hD⟩, hFr, hl⟩ := hI
  refine kk q r hr H1 locs1 lsA ⟨ht', hP.2.1.trans hFr, fun l hl9 => ?_, hE _ _ hP.2.2.2 hFr, H, hP.2.2.2, hP.2.1, hFr.1, hD⟩ hh
  rcases hl l hl9 with h | h | h
  · exact hP.2.2.1 l h
  · exact Or.inl h
  · exact Or.inr (Nat.le_trans hP.2.1.1 h)
theorem py_subE {α : Type} {inj : α → Den ⊕ ADen} {y : MethodName} {bytes : ByteArray} {maxL idx F L k a b : Nat} {rt : FieldType} {f : TKS → Option (KRs α)} {e : Int32 × Int32} (hk : KOK K cc nL RX3 rm ret) (hK : CK Γ (kS K)) (htab : noTab K) (htr : K.2.1.stackTraces = false) (hG : PG Γ tx π (kS K) (kS K).heap) (hview : view r0 = .inl e) (hS : subOK Γ tx π inj y bytes maxL rt F L k f) (hf : f τ = some (.inl e, a, b)) (st : List Value) (hGd : GoodIn lw_all (wsV RX3 idx RX3 y (ws_ y bytes maxL (some rt)))) (hy : y.cls = RX3 ∧ y.cls ≠ "java/lang/invoke/MethodHandle" ∧ y.cls ≠ "java/lang/invoke/VarHandle" ∧ (parseMethodDescriptor y.desc).map (fun d => d.parameters.length) = some 0) (hF : F + 1 ≤ rm.frames) (hL : 8 + (maxL + 11) + L ≤ rm.locals) (hs : Nat.ble ((st.map fun v => v.category).sum) 8 = true) (hd : decode cc pc = .ok (.invokevirtual idx, 3)) (hstk : stk = .ref π.1 :: st) (hcs : cs + a ≤ rm.cells ∧ sl + b ≤ rm.slots) : GGo K (xQ K Γ π rm view) (some r0) nL (PX K Γ π τ E) cs sl pc ls stk :=
  px_callE (tx := tx) (rmY := { frames := F, cells := a, slots := b, locals := L }) hk hK htab htr hG hview [] st (fun H ht _ _ => hS.E ht hf) hGd hy (rmFit_i hF hL) rfl hs hd hstk hcs
/-- a new object within a parse method -/
theorem py_new {E2 : Nat → Heap → Prop} (hk : KOK K cc nL RX3 rm ret) (hK : CK Γ (kS K)) {ci N idx : Nat} {C : String} {T : u_T} (hc : ccl[ci]? = some (C, T, N)) (hin : ∀ w ∈ u_ws C T N, w ∈ lw_all) (ty0 : Nat → FieldType) (hty : ∀ k, k < N → parseFieldDescriptor (T k).2.2.1 = some (ty0 k)) (hcl : Cond.classLink RX3 idx C ∈ lw_all) (hinst : Cond.instantiable C N ∈ lw_all) (hini : Cond.initialized C ∈ lw_all) {fs : List Value} (hfs : ∀ j, j < N → defaultValue (ty0 j) = vp_V fs j) (hcells : cs + 1 ≤ rm.cells) (hslots : sl + N ≤ rm.slots) (hd : decode cc pc = .ok (.new idx, 3)) (ht9 : π.1 < (kS K).heap.size)
    (hE2 : ∀ H H1, E H → H1.size = H.size + 1 → (∀ x : Nat, x < H.size → H1[x]? = H[x]?) → (kS K).heap.size ≤ H.size → E2 H.size H1) (kk : ∀ q, GGo K Q comp nL (PX K Γ π τ (fun H => E2 q H ∧ va_at (gD Γ) ccl (q, .inr (ci, fs)) H ∧ (kS K).heap.size ≤ q)) (cs + 1) (sl + N) (pc + 3) ls (.ref q :: st)) : GGo K Q comp nL (PX K Γ π τ E) cs sl pc ls st := by
  refine x_new hk hK hc hin ty0 hty hcl hinst hini hfs hcells hslots hd (fun q => ?_)
  refine g_I (fun H1 locs hI => ?_) (kk q)
  obtain ⟨H, ⟨h1, h2, h3, h4⟩, rfl, h6, h7, h8, -⟩ := hI
  exact ⟨h1.kept (h7 _ h1.lt), h2.trans ⟨by omega, fun x hx _ => h7 x hx⟩, h3, hE2 H H1 h4 h6 h7 h2.1, h8, h2.1⟩
/-- a record of the nest is filled -/
theorem py_rec (hk : KOK K cc nL RX3 rm ret) (hK : CK Γ (kS K)) (htr : K.2.1.stackTraces = false) (hG : PG Γ tx π (kS K) (kS K).heap) {y : MethodName} {bytes : ByteArray} {maxL n idx ci : Nat} {q : Nat} {fs gs : List Value} (As : List Value) (st : List Value) (hM : ∀ H, va_at (gD Γ) ccl (q, .inr (ci, fs)) H → NMet Γ tx y bytes maxL rm_x_rec (.ref q :: As) H q (fun H1 => va_at (gD Γ) ccl (q, .inr (ci, gs)) H1 ∧ H1.size = H.size)) {host : String} (hl : Cond.methodLinkNest RX3 idx y host ∈ cnw) (hi : Cond.instanceMethod y ∈ lw_all) (hin : Cond.initialized y.cls ∈ lw_all) (hcd : Cond.code y bytes maxL none ∈ lw_all) (hnm : y.name = "<init>") (hy : y.cls ≠ "java/lang/invoke/MethodHandle" ∧ y.cls ≠ "java/lang/invoke/VarHandle" ∧ (parseMethodDescriptor y.desc).map (fun d => d.parameters.length) = some n) (hF : 4 ≤ rm.frames) (hL : 8 + (maxL + 11) + 160 ≤ rm.locals) (hn : As.length = n) (hs : Nat.ble ((st.map fun v => v.category).sum) 8 = true) (hd : decode cc pc = .ok (.invokespecial idx, 3)) (hstk : stk = As.reverse ++ .ref q :: st) (hcs : cs ≤ rm.cells ∧ sl ≤ rm.slots) (ht9 : π.1 < (kS K).heap.size)
    (hE : ∀ H H1, E H → H1.size = H.size → (∀ x : Nat, x ≠ q → H1[x]? = H[x]?) → E H1) (kk : GGo K Q comp nL (PX K Γ π τ (fun H => E H ∧ va_at (gD Γ) ccl (q, .inr (ci, gs)) H ∧ (kS K).heap.size ≤ q)) cs sl (pc + 3) ls st) : GGo K Q comp nL (PX K Γ π τ (fun H => E H ∧ va_at (gD Γ) ccl (q, .inr (ci, fs)) H ∧ (kS K).heap.size ≤ q)) cs sl pc ls stk := by
  refine x_initN (tx := tx) (rmY := rm_x_rec) (R := fun H H1 => va_at (gD Γ) ccl (q, .inr (ci, gs)) H1 ∧ H1.size = H.size) hk hK htr (fun H locs hI => (hG.fr hI.2.1).ge hK.2.2.2) As st (fun H locs hI => hM H hI.2.2.2.2.1) hl hi hin hcd hnm hy (rmFit_i hF hL) hn hs hd hstk hcs ?_
  refine g_I (fun H1 locs1 hI => ?_) kk
  obtain ⟨H, locs, ⟨h1, h2, h3, h4, h5, h6⟩, ⟨h7, h8⟩, h9, h10⟩ := hI
  have hlt := h5.lt
  have hne : ∀ x : Nat, x ≠ q → H1[x]? = H[x]? := fun x hx => by
    rcases Nat.lt_or_ge x H.size with h | h
    · exact h9.2 x h hx
    · rw [Array.getElem?_eq_none (by omega), Array.getElem?_eq_none h]
  refine ⟨h1.kept (hne _ (by omega)), ⟨by have := h2.1; omega, fun x hx hn => (hne x (by omega)).trans (h2.2 x hx hn)⟩, fun l hl => ?_, hE H H1 h4 h8 hne, h7, h6⟩
  · rcases h10 l hl with h | h | h
    · exact h3 l h
    · exact Or.inr (by rw [h]; exact h6)
    · exact Or.inr (Nat.le_trans h2.1 h)
end PYR
