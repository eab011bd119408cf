/-! A Wrong is made: the constructor above it, Exception's, goes on to Throwable's (no traces kept) -/
set_option maxRecDepth 100000
def wrL : List Cond := Bundle.throwableAtoms ++ Bundle.chain0Atoms "java/lang/Exception" [] ++ ([.methodLink RX5 1 (Bundle.init0 "java/lang/Exception"), .selects RX5 Bundle.tFill0 Bundle.tFill0, .selects RX5 Bundle.tFill Bundle.tFill, .lays RX5 Bundle.tN "cause" "Ljava/lang/Throwable;", .lays RX5 Bundle.tN "stackTrace" Bundle.steD, .lays RX5 Bundle.tN "suppressedExceptions" Bundle.listD, .lays RX5 Bundle.tN "detailMessage" "Ljava/lang/String;", .fieldLink Bundle.tN 198 Bundle.tN "backtrace" "Ljava/lang/Object;", .lays Bundle.tN Bundle.tN "backtrace" "Ljava/lang/Object;", .lays RX5 Bundle.tN "backtrace" "Ljava/lang/Object;", .isRef (.static Bundle.tN "UNASSIGNED_STACK" Bundle.steD), .isRef (.static Bundle.tN "SUPPRESSED_SENTINEL" Bundle.listD)] : List Cond)
theorem wrA_tbl : (wrL.filter vx_no).all (fun w => lw_tbl.contains w) = true := by decide +kernel
theorem wrA_good : (wrL.filter vx_no).filter (fun w => !goodWord w) = [.declares (Bundle.init0 "java/lang/Throwable")] := by decide +kernel
theorem wr_all {args : Array Value} {s : State} {A : Nat → Prop} (hts : ∀ w ∈ lw_all, w.before args s = true) (hdec : va_Nw (.declares (Bundle.init0 "java/lang/Throwable")) s) (hU : vx_Zq Bundle.tN "UNASSIGNED_STACK" Bundle.steD A s s.heap) (hN : vx_Zq Bundle.tN "SUPPRESSED_SENTINEL" Bundle.listD A s s.heap) : ∀ w ∈ wrL, w.before args s = true := by
  refine vx_own (fun w hA => ?_) (vx_isRefq hU.1) (vx_isRefq hN.1) hU.2.word hN.2.word
  have ht : w ∈ lw_tbl := List.contains_iff_mem.mp (List.all_eq_true.mp wrA_tbl w hA)
  by_cases hg : goodWord w = true
  · exact hts w (lw_g ht hg)
  · have h2 : w ∈ (wrL.filter vx_no).filter (fun w => !goodWord w) := List.mem_filter.mpr ⟨hA, by simp [hg]⟩
    rw [wrA_good] at h2
    rw [List.mem_singleton.mp h2]
    exact va_Nw.use rfl hdec
/-- a new Wrong, nothing laid in it -/
def fr5 (Γ : CG) (H : Heap) (a : Nat) : Prop := ∃ cell : Cell, H[a]? = some cell ∧ cell.cls = (gD Γ).1 4 ∧ cell.vm = .none ∧ cell.monitor.owner = none ∧ cell.monitor.count = 0 ∧ ∀ k, k < 8 → cell.slots[(gD Γ).2 4 k]? = some (defaultValue (tyX5 k))
section W5
variable {p : Program} {l : Launch} {e : Env} {R : Room} {s : State} {m : MethodId} {args : Array Value} {below : List Frame} {meth : Method} {c : Code} {H : Heap} {locs : List Loc} {cells slots : Nat} {Q : State → Prop}
set_option maxHeartbeats 2000000 in
theorem w_super5 {Γ : CG} {A : Nat → Prop} {cc : ByteArray} {pc : Nat} {ls : Array Slot} {rest : List Value} {a : Nat} (hexec : p.tables.exec = Jvm.exec) (hb : c.code = cc) (hl : l.stackTraces = false) (hsize : ls.size = c.maxLocals) (hown : s.vm.findClass RX5 = some m.cls) (hts : ∀ w ∈ lw_all, w.before args s = true) (hdec : va_Nw (.declares (Bundle.init0 "java/lang/Throwable")) s) (hK : va_K (gD Γ) ccl (ctys Γ) s) (hU : vx_Zq Bundle.tN "UNASSIGNED_STACK" Bundle.steD A s s.heap) (hN : vx_Zq Bundle.tN "SUPPRESSED_SENTINEL" Bundle.listD A s s.heap)
    (hlocs : ∀ x ∈ locs, ∀ cell, s.heap[x.base]? = some cell → cell.vm.isStatics = false) (hf : fr5 Γ H a) (hd : decode cc pc = .ok (.invokespecial 1, 3)) (hRframes : 3 < R.frames) (hRlocals : (rest.map fun v => v.category).sum + 54 ≤ R.locals)
    (kk : ∀ (H1 : Heap) (locs1 : List Loc) (fs : List Value), fs.length = 8 → va_at (gD Γ) ccl (a, .inr (4, fs)) H1 → H1.size = H.size → (∀ q : Nat, q ≠ a → H1[q]? = H[q]?) → (∀ x ∈ locs1, x ∈ locs ∨ x.base = a) → W p l e R s m args below meth c H1 locs1 cells slots Q (F0 m (pc + 3) ls rest)) : W p l e R s m args below meth c H locs cells slots Q (F0 m pc ls (.ref a :: rest)) := by
  intro W0 hW0 X
  have htr : e.platform.stackTraces = false := (show e.platform.stackTraces = l.stackTraces by rw [X.admits.platform]).trans hl
  have howns : e.platform.frameOwnsMonitors = true := by rw [X.admits.platform]
  have hfin : e.platform.finalization = false := by rw [X.admits.platform]
  have hpl : e.platform.magicAccessors = ({} : Platform).magicAccessors := by rw [X.admits.platform]
  have h := wr_all (args := args) hts hdec hU hN
  have a' : ∀ x, x ∈ wrL → x.holds args s none s [] = true := fun x hx => h x hx
  obtain ⟨T, Z, L, LZ, Y⟩ := ThrowableC.of_atoms (args := args) howns hfin hpl (fun x hx => h x (by simp [wrL, hx]))
  obtain ⟨P1, Ps, hlen, L1, hL, hP1m, hlink1, hlink⟩ := Bundle.chain0 (args := args) hpl Y.init0 [] "java/lang/Exception" (by decide) (by simp) (fun x hx => h x (by simp [wrL, hx]))
  have hPs : Ps = [] := List.length_eq_zero_iff.mp hlen
  subst hPs
  obtain ⟨cell, hcell0, hcls, hvm, hmo, hmc, hsl⟩ := hf
  have hcell : W0.heap[a]? = some cell := by rw [hW0]; exact hcell0
  obtain ⟨hS, hfound, kX, hk, hord⟩ := hK.1 4 _ rfl
  have hap := va_apart (own := RX5) hts in_X5 tyX5 tyX5_ok nmX5 hK (ci := 4) rfl
  have hsel0 : selectMethod e.platform s.vm cell.cls T.fill0 = .method T.fill0 := by
    obtain ⟨c2, r2, m2, q1, q2, q3, q4, -⟩ := Cond.selects_spec (a' (.selects RX5 Bundle.tFill0 Bundle.tFill0) (by simp [wrL]))
    cases Option.some.inj (q1.symm.trans hfound)
    cases Option.some.inj (q2.symm.trans (State.methodFound?_of_named Y.fill0 (by decide)))
    cases Option.some.inj (q3.symm.trans Y.fill0)
    rw [Launch.admits_selectMethod X.admits, hcls]; exact q4
  have hselF : selectMethod e.platform s.vm cell.cls T.fill = .method T.fill := by
    obtain ⟨c2, r2, m2, q1, q2, q3, q4, -⟩ := Cond.selects_spec (a' (.selects RX5 Bundle.tFill Bundle.tFill) (by simp [wrL]))
    cases Option.some.inj (q1.symm.trans hfound)
    cases Option.some.inj (q2.symm.trans (State.methodFound?_of_named Y.fill (by decide)))
    cases Option.some.inj (q3.symm.trans Y.fill)
    rw [Launch.admits_selectMethod X.admits, hcls]; exact q4
  obtain ⟨cellS0, hcS0, hiss⟩ := Y.statics
  obtain ⟨u0, hu0⟩ := Cond.staticRefV Y.unassigned L.unassignedStatic L.statics hcS0 hiss (a' (.isRef (.static Bundle.tN "UNASSIGNED_STACK" Bundle.steD)) (by simp [wrL]))
  obtain ⟨sen, hsen⟩ := Cond.staticRefV Y.sentinel L.sentinelStatic L.statics hcS0 hiss (a' (.isRef (.static Bundle.tN "SUPPRESSED_SENTINEL" Bundle.listD)) (by simp [wrL]))
  obtain ⟨ci198, i198, fB, hk198, hg198, ha198, hsB, -, hnB, htB, hffB⟩ := Cond.ownField (t := .object "java/lang/Object") Y.found L.cls (by decide +kernel) (a' (.fieldLink Bundle.tN 198 Bundle.tN "backtrace" "Ljava/lang/Object;") (by simp [wrL])) (a' (.lays Bundle.tN Bundle.tN "backtrace" "Ljava/lang/Object;") (by simp [wrL])) e.platform hpl
  obtain ⟨cellS, hcS', heS, -, hkeep⟩ := X.same.2.2.2.2.2 T.aS cellS0 hcS0
  have hcellS : W0.heap[T.aS]? = some cellS := hcS'
  have hout' : ∀ i, (⟨T.aS, i⟩ : Loc) ∉ locs := fun i hmem => by
    have := hlocs _ hmem cellS0 hcS0
    rw [hiss] at this; cases this
  have hvS : cellS.vm = cellS0.vm := by rw [heS]
  have hknownS : cellS.vm ≠ .unknown := by
    rw [hvS]; intro hu
    rw [hu] at hiss
    cases hiss
  have hneS : T.aS ≠ a := fun q => by
    rw [q] at hcellS
    cases hcellS.symm.trans hcell
    rw [hvm] at hvS
    rw [← hvS] at hiss
    cases hiss
  obtain ⟨iM, hffM⟩ := Y.msg
  have sl : ∀ {k : Nat} {nm ds : String} {cf i : Nat} {kc : Class} {f : Field}, k < 8 → TX5 k = ("java/lang/Throwable", nm, ds, false) → s.fieldFound? "java/lang/Throwable" nm ds = some (cf, kc, i, f) → f.slot = (gD Γ).2 4 k := by
    intro k nm ds cf i kc f hk8 hT hi
    obtain ⟨_, _, _, f2, hi2, es⟩ := hS k hk8
    have hi2 : s.fieldFound? (TX5 k).1 (TX5 k).2.1 (TX5 k).2.2.1 = _ := hi2
    rw [hT] at hi2
    cases hi2.symm.trans hi
    exact es
  have eC : T.fCause.slot = (gD Γ).2 4 0 := sl (k := 0) (by decide) rfl Y.cause
  have eS : T.fStack.slot = (gD Γ).2 4 1 := sl (k := 1) (by decide) rfl Y.stack
  have eP : T.fSupp.slot = (gD Γ).2 4 2 := sl (k := 2) (by decide) rfl Y.supp
  have eB : fB.slot = (gD Γ).2 4 4 := sl (k := 4) (by decide) rfl hffB
  obtain ⟨tyC, dC, hdC, hdnC⟩ := Cond.laysAt hfound hk Y.cause (a' (.lays RX5 Bundle.tN "cause" "Ljava/lang/Throwable;") (by simp [wrL]))
  obtain ⟨tyS, dS, hdS, hdnS⟩ := Cond.laysAt hfound hk Y.stack (a' (.lays RX5 Bundle.tN "stackTrace" Bundle.steD) (by simp [wrL]))
  obtain ⟨tyP, dP, hdP, hdnP⟩ := Cond.laysAt hfound hk Y.supp (a' (.lays RX5 Bundle.tN "suppressedExceptions" Bundle.listD) (by simp [wrL]))
  have tk : ∀ {f : Field} {v : Value} {k : Nat}, k < 8 → f.slot = (gD Γ).2 4 k → kX.instanceTypes[f.slot]? = some f.type → fits f.type v = true → Takes s cell f v := by
    intro f v k hk8 he hty hv
    refine ⟨by rw [he]; exact (Array.getElem?_eq_some_iff.mp (hsl k hk8)).1, ?_⟩
    rw [hcls, hvm]
    exact (Takes.of_laid (v := v) hk hord hty hv).2
  have hcB : ∀ {x y : Nat}, x < 8 → y < 8 → x ≠ y → (gD Γ).2 4 x ≠ (gD Γ).2 4 y := fun hx hy hne => hap _ _ hx hy hne
  have q0 := t_set (V := fun k => defaultValue (tyX5 k)) hsl (fun x y hx hy hne => hap x y hx hy hne) (k := 0) (by decide) (.ref a)
  have q1 := t_set q0 (fun x y hx hy hne => hap x y hx hy hne) (k := 1) (by decide) u0.v
  have q2 := t_set q1 (fun x y hx hy hne => hap x y hx hy hne) (k := 2) (by decide) sen.v
  have q3 := t_set q2 (fun x y hx hy hne => hap x y hx hy hne) (k := 1) (by decide) u0.v
  have hprep : preparedCellV T.toThrowableT cell a u0 sen = ((cell.setSlot ((gD Γ).2 4 0) (.ref a)).setSlot ((gD Γ).2 4 1) u0.v).setSlot ((gD Γ).2 4 2) sen.v := by
    unfold preparedCellV
    rw [← eC, ← eS, ← eP]
  have hskip : SkipFacts T e.platform s (fun u => u) u0 ((preparedCellV T.toThrowableT cell a u0 sen).withEntry W0.cur) :=
    ⟨{ ci198 := ci198, i198 := i198, fBack := fB }, ⟨hk198, hg198, ha198, hsB⟩, by
      show (preparedCellV T.toThrowableT cell a u0 sen).slots[fB.slot]? = some .null
      rw [hprep, eB]
      exact q2 4 (by decide), fun _ _ => rfl⟩
  obtain ⟨tm, methC, cdC, kC, vm₁, hnC, -, -, -, -, -, -, -, hW₁, st1⟩ := Steps.initCold (tb := p.tables) (e := e) (below := below) (s := s) (U := W0) X.here hexec X.warmed hpl hown (t := Bundle.init0 "java/lang/Exception") rfl rfl (Bundle.fit_spec (by decide : Bundle.fit "java/lang/Exception" = true)).2
    (a' (.methodLink RX5 1 (Bundle.init0 "java/lang/Exception")) (by simp [wrL])) (h (.instanceMethod (Bundle.init0 "java/lang/Exception")) (by simp [wrL, Bundle.chain0Atoms, Bundle.passAtoms])) (bytes := Bundle.five) (maxL := 1) (h (.code (Bundle.init0 "java/lang/Exception") Bundle.five 1 none) (by simp [wrL, Bundle.chain0Atoms, Bundle.passAtoms]))
    (f := F0 m pc ls (.ref a :: rest)) rfl (a := a) (rest := rest) rfl (by rw [hb]; exact hd)
  cases Option.some.inj (hnC.symm.trans hP1m)
  have X₁ := X.noted hW₁
  obtain ⟨vm₂, X₂, st2⟩ := X₁.ctorPlainOffV hexec (g := { F0 m pc ls (.ref a :: rest) with stack := rest }) rfl hsize T L Z LZ [P1]
    (fun P hP => by rw [List.mem_singleton.mp hP]; exact L1) ⟨hlink1, hlink⟩ (u0 := u0) (sen := sen) (self := a) (cell := cell) (cellS := cellS)
    hcell (fun k hv => by rw [hvm] at hv; cases hv) (by rw [hvm]; simp) hmo hmc hsel0 hselF hcellS hneS hknownS (by rw [hkeep _ (hout' _)]; exact hu0) (by rw [hkeep _ (hout' _)]; exact hsen)
    (tk (k := 0) (by decide) eC tyC (by rw [Y.causeType]; rfl)) (tk (k := 1) (by decide) eS tyS (by rw [Y.stackType]; exact fits_refV_array _ u0)) (tk (k := 2) (by decide) eP tyP (by rw [Y.suppType]; exact fits_refV_object _ sen)) Y.objLocals hskip htr [] (by rw [hb]; exact hd)
    (by show 1 + 2 < R.frames; omega) (by show 2 * 0 + (rest.map fun v => v.category).sum + (13 * 1 + 41) ≤ R.locals; omega)
  rw [hprep, eS] at X₂ st2
  have hlt : a < ((W0.setVm vm₁).setVm vm₂).heap.size := (Array.getElem?_eq_some_iff.mp hcell).1
  have hV : ∀ k, k < 8 → updV (updV (updV (updV (fun k => defaultValue (tyX5 k)) 0 (Value.ref a)) 1 u0.v) 2 sen.v) 1 u0.v k = vp_V [.ref a, u0.v, sen.v, .null, .null, .int 0, .int 0, .int 0] k := by
    intro k hk8
    rcases (show k = 0 ∨ k = 1 ∨ k = 2 ∨ k = 3 ∨ k = 4 ∨ k = 5 ∨ k = 6 ∨ k = 7 by omega) with rfl | rfl | rfl | rfl | rfl | rfl | rfl | rfl <;> rfl
  generalize hcF : (((cell.setSlot ((gD Γ).2 4 0) (.ref a)).setSlot ((gD Γ).2 4 1) u0.v).setSlot ((gD Γ).2 4 2) sen.v).setSlot ((gD Γ).2 4 1) u0.v = cellF at X₂ st2 q3
  have hc1 : cellF.cls = (gD Γ).1 4 := by rw [← hcF]; exact hcls
  have hc2 : cellF.vm = .none := by rw [← hcF]; exact hvm
  have hHa : (((W0.setVm vm₁).setVm vm₂).setCell a cellF).heap[a]? = some cellF := heapAt_setCell_self (s := (W0.setVm vm₁).setVm vm₂) cellF hlt
  have hHs : (((W0.setVm vm₁).setVm vm₂).setCell a cellF).heap = W0.heap.setIfInBounds a cellF := rfl
  obtain ⟨t, b1, b2⟩ := kk (((W0.setVm vm₁).setVm vm₂).setCell a cellF).heap _ [.ref a, u0.v, sen.v, .null, .null, .int 0, .int 0, .int 0] rfl ⟨(RX5, TX5, 8), rfl, cellF, hHa, hc1, hc2, fun k hk8 => by rw [q3 k hk8, hV k hk8]⟩ (by rw [hHs, ← hW0]; simp) (fun q hq => by rw [hHs, ← hW0]; simp [Array.getElem?_setIfInBounds, Ne.symm hq]) (fun x hx => (List.mem_append.mp hx).elim Or.inl (fun h => Or.inr (by
      simp only [List.mem_cons, List.not_mem_nil, or_false] at h
      rcases h with rfl | rfl | rfl | rfl <;> rfl))) _ rfl X₂
  refine ⟨t, st1 _ (fun acts => ?_), b2⟩
  rw [doInvoke_state]
  exact st2 _ b1
end W5

/-! THE PARSER's world: the Tokens object, all older cells kept; contracts of methods that return or throw a Wrong -/
/-- at, token, sort, number, open, kind -/
abbrev TKS : Type := Int32 × Int32 × Int32 × Int32 × Int32 × Int32
/-- the Tokens object's address, its size, the tape's bytes -/
abbrev PPar : Type := Nat × Int32 × (Nat → Int32)
def tkF (Γ : CG) (π : PPar) (τ : TKS) : List Value := [.ref (gA Γ 200), .int π.2.1, .int τ.1, .int τ.2.1, .int τ.2.2.1, .int τ.2.2.2.1, .int τ.2.2.2.2.1, .int τ.2.2.2.2.2]
def pFr (tk : Nat) (H H1 : Heap) : Prop := H.size ≤ H1.size ∧ ∀ q : Nat, q < H.size → q ≠ tk → H1[q]? = H[q]?
theorem pFr.rf {tk : Nat} {H : Heap} : pFr tk H H := ⟨Nat.le_refl _, fun _ _ _ => rfl⟩
theorem pFr.trans {tk : Nat} {H H1 H2 : Heap} (h : pFr tk H H1) (h2 : pFr tk H1 H2) : pFr tk H H2 := ⟨Nat.le_trans h.1 h2.1, fun q a b => (h2.2 q (Nat.lt_of_lt_of_le a h.1) b).trans (h.2 q a b)⟩
def PG (Γ : CG) (tx : TXs Tx) (π : PPar) (U : State) (H : Heap) : Prop :=
  (∃ Hb : Heap, gE Γ tx U Hb ∧ cFr Γ Hb H ∧ Hb.size ≤ π.1) ∧ H[gA Γ 200]? = some (arrV (gC Γ 1) 300 (fun j => .int (π.2.2 j))) ∧ gA Γ 200 ≠ π.1
theorem PG.fr {Γ : CG} {tx : TXs Tx} {π : PPar} {U : State} {H H1 : Heap} (h : PG Γ tx π U H) (hF : pFr π.1 H H1) : PG Γ tx π U H1 := by
  obtain ⟨⟨Hb, h1, h2, h3⟩, h4, h5⟩ := h
  exact ⟨⟨Hb, h1, ⟨Nat.le_trans h2.1 hF.1, fun q hq hn => (hF.2 q (Nat.lt_of_lt_of_le hq h2.1) (by omega)).trans (h2.2 q hq hn)⟩, h3⟩, by rw [hF.2 _ (Array.getElem?_eq_some_iff.mp h4).1 h5]; exact h4, h5⟩
theorem PG.ge {Γ : CG} {tx : TXs Tx} {π : PPar} {U : State} {H : Heap} (hO : cOK Γ) (h : PG Γ tx π U H) : gE Γ tx U H := by
  obtain ⟨⟨Hb, h1, h2, h3⟩, -⟩ := h
  exact hO.2.1 _ _ _ _ h2 h1
theorem PG.moved {Γ : CG} {tx : TXs Tx} {π : PPar} {s U : State} {H : Heap} (hO : cOK Γ) (hvm : s.vm.Alike U.vm) (h : PG Γ tx π s H) : PG Γ tx π U H := by
  obtain ⟨⟨Hb, h1, h2⟩, h3⟩ := h
  exact ⟨⟨Hb, hO.2.2.1 _ _ _ _ hvm h1, h2⟩, h3⟩
/-- what a method did: threw a Wrong of that fault and place; returned, and what then holds -/
abbrev PRes : Type := (Int32 × Int32) ⊕ (Option Value → Heap → Prop)
def wrAt (Γ : CG) (q : Nat) (e : Int32 × Int32) (H : Heap) : Prop := ∃ fs : List Value, va_at (gD Γ) ccl (q, .inr (4, fs)) H ∧ fs[6]? = some (.int e.1) ∧ fs[7]? = some (.int e.2)
def xPc (Γ : CG) (tx : TXs Tx) (π : PPar) (av : List Value) (H0 : Heap) : Array Value → State → Prop := va_Pc av (fun U => (U.heap = H0 ∧ PG Γ tx π U H0) ∧ CK Γ U)
def xQc (tk : Nat) (H0 : Heap) (res : PRes) : Array Value → State → Outcome → State → Prop := fun _ _ o t => ∃ (v : Option Value) (R : Option Value → Heap → Prop), o = .returned v ∧ res = .inr R ∧ R v t.heap ∧ pFr tk H0 t.heap
def xXC (Γ : CG) (tk : Nat) (H0 : Heap) (res : PRes) : String → Addr → State → State → Prop := fun E q _ t => ∃ e, res = .inl e ∧ E = RX5 ∧ wrAt Γ q e t.heap ∧ pFr tk H0 t.heap
def xFr (tk sz : Nat) : Addr → Prop := fun b => b = tk ∨ sz ≤ b
def XMet (Γ : CG) (tx : TXs Tx) (π : PPar) (y : MethodName) (bytes : ByteArray) (maxL : Nat) (ret : Option FieldType) (rm : Room) (av : List Value) (H0 : Heap) (res : PRes) : Prop :=
  ∀ l : Launch, l.stackTraces = false → vx_Met l y (ws_ y bytes maxL ret) rm (xPc Γ tx π av H0) (xQc π.1 H0 res) (xXC Γ π.1 H0 res) rm.cells rm.slots (xFr π.1 H0.size)
theorem xPc_blind {Γ : CG} {tx : TXs Tx} {π : PPar} {av : List Value} {H0 : Heap} : FrameBlind (xPc Γ tx π av H0) := fun a U g mk q => by
  obtain ⟨q0, q1, qK⟩ := q
  have hW : U.WarmedH (U.calling g mk a).vm := State.WarmedH.refl U
  exact ⟨q0, ⟨q1.1, q1.2.moved qK.2.2.2 hW.alike⟩, qK.warm hW⟩
def xQ (K : KT) (Γ : CG) (π : PPar) (rm : Room) {ρ : Type} (view : ρ → PRes) : ρ → State → Prop := fun r => vx_MQ (kB K) (xQc π.1 (kS K).heap (view r)) (xXC Γ π.1 (kS K).heap (view r)) (kA K) (kS K) rm.cells rm.slots (xFr π.1 (kS K).heap.size)
/-- no row of this method's table takes what is thrown -/
def noTab (K : KT) : Prop := ∀ x ∈ (kC K).exceptionTable.toList, False
theorem x_met {ρ : Type} {Γ : CG} {tx : TXs Tx} {π : PPar} {y : MethodName} {bytes : ByteArray} {maxL : Nat} {ret : Option FieldType} {rm : Room} {av : List Value} {H0 : Heap} {comp : Option ρ} {view : ρ → PRes} {ls0 : List (Nat × Value)} {own : String} (hc : y.cls = own) (hpl : plainName own = true) (hl : Nat.ble (lg_sl av).length maxL = true) (hls : lv_args 0 av = ls0)
    (body : ∀ K : KT, KOK K bytes maxL own rm ret → CK Γ (kS K) → noTab K → K.2.1.stackTraces = false → (kS K).heap = H0 → PG Γ tx π (kS K) H0 → GGo K (xQ K Γ π rm view) comp maxL (pI K) 0 0 0 ls0 []) (r : ρ) (hr : comp = some r) : XMet Γ tx π y bytes maxL ret rm av H0 (view r) := by
  intro l hst
  subst hls
  refine vx_ofW (cc := bytes) (maxL := maxL) (ret := ret) (by rw [hc]; exact hpl) rfl ?_
  intro p e s m args below meth c s₁ B hml htab hv
  obtain ⟨rfl, ⟨hH, hG⟩, hKK⟩ := hv
  subst hH
  have hts := atoms_spec (ws := ws_ y bytes maxL ret) B.pre
  have hown : s.vm.findClass y.cls = some m.cls := findClass_of_methodNamed B.named
  rw [hc] at hown
  rw [lg_entry_eq]
  exact body (p, l, e, (headSpec (ws_ y bytes maxL ret) rm).room, s, m, av.toArray, below, meth, c) ⟨B.exec, B.bytes, hml, hown, fun w h => hts w (List.mem_cons_of_mem _ h), B.notSynchronized, B.returns, rfl⟩ hKK htab hst rfl hG r hr s.heap [] _ ⟨rfl, rfl⟩ (lv_entry av (Nat.le_of_ble_eq_true hl))
section XROW
variable {ρ : Type} {K : KT} {Q : ρ → State → Prop} {comp A B : Option ρ} {nL : Nat} {I : Heap → List Loc → Prop} {cs sl pc : Nat} {ls : List (Nat × Value)} {st : List Value} {cc : ByteArray} {rm : Room} {ret : Option FieldType} {Γ : CG} {own : String} {tx : TXs Tx} {π : PPar}
theorem x_callR (hk : KOK K cc nL own rm ret) (hK : CK Γ (kS K)) (htr : K.2.1.stackTraces = false) (hG : ∀ H locs, I H locs → PG Γ tx π (kS K) H) {y : MethodName} {bytes : ByteArray} {maxL n idx : Nat} {retY : Option FieldType} {rmY : Room} {stk : List Value} {C : String} {a0 : Nat} (hrec : ∀ H locs, I H locs → ∃ cell : Cell, H[a0]? = some cell ∧ cell.vm.isStatics = false ∧ (kS K).vm.findClass C = some cell.cls) (As : List Value) (st : List Value) {R : Heap → Option Value → Heap → Prop} (hM : ∀ H locs, I H locs → XMet Γ tx π y bytes maxL retY rmY (.ref a0 :: As) H (.inr (R H))) (hGd : GoodIn lw_all (wsV own idx C y (ws_ y bytes maxL retY))) (hy : y.cls = C ∧ y.cls ≠ "java/lang/invoke/MethodHandle" ∧ y.cls ≠ "java/lang/invoke/VarHandle" ∧ (parseMethodDescriptor y.desc).map (fun d => d.parameters.length) = some n) (hrm : rmFit maxL rmY rm = true) (hn : As.length = n) (hs : Nat.ble ((st.map fun v => v.category).sum) 8 = true) (hd : decode cc pc = .ok (.invokevirtual idx, 3)) (hstk : stk = As.reverse ++ .ref a0 :: st) (hcs : cs + rmY.cells ≤ rm.cells ∧ sl + rmY.slots ≤ rm.slots)
    (kk : ∀ v, GGo K Q comp nL (fun H1 locs1 => ∃ H locs, I H locs ∧ R H v H1 ∧ pFr π.1 H H1 ∧ ∀ l ∈ locs1, l ∈ locs ∨ xFr π.1 H.size l.base) (cs + rmY.cells) (sl + rmY.slots) (pc + 3) ls (v.toList ++ st)) : GGo K Q comp nL I cs sl pc ls stk := by
  intro r hr H locs lsA hI hh T hT X
  rcases vx_runV (g := F0 (kM K) pc lsA stk) (As := As) (rest := st) (cc := cc) (nL := nL) (own := own) (Ts := lw_all) ⟨hk.1, hk.2.1, hk.2.2.1, hk.2.2.2.1, hk.2.2.2.2.1⟩ (hM H locs hI K.2.1 htr) (cwV n hk.2.2.2.2.1 hGd rfl rfl rfl hy (rmFit_ok hrm hk.2.2.2.2.2.2.2)) ⟨xPc_blind, hrec H locs hI, fun U hU hW => ⟨rfl, ⟨hU, (hG H locs hI).moved hK.2.2.2 hW.alike⟩, hK.warm hW⟩⟩ rfl hn hh.1 hstk (lv_room (Nat.le_of_ble_eq_true hs)) hd ⟨(by show cs + rmY.cells ≤ (kR K).cells; rw [hk.2.2.2.2.2.2.2]; exact hcs.1), (by show sl + rmY.slots ≤ (kR K).slots; rw [hk.2.2.2.2.2.2.2]; exact hcs.2)⟩ T hT X with ⟨v, st₀, t, T', L, h0, X', hL, e1, e2, ⟨v', R', ho, hR, hRv, hF⟩, stp⟩ | ⟨q, st₀, t, T', L, E, ce, h0, X', hL, e1, e2, ⟨e, he, -⟩, -⟩
  · cases ho
    cases hR
    obtain ⟨t2, a1, b1⟩ := kk v r hr T'.heap (locs ++ L) lsA ⟨H, locs, hI, by rw [e1]; exact hRv, by rw [e1]; exact hF, fun l hl => (List.mem_append.mp hl).elim Or.inl (fun h => Or.inr (hL l h))⟩ hh T' rfl X'
    exact ⟨t2, stp t2 a1, b1⟩
  · cases he
theorem x_callE {view : ρ → PRes} {r0 : ρ} {e : Int32 × Int32} (hk : KOK K cc nL own rm ret) (hK : CK Γ (kS K)) (htab : noTab K) (htr : K.2.1.stackTraces = false) (hG : ∀ H locs, I H locs → PG Γ tx π (kS K) H) (hI : ∀ H locs, I H locs → pFr π.1 (kS K).heap H ∧ ∀ l ∈ locs, xFr π.1 (kS K).heap.size l.base) (hview : view r0 = .inl e) {y : MethodName} {bytes : ByteArray} {maxL n idx : Nat} {retY : Option FieldType} {rmY : Room} {stk : List Value} {C : String} {a0 : Nat} (hrec : ∀ H locs, I H locs → ∃ cell : Cell, H[a0]? = some cell ∧ cell.vm.isStatics = false ∧ (kS K).vm.findClass C = some cell.cls) (As : List Value) (st : List Value) (hM : ∀ H locs, I H locs → XMet Γ tx π y bytes maxL retY rmY (.ref a0 :: As) H (.inl e)) (hGd : GoodIn lw_all (wsV own idx C y (ws_ y bytes maxL retY))) (hy : y.cls = C ∧ y.cls ≠ "java/lang/invoke/MethodHandle" ∧ y.cls ≠ "java/lang/invoke/VarHandle" ∧ (parseMethodDescriptor y.desc).map (fun d => d.parameters.length) = some n) (hrm : rmFit maxL rmY rm = true) (hn : As.length = n) (hs : Nat.ble ((st.map fun v => v.category).sum) 8 = true) (hd : decode cc pc = .ok (.invokevirtual idx, 3)) (hstk : stk = As.reverse ++ .ref a0 :: st) (hcs : cs + rmY.cells ≤ rm.cells ∧ sl + rmY.slots ≤ rm.slots) : GGo K (xQ K Γ π rm view) (some r0) nL I cs sl pc ls stk := by
  intro r hr H locs lsA hI9 hh T hT X
  cases hr
  rcases vx_runV (g := F0 (kM K) pc lsA stk) (As := As) (rest := st) (cc := cc) (nL := nL) (own := own) (Ts := lw_all) ⟨hk.1, hk.2.1, hk.2.2.1, hk.2.2.2.1, hk.2.2.2.2.1⟩ (hM H locs hI9 K.2.1 htr) (cwV n hk.2.2.2.2.1 hGd rfl rfl rfl hy (rmFit_ok hrm hk.2.2.2.2.2.2.2)) ⟨xPc_blind, hrec H locs hI9, fun U hU hW => ⟨rfl, ⟨hU, (hG H locs hI9).moved hK.2.2.2 hW.alike⟩, hK.warm hW⟩⟩ rfl hn hh.1 hstk (lv_room (Nat.le_of_ble_eq_true hs)) hd ⟨(by show cs + rmY.cells ≤ (kR K).cells; rw [hk.2.2.2.2.2.2.2]; exact hcs.1), (by show sl + rmY.slots ≤ (kR K).slots; rw [hk.2.2.2.2.2.2.2]; exact hcs.2)⟩ T hT X with ⟨v, st₀, t, T', L, h0, X', hL, e1, e2, ⟨v', R', ho, hR, -⟩, -⟩ | ⟨q, st₀, t, T', L, E, ce, h0, X', hL, e1, e2, ⟨e9, he, hE, hw, hF⟩, hce, hcv, hcl, stp⟩
  · cases hR
  · cases he
    obtain ⟨hF0, hlo⟩ := hI H locs hI9
    have hF2 : pFr π.1 (kS K).heap T'.heap := by rw [e1]; exact hF0.trans hF
    obtain ⟨t2, a1, b1⟩ := vx_out (Qc := xQc π.1 (kS K).heap (view r0)) (XC := xXC Γ π.1 (kS K).heap (view r0)) (free := xFr π.1 (kS K).heap.size) (mc := rm.cells) (ms := rm.slots) (pc := pc) (ls := lsA) (rest := st) (q := q) (H := T'.heap) (fun x hx => (htab x hx).elim) hk.2.2.2.2.2.1 (by rw [e1]; exact hce) hcv hcl (fun u hu _ => ⟨e, hview, hE, by rw [hu, e1]; exact hw, by rw [hu]; exact hF2⟩) (fun z hz => (List.mem_append.mp hz).elim (hlo z) (fun h => (hL z h).elim Or.inl (fun h2 => Or.inr (Nat.le_trans hF0.1 h2)))) hcs.1 hcs.2 T' rfl X'
    exact ⟨t2, stp.trans a1, b1⟩
end XROW

/-! NEW OBJECTS, their constructors; a Wrong -/
section XNEW
variable {ρ : Type} {K : KT} {Q : ρ → State → Prop} {comp A B : Option ρ} {nL : Nat} {I : Heap → List Loc → Prop} {cs sl pc : Nat} {ls : List (Nat × Value)} {st : List Value} {cc : ByteArray} {rm : Room} {ret : Option FieldType} {Γ : CG} {own : String} {tx : TXs Tx} {π : PPar}
/-- a fresh cell's monitor -/
def mnF (H : Heap) (q : Nat) : Prop := ∃ cell : Cell, H[q]? = some cell ∧ cell.monitor.owner = none ∧ cell.monitor.count = 0
theorem x_new (hk : KOK K cc nL own rm ret) (hK : CK Γ (kS K)) {ci N idx : Nat} {C : String} {T : u_T} (hc : ccl[ci]? = some (C, T, N)) (hin : ∀ w ∈ u_ws C T N, w ∈ lw_all) (ty0 : Nat → FieldType) (hty : ∀ k, k < N → parseFieldDescriptor (T k).2.2.1 = some (ty0 k)) (hcl : Cond.classLink own idx C ∈ lw_all) (hinst : Cond.instantiable C N ∈ lw_all) (hini : Cond.initialized C ∈ lw_all) {fs : List Value} (hfs : ∀ j, j < N → defaultValue (ty0 j) = vp_V fs j) (hcells : cs + 1 ≤ rm.cells) (hslots : sl + N ≤ rm.slots) (hd : decode cc pc = .ok (.new idx, 3))
    (kk : ∀ q, GGo K Q comp nL (fun H1 locs => ∃ H, I H locs ∧ q = H.size ∧ H1.size = H.size + 1 ∧ (∀ x, x < H.size → H1[x]? = H[x]?) ∧ va_at (gD Γ) ccl (q, .inr (ci, fs)) H1 ∧ mnF H1 q) (cs + 1) (sl + N) (pc + 3) ls (.ref q :: st)) : GGo K Q comp nL I cs sl pc ls st := by
  intro r hr H locs lsA hI hh
  have hKn := hK.1.1 ci _ hc
  refine W.newcK hk.1 hk.2.1 hk.2.2.2.1 (hk.2.2.2.2.1 _ hcl) (hk.2.2.2.2.1 _ hinst) (hk.2.2.2.2.1 _ hini) rfl hd (by show _ ≤ (kR K).cells; rw [hk.2.2.2.2.2.2.2]; exact hcells) (by show _ ≤ (kR K).slots; rw [hk.2.2.2.2.2.2.2]; exact hslots) hKn.2.1 rfl fun H1 kC hkC e1 z1 o1 => ?_
  exact kk H.size r hr H1 locs lsA ⟨H, hI, rfl, z1, o1, ⟨_, hc, (u_born ty0 hk.2.2.2.2.1 hin hKn hkC e1 hty).to hfs⟩, ⟨_, e1, rfl, rfl⟩⟩ hh
/-- a constructor's contract: H0 at its start, R at its end; of older cells only the object itself is written -/
def NMet (Γ : CG) (tx : TXs Tx) (y : MethodName) (bytes : ByteArray) (maxL : Nat) (rm : Room) (av : List Value) (H0 : Heap) (a : Nat) (R : Heap → Prop) : Prop :=
  ∀ l : Launch, l.stackTraces = false → Met l y (ws_ y bytes maxL none) rm (va_Pc av (fun U => (U.heap = H0 ∧ gE Γ tx U H0) ∧ CK Γ U)) (fun _ _ o t => o = .returned none ∧ R t.heap ∧ pFr a H0 t.heap) rm.cells rm.slots (xFr a H0.size)
def nQ (K : KT) (a : Nat) (rm : Room) {ρ : Type} (view : ρ → Heap → Prop) : ρ → State → Prop := fun r => MQ (kB K) (fun _ _ o t => o = .returned none ∧ view r t.heap ∧ pFr a (kS K).heap t.heap) (kA K) (kS K) rm.cells rm.slots (xFr a (kS K).heap.size)
theorem n_met {ρ : Type} {y : MethodName} {bytes : ByteArray} {maxL : Nat} {rm : Room} {av : List Value} {H0 : Heap} {a : Nat} {comp : Option ρ} {view : ρ → Heap → Prop} {ls0 : List (Nat × Value)} {own : String} (hc : y.cls = own) (hpl : plainName own = true) (hl : Nat.ble (lg_sl av).length maxL = true) (hls : lv_args 0 av = ls0)
    (body : ∀ K : KT, KOK K bytes maxL own rm none → CK Γ (kS K) → K.2.1.stackTraces = false → (kMe K).name = y.name → (kS K).heap = H0 → gE Γ tx (kS K) H0 → GGo K (nQ K a rm view) comp maxL (pI K) 0 0 0 ls0 []) (r : ρ) (hr : comp = some r) : NMet Γ tx y bytes maxL rm av H0 a (view r) := by
  intro l hst
  subst hls
  refine Met.ofW (cc := bytes) (maxL := maxL) (ret := none) (by rw [hc]; exact hpl) rfl ?_
  intro p e s m args below meth c s₁ B hml hv
  obtain ⟨rfl, ⟨hH, hE⟩, hKK⟩ := hv
  subst hH
  have hts := atoms_spec (ws := ws_ y bytes maxL none) B.pre
  have hown : s.vm.findClass y.cls = some m.cls := findClass_of_methodNamed B.named
  rw [hc] at hown
  rw [lg_entry_eq]
  exact body (p, l, e, (headSpec (ws_ y bytes maxL none) rm).room, s, m, av.toArray, below, meth, c) ⟨B.exec, B.bytes, hml, hown, fun w h => hts w (List.mem_cons_of_mem _ h), B.notSynchronized, B.returns, rfl⟩ hKK hst (name_of_methodNamed B.named B.method).1 rfl hE r hr s.heap [] _ ⟨rfl, rfl⟩ (lv_entry av (Nat.le_of_ble_eq_true hl))
theorem n_vret {view : ρ → Heap → Prop} {r0 : ρ} {a : Nat} (hk : KOK K cc nL own rm none) (hI : ∀ H locs, I H locs → view r0 H ∧ pFr a (kS K).heap H ∧ ∀ l ∈ locs, xFr a (kS K).heap.size l.base) (hd : decode cc pc = .ok (.return_, 1)) (h1 : cs ≤ rm.cells) (h2 : sl ≤ rm.slots) : GGo K (nQ K a rm view) (some r0) nL I cs sl pc ls [] := by
  intro r hr H locs lsA hi hh
  cases hr
  refine W.widen h1 h2 ?_
  exact W.vret hk.1 hk.2.1 hk.2.2.2.2.2.2.1 (fun t ht hW => ⟨rfl, by rw [ht]; exact (hI H locs hi).1, by rw [ht]; exact (hI H locs hi).2.1⟩) (hI H locs hi).2.2 hd hk.2.2.2.2.2.1
/-- a constructor is called on a new object -/
theorem x_init (hk : KOK K cc nL own rm ret) (hK : CK Γ (kS K)) (htr : K.2.1.stackTraces = false) (hE : ∀ H locs, I H locs → gE Γ tx (kS K) H) {y : MethodName} {bytes : ByteArray} {maxL n idx : Nat} {rmY : Room} {stk : List Value} {a0 : Nat} (As : List Value) (st : List Value) {R : Heap → Heap → Prop} (hM : ∀ H locs, I H locs → NMet Γ tx y bytes maxL rmY (.ref a0 :: As) H a0 (R H)) (hl : Cond.methodLink own idx y ∈ lw_all) (hi : Cond.instanceMethod y ∈ lw_all) (hin : Cond.initialized y.cls ∈ lw_all) (hcd : Cond.code y bytes maxL none ∈ lw_all) (hnm : y.name = "<init>") (hy : y.cls ≠ "java/lang/invoke/MethodHandle" ∧ y.cls ≠ "java/lang/invoke/VarHandle" ∧ (parseMethodDescriptor y.desc).map (fun d => d.parameters.length) = some n) (hrm : rmFit maxL rmY rm = true) (hn : As.length = n) (hs : Nat.ble ((st.map fun v => v.category).sum) 8 = true) (hd : decode cc pc = .ok (.invokespecial idx, 3)) (hstk : stk = As.reverse ++ .ref a0 :: st) (hcs : cs + rmY.cells ≤ rm.cells ∧ sl + rmY.slots ≤ rm.slots)
    (kk : GGo K Q comp nL (fun H1 locs1 => ∃ H locs, I H locs ∧ R H H1 ∧ pFr a0 H H1 ∧ ∀ l ∈ locs1, l ∈ locs ∨ xFr a0 H.size l.base) (cs + rmY.cells) (sl + rmY.slots) (pc + 3) ls st) : GGo K Q comp nL I cs sl pc ls stk := by
  intro r hr H locs lsA hI hh T hT X
  obtain ⟨v', st₀, t, T', L, h0, X', hL, e1, e2, ⟨hv, hRv, hF⟩, stp⟩ := va_runI (g := F0 (kM K) pc lsA stk) (As := As) (rest := st) (cc := cc) (nL := nL) (own := own) (Ts := lw_all) ⟨hk.1, hk.2.1, hk.2.2.1, hk.2.2.2.1, hk.2.2.2.2.1⟩ (hM H locs hI K.2.1 htr) ⟨callB_of n hk.2.2.2.2.1 (lw_meth hcd) rfl rfl rfl (hk.2.2.2.2.1 _ hin) (hk.2.2.2.2.1 _ hl) hy (rmFit_ok hrm hk.2.2.2.2.2.2.2), hnm, hk.2.2.2.2.1 _ hi⟩ ⟨RMet_blind, fun U hU hW => ⟨rfl, ⟨hU, hK.2.2.2.2.2.1 _ _ _ _ hW.alike (hE H locs hI)⟩, hK.warm hW⟩⟩ rfl hn hh.1 hstk (lv_room (Nat.le_of_ble_eq_true hs)) hd ⟨(by show cs + rmY.cells ≤ (kR K).cells; rw [hk.2.2.2.2.2.2.2]; exact hcs.1), (by show sl + rmY.slots ≤ (kR K).slots; rw [hk.2.2.2.2.2.2.2]; exact hcs.2)⟩ T hT X
  cases hv
  obtain ⟨t2, a1, b1⟩ := kk r hr T'.heap (locs ++ L) lsA ⟨H, locs, hI, by rw [e1]; exact hRv, by rw [e1]; exact hF, fun l hl => (List.mem_append.mp hl).elim Or.inl (fun h => Or.inr (hL l h))⟩ hh T' rfl X'
  exact ⟨t2, stp t2 a1, b1⟩
/-- a field of an object is written, with all that it leaves alone -/
theorem x_put (hk : KOK K cc nL own rm ret) (hK : CK Γ (kS K)) {ci N idx : Nat} {C ref : String} {T : u_T} {fs : List Value} {a : Nat} {v : Value} (hc : ccl[ci]? = some (C, T, N)) (hin : ∀ w ∈ u_ws C T N, w ∈ lw_all) (ty0 : Nat → FieldType) (hty : ∀ k, k < N → parseFieldDescriptor (T k).2.2.1 = some (ty0 k)) (hnm : ∀ a, a < N → ∀ b, b < N → a ≠ b → (T a).2.1 ≠ (T b).2.1) (ha : ∀ H locs, I H locs → va_at (gD Γ) ccl (a, .inr (ci, fs)) H) (k : Nat) (hkN : k < N) (hl : Cond.fieldLink own idx ref (T k).2.1 (T k).2.2.1 ∈ lw_all) (hs : (T k).1 = ref) (hfin : (T k).2.2.2 = false) (hn : narrow (ty0 k) v = v) (hfit : fits (ty0 k) v = true) (hkl : k < fs.length) (hd : decode cc pc = .ok (.putfield idx, 3))
    (kk : GGo K Q comp nL (fun H1 locs1 => ∃ H locs, I H locs ∧ va_at (gD Γ) ccl (a, .inr (ci, fs.set k v)) H1 ∧ H1.size = H.size ∧ (∀ q : Nat, q ≠ a → H1[q]? = H[q]?) ∧ ∀ l ∈ locs1, l ∈ locs ∨ l.base = a) cs sl (pc + 3) ls st) : GGo K Q comp nL I cs sl pc ls (v :: .ref a :: st) := by
  intro r hr H locs lsA hI hh
  refine c_put0 (D := gD Γ) (ci := ci) (v := v) (ty := ty0 k) (C := C) (T := T) (N := N) hk.1 hk.2.1 hk.2.2.2.2.1 hin ty0 hty hnm hk.2.2.2.1 hK.1 (ha H locs hI) hc k hkN (hk.2.2.2.2.1 _ hl) (fun _ h9 => by rw [← hs]; exact h9) hfin (hty k hkN) hn hfit hkl hd (fun H1 locs1 hP hz oq hlo => ?_)
  exact kk r hr H1 locs1 lsA ⟨H, locs, hI, hP, hz, oq, hlo⟩ hh
theorem x_putF (hk : KOK K cc nL own rm ret) (hK : CK Γ (kS K)) {ci N idx : Nat} {C ref : String} {T : u_T} {fs : List Value} {a : Nat} {v : Value} (hc : ccl[ci]? = some (C, T, N)) (hin : ∀ w ∈ u_ws C T N, w ∈ lw_all) (ty0 : Nat → FieldType) (hty : ∀ k, k < N → parseFieldDescriptor (T k).2.2.1 = some (ty0 k)) (hnm : ∀ a, a < N → ∀ b, b < N → a ≠ b → (T a).2.1 ≠ (T b).2.1) (ha : ∀ H locs, I H locs → va_at (gD Γ) ccl (a, .inr (ci, fs)) H) (k : Nat) (hkN : k < N) (hl : Cond.fieldLink own idx ref (T k).2.1 (T k).2.2.1 ∈ lw_all) (hs : (T k).1 = ref) (hfin : (T k).2.2.2 = true) (hin2 : (kMe K).name = "<init>") (hdecl : (T k).1 = own) (hn : narrow (ty0 k) v = v) (hfit : fits (ty0 k) v = true) (hkl : k < fs.length) (hd : decode cc pc = .ok (.putfield idx, 3))
    (kk : GGo K Q comp nL (fun H1 locs1 => ∃ H locs, I H locs ∧ va_at (gD Γ) ccl (a, .inr (ci, fs.set k v)) H1 ∧ H1.size = H.size ∧ (∀ q : Nat, q ≠ a → H1[q]? = H[q]?) ∧ ∀ l ∈ locs1, l ∈ locs ∨ l.base = a) cs sl (pc + 3) ls st) : GGo K Q comp nL I cs sl pc ls (v :: .ref a :: st) := by
  intro r hr H locs lsA hI hh
  have hts := hk.2.2.2.2.1
  have hown := hk.2.2.2.1
  have hap := va_apart (own := own) hts hin ty0 hty hnm hK.1 hc
  obtain ⟨r0, h1, cell, q1, q2, q3, q4⟩ := ha H locs hI
  have hr0 : r0 = (C, T, N) := Option.some.inj (h1.symm.trans hc)
  subst hr0
  obtain ⟨hS, hfc, kC, hkC, hkind⟩ := hK.1.1 ci _ hc
  obtain ⟨cf, kf, fi, f, hi, hsl⟩ := hS k hkN
  have hlay := hts _ (hin _ (u_in_lay hkN))
  unfold u_lay at hlay
  rw [if_pos hfin] at hlay
  have hst := (u_facts hfc hkC (u_lays hts hin hkN) hi).1
  have hcf : (kM K).cls = cf := by
    obtain ⟨_, _, c', _, _, _, -, -, hf', -, -, -, hown2, -⟩ := Cond.laysFinal_spec hlay
    have e1 : c' = cf := by have := hi.symm.trans hf'; simp at this; exact this.1.symm
    rw [hdecl] at hown2
    rw [← e1]; exact Option.some.inj (hown.symm.trans hown2)
  have h6 := u_fits hfc hkC hkind (Or.inr hlay) hi (hty k hkN) hn hfit
  refine W.putFinK hk.1 hk.2.1 hown (hts _ hl) (by rw [← hs]; exact hi) hst hcf hin2 (by rw [q2]; exact h6) q1 q3 (by rw [hsl]; exact k2_hasslot (q4 k hkN)) rfl rfl hd fun H' e1 e2 e3 => ?_
  rw [hsl] at e1
  exact kk r hr H' _ lsA ⟨H, locs, hI, ⟨_, hc, t_OB.to (V := updV (vp_V fs) k v) ⟨_, e1, q2, q3, t_set q4 hap hkN v⟩ (fun j _ => vp_updV_set hkl v j)⟩, e2, e3, fun l hl => (List.mem_append.mp hl).elim Or.inl (fun h => Or.inr (by rw [List.mem_singleton.mp h]))⟩ hh
end XNEW
/-- what the kit's throwing needs of Throwable's statics -/
def STH (Γ : CG) (U : State) (H : Heap) : Prop := vx_Zq Bundle.tN "UNASSIGNED_STACK" Bundle.steD (cSt Γ) U H ∧ vx_Zq Bundle.tN "SUPPRESSED_SENTINEL" Bundle.listD (cSt Γ) U H
def DPX (Γ : CG) : Prop := DTX Γ ∧ ∀ tx U H, gE Γ tx U H → STH Γ U H
def rm_x_w : Room := { frames := 4, cells := 0, slots := 0, locals := 80 }
theorem n_wrong {Γ : CG} {tx : TXs Tx} (hΓ : DPX Γ) {H0 : Heap} {a : Nat} {x y : Int32} (hf : fr5 Γ H0 a) : NMet Γ tx yX5_init cX5_init 3 rm_x_w [.ref a, .int x, .int y] H0 a (wrAt Γ a (x, y)) := by
  refine n_met (view := fun _ : Unit => wrAt Γ a (x, y)) (comp := some ()) (own := RX5) rfl (by decide) rfl (ls0 := [(0, .ref a), (1, .int x), (2, .int y)]) rfl (fun K hk hK htr hnm hH hE => ?_) () rfl
  have hX := hΓ.1.1.x hK
  have hS := hΓ.2 _ _ _ hE
  have hS2 : STH Γ (kS K) (kS K).heap := by rw [hH]; exact hS
  refine g_aload_n (pc := 0) hk dX5_init_0 rfl ?_
  intro r hr H locs lsA hI hh
  obtain ⟨rfl, rfl⟩ := hI
  refine w_super5 (Γ := Γ) (A := cSt Γ) (pc := 1) (a := a) hk.1 hk.2.1 htr (by rw [hh.1]; exact hk.2.2.1.symm) hk.2.2.2.1 hk.2.2.2.2.1 hX.2.2.2.2.2.2 hK.1 hS2.1 hS2.2 (fun _ h => by cases h) (by rw [hH]; exact hf) dX5_init_1 (by show 3 < (kR K).frames; rw [hk.2.2.2.2.2.2.2]; decide) (by show _ ≤ (kR K).locals; rw [hk.2.2.2.2.2.2.2]; decide) (fun H1 locs1 fs hfl hat hz oq hlo => ?_)
  have go : GGo K (nQ K a rm_x_w (fun _ : Unit => wrAt Γ a (x, y))) (some ()) 3 (fun H l => H = H1 ∧ l = locs1) 0 0 4 [(0, .ref a), (1, .int x), (2, .int y)] [] := by
    refine g_aload_n (pc := 4) hk dX5_init_4 rfl ?_
    refine g_iload_n (pc := 5) hk dX5_init_5 rfl ?_
    refine x_putF (pc := 6) (ci := 4) (fs := fs) (ref := RX5) hk hK rfl in_X5 tyX5 tyX5_ok nmX5 (fun _ _ e => by rw [e.1]; exact hat) 6 (by decide) q527 rfl rfl hnm rfl rfl rfl (by omega) dX5_init_6 ?_
    refine g_aload_n (pc := 9) hk dX5_init_9 rfl ?_
    refine g_iload_n (pc := 10) hk dX5_init_10 rfl ?_
    refine x_putF (pc := 11) (ci := 4) (fs := fs.set 6 (.int x)) (ref := RX5) hk hK rfl in_X5 tyX5 tyX5_ok nmX5 (fun _ _ e => by obtain ⟨_, _, _, h, _⟩ := e; exact h) 7 (by decide) q529 rfl rfl hnm rfl rfl rfl (by rw [List.length_set]; omega) dX5_init_11 ?_
    refine n_vret (pc := 14) hk (fun H9 locs9 hi => ?_) dX5_init_14 (Nat.zero_le _) (Nat.zero_le _)
    obtain ⟨Ha, la, ⟨Hb, lb, ⟨rfl, rfl⟩, -, z1, o1, l1⟩, hv, z2, o2, l2⟩ := hi
    refine ⟨⟨_, hv, ?_, ?_⟩, ⟨by omega, fun q hq hne => by rw [o2 q hne, o1 q hne, oq q hne]⟩, fun l hl => ?_⟩
    · rw [List.getElem?_set_ne (by decide), List.getElem?_set_self (by omega)]
    · rw [List.getElem?_set_self (by rw [List.length_set]; omega)]
    · rcases l2 l hl with h | h
      · rcases l1 l h with h | h
        · rcases hlo l h with h | h
          · cases h
          · exact Or.inl h
        · exact Or.inl h
      · exact Or.inl h
  exact go r hr H1 locs1 lsA ⟨rfl, rfl⟩ hh

/-! RETURNS of methods that may throw; wrong(int) -/
section XRET
variable {ρ : Type} {K : KT} {comp : Option ρ} {nL : Nat} {I : Heap → List Loc → Prop} {cs sl pc : Nat} {ls : List (Nat × Value)} {cc : ByteArray} {rm : Room} {Γ : CG} {own : String} {tx : TXs Tx} {π : PPar} {view : ρ → PRes} {r0 : ρ} {R : Option Value → Heap → Prop}
theorem x_aretX {rt : FieldType} {x : Nat} (hk : KOK K cc nL own rm (some rt)) (hrt : (∃ n, rt = .object n) ∨ ∃ t, rt = .array t) (hview : view r0 = .inr R) (hI : ∀ H locs, I H locs → R (some (.ref x)) H ∧ pFr π.1 (kS K).heap H ∧ ∀ l ∈ locs, xFr π.1 (kS K).heap.size l.base) (hd : decode cc pc = .ok (.areturn, 1)) (h1 : cs ≤ rm.cells) (h2 : sl ≤ rm.slots) : GGo K (xQ K Γ π rm view) (some r0) nL I cs sl pc ls [.ref x] := by
  intro r hr H locs lsA hi hh
  cases hr
  obtain ⟨a, b, c⟩ := hI H locs hi
  refine vx_ret (W.widen h1 h2 ?_)
  exact W.aret hk.1 hk.2.1 hk.2.2.2.2.2.2.1 hrt (Or.inr ⟨x, rfl⟩) (fun t ht hW => ⟨_, R, rfl, hview, by rw [ht]; exact a, by rw [ht]; exact b⟩) c hd hk.2.2.2.2.2.1
theorem x_iretX {x : Int32} (hk : KOK K cc nL own rm (some .int)) (hview : view r0 = .inr R) (hI : ∀ H locs, I H locs → R (some (.int x)) H ∧ pFr π.1 (kS K).heap H ∧ ∀ l ∈ locs, xFr π.1 (kS K).heap.size l.base) (hd : decode cc pc = .ok (.ireturn, 1)) (h1 : cs ≤ rm.cells) (h2 : sl ≤ rm.slots) : GGo K (xQ K Γ π rm view) (some r0) nL I cs sl pc ls [.int x] := by
  intro r hr H locs lsA hi hh
  cases hr
  obtain ⟨a, b, c⟩ := hI H locs hi
  refine vx_ret (W.widen h1 h2 ?_)
  exact W.iret hk.1 hk.2.1 hk.2.2.2.2.2.2.1 (fun t ht hW => ⟨_, R, rfl, hview, by rw [ht]; exact a, by rw [ht]; exact b⟩) c hd hk.2.2.2.2.2.1
theorem x_vretX (hk : KOK K cc nL own rm none) (hview : view r0 = .inr R) (hI : ∀ H locs, I H locs → R none H ∧ pFr π.1 (kS K).heap H ∧ ∀ l ∈ locs, xFr π.1 (kS K).heap.size l.base) (hd : decode cc pc = .ok (.return_, 1)) (h1 : cs ≤ rm.cells) (h2 : sl ≤ rm.slots) : GGo K (xQ K Γ π rm view) (some r0) nL I cs sl pc ls [] := by
  intro r hr H locs lsA hi hh
  cases hr
  obtain ⟨a, b, c⟩ := hI H locs hi
  refine vx_ret (W.widen h1 h2 ?_)
  exact W.vret hk.1 hk.2.1 hk.2.2.2.2.2.2.1 (fun t ht hW => ⟨_, R, rfl, hview, by rw [ht]; exact a, by rw [ht]; exact b⟩) c hd hk.2.2.2.2.2.1
/-- a Wrong at hand is thrown: the method ends so -/
theorem x_athrow {ret : Option FieldType} {q : Nat} {e : Int32 × Int32} (hk : KOK K cc nL own rm ret) (hK : CK Γ (kS K)) (htab : noTab K) (hview : view r0 = .inl e) (hI : ∀ H locs, I H locs → wrAt Γ q e H ∧ pFr π.1 (kS K).heap H ∧ ∀ l ∈ locs, xFr π.1 (kS K).heap.size l.base) (hd : decode cc pc = .ok (.athrow, 1)) (h1 : cs ≤ rm.cells) (h2 : sl ≤ rm.slots) {st : List Value} : GGo K (xQ K Γ π rm view) (some r0) nL I cs sl pc ls (.ref q :: st) := by
  intro r hr H locs lsA hi hh
  cases hr
  obtain ⟨a, b, c⟩ := hI H locs hi
  obtain ⟨fs, ha, f1, f2⟩ := a
  have hcell := x_rec (I := fun H' _ => H' = H) hK (ci := 4) rfl (fun _ _ e => by rw [e]; exact ha) H [] rfl
  obtain ⟨r9, e9, cell, g1, g2, g3, g4⟩ := ha
  obtain ⟨cell2, k1, -, k3⟩ := hcell
  cases k1.symm.trans g1
  refine vx_athrow hk.1 hk.2.1 hd (vx_out (fun x hx => (htab x hx).elim) hk.2.2.2.2.2.1 g1 g3 k3 (fun t ht _ => ⟨e, hview, rfl, by rw [ht]; exact ⟨fs, ⟨r9, e9, cell, g1, g2, g3, g4⟩, f1, f2⟩, by rw [ht]; exact b⟩) c h1 h2)
end XRET
theorem hi_x5 : yX5_init.cls ≠ "java/lang/invoke/MethodHandle" ∧ yX5_init.cls ≠ "java/lang/invoke/VarHandle" ∧ (parseMethodDescriptor yX5_init.desc).map (fun d => d.parameters.length) = some 2 := by decide +kernel
def rm_x_wr : Room := { frames := 6, cells := 1, slots := 8, locals := 160 }
/-- what wrong(int) leaves: a new Wrong, all else as it was -/
def wrR (Γ : CG) (e : Int32 × Int32) (H0 : Heap) : Option Value → Heap → Prop := fun v H1 => ∃ q, v = some (.ref q) ∧ wrAt Γ q e H1 ∧ H0.size ≤ H1.size ∧ ∀ x, x < H0.size → H1[x]? = H0[x]?
theorem m_wrong {Γ : CG} {tx : TXs Tx} {π : PPar} (hΓ : DPX Γ) {H0 : Heap} {τ : TKS} (ht : va_at (gD Γ) ccl (π.1, .inr (2, tkF Γ π τ)) H0) (x : Int32) : XMet Γ tx π yX3_wrong cX3_wrong 2 (some (.object "ShaveOfAnother$Wrong")) rm_x_wr [.ref π.1, .int x] H0 (.inr (wrR Γ (x, τ.2.1) H0)) := by
  refine x_met (view := fun _ : Unit => .inr (wrR Γ (x, τ.2.1) H0)) (comp := some ()) (own := RX3) rfl (by decide) rfl (ls0 := [(0, .ref π.1), (1, .int x)]) rfl (fun K hk hK htab htr hH hG => ?_) () rfl
  have hs0 : (kS K).heap.size = H0.size := by rw [hH]
  refine x_new (pc := 0) (ci := 4) (N := 8) (fs := [.null, .null, .null, .null, .null, .int 0, .int 0, .int 0]) hk hK rfl in_X5 tyX5 tyX5_ok q483 q484 q141 (fun j hj => by
    rcases (show j = 0 ∨ j = 1 ∨ j = 2 ∨ j = 3 ∨ j = 4 ∨ j = 5 ∨ j = 6 ∨ j = 7 by omega) with rfl | rfl | rfl | rfl | rfl | rfl | rfl | rfl <;> rfl) (by decide) (by decide) dX3_wrong_0 (fun q => ?_)
  have hlt := ht.lt
  refine g_dup (pc := 3) hk dX3_wrong_3 rfl ?_
  refine g_iload_n (pc := 4) hk dX3_wrong_4 rfl ?_
  refine g_aload_n (pc := 5) hk dX3_wrong_5 rfl ?_
  refine x_get (pc := 6) (v := .int τ.2.1) (fs := tkF Γ π τ) hk hK (ci := 2) rfl in_X3 (fun H locs hI => by
    obtain ⟨Ha, ⟨rfl, rfl⟩, -, -, ho, -, -⟩ := hI
    exact ht.kept (by rw [ho _ (by rw [hH]; exact hlt), hH])) 3 (by decide) q336 (Or.inl rfl) rfl dX3_wrong_6 ?_
  refine x_init (tx := tx) (pc := 9) (rmY := rm_x_w) (R := fun _ H1 => wrAt Γ q (x, τ.2.1) H1) hk hK htr (fun H locs hI => ?_) [.int x, .int τ.2.1] [.ref q] (fun H locs hI => ?_) q520 q521 q141 q522 rfl hi_x5 rfl rfl rfl dX3_wrong_9 rfl ⟨by decide, by decide⟩ ?_
  · obtain ⟨Ha, ⟨rfl, rfl⟩, -, hz, ho, -, -⟩ := hI
    have hG1 : PG Γ tx π (kS K) H := (show PG Γ tx π (kS K) (kS K).heap by rw [hH]; exact hG).fr ⟨by omega, fun q hq _ => ho q hq⟩
    exact hG1.ge hK.2.2.2
  · obtain ⟨Ha, ⟨rfl, rfl⟩, -, -, -, hv, hm⟩ := hI
    refine n_wrong hΓ ?_
    obtain ⟨r9, e9, cell, g1, g2, g3, g4⟩ := hv
    cases e9
    obtain ⟨cell2, k1, k2, k3⟩ := hm
    cases k1.symm.trans g1
    exact ⟨cell, g1, g2, g3, k2, k3, fun k hk8 => (g4 k hk8).trans (by
      rcases (show k = 0 ∨ k = 1 ∨ k = 2 ∨ k = 3 ∨ k = 4 ∨ k = 5 ∨ k = 6 ∨ k = 7 by omega) with rfl | rfl | rfl | rfl | rfl | rfl | rfl | rfl <;> rfl)⟩
  · refine x_aretX (pc := 12) hk (Or.inl ⟨_, rfl⟩) rfl (fun H locs hI => ?_) dX3_wrong_12 (by decide) (by decide)
    obtain ⟨H2, l2, ⟨Ha, ⟨rfl, rfl⟩, hq, hz, ho, -, -⟩, hw, hF, hl⟩ := hI
    have e0 : (kS K).heap = H0 := hH
    have hsz : H0.size ≤ H.size := by have := hF.1; omega
    have hsame : ∀ y, y < H0.size → H[y]? = H0[y]? := fun y hy => by rw [hF.2 y (by omega) (by omega), ho y (by omega), hH]
    refine ⟨⟨q, rfl, hw, hsz, hsame⟩, ⟨by omega, fun y hy _ => by rw [hsame y (by omega), hH]⟩, fun l hl9 => (hl l hl9).elim (fun h => by cases h) (fun h => ?_)⟩
    rcases h with h | h
    · exact Or.inr (by rw [show l.base = q from h, hq]; exact Nat.le_refl _)
    · exact Or.inr (by have h2 : H2.size ≤ l.base := h; omega)
