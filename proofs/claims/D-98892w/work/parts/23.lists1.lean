/-! LISTS that grow: contracts that write some older cells; new arrays, stores, copies of references -/
set_option maxRecDepth 100000
/-- an object that may lie in an array of objects -/
def elO (U : State) (H : Heap) (v : Nat) : Prop := ∃ C, Cond.castable C "java/lang/Object" ∈ cxw ∧ ∃ cell : Cell, H[v]? = some cell ∧ cell.vm.isStatics = false ∧ U.vm.findClass C = some cell.cls
theorem elO.kept {U : State} {H H1 : Heap} {v : Nat} (h : elO U H v) (e : v < H.size → H1[v]? = H[v]?) : elO U H1 v := by
  obtain ⟨C, hC, cell, h1, h2, h3⟩ := h
  exact ⟨C, hC, cell, by rw [e (Array.getElem?_eq_some_iff.mp h1).1]; exact h1, h2, h3⟩
theorem elO.moved {s U : State} {H : Heap} {v : Nat} (hvm : s.vm.Alike U.vm) (h : elO s H v) : elO U H v := by
  obtain ⟨C, hC, cell, h1, h2, h3⟩ := h
  exact ⟨C, hC, cell, h1, h2, by rw [hvm.findClass]; exact h3⟩
def OMet (Γ : CG) (tx : TXs Tx) (y : MethodName) (bytes : ByteArray) (maxL : Nat) (ret : Option FieldType) (rm : Room) (av : List Value) (H0 : Heap) (Pre : State → Prop) (fr : Nat → Prop) (v : Option Value) (R : Heap → Prop) : Prop :=
  ∀ l : Launch, Met l y (ws_ y bytes maxL ret) rm (va_Pc av (fun U => (U.heap = H0 ∧ gE Γ tx U H0 ∧ Pre U) ∧ CK Γ U)) (fun _ _ o t => o = .returned v ∧ R t.heap ∧ H0.size ≤ t.heap.size ∧ ∀ q : Nat, q < H0.size → ¬ fr q → t.heap[q]? = H0[q]?) rm.cells rm.slots (fun b => fr b ∨ H0.size ≤ b)
def oQ (K : KT) (fr : Nat → Prop) (rm : Room) (v : Option Value) (R : Heap → Prop) : Unit → State → Prop := fun _ => MQ (kB K) (fun _ _ o t => o = .returned v ∧ R t.heap ∧ (kS K).heap.size ≤ t.heap.size ∧ ∀ q : Nat, q < (kS K).heap.size → ¬ fr q → t.heap[q]? = (kS K).heap[q]?) (kA K) (kS K) rm.cells rm.slots (fun b => fr b ∨ (kS K).heap.size ≤ b)
/-- what holds within: cells outside fr kept -/
def OW (K : KT) (fr : Nat → Prop) (E : Heap → Prop) : Heap → List Loc → Prop := fun H locs => ((kS K).heap.size ≤ H.size ∧ ∀ q : Nat, q < (kS K).heap.size → ¬ fr q → H[q]? = (kS K).heap[q]?) ∧ (∀ l ∈ locs, fr l.base ∨ (kS K).heap.size ≤ l.base) ∧ E H
section OMT
variable {Γ : CG} {tx : TXs Tx}
theorem o_met {y : MethodName} {bytes : ByteArray} {maxL : Nat} {ret : Option FieldType} {rm : Room} {av : List Value} {H0 : Heap} {Pre : State → Prop} {fr : Nat → Prop} {v : Option Value} {R : Heap → Prop} {ls0 : List (Nat × Value)} {own : String} (hc : y.cls = own) (hpl : plainName own = true) (hl : Nat.ble (lg_sl av).length maxL = true) (hls : lv_args 0 av = ls0)
    (body : ∀ K : KT, KOK K bytes maxL own rm ret → CK Γ (kS K) → (kS K).heap = H0 → gE Γ tx (kS K) H0 → Pre (kS K) → GGo K (oQ K fr rm v R) (some ()) maxL (OW K fr (fun H => H = H0)) 0 0 0 ls0 []) : OMet Γ tx y bytes maxL ret rm av H0 Pre fr v R := by
  intro l
  subst hls
  refine Met.ofW (cc := bytes) (maxL := maxL) (ret := ret) (by rw [hc]; exact hpl) rfl ?_
  intro p e s m args below meth c s₁ B hml hv
  obtain ⟨rfl, ⟨hH, hE, hPre⟩, hKK⟩ := hv
  subst hH
  have hts := atoms_spec (ws := ws_ y bytes maxL ret) B.pre
  have hown : s.vm.findClass y.cls = some m.cls := findClass_of_methodNamed B.named
  rw [hc] at hown
  rw [lg_entry_eq]
  exact body (p, l, e, (headSpec (ws_ y bytes maxL ret) rm).room, s, m, av.toArray, below, meth, c) ⟨B.exec, B.bytes, hml, hown, fun w h => hts w (List.mem_cons_of_mem _ h), B.notSynchronized, B.returns, rfl⟩ hKK rfl hE hPre () rfl s.heap [] _ ⟨⟨Nat.le_refl _, fun _ _ _ => rfl⟩, (fun _ h => by cases h), rfl⟩ (lv_entry av (Nat.le_of_ble_eq_true hl))
section ORET
variable {K : KT} {fr : Nat → Prop} {rm : Room} {R E : Heap → Prop} {cc : ByteArray} {own : String} {nL cs sl pc : Nat} {ls : List (Nat × Value)}
theorem o_aret {rt : FieldType} {x : Nat} (hk : KOK K cc nL own rm (some rt)) (hrt : (∃ n, rt = .object n) ∨ ∃ t, rt = .array t) (hR : ∀ H, E H → R H) (hd : decode cc pc = .ok (.areturn, 1)) (h1 : cs ≤ rm.cells) (h2 : sl ≤ rm.slots) : GGo K (oQ K fr rm (some (.ref x)) R) (some ()) nL (OW K fr E) cs sl pc ls [.ref x] := by
  intro r hr H locs lsA hi hh
  refine W.widen h1 h2 ?_
  exact W.aret hk.1 hk.2.1 hk.2.2.2.2.2.2.1 hrt (Or.inr ⟨x, rfl⟩) (fun t ht hW => ⟨rfl, by rw [ht]; exact hR H hi.2.2, by rw [ht]; exact hi.1.1, by rw [ht]; exact hi.1.2⟩) hi.2.1 hd hk.2.2.2.2.2.1
theorem o_vret (hk : KOK K cc nL own rm none) (hR : ∀ H, E H → R H) (hd : decode cc pc = .ok (.return_, 1)) (h1 : cs ≤ rm.cells) (h2 : sl ≤ rm.slots) : GGo K (oQ K fr rm none R) (some ()) nL (OW K fr E) cs sl pc ls [] := by
  intro r hr H locs lsA hi hh
  refine W.widen h1 h2 ?_
  exact W.vret hk.1 hk.2.1 hk.2.2.2.2.2.2.1 (fun t ht hW => ⟨rfl, by rw [ht]; exact hR H hi.2.2, by rw [ht]; exact hi.1.1, by rw [ht]; exact hi.1.2⟩) hi.2.1 hd hk.2.2.2.2.2.1
theorem o_zret {x : Int32} (hk : KOK K cc nL own rm (some .boolean)) (hz : isZ x = true) (hR : ∀ H, E H → R H) (hd : decode cc pc = .ok (.ireturn, 1)) (h1 : cs ≤ rm.cells) (h2 : sl ≤ rm.slots) : GGo K (oQ K fr rm (some (.int x)) R) (some ()) nL (OW K fr E) cs sl pc ls [.int x] := by
  intro r hr H locs lsA hi hh
  refine W.widen h1 h2 ?_
  exact W.zret hk.1 hk.2.1 hk.2.2.2.2.2.2.1 (isZ_nar hz) (fun t ht hW => ⟨rfl, by rw [ht]; exact hR H hi.2.2, by rw [ht]; exact hi.1.1, by rw [ht]; exact hi.1.2⟩) hi.2.1 hd hk.2.2.2.2.2.1
end ORET
theorem OMet_blind {av : List Value} {H0 : Heap} {Pre : State → Prop} (hp : ∀ s U : State, s.vm.Alike U.vm → Pre s → Pre U) : FrameBlind (va_Pc av (fun U => (U.heap = H0 ∧ gE Γ tx U H0 ∧ Pre U) ∧ CK Γ U)) := fun a U g mk q => by
  obtain ⟨q0, q1, qK⟩ := q
  have hW : U.WarmedH (U.calling g mk a).vm := State.WarmedH.refl U
  exact ⟨q0, ⟨q1.1, qK.2.2.2.2.2.1 _ _ _ _ hW.alike q1.2.1, hp _ _ hW.alike q1.2.2⟩, qK.warm hW⟩
section OCALL
variable {ρ : Type} {K : KT} {Q : ρ → State → Prop} {comp : Option ρ} {nL : Nat} {I : Heap → List Loc → Prop} {cs sl pc : Nat} {ls : List (Nat × Value)} {st : List Value} {cc : ByteArray} {rm : Room} {ret : Option FieldType} {own : String}
/-- a method that writes older cells is called -/
theorem o_callV (hk : KOK K cc nL own rm ret) (hK : CK Γ (kS K)) (hE : ∀ H locs, I H locs → gE Γ tx (kS K) H) {Pre : Heap → State → Prop} (hp : ∀ (H : Heap) (s U : State), s.vm.Alike U.vm → Pre H s → Pre H U) (hPre : ∀ H locs, I H locs → Pre H (kS K)) {y : MethodName} {bytes : ByteArray} {maxL n idx : Nat} {retY : Option FieldType} {rmY : Room} {v : Heap → Option Value} {stk : List Value} {C : String} {a0 : Nat} (hrec : ∀ H locs, I H locs → ∃ cell : Cell, H[a0]? = some cell ∧ cell.vm.isStatics = false ∧ (kS K).vm.findClass C = some cell.cls) (As : List Value) (st : List Value) {fr : Nat → Prop} {R : Heap → Heap → Prop} (hM : ∀ H locs, I H locs → OMet Γ tx y bytes maxL retY rmY (.ref a0 :: As) H (Pre H) fr (v H) (R H)) (hGd : GoodIn lw_all (wsV own idx C y (ws_ y bytes maxL retY))) (hy : y.cls = C ∧ y.cls ≠ "java/lang/invoke/MethodHandle" ∧ y.cls ≠ "java/lang/invoke/VarHandle" ∧ (parseMethodDescriptor y.desc).map (fun d => d.parameters.length) = some n) (hrm : rmFit maxL rmY rm = true) (hn : As.length = n) (hs : Nat.ble ((st.map fun v => v.category).sum) 8 = true) (hd : decode cc pc = .ok (.invokevirtual idx, 3)) (hstk : stk = As.reverse ++ .ref a0 :: st) (hcs : cs + rmY.cells ≤ rm.cells ∧ sl + rmY.slots ≤ rm.slots)
    (kk : ∀ H locs, I H locs → GGo K Q comp nL (fun H1 locs1 => R H H1 ∧ (H.size ≤ H1.size ∧ ∀ q : Nat, q < H.size → ¬ fr q → H1[q]? = H[q]?) ∧ ∀ l ∈ locs1, l ∈ locs ∨ fr l.base ∨ H.size ≤ l.base) (cs + rmY.cells) (sl + rmY.slots) (pc + 3) ls ((v H).toList ++ st)) : GGo K Q comp nL I cs sl pc ls stk := by
  intro r hr H locs lsA hI hh T hT X
  obtain ⟨v', st₀, t, T', L, h0, X', hL, e1, e2, ⟨hv, hRv, hsz, hkk⟩, stp⟩ := va_runV (g := F0 (kM K) pc lsA stk) (As := As) (rest := st) (cc := cc) (nL := nL) (own := own) (Ts := lw_all) ⟨hk.1, hk.2.1, hk.2.2.1, hk.2.2.2.1, hk.2.2.2.2.1⟩ (hM H locs hI K.2.1) (cwV n hk.2.2.2.2.1 hGd rfl rfl rfl hy (rmFit_ok hrm hk.2.2.2.2.2.2.2)) ⟨OMet_blind (hp H), hrec H locs hI, fun U hU hW => ⟨rfl, ⟨hU, hK.2.2.2.2.2.1 _ _ _ _ hW.alike (hE H locs hI), hp H _ _ hW.alike (hPre H locs hI)⟩, hK.warm hW⟩⟩ rfl hn hh.1 hstk (lv_room (Nat.le_of_ble_eq_true hs)) hd ⟨(by show cs + rmY.cells ≤ (kR K).cells; rw [hk.2.2.2.2.2.2.2]; exact hcs.1), (by show sl + rmY.slots ≤ (kR K).slots; rw [hk.2.2.2.2.2.2.2]; exact hcs.2)⟩ T hT X
  cases hv
  obtain ⟨t2, a1, b1⟩ := kk H locs hI r hr T'.heap (locs ++ L) lsA ⟨by rw [e1]; exact hRv, ⟨by rw [e1]; exact hsz, by rw [e1]; exact hkk⟩, fun l hl => (List.mem_append.mp hl).elim Or.inl (fun h => Or.inr (hL l h))⟩ hh T' rfl X'
  exact ⟨t2, stp t2 a1, b1⟩
theorem o_callS (hk : KOK K cc nL own rm ret) (hK : CK Γ (kS K)) (hE : ∀ H locs, I H locs → gE Γ tx (kS K) H) {Pre : Heap → State → Prop} (hp : ∀ (H : Heap) (s U : State), s.vm.Alike U.vm → Pre H s → Pre H U) (hPre : ∀ H locs, I H locs → Pre H (kS K)) {y : MethodName} {bytes : ByteArray} {maxL n idx : Nat} {retY : Option FieldType} {rmY : Room} {v : Heap → Option Value} {stk : List Value} (As : List Value) (st : List Value) {fr : Nat → Prop} {R : Heap → Heap → Prop} (hM : ∀ H locs, I H locs → OMet Γ tx y bytes maxL retY rmY As H (Pre H) fr (v H) (R H)) (hGd : GoodIn lw_all (va_wsS own idx y (ws_ y bytes maxL retY))) (hy : y.cls ≠ "java/lang/invoke/MethodHandle" ∧ y.cls ≠ "java/lang/invoke/VarHandle" ∧ (parseMethodDescriptor y.desc).map (fun d => d.parameters.length) = some n) (hrm : rmFit maxL rmY rm = true) (hn : As.length = n) (hs : Nat.ble ((st.map fun v => v.category).sum) 8 = true) (hd : decode cc pc = .ok (.invokestatic idx, 3)) (hstk : stk = As.reverse ++ st) (hcs : cs + rmY.cells ≤ rm.cells ∧ sl + rmY.slots ≤ rm.slots)
    (kk : ∀ H locs, I H locs → GGo K Q comp nL (fun H1 locs1 => R H H1 ∧ (H.size ≤ H1.size ∧ ∀ q : Nat, q < H.size → ¬ fr q → H1[q]? = H[q]?) ∧ ∀ l ∈ locs1, l ∈ locs ∨ fr l.base ∨ H.size ≤ l.base) (cs + rmY.cells) (sl + rmY.slots) (pc + 3) ls ((v H).toList ++ st)) : GGo K Q comp nL I cs sl pc ls stk := by
  intro r hr H locs lsA hI hh T hT X
  obtain ⟨v', st₀, t, T', L, h0, X', hL, e1, e2, ⟨hv, hRv, hsz, hkk⟩, stp⟩ := va_runS (g := F0 (kM K) pc lsA stk) (As := As) (rest := st) (cc := cc) (nL := nL) (own := own) (Ts := lw_all) ⟨hk.1, hk.2.1, hk.2.2.1, hk.2.2.2.1, hk.2.2.2.2.1⟩ (hM H locs hI K.2.1) (va_cwS n hk.2.2.2.2.1 hGd rfl rfl rfl hy (rmFit_ok hrm hk.2.2.2.2.2.2.2)) ⟨OMet_blind (hp H), fun U hU hW => ⟨rfl, ⟨hU, hK.2.2.2.2.2.1 _ _ _ _ hW.alike (hE H locs hI), hp H _ _ hW.alike (hPre H locs hI)⟩, hK.warm hW⟩⟩ rfl hn hh.1 hstk (lv_room (Nat.le_of_ble_eq_true hs)) hd ⟨(by show cs + rmY.cells ≤ (kR K).cells; rw [hk.2.2.2.2.2.2.2]; exact hcs.1), (by show sl + rmY.slots ≤ (kR K).slots; rw [hk.2.2.2.2.2.2.2]; exact hcs.2)⟩ T hT X
  cases hv
  obtain ⟨t2, a1, b1⟩ := kk H locs hI r hr T'.heap (locs ++ L) lsA ⟨by rw [e1]; exact hRv, ⟨by rw [e1]; exact hsz, by rw [e1]; exact hkk⟩, fun l hl => (List.mem_append.mp hl).elim Or.inl (fun h => Or.inr (hL l h))⟩ hh T' rfl X'
  exact ⟨t2, stp t2 a1, b1⟩
/-- a new array of objects -/
theorem x_anew (hk : KOK K cc nL own rm ret) (hK : CK Γ (kS K)) (hX : XK (kS K)) {idx N : Nat} {n : Int32} (hcl : Cond.classLink own idx "java/lang/Object" ∈ lw_all) (hn : n = nI N) (hN : N < 100000) (hc : cs + 1 ≤ rm.cells) (hs : sl + N ≤ rm.slots) (hd : decode cc pc = .ok (.anewarray idx, 3)) (kk : ∀ q, GGo K Q comp nL (fun H1 locs => ∃ H, I H locs ∧ q = H.size ∧ H1.size = H.size + 1 ∧ (∀ x, x < H.size → H1[x]? = H[x]?) ∧ H1[q]? = some (arrV (gC Γ 5) N (fun _ => va_rf none))) (cs + 1) (sl + N) (pc + 3) ls (.ref q :: st)) : GGo K Q comp nL I cs sl pc ls (.int n :: st) := by
  subst hn
  intro r hr H locs lsA hI hh
  have hcn : (nI N).toNatClampNeg = N := nI_clamp (by omega)
  refine W.anew hk.1 hk.2.1 hk.2.2.2.1 (hk.2.2.2.2.1 _ hcl) (va_AO.use hX.2.2.2.1) rfl hd rfl (nI_pos (by omega)) (by rw [hcn]; omega) (by show _ ≤ (kR K).cells; rw [hk.2.2.2.2.2.2.2]; exact hc) (by show _ ≤ (kR K).slots; rw [hk.2.2.2.2.2.2.2, hcn]; exact hs) fun cA kA comp0 f1 f2 f3 f4 => ?_
  rw [hcn]
  have hcA : cA = gC Γ 5 := by
    obtain ⟨-, -, -, -, -, h4⟩ := (hK.1.2 5 _ rfl).2
    exact Option.some.inj (f1.symm.trans h4)
  subst hcA
  generalize hH1 : H.push ({ cls := gC Γ 5, slots := Array.replicate N .null, vm := .none } : Cell) = H1
  have z1 : H1.size = H.size + 1 := by rw [← hH1, Array.size_push]
  have e1 : H1[H.size]? = some (arrV (gC Γ 5) N (fun _ => .null)) := by rw [← hH1, Array.getElem?_push_size, ← arrV_new]
  have o1 : ∀ q : Nat, q < H.size → H1[q]? = H[q]? := fun q hq => by rw [← hH1, Array.getElem?_push, if_neg (Nat.ne_of_lt hq)]
  exact kk H.size r hr H1 locs lsA ⟨H, hI, rfl, z1, o1, e1⟩ hh
/-- a store into an array of objects -/
theorem x_aastO (hk : KOK K cc nL own rm ret) (hK : CK Γ (kS K)) (hX : XK (kS K)) {a v n j : Nat} {fv : Nat → Option Nat} {i : Int32} (hcell : ∀ H locs, I H locs → H[a]? = some (arrV (gC Γ 5) n (fun j => va_rf (fv j)))) (hv : ∀ H locs, I H locs → elO (kS K) H v) (hin : inb i n = true) (hj : i.toNatClampNeg = j) (hd : decode cc pc = .ok (.aastore, 1)) (kk : GGo K Q comp nL (fun H1 locs1 => ∃ H locs, I H locs ∧ H1[a]? = some (arrV (gC Γ 5) n (fun q => va_rf (va_up fv j (some v) q))) ∧ H1.size = H.size ∧ (∀ q : Nat, q ≠ a → H1[q]? = H[q]?) ∧ ∀ l ∈ locs1, l ∈ locs ∨ l.base = a) cs sl (pc + 1) ls st) : GGo K Q comp nL I cs sl pc ls (.ref v :: .int i :: .ref a :: st) := by
  subst hj
  intro r hr H locs lsA hI hh
  have hw := inb_vp hin
  have hlt := inb_lt hin
  have h0 : ¬ i < 0 := fun q => hw (Or.inl q)
  obtain ⟨C, hC, cellV, g1, g3, g2⟩ := hv H locs hI
  obtain ⟨kA, comp0, k1, k2, k3, -⟩ := (hK.1.2 5 _ rfl).2
  obtain ⟨kE, hkE, -⟩ := Vm.findClass_spec k3
  obtain ⟨kC, hkC, -⟩ := Vm.findClass_spec g2
  refine W.aast hk.1 hk.2.1 (hcell H locs hI) (fun q h => by cases h) (fun h => by cases h) k1 k2 rfl hkE ⟨h0, by show _ < (arrV _ _ _).slots.size; rw [arrV_size]; exact hlt⟩ g1 (fun q h => by rw [h] at g3; cases g3) hkC (vb_asgC (hX.1 _ hC) _ _ k3 g2) rfl rfl hd fun H1 e z oq => ?_
  refine kk r hr H1 _ lsA ⟨H, locs, hI, ?_, z, oq, fun l hl => (List.mem_append.mp hl).elim Or.inl (fun h => Or.inr (by rw [List.mem_singleton.mp h]))⟩ hh
  rw [e, arrV_store]
  congr 2
  funext q
  by_cases hq : q = i.toNatClampNeg
  · subst hq
    simp [updV, va_up, va_rf]
  · simp [updV, va_up, hq]
theorem x_acmpeq {A B : Option ρ} {x y : Nat} {off : Int} {tgt : Nat} (hk : KOK K cc nL own rm ret) (hd : decode cc pc = .ok (.if_acmp .eq off, 3)) (ht : (pc : Int) + off = (tgt : Int)) (kt : x = y → GGo K Q comp nL I cs sl tgt ls st) (kf : ¬ x = y → GGo K Q comp nL I cs sl (pc + 3) ls st) : GGo K Q comp nL I cs sl pc ls (.ref y :: .ref x :: st) := fun r hr H locs lsA hI hh => lv_acmp_eq (rx := some x) (ry := some y) hk.1 hk.2.1 hd ht (fun h => kt (Option.some.inj h) r hr H locs lsA hI hh) (fun h => kf (fun e => h (by rw [e])) r hr H locs lsA hI hh)
theorem x_acmpne {x y : Nat} {off : Int} {tgt : Nat} (hk : KOK K cc nL own rm ret) (hd : decode cc pc = .ok (.if_acmp .ne off, 3)) (ht : (pc : Int) + off = (tgt : Int)) (kt : ¬ x = y → GGo K Q comp nL I cs sl tgt ls st) (kf : x = y → GGo K Q comp nL I cs sl (pc + 3) ls st) : GGo K Q comp nL I cs sl pc ls (.ref y :: .ref x :: st) := fun r hr H locs lsA hI hh => lv_acmp_ne (rx := some x) (ry := some y) hk.1 hk.2.1 hd ht (fun h => kt (fun e => h (by rw [e])) r hr H locs lsA hI hh) (fun h => kf (Option.some.inj h) r hr H locs lsA hI hh)
end OCALL
end OMT
