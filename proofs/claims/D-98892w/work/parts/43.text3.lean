/-! TOKENS' constructor; a call that throws into a handler of this method -/
set_option maxRecDepth 100000
def rm_x_tk : Room := { frames := 2, cells := 0, slots := 0, locals := 80 }
theorem hi_X3 : yX3_init.cls ≠ "java/lang/invoke/MethodHandle" ∧ yX3_init.cls ≠ "java/lang/invoke/VarHandle" ∧ (parseMethodDescriptor yX3_init.desc).map (fun d => d.parameters.length) = some 2 := by decide +kernel
theorem n_X3 {Γ : CG} {tx : TXs Tx} {H0 : Heap} {a b : Nat} (x0 : Int32) (hf : va_at (gD Γ) ccl (a, .inr (2, [.null, .int 0, .int 0, .int 0, .int 0, .int 0, .int 0, .int 0])) H0) : NMet Γ tx yX3_init cX3_init 3 rm_x_tk [.ref a, .ref b, .int x0] H0 a (fun H1 => va_at (gD Γ) ccl (a, .inr (2, [.ref b, .int x0, .int 0, .int 0, .int 0, .int 0, .int 0, .int 0])) H1 ∧ H1.size = H0.size) := by
  refine n_met (view := fun _ : Unit => fun H1 => va_at (gD Γ) ccl (a, .inr (2, [.ref b, .int x0, .int 0, .int 0, .int 0, .int 0, .int 0, .int 0])) H1 ∧ H1.size = H0.size) (comp := some ()) (own := RX3) rfl (by decide) rfl (ls0 := [(0, .ref a), (1, .ref b), (2, .int x0)]) rfl (fun K hk hK htr hnm hH hE => nw_in (a := a) hH ?_) () rfl
  refine g_aload_n (pc := 0) hk dX3_init_0 rfl ?_
  refine x_objI (pc := 1) hk q332 q164 q165 rfl rfl rfl dX3_init_1 ?_
  refine g_I (I' := NW K a (fun H => va_at (gD Γ) ccl (a, .inr (2, [.null, .int 0, .int 0, .int 0, .int 0, .int 0, .int 0, .int 0])) H ∧ H.size = H0.size)) (fun H locs hI => ⟨hI.1, hI.2.1, by rw [hI.2.2]; exact hf, by rw [hI.2.2]⟩) ?_
  refine g_aload_n (pc := 4) hk dX3_init_4 rfl ?_
  refine g_aload_n (pc := 5) hk dX3_init_5 rfl ?_
  refine nw_putF (pc := 6) (ci := 2) (fs := [.null, .int 0, .int 0, .int 0, .int 0, .int 0, .int 0, .int 0]) (ref := RX3) hk hK rfl in_X3 tyX3 tyX3_ok nmX3 0 (by decide) q333 rfl rfl hnm rfl rfl rfl (show 0 < 8 by decide) (fun H H1 h e _ => e.trans h) dX3_init_6 ?_
  refine g_aload_n (pc := 9) hk dX3_init_9 rfl ?_
  refine g_iload_n (pc := 10) hk dX3_init_10 rfl ?_
  refine nw_putF (pc := 11) (ci := 2) (fs := [.ref b, .int 0, .int 0, .int 0, .int 0, .int 0, .int 0, .int 0]) (ref := RX3) hk hK rfl in_X3 tyX3 tyX3_ok nmX3 1 (by decide) q334 rfl rfl hnm rfl rfl rfl (show 1 < 8 by decide) (fun H H1 h e _ => e.trans h) dX3_init_11 ?_
  exact nw_ret (pc := 14) hk (fun H e => e) dX3_init_14 (by decide) (by decide)
theorem asg_self (vm : Vm) (c : ClassId) : vm.assignable c c = true := by
  show vm.assignableAux (255 + 1) c c = true
  rw [Vm.assignableAux, beq_self_eq_true, Bool.true_or]
section XCC
variable {ρ : Type} {K : KT} {Q : ρ → State → Prop} {comp A B : Option ρ} {nL : Nat} {I : Heap → List Loc → Prop} {cs sl pc : Nat} {ls : List (Nat × Value)} {st : List Value} {cc : ByteArray} {rm : Room} {ret : Option FieldType} {Γ : CG} {own : String} {tx : TXs Tx} {π : PPar} {σ : CS}
theorem x_callC {e : Int32 × Int32} (hk : KOK K cc nL own rm ret) (hK : CK Γ (kS K)) (hX : XK (kS K)) {x : ExceptionTableEntry} {suf : List ExceptionTableEntry} {tgt : Nat} (hTab : (kC K).exceptionTable.toList = x :: suf) (hcov : covers x pc = true) (h0 : x.catchType ≠ 0) (hcl : Cond.classLink own x.catchType RX5 ∈ lw_all) (htg : x.handlerPc = tgt) (htr : K.2.1.stackTraces = false) (hG : ∀ H locs, I H locs → PG Γ tx π (kS K) H) {y : MethodName} {bytes : ByteArray} {maxL n idx : Nat} {retY : Option FieldType} {rmY : Room} {stk : List Value} {C : String} {a0 : Nat} (hrec : ∀ H locs, I H locs → ∃ cell : Cell, H[a0]? = some cell ∧ cell.vm.isStatics = false ∧ (kS K).vm.findClass C = some cell.cls) (As : List Value) (st : List Value) (hM : ∀ H locs, I H locs → XMet Γ tx π y bytes maxL retY rmY (.ref a0 :: As) H (.inl e)) (hGd : GoodIn lw_all (wsV own idx C y (ws_ y bytes maxL retY))) (hy : y.cls = C ∧ y.cls ≠ "java/lang/invoke/MethodHandle" ∧ y.cls ≠ "java/lang/invoke/VarHandle" ∧ (parseMethodDescriptor y.desc).map (fun d => d.parameters.length) = some n) (hrm : rmFit maxL rmY rm = true) (hn : As.length = n) (hs : Nat.ble ((st.map fun v => v.category).sum) 8 = true) (hd : decode cc pc = .ok (.invokevirtual idx, 3)) (hstk : stk = As.reverse ++ .ref a0 :: st) (hcs : cs + rmY.cells ≤ rm.cells ∧ sl + rmY.slots ≤ rm.slots)
    (kk : ∀ q, GGo K Q comp nL (fun H1 locs1 => ∃ H locs, I H locs ∧ wrAt Γ q e H1 ∧ pFr π.1 H H1 ∧ ∀ l ∈ locs1, l ∈ locs ∨ xFr π.1 H.size l.base) (cs + rmY.cells) (sl + rmY.slots) tgt ls [.ref q]) : GGo K Q comp nL I cs sl pc ls stk := by
  intro r hr H locs lsA hI9 hh T hT X
  rcases vx_runV (g := F0 (kM K) pc lsA stk) (As := As) (rest := st) (cc := cc) (nL := nL) (own := own) (Ts := lw_all) ⟨hk.1, hk.2.1, hk.2.2.1, hk.2.2.2.1, hk.2.2.2.2.1⟩ (hM H locs hI9 K.2.1 htr) (cwV n hk.2.2.2.2.1 hGd rfl rfl rfl hy (rmFit_ok hrm hk.2.2.2.2.2.2.2)) ⟨xPc_blind, hrec H locs hI9, fun U hU hW => ⟨rfl, ⟨hU, (hG H locs hI9).moved hK.2.2.2 hW.alike⟩, hK.warm hW⟩⟩ rfl hn hh.1 hstk (lv_room (Nat.le_of_ble_eq_true hs)) hd ⟨(by show cs + rmY.cells ≤ (kR K).cells; rw [hk.2.2.2.2.2.2.2]; exact hcs.1), (by show sl + rmY.slots ≤ (kR K).slots; rw [hk.2.2.2.2.2.2.2]; exact hcs.2)⟩ T hT X with ⟨v, st₀, t, T', L, h0, X', hL, e1, e2, ⟨v', R', ho, hR, -⟩, -⟩ | ⟨q, st₀, t, T', L, E, ce, h00, X', hL, e1, e2, ⟨e9, he, hE, hw, hF⟩, hce, hcv, hcl9, stp⟩
  · cases hR
  · cases he
    subst hE
    subst htg
    obtain ⟨t2, a1, b1⟩ := vx_catch (pc := pc) (ls := lsA) (rest := st) (q := q) (H := T'.heap) (locs := locs ++ L) (own := own) (name := RX5) (E := RX5) hk.2.2.2.1 [] x suf hTab (fun z hz => by cases hz) hcov h0 (hk.2.2.2.2.1 _ hcl) (va_Nw.use rfl (hX.1 _ cx_485)) (by rw [e1]; exact hce) hcv hcl9 (kk q r hr T'.heap (locs ++ L) lsA ⟨H, locs, hI9, by rw [e1]; exact hw, by rw [e1]; exact hF, fun l hl => (List.mem_append.mp hl).elim Or.inl (fun h => Or.inr (hL l h))⟩ hh) T' rfl X'
    exact ⟨t2, stp.trans a1, b1⟩
/-- a field of the object is written; what no static cell's write touches stays -/
theorem c_putJ {J : Heap → Prop} (hJ : ∀ H H1, J H → (∀ q : Nat, q ≠ gA Γ 300 → H1[q]? = H[q]?) → J H1) (hk : KOK K cc nL RX0 rm ret) (hK : CK Γ (kS K)) {k idx : Nat} {v : Int32} (hf : cFi k) (hl : cFl k idx) (hd : decode cc pc = .ok (.putfield idx, 3)) (kk : GGo K Q comp nL (fun H locs => CI Γ (kS K) (dI σ k v) H locs ∧ J H) cs sl (pc + 3) ls st) : GGo K Q comp nL (fun H locs => CI Γ (kS K) σ H locs ∧ J H) cs sl pc ls (.int v :: .ref (gA Γ 300) :: st) := by
  intro r hr H locs lsA hI hh
  refine c_put0 (D := gD Γ) (ci := 0) (v := .int v) (ty := tyX0 k) (C := RX0) (T := TX0) (N := 17) hk.1 hk.2.1 hk.2.2.2.2.1 in_X0 tyX0 tyX0_ok nmX0 hk.2.2.2.1 hK.1 hI.1.1.2.2.2.2.1 rfl k hf.1 (hk.2.2.2.2.1 _ hl) (fun _ h9 => by rw [← hf.2.1]; exact h9) hf.2.2.2.1 (tyX0_ok k hf.1) (by rw [hf.2.2.1]; rfl) (by rw [hf.2.2.1]; rfl) hf.1 hd (fun H1 locs1 hP hz oq hlo => ?_)
  rw [(hf.2.2.2.2 Γ σ).2 v] at hP
  have hO := hK.2.2.2
  obtain ⟨h1, h2, h3, h4, h5, h6⟩ := hI.1.1
  refine kk r hr H1 locs1 lsA ⟨hI.1.next hO ?_ rfl (cFr.put (k := 300) rfl hz oq) (fun l h => (hlo l h).elim Or.inl (fun e => Or.inr (Or.inl ⟨300, rfl, e⟩))), hJ _ _ hI.2 oq⟩ hh
  refine ⟨fun j m hj => ?_, fun j m hj => ?_, fun w j hw ha hb => ?_, fun w hw => ?_, hP, fun w hw => ?_⟩
  · rw [oq _ (cne hO (cAv_val hj) rfl (fun q => by have z := hj.1; rw [q] at z; simp [cln] at z; omega))]; exact h1 j m hj
  · rw [oq _ (cne hO (cBv_val hj) rfl (fun q => by have z := hj.1; rw [q] at z; simp [cln] at z; omega))]; exact h2 j m hj
  · rw [oq _ (cne hO (cval_row w hw j ha (by omega)).1 rfl (by omega))]; exact h3 w j hw ha hb
  · rw [oq _ (cne hO (cval_row w hw 10 (by omega) (by omega)).1 rfl (by omega))]; exact h4 w hw
  · exact (h6 w hw).kept (oq _ (cne hO (cval_ob (301 + w) (by omega) (by omega)).1 rfl (by omega)))
theorem c_putI9 (hk : KOK K cc nL RX0 rm ret) (hK : CK Γ (kS K)) {k idx : Nat} {v : Int32} (hf : cFi k) (hl : cFl k idx) (hd : decode cc pc = .ok (.putfield idx, 3)) (kk : GGo K Q comp nL (CI Γ (kS K) (dI σ k v)) cs sl (pc + 3) ls st) : GGo K Q comp nL (CI Γ (kS K) σ) cs sl pc ls (.int v :: .ref (gA Γ 300) :: st) :=
  g_I (I' := fun H locs => CI Γ (kS K) σ H locs ∧ True) (fun _ _ h => ⟨h, trivial⟩) (c_putJ (J := fun _ => True) (fun _ _ _ _ => trivial) hk hK hf hl hd (g_I (fun _ _ h => h.1) kk))
theorem c_iast9 (hk : KOK K cc nL own rm ret) (hK : CK Γ (kS K)) {k n : Nat} {i : Int32} {j : Nat} {v : Int32} (ha : cAv k n) (hin : inb i n = true) (hj : i.toNatClampNeg = j) (hd : decode cc pc = .ok (.iastore, 1)) (kk : GGo K Q comp nL (CI Γ (kS K) (eA σ k j v)) cs sl (pc + 1) ls st) : GGo K Q comp nL (CI Γ (kS K) σ) cs sl pc ls (.int v :: .int i :: .ref (gA Γ k) :: st) := by
  classical
  have h := c_iastC (Q := Q) (f := fun σ' => if σ' = eA σ k j v then comp else none) (v := v) (st := st) (nL := nL) (cs := cs) (sl := sl) (ls := ls) (σ := σ) hk hK ha hin hj hd (fun σ' => by
    by_cases e : σ' = eA σ k j v
    · subst e; rw [if_pos rfl]; exact kk
    · rw [if_neg e]; exact g_none)
  have e2 : nm (eA σ k j v) (fun σ' => if σ' = eA σ k j v then comp else none) = comp := if_pos rfl
  rw [e2] at h
  exact h
/-- a text goes into the array of texts -/
theorem x_aastT (hk : KOK K cc nL own rm ret) (hK : CK Γ (kS K)) {a v n j : Nat} {fv : Nat → Option Nat} {i : Int32} (hcell : ∀ H locs, I H locs → H[a]? = some (arrV (gC Γ 3) n (fun j => va_rf (fv j)))) (hv : ∀ H locs, I H locs → ∃ cell : Cell, H[v]? = some cell ∧ cell.vm.isStatics = false ∧ (kS K).vm.findClass RX4 = some cell.cls) (hin : inb i n = true) (hj : i.toNatClampNeg = j) (hd : decode cc pc = .ok (.aastore, 1)) (kk : GGo K Q comp nL (fun H1 locs1 => ∃ H locs, I H locs ∧ H1[a]? = some (arrV (gC Γ 3) n (fun q => va_rf (va_up fv j (some v) q))) ∧ H1.size = H.size ∧ (∀ q : Nat, q ≠ a → H1[q]? = H[q]?) ∧ ∀ l ∈ locs1, l ∈ locs ∨ l.base = a) cs sl (pc + 1) ls st) : GGo K Q comp nL I cs sl pc ls (.ref v :: .int i :: .ref a :: st) := by
  subst hj
  intro r hr H locs lsA hI hh
  have hw := inb_vp hin
  have hlt := inb_lt hin
  have h0 : ¬ i < 0 := fun q => hw (Or.inl q)
  obtain ⟨cellV, g1, g3, g2⟩ := hv H locs hI
  obtain ⟨kA, comp0, k1, k2, k3, -⟩ := (hK.1.2 3 _ rfl).2
  obtain ⟨kE, hkE, -⟩ := Vm.findClass_spec k3
  obtain ⟨kC, hkC, -⟩ := Vm.findClass_spec g2
  have hcc : cellV.cls = comp0 := Option.some.inj (g2.symm.trans k3)
  refine W.aast hk.1 hk.2.1 (hcell H locs hI) (fun q h => by cases h) (fun h => by cases h) k1 k2 rfl hkE ⟨h0, by show _ < (arrV _ _ _).slots.size; rw [arrV_size]; exact hlt⟩ g1 (fun q h => by rw [h] at g3; cases g3) hkC (by rw [hcc]; exact asg_self _ _) rfl rfl hd fun H1 e z oq => ?_
  refine kk r hr H1 _ lsA ⟨H, locs, hI, ?_, z, oq, fun l hl => (List.mem_append.mp hl).elim Or.inl (fun h => Or.inr (by rw [List.mem_singleton.mp h]))⟩ hh
  rw [e, arrV_store]
  congr 2
  funext q
  by_cases hq : q = i.toNatClampNeg
  · subst hq
    simp [updV, va_up, va_rf]
  · simp [updV, va_up, hq]
end XCC
