/-! CONSTRUCTORS (made by mkdx15.py): the frames above, records, lists -/
set_option maxRecDepth 100000
/-- within a constructor: of older cells only the object itself is written -/
def NW (K : KT) (a : Nat) (E : Heap → Prop) : Heap → List Loc → Prop := fun H locs => pFr a (kS K).heap H ∧ (∀ l ∈ locs, xFr a (kS K).heap.size l.base) ∧ E H
def rm_x_r0 : Room := { frames := 1, cells := 0, slots := 0, locals := 40 }
def rm_x_r1 : Room := { frames := 2, cells := 0, slots := 0, locals := 100 }
def rm_x_r2 : Room := { frames := 3, cells := 0, slots := 0, locals := 160 }
def rm_x_rec : Room := { frames := 3, cells := 0, slots := 0, locals := 160 }
section NCR
variable {ρ : Type} {K : KT} {Q : ρ → State → Prop} {comp : Option ρ} {nL : Nat} {I : Heap → List Loc → Prop} {cs sl pc : Nat} {ls : List (Nat × Value)} {st : List Value} {cc : ByteArray} {rm : Room} {ret : Option FieldType} {Γ : CG} {own : String} {tx : TXs Tx} {E : Heap → Prop} {a sz : Nat}
theorem nw_in {H0 : Heap} (hH : (kS K).heap = H0) (k : GGo K Q comp nL (NW K a (fun H => H = H0)) cs sl pc ls st) : GGo K Q comp nL (pI K) cs sl pc ls st := g_I (fun H locs hI => by
  obtain ⟨rfl, rfl⟩ := hI
  exact ⟨pFr.rf, (fun _ h => by cases h), hH⟩) k
theorem nw_ret {view : ρ → Heap → Prop} {r0 : ρ} (hk : KOK K cc nL own rm none) (hE : ∀ H, E H → view r0 H) (hd : decode cc pc = .ok (.return_, 1)) (h1 : cs ≤ rm.cells) (h2 : sl ≤ rm.slots) : GGo K (nQ K a rm view) (some r0) nL (NW K a E) cs sl pc ls [] := n_vret hk (fun H locs hI => ⟨hE H hI.2.2, hI.1, hI.2.1⟩) hd h1 h2
theorem nw_put {ci N idx : Nat} {C ref : String} {T : u_T} {fs : List Value} {v : Value} {P : Heap → Prop} (hk : KOK K cc nL own rm ret) (hK : CK Γ (kS K)) (hc : ccl[ci]? = some (C, T, N)) (hin : ∀ w ∈ u_ws C T N, w ∈ lw_all) (ty0 : Nat → FieldType) (hty : ∀ k, k < N → parseFieldDescriptor (T k).2.2.1 = some (ty0 k)) (hnm : ∀ a, a < N → ∀ b, b < N → a ≠ b → (T a).2.1 ≠ (T b).2.1) (k : Nat) (hkN : k < N) (hl : Cond.fieldLink own idx ref (T k).2.1 (T k).2.2.1 ∈ lw_all) (hs : (T k).1 = ref) (hfin : (T k).2.2.2 = false) (hn : narrow (ty0 k) v = v) (hfit : fits (ty0 k) v = true) (hkl : k < fs.length) (hP : ∀ H H1, P H → H1.size = H.size → (∀ q : Nat, q ≠ a → H1[q]? = H[q]?) → P H1) (hd : decode cc pc = .ok (.putfield idx, 3)) (kk : GGo K Q comp nL (NW K a (fun H => va_at (gD Γ) ccl (a, .inr (ci, fs.set k v)) H ∧ P H)) cs sl (pc + 3) ls st) : GGo K Q comp nL (NW K a (fun H => va_at (gD Γ) ccl (a, .inr (ci, fs)) H ∧ P H)) cs sl pc ls (v :: .ref a :: st) := by
  refine x_put (ci := ci) (fs := fs) (ref := ref) hk hK hc hin ty0 hty hnm (fun _ _ e => e.2.2.1) k hkN hl hs hfin hn hfit hkl hd ?_
  refine g_I (fun H1 locs1 hI => ?_) kk
  obtain ⟨H, locs, ⟨h1, h2, -, h3⟩, h4, h5, h6, h7⟩ := hI
  exact ⟨h1.trans ⟨by omega, fun q _ hq => h6 q hq⟩, fun l hl => (h7 l hl).elim (h2 l) Or.inl, h4, hP _ _ h3 h5 h6⟩
theorem nw_putF {ci N idx : Nat} {C ref : String} {T : u_T} {fs : List Value} {v : Value} {P : Heap → Prop} (hk : KOK K cc nL own rm ret) (hK : CK Γ (kS K)) (hc : ccl[ci]? = some (C, T, N)) (hin : ∀ w ∈ u_ws C T N, w ∈ lw_all) (ty0 : Nat → FieldType) (hty : ∀ k, k < N → parseFieldDescriptor (T k).2.2.1 = some (ty0 k)) (hnm : ∀ a, a < N → ∀ b, b < N → a ≠ b → (T a).2.1 ≠ (T b).2.1) (k : Nat) (hkN : k < N) (hl : Cond.fieldLink own idx ref (T k).2.1 (T k).2.2.1 ∈ lw_all) (hs : (T k).1 = ref) (hfin : (T k).2.2.2 = true) (hin2 : (kMe K).name = "<init>") (hdecl : (T k).1 = own) (hn : narrow (ty0 k) v = v) (hfit : fits (ty0 k) v = true) (hkl : k < fs.length) (hP : ∀ H H1, P H → H1.size = H.size → (∀ q : Nat, q ≠ a → H1[q]? = H[q]?) → P H1) (hd : decode cc pc = .ok (.putfield idx, 3)) (kk : GGo K Q comp nL (NW K a (fun H => va_at (gD Γ) ccl (a, .inr (ci, fs.set k v)) H ∧ P H)) cs sl (pc + 3) ls st) : GGo K Q comp nL (NW K a (fun H => va_at (gD Γ) ccl (a, .inr (ci, fs)) H ∧ P H)) cs sl pc ls (v :: .ref a :: st) := by
  refine x_putF (ci := ci) (fs := fs) (ref := ref) hk hK hc hin ty0 hty hnm (fun _ _ e => e.2.2.1) k hkN hl hs hfin hin2 hdecl hn hfit hkl hd ?_
  refine g_I (fun H1 locs1 hI => ?_) kk
  obtain ⟨H, locs, ⟨h1, h2, -, h3⟩, h4, h5, h6, h7⟩ := hI
  exact ⟨h1.trans ⟨by omega, fun q _ hq => h6 q hq⟩, fun l hl => (h7 l hl).elim (h2 l) Or.inl, h4, hP _ _ h3 h5 h6⟩
/-- the constructor above, which leaves the heap as it is -/
theorem nw_sup {H0 : Heap} (hk : KOK K cc nL own rm ret) (hK : CK Γ (kS K)) (htr : K.2.1.stackTraces = false) (hE : gE Γ tx (kS K) H0) {y : MethodName} {bytes : ByteArray} {maxL idx : Nat} {rmY : Room} (hM : NMet Γ tx y bytes maxL rmY [.ref a] H0 a (fun H1 => H1 = H0)) (hl : Cond.methodLink own idx y ∈ lw_all) (hi : Cond.instanceMethod y ∈ lw_all) (hin : Cond.initialized y.cls ∈ lw_all) (hcd : Cond.code y bytes maxL none ∈ lw_all) (hnm : y.name = "<init>") (hy : y.cls ≠ "java/lang/invoke/MethodHandle" ∧ y.cls ≠ "java/lang/invoke/VarHandle" ∧ (parseMethodDescriptor y.desc).map (fun d => d.parameters.length) = some 0) (hrm : rmFit maxL rmY rm = true) (hd : decode cc pc = .ok (.invokespecial idx, 3)) (hcs : cs + rmY.cells ≤ rm.cells ∧ sl + rmY.slots ≤ rm.slots) (kk : GGo K Q comp nL (NW K a (fun H => H = H0)) (cs + rmY.cells) (sl + rmY.slots) (pc + 3) ls []) : GGo K Q comp nL (NW K a (fun H => H = H0)) cs sl pc ls [.ref a] := by
  refine x_init (tx := tx) (rmY := rmY) (R := fun H H1 => H1 = H) hk hK htr (fun H locs hI => by rw [hI.2.2]; exact hE) [] [] (fun H locs hI => by rw [hI.2.2]; exact hM) hl hi hin hcd hnm hy hrm rfl rfl hd rfl hcs ?_
  refine g_I (fun H1 locs1 hI => ?_) kk
  obtain ⟨H, locs, ⟨h1, h2, h3⟩, h4, h5, h6⟩ := hI
  refine ⟨h1.trans h5, fun l hl => ?_, h4.trans h3⟩
  rcases h6 l hl with h | h | h
  · exact h2 l h
  · exact Or.inl h
  · exact Or.inr (Nat.le_trans h1.1 h)
/-- a constructor is called on a new object of the nest -/
theorem x_initN (hk : KOK K cc nL own rm ret) (hK : CK Γ (kS K)) (htr : K.2.1.stackTraces = false) (hE : ∀ H locs, I H locs → gE Γ tx (kS K) H) {y : MethodName} {bytes : ByteArray} {maxL n idx : Nat} {rmY : Room} {stk : List Value} {a0 : Nat} (As : List Value) (st : List Value) {R : Heap → Heap → Prop} (hM : ∀ H locs, I H locs → NMet Γ tx y bytes maxL rmY (.ref a0 :: As) H a0 (R H)) {host : String} (hl : Cond.methodLinkNest own idx y host ∈ cnw) (hi : Cond.instanceMethod y ∈ lw_all) (hin : Cond.initialized y.cls ∈ lw_all) (hcd : Cond.code y bytes maxL none ∈ lw_all) (hnm : y.name = "<init>") (hy : y.cls ≠ "java/lang/invoke/MethodHandle" ∧ y.cls ≠ "java/lang/invoke/VarHandle" ∧ (parseMethodDescriptor y.desc).map (fun d => d.parameters.length) = some n) (hrm : rmFit maxL rmY rm = true) (hn : As.length = n) (hs : Nat.ble ((st.map fun v => v.category).sum) 8 = true) (hd : decode cc pc = .ok (.invokespecial idx, 3)) (hstk : stk = As.reverse ++ .ref a0 :: st) (hcs : cs + rmY.cells ≤ rm.cells ∧ sl + rmY.slots ≤ rm.slots)
    (kk : GGo K Q comp nL (fun H1 locs1 => ∃ H locs, I H locs ∧ R H H1 ∧ pFr a0 H H1 ∧ ∀ l ∈ locs1, l ∈ locs ∨ xFr a0 H.size l.base) (cs + rmY.cells) (sl + rmY.slots) (pc + 3) ls st) : GGo K Q comp nL I cs sl pc ls stk := by
  intro r hr H locs lsA hI hh T hT X
  obtain ⟨v', st₀, t, T', L, h0, X', hL, e1, e2, ⟨hv, hRv, hF⟩, stp⟩ := va_runIN (g := F0 (kM K) pc lsA stk) (As := As) (rest := st) (cc := cc) (nL := nL) (own := own) (Ts := lw_all) ⟨hk.1, hk.2.1, hk.2.2.1, hk.2.2.2.1, hk.2.2.2.2.1⟩ (hM H locs hI K.2.1 htr) ⟨va_cnB (host := host) n hk.2.2.2.2.1 (lw_meth hcd) rfl rfl rfl (hK.2.1 _ hl) (hk.2.2.2.2.1 _ hin) hy (rmFit_ok hrm hk.2.2.2.2.2.2.2), hnm, hk.2.2.2.2.1 _ hi⟩ ⟨RMet_blind, fun U hU hW => ⟨rfl, ⟨hU, hK.2.2.2.2.2.1 _ _ _ _ hW.alike (hE H locs hI)⟩, hK.warm hW⟩⟩ rfl hn hh.1 hstk (lv_room (Nat.le_of_ble_eq_true hs)) hd ⟨(by show cs + rmY.cells ≤ (kR K).cells; rw [hk.2.2.2.2.2.2.2]; exact hcs.1), (by show sl + rmY.slots ≤ (kR K).slots; rw [hk.2.2.2.2.2.2.2]; exact hcs.2)⟩ T hT X
  cases hv
  obtain ⟨t2, a1, b1⟩ := kk r hr T'.heap (locs ++ L) lsA ⟨H, locs, hI, by rw [e1]; exact hRv, by rw [e1]; exact hF, fun l hl => (List.mem_append.mp hl).elim Or.inl (fun h => Or.inr (hL l h))⟩ hh T' rfl X'
  exact ⟨t2, stp t2 a1, b1⟩
end NCR
theorem hi_J11 : yJ11_init.cls ≠ "java/lang/invoke/MethodHandle" ∧ yJ11_init.cls ≠ "java/lang/invoke/VarHandle" ∧ (parseMethodDescriptor yJ11_init.desc).map (fun d => d.parameters.length) = some 0 := by decide +kernel
theorem n_J11 {Γ : CG} {tx : TXs Tx} {H0 : Heap} {a : Nat} : NMet Γ tx yJ11_init cJ11_init 1 rm_x_r0 [.ref a] H0 a (fun H1 => H1 = H0) := by
  refine n_met (view := fun _ : Unit => fun H1 => H1 = H0) (comp := some ()) (own := RJ11) rfl (by decide) rfl (ls0 := [(0, .ref a)]) rfl (fun K hk hK htr hnm hH hE => nw_in (a := a) hH ?_) () rfl
  refine g_aload_n (pc := 0) hk dJ11_init_0 rfl ?_
  refine x_objI (pc := 1) hk q577 q164 q165 rfl rfl rfl dJ11_init_1 ?_
  exact nw_ret (pc := 4) hk (fun H e => e) dJ11_init_4 (Nat.zero_le _) (Nat.zero_le _)
theorem hi_J1 : yJ1_init.cls ≠ "java/lang/invoke/MethodHandle" ∧ yJ1_init.cls ≠ "java/lang/invoke/VarHandle" ∧ (parseMethodDescriptor yJ1_init.desc).map (fun d => d.parameters.length) = some 0 := by decide +kernel
theorem n_J1 {Γ : CG} {tx : TXs Tx} {H0 : Heap} {a : Nat} : NMet Γ tx yJ1_init cJ1_init 1 rm_x_r0 [.ref a] H0 a (fun H1 => H1 = H0) := by
  refine n_met (view := fun _ : Unit => fun H1 => H1 = H0) (comp := some ()) (own := RJ1) rfl (by decide) rfl (ls0 := [(0, .ref a)]) rfl (fun K hk hK htr hnm hH hE => nw_in (a := a) hH ?_) () rfl
  refine g_aload_n (pc := 0) hk dJ1_init_0 rfl ?_
  refine x_objI (pc := 1) hk q381 q164 q165 rfl rfl rfl dJ1_init_1 ?_
  exact nw_ret (pc := 4) hk (fun H e => e) dJ1_init_4 (Nat.zero_le _) (Nat.zero_le _)
theorem fits_z {x : Int32} (h : isZ x = true) : fits .boolean (.int x) = true := by
  unfold isZ at h
  rw [Bool.or_eq_true, beq_iff_eq, beq_iff_eq] at h
  rcases h with rfl | rfl <;> rfl
theorem hi_X7 : yX7_init.cls ≠ "java/lang/invoke/MethodHandle" ∧ yX7_init.cls ≠ "java/lang/invoke/VarHandle" ∧ (parseMethodDescriptor yX7_init.desc).map (fun d => d.parameters.length) = some 1 := by decide +kernel
theorem n_X7 {Γ : CG} {tx : TXs Tx} {H0 : Heap} {a : Nat} (x0 : Int32) (hf : va_at (gD Γ) ccl (a, .inr (6, [.int 0])) H0) : NMet Γ tx yX7_init cX7_init 2 rm_x_rec [.ref a, .int x0] H0 a (fun H1 => va_at (gD Γ) ccl (a, .inr (6, [.int x0])) H1 ∧ H1.size = H0.size) := by
  refine n_met (view := fun _ : Unit => fun H1 => va_at (gD Γ) ccl (a, .inr (6, [.int x0])) H1 ∧ H1.size = H0.size) (comp := some ()) (own := RX7) rfl (by decide) rfl (ls0 := [(0, .ref a), (1, .int x0)]) rfl (fun K hk hK htr hnm hH hE => nw_in (a := a) hH ?_) () rfl
  refine g_aload_n (pc := 0) hk dX7_init_0 rfl ?_
  refine nw_sup (tx := tx) (pc := 1) hk hK htr hE n_J11 q574 q575 q143 q576 rfl hi_J11 rfl dX7_init_1 ⟨Nat.le_refl _, Nat.le_refl _⟩ ?_
  refine g_I (I' := NW K a (fun H => va_at (gD Γ) ccl (a, .inr (6, [.int 0])) H ∧ H.size = H0.size)) (fun H locs hI => ⟨hI.1, hI.2.1, by rw [hI.2.2]; exact hf, by rw [hI.2.2]⟩) ?_
  refine g_aload_n (pc := 4) hk dX7_init_4 rfl ?_
  refine g_iload_n (pc := 5) hk dX7_init_5 rfl ?_
  refine nw_putF (pc := 6) (ci := 6) (fs := [.int 0]) (ref := RX7) hk hK rfl in_X7 tyX7 tyX7_ok nmX7 0 (by decide) q578 rfl rfl hnm rfl rfl rfl (show 0 < 1 by decide) (fun H H1 h e _ => e.trans h) dX7_init_6 ?_
  exact nw_ret (pc := 9) hk (fun H e => e) dX7_init_9 (Nat.zero_le _) (Nat.zero_le _)
theorem hi_X8 : yX8_init.cls ≠ "java/lang/invoke/MethodHandle" ∧ yX8_init.cls ≠ "java/lang/invoke/VarHandle" ∧ (parseMethodDescriptor yX8_init.desc).map (fun d => d.parameters.length) = some 1 := by decide +kernel
theorem n_X8 {Γ : CG} {tx : TXs Tx} {H0 : Heap} {a : Nat} (x0 : Nat) (hf : va_at (gD Γ) ccl (a, .inr (7, [.null])) H0) : NMet Γ tx yX8_init cX8_init 2 rm_x_rec [.ref a, .ref x0] H0 a (fun H1 => va_at (gD Γ) ccl (a, .inr (7, [.ref x0])) H1 ∧ H1.size = H0.size) := by
  refine n_met (view := fun _ : Unit => fun H1 => va_at (gD Γ) ccl (a, .inr (7, [.ref x0])) H1 ∧ H1.size = H0.size) (comp := some ()) (own := RX8) rfl (by decide) rfl (ls0 := [(0, .ref a), (1, .ref x0)]) rfl (fun K hk hK htr hnm hH hE => nw_in (a := a) hH ?_) () rfl
  refine g_aload_n (pc := 0) hk dX8_init_0 rfl ?_
  refine nw_sup (tx := tx) (pc := 1) hk hK htr hE n_J11 q609 q575 q143 q576 rfl hi_J11 rfl dX8_init_1 ⟨Nat.le_refl _, Nat.le_refl _⟩ ?_
  refine g_I (I' := NW K a (fun H => va_at (gD Γ) ccl (a, .inr (7, [.null])) H ∧ H.size = H0.size)) (fun H locs hI => ⟨hI.1, hI.2.1, by rw [hI.2.2]; exact hf, by rw [hI.2.2]⟩) ?_
  refine g_aload_n (pc := 4) hk dX8_init_4 rfl ?_
  refine g_aload_n (pc := 5) hk dX8_init_5 rfl ?_
  refine nw_putF (pc := 6) (ci := 7) (fs := [.null]) (ref := RX8) hk hK rfl in_X8 tyX8 tyX8_ok nmX8 0 (by decide) q610 rfl rfl hnm rfl rfl rfl (show 0 < 1 by decide) (fun H H1 h e _ => e.trans h) dX8_init_6 ?_
  exact nw_ret (pc := 9) hk (fun H e => e) dX8_init_9 (Nat.zero_le _) (Nat.zero_le _)
theorem hi_X9 : yX9_init.cls ≠ "java/lang/invoke/MethodHandle" ∧ yX9_init.cls ≠ "java/lang/invoke/VarHandle" ∧ (parseMethodDescriptor yX9_init.desc).map (fun d => d.parameters.length) = some 3 := by decide +kernel
theorem n_X9 {Γ : CG} {tx : TXs Tx} {H0 : Heap} {a : Nat} (x0 : Int32) (x1 : Nat) (x2 : Nat) (hf : va_at (gD Γ) ccl (a, .inr (8, [.int 0, .null, .null])) H0) : NMet Γ tx yX9_init cX9_init 4 rm_x_rec [.ref a, .int x0, .ref x1, .ref x2] H0 a (fun H1 => va_at (gD Γ) ccl (a, .inr (8, [.int x0, .ref x1, .ref x2])) H1 ∧ H1.size = H0.size) := by
  refine n_met (view := fun _ : Unit => fun H1 => va_at (gD Γ) ccl (a, .inr (8, [.int x0, .ref x1, .ref x2])) H1 ∧ H1.size = H0.size) (comp := some ()) (own := RX9) rfl (by decide) rfl (ls0 := [(0, .ref a), (1, .int x0), (2, .ref x1), (3, .ref x2)]) rfl (fun K hk hK htr hnm hH hE => nw_in (a := a) hH ?_) () rfl
  refine g_aload_n (pc := 0) hk dX9_init_0 rfl ?_
  refine nw_sup (tx := tx) (pc := 1) hk hK htr hE n_J11 q619 q575 q143 q576 rfl hi_J11 rfl dX9_init_1 ⟨Nat.le_refl _, Nat.le_refl _⟩ ?_
  refine g_I (I' := NW K a (fun H => va_at (gD Γ) ccl (a, .inr (8, [.int 0, .null, .null])) H ∧ H.size = H0.size)) (fun H locs hI => ⟨hI.1, hI.2.1, by rw [hI.2.2]; exact hf, by rw [hI.2.2]⟩) ?_
  refine g_aload_n (pc := 4) hk dX9_init_4 rfl ?_
  refine g_iload_n (pc := 5) hk dX9_init_5 rfl ?_
  refine nw_putF (pc := 6) (ci := 8) (fs := [.int 0, .null, .null]) (ref := RX9) hk hK rfl in_X9 tyX9 tyX9_ok nmX9 0 (by decide) q620 rfl rfl hnm rfl rfl rfl (show 0 < 3 by decide) (fun H H1 h e _ => e.trans h) dX9_init_6 ?_
  refine g_aload_n (pc := 9) hk dX9_init_9 rfl ?_
  refine g_aload_n (pc := 10) hk dX9_init_10 rfl ?_
  refine nw_putF (pc := 11) (ci := 8) (fs := [.int x0, .null, .null]) (ref := RX9) hk hK rfl in_X9 tyX9 tyX9_ok nmX9 1 (by decide) q621 rfl rfl hnm rfl rfl rfl (show 1 < 3 by decide) (fun H H1 h e _ => e.trans h) dX9_init_11 ?_
  refine g_aload_n (pc := 14) hk dX9_init_14 rfl ?_
  refine g_aload_n (pc := 15) hk dX9_init_15 rfl ?_
  refine nw_putF (pc := 16) (ci := 8) (fs := [.int x0, .ref x1, .null]) (ref := RX9) hk hK rfl in_X9 tyX9 tyX9_ok nmX9 2 (by decide) q622 rfl rfl hnm rfl rfl rfl (show 2 < 3 by decide) (fun H H1 h e _ => e.trans h) dX9_init_16 ?_
  exact nw_ret (pc := 19) hk (fun H e => e) dX9_init_19 (Nat.zero_le _) (Nat.zero_le _)
theorem hi_X10 : yX10_init.cls ≠ "java/lang/invoke/MethodHandle" ∧ yX10_init.cls ≠ "java/lang/invoke/VarHandle" ∧ (parseMethodDescriptor yX10_init.desc).map (fun d => d.parameters.length) = some 2 := by decide +kernel
theorem n_X10 {Γ : CG} {tx : TXs Tx} {H0 : Heap} {a : Nat} (x0 : Int32) (x1 : Nat) (hz0 : isZ x0 = true) (hf : va_at (gD Γ) ccl (a, .inr (9, [.int 0, .null])) H0) : NMet Γ tx yX10_init cX10_init 3 rm_x_rec [.ref a, .int x0, .ref x1] H0 a (fun H1 => va_at (gD Γ) ccl (a, .inr (9, [.int x0, .ref x1])) H1 ∧ H1.size = H0.size) := by
  refine n_met (view := fun _ : Unit => fun H1 => va_at (gD Γ) ccl (a, .inr (9, [.int x0, .ref x1])) H1 ∧ H1.size = H0.size) (comp := some ()) (own := RX10) rfl (by decide) rfl (ls0 := [(0, .ref a), (1, .int x0), (2, .ref x1)]) rfl (fun K hk hK htr hnm hH hE => nw_in (a := a) hH ?_) () rfl
  refine g_aload_n (pc := 0) hk dX10_init_0 rfl ?_
  refine nw_sup (tx := tx) (pc := 1) hk hK htr hE n_J11 q713 q575 q143 q576 rfl hi_J11 rfl dX10_init_1 ⟨Nat.le_refl _, Nat.le_refl _⟩ ?_
  refine g_I (I' := NW K a (fun H => va_at (gD Γ) ccl (a, .inr (9, [.int 0, .null])) H ∧ H.size = H0.size)) (fun H locs hI => ⟨hI.1, hI.2.1, by rw [hI.2.2]; exact hf, by rw [hI.2.2]⟩) ?_
  refine g_aload_n (pc := 4) hk dX10_init_4 rfl ?_
  refine g_iload_n (pc := 5) hk dX10_init_5 rfl ?_
  refine nw_putF (pc := 6) (ci := 9) (fs := [.int 0, .null]) (ref := RX10) hk hK rfl in_X10 tyX10 tyX10_ok nmX10 0 (by decide) q714 rfl rfl hnm rfl (isZ_nar hz0) (fits_z hz0) (show 0 < 2 by decide) (fun H H1 h e _ => e.trans h) dX10_init_6 ?_
  refine g_aload_n (pc := 9) hk dX10_init_9 rfl ?_
  refine g_aload_n (pc := 10) hk dX10_init_10 rfl ?_
  refine nw_putF (pc := 11) (ci := 9) (fs := [.int x0, .null]) (ref := RX10) hk hK rfl in_X10 tyX10 tyX10_ok nmX10 1 (by decide) q715 rfl rfl hnm rfl rfl rfl (show 1 < 2 by decide) (fun H H1 h e _ => e.trans h) dX10_init_11 ?_
  exact nw_ret (pc := 14) hk (fun H e => e) dX10_init_14 (Nat.zero_le _) (Nat.zero_le _)
theorem hi_X11 : yX11_init.cls ≠ "java/lang/invoke/MethodHandle" ∧ yX11_init.cls ≠ "java/lang/invoke/VarHandle" ∧ (parseMethodDescriptor yX11_init.desc).map (fun d => d.parameters.length) = some 3 := by decide +kernel
theorem n_X11 {Γ : CG} {tx : TXs Tx} {H0 : Heap} {a : Nat} (x0 : Nat) (x1 : Nat) (x2 : Nat) (hf : va_at (gD Γ) ccl (a, .inr (10, [.null, .null, .null])) H0) : NMet Γ tx yX11_init cX11_init 4 rm_x_rec [.ref a, .ref x0, .ref x1, .ref x2] H0 a (fun H1 => va_at (gD Γ) ccl (a, .inr (10, [.ref x0, .ref x1, .ref x2])) H1 ∧ H1.size = H0.size) := by
  refine n_met (view := fun _ : Unit => fun H1 => va_at (gD Γ) ccl (a, .inr (10, [.ref x0, .ref x1, .ref x2])) H1 ∧ H1.size = H0.size) (comp := some ()) (own := RX11) rfl (by decide) rfl (ls0 := [(0, .ref a), (1, .ref x0), (2, .ref x1), (3, .ref x2)]) rfl (fun K hk hK htr hnm hH hE => nw_in (a := a) hH ?_) () rfl
  refine g_aload_n (pc := 0) hk dX11_init_0 rfl ?_
  refine nw_sup (tx := tx) (pc := 1) hk hK htr hE n_J11 q730 q575 q143 q576 rfl hi_J11 rfl dX11_init_1 ⟨Nat.le_refl _, Nat.le_refl _⟩ ?_
  refine g_I (I' := NW K a (fun H => va_at (gD Γ) ccl (a, .inr (10, [.null, .null, .null])) H ∧ H.size = H0.size)) (fun H locs hI => ⟨hI.1, hI.2.1, by rw [hI.2.2]; exact hf, by rw [hI.2.2]⟩) ?_
  refine g_aload_n (pc := 4) hk dX11_init_4 rfl ?_
  refine g_aload_n (pc := 5) hk dX11_init_5 rfl ?_
  refine nw_putF (pc := 6) (ci := 10) (fs := [.null, .null, .null]) (ref := RX11) hk hK rfl in_X11 tyX11 tyX11_ok nmX11 0 (by decide) q731 rfl rfl hnm rfl rfl rfl (show 0 < 3 by decide) (fun H H1 h e _ => e.trans h) dX11_init_6 ?_
  refine g_aload_n (pc := 9) hk dX11_init_9 rfl ?_
  refine g_aload_n (pc := 10) hk dX11_init_10 rfl ?_
  refine nw_putF (pc := 11) (ci := 10) (fs := [.ref x0, .null, .null]) (ref := RX11) hk hK rfl in_X11 tyX11 tyX11_ok nmX11 1 (by decide) q732 rfl rfl hnm rfl rfl rfl (show 1 < 3 by decide) (fun H H1 h e _ => e.trans h) dX11_init_11 ?_
  refine g_aload_n (pc := 14) hk dX11_init_14 rfl ?_
  refine g_aload_n (pc := 15) hk dX11_init_15 rfl ?_
  refine nw_putF (pc := 16) (ci := 10) (fs := [.ref x0, .ref x1, .null]) (ref := RX11) hk hK rfl in_X11 tyX11 tyX11_ok nmX11 2 (by decide) q733 rfl rfl hnm rfl rfl rfl (show 2 < 3 by decide) (fun H H1 h e _ => e.trans h) dX11_init_16 ?_
  exact nw_ret (pc := 19) hk (fun H e => e) dX11_init_19 (Nat.zero_le _) (Nat.zero_le _)
theorem hi_X12 : yX12_init.cls ≠ "java/lang/invoke/MethodHandle" ∧ yX12_init.cls ≠ "java/lang/invoke/VarHandle" ∧ (parseMethodDescriptor yX12_init.desc).map (fun d => d.parameters.length) = some 2 := by decide +kernel
theorem n_X12 {Γ : CG} {tx : TXs Tx} {H0 : Heap} {a : Nat} (x0 : Nat) (x1 : Nat) (hf : va_at (gD Γ) ccl (a, .inr (11, [.null, .null])) H0) : NMet Γ tx yX12_init cX12_init 3 rm_x_rec [.ref a, .ref x0, .ref x1] H0 a (fun H1 => va_at (gD Γ) ccl (a, .inr (11, [.ref x0, .ref x1])) H1 ∧ H1.size = H0.size) := by
  refine n_met (view := fun _ : Unit => fun H1 => va_at (gD Γ) ccl (a, .inr (11, [.ref x0, .ref x1])) H1 ∧ H1.size = H0.size) (comp := some ()) (own := RX12) rfl (by decide) rfl (ls0 := [(0, .ref a), (1, .ref x0), (2, .ref x1)]) rfl (fun K hk hK htr hnm hH hE => nw_in (a := a) hH ?_) () rfl
  refine g_aload_n (pc := 0) hk dX12_init_0 rfl ?_
  refine nw_sup (tx := tx) (pc := 1) hk hK htr hE n_J11 q750 q575 q143 q576 rfl hi_J11 rfl dX12_init_1 ⟨Nat.le_refl _, Nat.le_refl _⟩ ?_
  refine g_I (I' := NW K a (fun H => va_at (gD Γ) ccl (a, .inr (11, [.null, .null])) H ∧ H.size = H0.size)) (fun H locs hI => ⟨hI.1, hI.2.1, by rw [hI.2.2]; exact hf, by rw [hI.2.2]⟩) ?_
  refine g_aload_n (pc := 4) hk dX12_init_4 rfl ?_
  refine g_aload_n (pc := 5) hk dX12_init_5 rfl ?_
  refine nw_putF (pc := 6) (ci := 11) (fs := [.null, .null]) (ref := RX12) hk hK rfl in_X12 tyX12 tyX12_ok nmX12 0 (by decide) q751 rfl rfl hnm rfl rfl rfl (show 0 < 2 by decide) (fun H H1 h e _ => e.trans h) dX12_init_6 ?_
  refine g_aload_n (pc := 9) hk dX12_init_9 rfl ?_
  refine g_aload_n (pc := 10) hk dX12_init_10 rfl ?_
  refine nw_putF (pc := 11) (ci := 11) (fs := [.ref x0, .null]) (ref := RX12) hk hK rfl in_X12 tyX12 tyX12_ok nmX12 1 (by decide) q752 rfl rfl hnm rfl rfl rfl (show 1 < 2 by decide) (fun H H1 h e _ => e.trans h) dX12_init_11 ?_
  exact nw_ret (pc := 14) hk (fun H e => e) dX12_init_14 (Nat.zero_le _) (Nat.zero_le _)
theorem hi_X13 : yX13_init.cls ≠ "java/lang/invoke/MethodHandle" ∧ yX13_init.cls ≠ "java/lang/invoke/VarHandle" ∧ (parseMethodDescriptor yX13_init.desc).map (fun d => d.parameters.length) = some 1 := by decide +kernel
theorem n_X13 {Γ : CG} {tx : TXs Tx} {H0 : Heap} {a : Nat} (x0 : Int32) (hf : va_at (gD Γ) ccl (a, .inr (12, [.int 0])) H0) : NMet Γ tx yX13_init cX13_init 2 rm_x_rec [.ref a, .int x0] H0 a (fun H1 => va_at (gD Γ) ccl (a, .inr (12, [.int x0])) H1 ∧ H1.size = H0.size) := by
  refine n_met (view := fun _ : Unit => fun H1 => va_at (gD Γ) ccl (a, .inr (12, [.int x0])) H1 ∧ H1.size = H0.size) (comp := some ()) (own := RX13) rfl (by decide) rfl (ls0 := [(0, .ref a), (1, .int x0)]) rfl (fun K hk hK htr hnm hH hE => nw_in (a := a) hH ?_) () rfl
  refine g_aload_n (pc := 0) hk dX13_init_0 rfl ?_
  refine nw_sup (tx := tx) (pc := 1) hk hK htr hE n_J11 q773 q575 q143 q576 rfl hi_J11 rfl dX13_init_1 ⟨Nat.le_refl _, Nat.le_refl _⟩ ?_
  refine g_I (I' := NW K a (fun H => va_at (gD Γ) ccl (a, .inr (12, [.int 0])) H ∧ H.size = H0.size)) (fun H locs hI => ⟨hI.1, hI.2.1, by rw [hI.2.2]; exact hf, by rw [hI.2.2]⟩) ?_
  refine g_aload_n (pc := 4) hk dX13_init_4 rfl ?_
  refine g_iload_n (pc := 5) hk dX13_init_5 rfl ?_
  refine nw_putF (pc := 6) (ci := 12) (fs := [.int 0]) (ref := RX13) hk hK rfl in_X13 tyX13 tyX13_ok nmX13 0 (by decide) q774 rfl rfl hnm rfl rfl rfl (show 0 < 1 by decide) (fun H H1 h e _ => e.trans h) dX13_init_6 ?_
  exact nw_ret (pc := 9) hk (fun H e => e) dX13_init_9 (Nat.zero_le _) (Nat.zero_le _)
theorem hi_X14 : yX14_init.cls ≠ "java/lang/invoke/MethodHandle" ∧ yX14_init.cls ≠ "java/lang/invoke/VarHandle" ∧ (parseMethodDescriptor yX14_init.desc).map (fun d => d.parameters.length) = some 1 := by decide +kernel
theorem n_X14 {Γ : CG} {tx : TXs Tx} {H0 : Heap} {a : Nat} (x0 : Nat) (hf : va_at (gD Γ) ccl (a, .inr (13, [.null])) H0) : NMet Γ tx yX14_init cX14_init 2 rm_x_rec [.ref a, .ref x0] H0 a (fun H1 => va_at (gD Γ) ccl (a, .inr (13, [.ref x0])) H1 ∧ H1.size = H0.size) := by
  refine n_met (view := fun _ : Unit => fun H1 => va_at (gD Γ) ccl (a, .inr (13, [.ref x0])) H1 ∧ H1.size = H0.size) (comp := some ()) (own := RX14) rfl (by decide) rfl (ls0 := [(0, .ref a), (1, .ref x0)]) rfl (fun K hk hK htr hnm hH hE => nw_in (a := a) hH ?_) () rfl
  refine g_aload_n (pc := 0) hk dX14_init_0 rfl ?_
  refine nw_sup (tx := tx) (pc := 1) hk hK htr hE n_J11 q783 q575 q143 q576 rfl hi_J11 rfl dX14_init_1 ⟨Nat.le_refl _, Nat.le_refl _⟩ ?_
  refine g_I (I' := NW K a (fun H => va_at (gD Γ) ccl (a, .inr (13, [.null])) H ∧ H.size = H0.size)) (fun H locs hI => ⟨hI.1, hI.2.1, by rw [hI.2.2]; exact hf, by rw [hI.2.2]⟩) ?_
  refine g_aload_n (pc := 4) hk dX14_init_4 rfl ?_
  refine g_aload_n (pc := 5) hk dX14_init_5 rfl ?_
  refine nw_putF (pc := 6) (ci := 13) (fs := [.null]) (ref := RX14) hk hK rfl in_X14 tyX14 tyX14_ok nmX14 0 (by decide) q784 rfl rfl hnm rfl rfl rfl (show 0 < 1 by decide) (fun H H1 h e _ => e.trans h) dX14_init_6 ?_
  exact nw_ret (pc := 9) hk (fun H e => e) dX14_init_9 (Nat.zero_le _) (Nat.zero_le _)
theorem hi_X15 : yX15_init.cls ≠ "java/lang/invoke/MethodHandle" ∧ yX15_init.cls ≠ "java/lang/invoke/VarHandle" ∧ (parseMethodDescriptor yX15_init.desc).map (fun d => d.parameters.length) = some 4 := by decide +kernel
theorem n_X15 {Γ : CG} {tx : TXs Tx} {H0 : Heap} {a : Nat} (x0 : Int32) (x1 : Int32) (x2 : Int32) (x3 : Int32) (hf : va_at (gD Γ) ccl (a, .inr (14, [.int 0, .int 0, .int 0, .int 0])) H0) : NMet Γ tx yX15_init cX15_init 5 rm_x_rec [.ref a, .int x0, .int x1, .int x2, .int x3] H0 a (fun H1 => va_at (gD Γ) ccl (a, .inr (14, [.int x0, .int x1, .int x2, .int x3])) H1 ∧ H1.size = H0.size) := by
  refine n_met (view := fun _ : Unit => fun H1 => va_at (gD Γ) ccl (a, .inr (14, [.int x0, .int x1, .int x2, .int x3])) H1 ∧ H1.size = H0.size) (comp := some ()) (own := RX15) rfl (by decide) rfl (ls0 := [(0, .ref a), (1, .int x0), (2, .int x1), (3, .int x2), (4, .int x3)]) rfl (fun K hk hK htr hnm hH hE => nw_in (a := a) hH ?_) () rfl
  refine g_aload_n (pc := 0) hk dX15_init_0 rfl ?_
  refine nw_sup (tx := tx) (pc := 1) hk hK htr hE n_J11 q850 q575 q143 q576 rfl hi_J11 rfl dX15_init_1 ⟨Nat.le_refl _, Nat.le_refl _⟩ ?_
  refine g_I (I' := NW K a (fun H => va_at (gD Γ) ccl (a, .inr (14, [.int 0, .int 0, .int 0, .int 0])) H ∧ H.size = H0.size)) (fun H locs hI => ⟨hI.1, hI.2.1, by rw [hI.2.2]; exact hf, by rw [hI.2.2]⟩) ?_
  refine g_aload_n (pc := 4) hk dX15_init_4 rfl ?_
  refine g_iload_n (pc := 5) hk dX15_init_5 rfl ?_
  refine nw_putF (pc := 6) (ci := 14) (fs := [.int 0, .int 0, .int 0, .int 0]) (ref := RX15) hk hK rfl in_X15 tyX15 tyX15_ok nmX15 0 (by decide) q851 rfl rfl hnm rfl rfl rfl (show 0 < 4 by decide) (fun H H1 h e _ => e.trans h) dX15_init_6 ?_
  refine g_aload_n (pc := 9) hk dX15_init_9 rfl ?_
  refine g_iload_n (pc := 10) hk dX15_init_10 rfl ?_
  refine nw_putF (pc := 11) (ci := 14) (fs := [.int x0, .int 0, .int 0, .int 0]) (ref := RX15) hk hK rfl in_X15 tyX15 tyX15_ok nmX15 1 (by decide) q852 rfl rfl hnm rfl rfl rfl (show 1 < 4 by decide) (fun H H1 h e _ => e.trans h) dX15_init_11 ?_
  refine g_aload_n (pc := 14) hk dX15_init_14 rfl ?_
  refine g_iload_n (pc := 15) hk dX15_init_15 rfl ?_
  refine nw_putF (pc := 16) (ci := 14) (fs := [.int x0, .int x1, .int 0, .int 0]) (ref := RX15) hk hK rfl in_X15 tyX15 tyX15_ok nmX15 2 (by decide) q853 rfl rfl hnm rfl rfl rfl (show 2 < 4 by decide) (fun H H1 h e _ => e.trans h) dX15_init_16 ?_
  refine g_aload_n (pc := 19) hk dX15_init_19 rfl ?_
  refine g_iload (pc := 20) hk dX15_init_20 rfl ?_
  refine nw_putF (pc := 22) (ci := 14) (fs := [.int x0, .int x1, .int x2, .int 0]) (ref := RX15) hk hK rfl in_X15 tyX15 tyX15_ok nmX15 3 (by decide) q854 rfl rfl hnm rfl rfl rfl (show 3 < 4 by decide) (fun H H1 h e _ => e.trans h) dX15_init_22 ?_
  exact nw_ret (pc := 25) hk (fun H e => e) dX15_init_25 (Nat.zero_le _) (Nat.zero_le _)
