/-! SUMS AND ASKINGS answer -/
set_option maxRecDepth 100000
theorem lw_F {own : String} {idx : Nat} {C : String} {x y : MethodName} {b : ByteArray} {L : Nat} {r : Option FieldType} (h1 : Cond.methodLink own idx x ∈ lw_all) (h2 : Cond.selects C x y ∈ lw_all) (h3 : Cond.instanceMethod y ∈ lw_all) (h4 : Cond.initialized y.cls ∈ lw_all) (h5 : Cond.code y b L r ∈ lw_all) : GoodIn lw_all (va_wsF own idx C x y (ws_ y b L r)) := by
  refine lw_app ?_ (lw_meth h5)
  intro w hw
  simp only [List.mem_cons, List.not_mem_nil, or_false] at hw
  rcases hw with e | e | e | e
  · rw [e]; exact h1
  · rw [e]; exact h2
  · rw [e]; exact h3
  · rw [e]; exact h4
/-- the boxes of small numbers -/
def BXs (Γ : CG) (U : State) (H : Heap) : Prop := vb_C (fun k => gA Γ (1000 + k)) (cSt Γ) U H
def DOK (Γ : CG) : Prop := (∀ U, gX Γ U → XK U) ∧ (∀ tx U H, gE Γ tx U H → BXs Γ U H)
theorem DOK.x {Γ : CG} (h : DOK Γ) {U : State} (hK : CK Γ U) : XK U := h.1 U hK.2.2.1
/-- a sum at q answers r; an asking answers t -/
def SMet (Γ : CG) (tx : TXs Tx) (H0 : Heap) (q na : Nat) (r : Int64) (k : Nat) : Prop :=
  (∃ fs, va_at (gD Γ) ccl (q, .inr (6, fs)) H0 ∧ RMet Γ tx yX7_of cX7_of 2 (some .long) (rmK k) [.ref q, .ref na] H0 (some (.long r))) ∨
  (∃ fs, va_at (gD Γ) ccl (q, .inr (12, fs)) H0 ∧ RMet Γ tx yX13_of cX13_of 2 (some .long) (rmK k) [.ref q, .ref na] H0 (some (.long r))) ∨
  (∃ fs, va_at (gD Γ) ccl (q, .inr (13, fs)) H0 ∧ RMet Γ tx yX14_of cX14_of 2 (some .long) (rmK k) [.ref q, .ref na] H0 (some (.long r))) ∨
  (∃ fs, va_at (gD Γ) ccl (q, .inr (5, fs)) H0 ∧ RMet Γ tx yX6_of cX6_of 10 (some .long) (rmK k) [.ref q, .ref na] H0 (some (.long r))) ∨
  (∃ fs, va_at (gD Γ) ccl (q, .inr (11, fs)) H0 ∧ RMet Γ tx yX12_of cX12_of 9 (some .long) (rmK k) [.ref q, .ref na] H0 (some (.long r))) ∨
  (∃ fs, va_at (gD Γ) ccl (q, .inr (10, fs)) H0 ∧ RMet Γ tx yX11_of cX11_of 2 (some .long) (rmK k) [.ref q, .ref na] H0 (some (.long r)))
def AMet (Γ : CG) (tx : TXs Tx) (H0 : Heap) (q na : Nat) (r : Int32) (k : Nat) : Prop :=
  (∃ fs, va_at (gD Γ) ccl (q, .inr (8, fs)) H0 ∧ RMet Γ tx yX9_is cX9_is 4 (some .boolean) (rmK k) [.ref q, .ref na] H0 (some (.int r))) ∨
  (∃ fs, va_at (gD Γ) ccl (q, .inr (7, fs)) H0 ∧ RMet Γ tx yX8_is cX8_is 2 (some .boolean) (rmK k) [.ref q, .ref na] H0 (some (.int r))) ∨
  (∃ fs, va_at (gD Γ) ccl (q, .inr (9, fs)) H0 ∧ RMet Γ tx yX10_is cX10_is 4 (some .boolean) (rmK k) [.ref q, .ref na] H0 (some (.int r)))
theorem hs_mSum : mSum.cls ≠ "java/lang/invoke/MethodHandle" ∧ mSum.cls ≠ "java/lang/invoke/VarHandle" ∧ (parseMethodDescriptor mSum.desc).map (fun d => d.parameters.length) = some 1 := by decide +kernel
theorem hs_mAsk : mAsk.cls ≠ "java/lang/invoke/MethodHandle" ∧ mAsk.cls ≠ "java/lang/invoke/VarHandle" ∧ (parseMethodDescriptor mAsk.desc).map (fun d => d.parameters.length) = some 1 := by decide +kernel
section FC
variable {ρ : Type} {K : KT} {Q : ρ → State → Prop} {comp A B : Option ρ} {nL : Nat} {I : Heap → List Loc → Prop} {cs sl pc : Nat} {ls : List (Nat × Value)} {st : List Value} {cc : ByteArray} {rm : Room} {ret : Option FieldType} {Γ : CG} {own : String}
theorem g_at (h : ∀ H locs, I H locs → GGo K Q comp nL (fun H' l' => H' = H ∧ l' = locs) cs sl pc ls st) : GGo K Q comp nL I cs sl pc ls st := fun r hr H locs lsA hI hh => h H locs hI r hr H locs lsA ⟨rfl, rfl⟩ hh
theorem g_tl (h : ∀ a, comp = some a → GGo K Q (some a) nL I cs sl pc ls st) : GGo K Q comp nL I cs sl pc ls st := fun r hr => h r hr r rfl

theorem scall_X6 (hΓ : DOK Γ) (hk : KOK K cc nL RX6 rm ret) (hK : CK Γ (kS K)) {tx : TXs Tx} (hE : ∀ H locs, I H locs → gE Γ tx (kS K) H) {q na k : Nat} {r0 : Int64} (hM : ∀ H locs, I H locs → SMet Γ tx H q na r0 k) (hrm : k + 1 ≤ rm.frames ∧ 29 + 60 * k ≤ rm.locals) (hs : Nat.ble ((st.map fun v => v.category).sum) 8 = true) (hd : decode cc pc = .ok (.invokeinterface 39 2, 5)) (hcs : cs ≤ rm.cells ∧ sl ≤ rm.slots) (kk : GGo K Q comp nL I cs sl (pc + 5) ls (.long r0 :: st)) : GGo K Q comp nL I cs sl pc ls (.ref na :: .ref q :: st) := by
  have hX := hΓ.x hK
  refine g_at (fun H locs hI => ?_)
  have kk2 : GGo K Q comp nL (fun H' l' => H' = H ∧ l' = locs) cs sl (pc + 5) ls (.long r0 :: st) := g_I (fun _ _ e => by rw [e.1, e.2]; exact hI) kk
  have hE2 : ∀ H' l', H' = H ∧ l' = locs → gE Γ tx (kS K) H' := fun _ _ e => by rw [e.1]; exact hE H locs hI
  rcases hM H locs hI with ⟨fs, ha, hm⟩ | ⟨fs, ha, hm⟩ | ⟨fs, ha, hm⟩ | ⟨fs, ha, hm⟩ | ⟨fs, ha, hm⟩ | ⟨fs, ha, hm⟩
  · exact x_callF (C := RX7) (maxL := 2) (rmY := rmK k) (v := some (.long r0)) hk hK hE2 (x_rec hK (ci := 6) rfl (fun _ _ e => by rw [e.1]; exact ha)) [.ref na] st (fun _ _ e => by rw [e.1]; exact hm) (hK.1.1 6 _ rfl).2 (hX.2.1 _ face_Plain) (lw_F q922 q967 q969 q144 q971) hs_mSum (rmFit_i hrm.1 (by show 8 + (2 + 11) + 60 * k ≤ rm.locals; omega)) ⟨rfl, rfl⟩ rfl hs hd rfl rfl hcs kk2
  · exact x_callF (C := RX13) (maxL := 2) (rmY := rmK k) (v := some (.long r0)) hk hK hE2 (x_rec hK (ci := 12) rfl (fun _ _ e => by rw [e.1]; exact ha)) [.ref na] st (fun _ _ e => by rw [e.1]; exact hm) (hK.1.1 12 _ rfl).2 (hX.2.1 _ face_Name) (lw_F q922 q961 q963 q152 q965) hs_mSum (rmFit_i hrm.1 (by show 8 + (2 + 11) + 60 * k ≤ rm.locals; omega)) ⟨rfl, rfl⟩ rfl hs hd rfl rfl hcs kk2
  · exact x_callF (C := RX14) (maxL := 2) (rmY := rmK k) (v := some (.long r0)) hk hK hE2 (x_rec hK (ci := 13) rfl (fun _ _ e => by rw [e.1]; exact ha)) [.ref na] st (fun _ _ e => by rw [e.1]; exact hm) (hK.1.1 13 _ rfl).2 (hX.2.1 _ face_Minus) (lw_F q922 q953 q955 q153 q957) hs_mSum (rmFit_i hrm.1 (by show 8 + (2 + 11) + 60 * k ≤ rm.locals; omega)) ⟨rfl, rfl⟩ rfl hs hd rfl rfl hcs kk2
  · exact x_callF (C := RX6) (maxL := 10) (rmY := rmK k) (v := some (.long r0)) hk hK hE2 (x_rec hK (ci := 5) rfl (fun _ _ e => by rw [e.1]; exact ha)) [.ref na] st (fun _ _ e => by rw [e.1]; exact hm) (hK.1.1 5 _ rfl).2 (hX.2.1 _ face_Chain) (lw_F q922 q916 q918 q142 q920) hs_mSum (rmFit_i hrm.1 (by show 8 + (10 + 11) + 60 * k ≤ rm.locals; omega)) ⟨rfl, rfl⟩ rfl hs hd rfl rfl hcs kk2
  · exact x_callF (C := RX12) (maxL := 9) (rmY := rmK k) (v := some (.long r0)) hk hK hE2 (x_rec hK (ci := 11) rfl (fun _ _ e => by rw [e.1]; exact ha)) [.ref na] st (fun _ _ e => by rw [e.1]; exact hm) (hK.1.1 11 _ rfl).2 (hX.2.1 _ face_After) (lw_F q922 q908 q910 q151 q912) hs_mSum (rmFit_i hrm.1 (by show 8 + (9 + 11) + 60 * k ≤ rm.locals; omega)) ⟨rfl, rfl⟩ rfl hs hd rfl rfl hcs kk2
  · exact x_callF (C := RX11) (maxL := 2) (rmY := rmK k) (v := some (.long r0)) hk hK hE2 (x_rec hK (ci := 10) rfl (fun _ _ e => by rw [e.1]; exact ha)) [.ref na] st (fun _ _ e => by rw [e.1]; exact hm) (hK.1.1 10 _ rfl).2 (hX.2.1 _ face_If) (lw_F q922 q924 q926 q150 q928) hs_mSum (rmFit_i hrm.1 (by show 8 + (2 + 11) + 60 * k ≤ rm.locals; omega)) ⟨rfl, rfl⟩ rfl hs hd rfl rfl hcs kk2
theorem scall_X9 (hΓ : DOK Γ) (hk : KOK K cc nL RX9 rm ret) (hK : CK Γ (kS K)) {tx : TXs Tx} (hE : ∀ H locs, I H locs → gE Γ tx (kS K) H) {q na k : Nat} {r0 : Int64} (hM : ∀ H locs, I H locs → SMet Γ tx H q na r0 k) (hrm : k + 1 ≤ rm.frames ∧ 29 + 60 * k ≤ rm.locals) (hs : Nat.ble ((st.map fun v => v.category).sum) 8 = true) (hd : decode cc pc = .ok (.invokeinterface 20 2, 5)) (hcs : cs ≤ rm.cells ∧ sl ≤ rm.slots) (kk : GGo K Q comp nL I cs sl (pc + 5) ls (.long r0 :: st)) : GGo K Q comp nL I cs sl pc ls (.ref na :: .ref q :: st) := by
  have hX := hΓ.x hK
  refine g_at (fun H locs hI => ?_)
  have kk2 : GGo K Q comp nL (fun H' l' => H' = H ∧ l' = locs) cs sl (pc + 5) ls (.long r0 :: st) := g_I (fun _ _ e => by rw [e.1, e.2]; exact hI) kk
  have hE2 : ∀ H' l', H' = H ∧ l' = locs → gE Γ tx (kS K) H' := fun _ _ e => by rw [e.1]; exact hE H locs hI
  rcases hM H locs hI with ⟨fs, ha, hm⟩ | ⟨fs, ha, hm⟩ | ⟨fs, ha, hm⟩ | ⟨fs, ha, hm⟩ | ⟨fs, ha, hm⟩ | ⟨fs, ha, hm⟩
  · exact x_callF (C := RX7) (maxL := 2) (rmY := rmK k) (v := some (.long r0)) hk hK hE2 (x_rec hK (ci := 6) rfl (fun _ _ e => by rw [e.1]; exact ha)) [.ref na] st (fun _ _ e => by rw [e.1]; exact hm) (hK.1.1 6 _ rfl).2 (hX.2.1 _ face_Plain) (lw_F q951 q967 q969 q144 q971) hs_mSum (rmFit_i hrm.1 (by show 8 + (2 + 11) + 60 * k ≤ rm.locals; omega)) ⟨rfl, rfl⟩ rfl hs hd rfl rfl hcs kk2
  · exact x_callF (C := RX13) (maxL := 2) (rmY := rmK k) (v := some (.long r0)) hk hK hE2 (x_rec hK (ci := 12) rfl (fun _ _ e => by rw [e.1]; exact ha)) [.ref na] st (fun _ _ e => by rw [e.1]; exact hm) (hK.1.1 12 _ rfl).2 (hX.2.1 _ face_Name) (lw_F q951 q961 q963 q152 q965) hs_mSum (rmFit_i hrm.1 (by show 8 + (2 + 11) + 60 * k ≤ rm.locals; omega)) ⟨rfl, rfl⟩ rfl hs hd rfl rfl hcs kk2
  · exact x_callF (C := RX14) (maxL := 2) (rmY := rmK k) (v := some (.long r0)) hk hK hE2 (x_rec hK (ci := 13) rfl (fun _ _ e => by rw [e.1]; exact ha)) [.ref na] st (fun _ _ e => by rw [e.1]; exact hm) (hK.1.1 13 _ rfl).2 (hX.2.1 _ face_Minus) (lw_F q951 q953 q955 q153 q957) hs_mSum (rmFit_i hrm.1 (by show 8 + (2 + 11) + 60 * k ≤ rm.locals; omega)) ⟨rfl, rfl⟩ rfl hs hd rfl rfl hcs kk2
  · exact x_callF (C := RX6) (maxL := 10) (rmY := rmK k) (v := some (.long r0)) hk hK hE2 (x_rec hK (ci := 5) rfl (fun _ _ e => by rw [e.1]; exact ha)) [.ref na] st (fun _ _ e => by rw [e.1]; exact hm) (hK.1.1 5 _ rfl).2 (hX.2.1 _ face_Chain) (lw_F q951 q916 q918 q142 q920) hs_mSum (rmFit_i hrm.1 (by show 8 + (10 + 11) + 60 * k ≤ rm.locals; omega)) ⟨rfl, rfl⟩ rfl hs hd rfl rfl hcs kk2
  · exact x_callF (C := RX12) (maxL := 9) (rmY := rmK k) (v := some (.long r0)) hk hK hE2 (x_rec hK (ci := 11) rfl (fun _ _ e => by rw [e.1]; exact ha)) [.ref na] st (fun _ _ e => by rw [e.1]; exact hm) (hK.1.1 11 _ rfl).2 (hX.2.1 _ face_After) (lw_F q951 q908 q910 q151 q912) hs_mSum (rmFit_i hrm.1 (by show 8 + (9 + 11) + 60 * k ≤ rm.locals; omega)) ⟨rfl, rfl⟩ rfl hs hd rfl rfl hcs kk2
  · exact x_callF (C := RX11) (maxL := 2) (rmY := rmK k) (v := some (.long r0)) hk hK hE2 (x_rec hK (ci := 10) rfl (fun _ _ e => by rw [e.1]; exact ha)) [.ref na] st (fun _ _ e => by rw [e.1]; exact hm) (hK.1.1 10 _ rfl).2 (hX.2.1 _ face_If) (lw_F q951 q924 q926 q150 q928) hs_mSum (rmFit_i hrm.1 (by show 8 + (2 + 11) + 60 * k ≤ rm.locals; omega)) ⟨rfl, rfl⟩ rfl hs hd rfl rfl hcs kk2
theorem scall_X11 (hΓ : DOK Γ) (hk : KOK K cc nL RX11 rm ret) (hK : CK Γ (kS K)) {tx : TXs Tx} (hE : ∀ H locs, I H locs → gE Γ tx (kS K) H) {q na k : Nat} {r0 : Int64} (hM : ∀ H locs, I H locs → SMet Γ tx H q na r0 k) (hrm : k + 1 ≤ rm.frames ∧ 29 + 60 * k ≤ rm.locals) (hs : Nat.ble ((st.map fun v => v.category).sum) 8 = true) (hd : decode cc pc = .ok (.invokeinterface 26 2, 5)) (hcs : cs ≤ rm.cells ∧ sl ≤ rm.slots) (kk : GGo K Q comp nL I cs sl (pc + 5) ls (.long r0 :: st)) : GGo K Q comp nL I cs sl pc ls (.ref na :: .ref q :: st) := by
  have hX := hΓ.x hK
  refine g_at (fun H locs hI => ?_)
  have kk2 : GGo K Q comp nL (fun H' l' => H' = H ∧ l' = locs) cs sl (pc + 5) ls (.long r0 :: st) := g_I (fun _ _ e => by rw [e.1, e.2]; exact hI) kk
  have hE2 : ∀ H' l', H' = H ∧ l' = locs → gE Γ tx (kS K) H' := fun _ _ e => by rw [e.1]; exact hE H locs hI
  rcases hM H locs hI with ⟨fs, ha, hm⟩ | ⟨fs, ha, hm⟩ | ⟨fs, ha, hm⟩ | ⟨fs, ha, hm⟩ | ⟨fs, ha, hm⟩ | ⟨fs, ha, hm⟩
  · exact x_callF (C := RX7) (maxL := 2) (rmY := rmK k) (v := some (.long r0)) hk hK hE2 (x_rec hK (ci := 6) rfl (fun _ _ e => by rw [e.1]; exact ha)) [.ref na] st (fun _ _ e => by rw [e.1]; exact hm) (hK.1.1 6 _ rfl).2 (hX.2.1 _ face_Plain) (lw_F q981 q967 q969 q144 q971) hs_mSum (rmFit_i hrm.1 (by show 8 + (2 + 11) + 60 * k ≤ rm.locals; omega)) ⟨rfl, rfl⟩ rfl hs hd rfl rfl hcs kk2
  · exact x_callF (C := RX13) (maxL := 2) (rmY := rmK k) (v := some (.long r0)) hk hK hE2 (x_rec hK (ci := 12) rfl (fun _ _ e => by rw [e.1]; exact ha)) [.ref na] st (fun _ _ e => by rw [e.1]; exact hm) (hK.1.1 12 _ rfl).2 (hX.2.1 _ face_Name) (lw_F q981 q961 q963 q152 q965) hs_mSum (rmFit_i hrm.1 (by show 8 + (2 + 11) + 60 * k ≤ rm.locals; omega)) ⟨rfl, rfl⟩ rfl hs hd rfl rfl hcs kk2
  · exact x_callF (C := RX14) (maxL := 2) (rmY := rmK k) (v := some (.long r0)) hk hK hE2 (x_rec hK (ci := 13) rfl (fun _ _ e => by rw [e.1]; exact ha)) [.ref na] st (fun _ _ e => by rw [e.1]; exact hm) (hK.1.1 13 _ rfl).2 (hX.2.1 _ face_Minus) (lw_F q981 q953 q955 q153 q957) hs_mSum (rmFit_i hrm.1 (by show 8 + (2 + 11) + 60 * k ≤ rm.locals; omega)) ⟨rfl, rfl⟩ rfl hs hd rfl rfl hcs kk2
  · exact x_callF (C := RX6) (maxL := 10) (rmY := rmK k) (v := some (.long r0)) hk hK hE2 (x_rec hK (ci := 5) rfl (fun _ _ e => by rw [e.1]; exact ha)) [.ref na] st (fun _ _ e => by rw [e.1]; exact hm) (hK.1.1 5 _ rfl).2 (hX.2.1 _ face_Chain) (lw_F q981 q916 q918 q142 q920) hs_mSum (rmFit_i hrm.1 (by show 8 + (10 + 11) + 60 * k ≤ rm.locals; omega)) ⟨rfl, rfl⟩ rfl hs hd rfl rfl hcs kk2
  · exact x_callF (C := RX12) (maxL := 9) (rmY := rmK k) (v := some (.long r0)) hk hK hE2 (x_rec hK (ci := 11) rfl (fun _ _ e => by rw [e.1]; exact ha)) [.ref na] st (fun _ _ e => by rw [e.1]; exact hm) (hK.1.1 11 _ rfl).2 (hX.2.1 _ face_After) (lw_F q981 q908 q910 q151 q912) hs_mSum (rmFit_i hrm.1 (by show 8 + (9 + 11) + 60 * k ≤ rm.locals; omega)) ⟨rfl, rfl⟩ rfl hs hd rfl rfl hcs kk2
  · exact x_callF (C := RX11) (maxL := 2) (rmY := rmK k) (v := some (.long r0)) hk hK hE2 (x_rec hK (ci := 10) rfl (fun _ _ e => by rw [e.1]; exact ha)) [.ref na] st (fun _ _ e => by rw [e.1]; exact hm) (hK.1.1 10 _ rfl).2 (hX.2.1 _ face_If) (lw_F q981 q924 q926 q150 q928) hs_mSum (rmFit_i hrm.1 (by show 8 + (2 + 11) + 60 * k ≤ rm.locals; omega)) ⟨rfl, rfl⟩ rfl hs hd rfl rfl hcs kk2
theorem scall_X12 (hΓ : DOK Γ) (hk : KOK K cc nL RX12 rm ret) (hK : CK Γ (kS K)) {tx : TXs Tx} (hE : ∀ H locs, I H locs → gE Γ tx (kS K) H) {q na k : Nat} {r0 : Int64} (hM : ∀ H locs, I H locs → SMet Γ tx H q na r0 k) (hrm : k + 1 ≤ rm.frames ∧ 29 + 60 * k ≤ rm.locals) (hs : Nat.ble ((st.map fun v => v.category).sum) 8 = true) (hd : decode cc pc = .ok (.invokeinterface 18 2, 5)) (hcs : cs ≤ rm.cells ∧ sl ≤ rm.slots) (kk : GGo K Q comp nL I cs sl (pc + 5) ls (.long r0 :: st)) : GGo K Q comp nL I cs sl pc ls (.ref na :: .ref q :: st) := by
  have hX := hΓ.x hK
  refine g_at (fun H locs hI => ?_)
  have kk2 : GGo K Q comp nL (fun H' l' => H' = H ∧ l' = locs) cs sl (pc + 5) ls (.long r0 :: st) := g_I (fun _ _ e => by rw [e.1, e.2]; exact hI) kk
  have hE2 : ∀ H' l', H' = H ∧ l' = locs → gE Γ tx (kS K) H' := fun _ _ e => by rw [e.1]; exact hE H locs hI
  rcases hM H locs hI with ⟨fs, ha, hm⟩ | ⟨fs, ha, hm⟩ | ⟨fs, ha, hm⟩ | ⟨fs, ha, hm⟩ | ⟨fs, ha, hm⟩ | ⟨fs, ha, hm⟩
  · exact x_callF (C := RX7) (maxL := 2) (rmY := rmK k) (v := some (.long r0)) hk hK hE2 (x_rec hK (ci := 6) rfl (fun _ _ e => by rw [e.1]; exact ha)) [.ref na] st (fun _ _ e => by rw [e.1]; exact hm) (hK.1.1 6 _ rfl).2 (hX.2.1 _ face_Plain) (lw_F q914 q967 q969 q144 q971) hs_mSum (rmFit_i hrm.1 (by show 8 + (2 + 11) + 60 * k ≤ rm.locals; omega)) ⟨rfl, rfl⟩ rfl hs hd rfl rfl hcs kk2
  · exact x_callF (C := RX13) (maxL := 2) (rmY := rmK k) (v := some (.long r0)) hk hK hE2 (x_rec hK (ci := 12) rfl (fun _ _ e => by rw [e.1]; exact ha)) [.ref na] st (fun _ _ e => by rw [e.1]; exact hm) (hK.1.1 12 _ rfl).2 (hX.2.1 _ face_Name) (lw_F q914 q961 q963 q152 q965) hs_mSum (rmFit_i hrm.1 (by show 8 + (2 + 11) + 60 * k ≤ rm.locals; omega)) ⟨rfl, rfl⟩ rfl hs hd rfl rfl hcs kk2
  · exact x_callF (C := RX14) (maxL := 2) (rmY := rmK k) (v := some (.long r0)) hk hK hE2 (x_rec hK (ci := 13) rfl (fun _ _ e => by rw [e.1]; exact ha)) [.ref na] st (fun _ _ e => by rw [e.1]; exact hm) (hK.1.1 13 _ rfl).2 (hX.2.1 _ face_Minus) (lw_F q914 q953 q955 q153 q957) hs_mSum (rmFit_i hrm.1 (by show 8 + (2 + 11) + 60 * k ≤ rm.locals; omega)) ⟨rfl, rfl⟩ rfl hs hd rfl rfl hcs kk2
  · exact x_callF (C := RX6) (maxL := 10) (rmY := rmK k) (v := some (.long r0)) hk hK hE2 (x_rec hK (ci := 5) rfl (fun _ _ e => by rw [e.1]; exact ha)) [.ref na] st (fun _ _ e => by rw [e.1]; exact hm) (hK.1.1 5 _ rfl).2 (hX.2.1 _ face_Chain) (lw_F q914 q916 q918 q142 q920) hs_mSum (rmFit_i hrm.1 (by show 8 + (10 + 11) + 60 * k ≤ rm.locals; omega)) ⟨rfl, rfl⟩ rfl hs hd rfl rfl hcs kk2
  · exact x_callF (C := RX12) (maxL := 9) (rmY := rmK k) (v := some (.long r0)) hk hK hE2 (x_rec hK (ci := 11) rfl (fun _ _ e => by rw [e.1]; exact ha)) [.ref na] st (fun _ _ e => by rw [e.1]; exact hm) (hK.1.1 11 _ rfl).2 (hX.2.1 _ face_After) (lw_F q914 q908 q910 q151 q912) hs_mSum (rmFit_i hrm.1 (by show 8 + (9 + 11) + 60 * k ≤ rm.locals; omega)) ⟨rfl, rfl⟩ rfl hs hd rfl rfl hcs kk2
  · exact x_callF (C := RX11) (maxL := 2) (rmY := rmK k) (v := some (.long r0)) hk hK hE2 (x_rec hK (ci := 10) rfl (fun _ _ e => by rw [e.1]; exact ha)) [.ref na] st (fun _ _ e => by rw [e.1]; exact hm) (hK.1.1 10 _ rfl).2 (hX.2.1 _ face_If) (lw_F q914 q924 q926 q150 q928) hs_mSum (rmFit_i hrm.1 (by show 8 + (2 + 11) + 60 * k ≤ rm.locals; omega)) ⟨rfl, rfl⟩ rfl hs hd rfl rfl hcs kk2
theorem scall_X14 (hΓ : DOK Γ) (hk : KOK K cc nL RX14 rm ret) (hK : CK Γ (kS K)) {tx : TXs Tx} (hE : ∀ H locs, I H locs → gE Γ tx (kS K) H) {q na k : Nat} {r0 : Int64} (hM : ∀ H locs, I H locs → SMet Γ tx H q na r0 k) (hrm : k + 1 ≤ rm.frames ∧ 29 + 60 * k ≤ rm.locals) (hs : Nat.ble ((st.map fun v => v.category).sum) 8 = true) (hd : decode cc pc = .ok (.invokeinterface 13 2, 5)) (hcs : cs ≤ rm.cells ∧ sl ≤ rm.slots) (kk : GGo K Q comp nL I cs sl (pc + 5) ls (.long r0 :: st)) : GGo K Q comp nL I cs sl pc ls (.ref na :: .ref q :: st) := by
  have hX := hΓ.x hK
  refine g_at (fun H locs hI => ?_)
  have kk2 : GGo K Q comp nL (fun H' l' => H' = H ∧ l' = locs) cs sl (pc + 5) ls (.long r0 :: st) := g_I (fun _ _ e => by rw [e.1, e.2]; exact hI) kk
  have hE2 : ∀ H' l', H' = H ∧ l' = locs → gE Γ tx (kS K) H' := fun _ _ e => by rw [e.1]; exact hE H locs hI
  rcases hM H locs hI with ⟨fs, ha, hm⟩ | ⟨fs, ha, hm⟩ | ⟨fs, ha, hm⟩ | ⟨fs, ha, hm⟩ | ⟨fs, ha, hm⟩ | ⟨fs, ha, hm⟩
  · exact x_callF (C := RX7) (maxL := 2) (rmY := rmK k) (v := some (.long r0)) hk hK hE2 (x_rec hK (ci := 6) rfl (fun _ _ e => by rw [e.1]; exact ha)) [.ref na] st (fun _ _ e => by rw [e.1]; exact hm) (hK.1.1 6 _ rfl).2 (hX.2.1 _ face_Plain) (lw_F q959 q967 q969 q144 q971) hs_mSum (rmFit_i hrm.1 (by show 8 + (2 + 11) + 60 * k ≤ rm.locals; omega)) ⟨rfl, rfl⟩ rfl hs hd rfl rfl hcs kk2
  · exact x_callF (C := RX13) (maxL := 2) (rmY := rmK k) (v := some (.long r0)) hk hK hE2 (x_rec hK (ci := 12) rfl (fun _ _ e => by rw [e.1]; exact ha)) [.ref na] st (fun _ _ e => by rw [e.1]; exact hm) (hK.1.1 12 _ rfl).2 (hX.2.1 _ face_Name) (lw_F q959 q961 q963 q152 q965) hs_mSum (rmFit_i hrm.1 (by show 8 + (2 + 11) + 60 * k ≤ rm.locals; omega)) ⟨rfl, rfl⟩ rfl hs hd rfl rfl hcs kk2
  · exact x_callF (C := RX14) (maxL := 2) (rmY := rmK k) (v := some (.long r0)) hk hK hE2 (x_rec hK (ci := 13) rfl (fun _ _ e => by rw [e.1]; exact ha)) [.ref na] st (fun _ _ e => by rw [e.1]; exact hm) (hK.1.1 13 _ rfl).2 (hX.2.1 _ face_Minus) (lw_F q959 q953 q955 q153 q957) hs_mSum (rmFit_i hrm.1 (by show 8 + (2 + 11) + 60 * k ≤ rm.locals; omega)) ⟨rfl, rfl⟩ rfl hs hd rfl rfl hcs kk2
  · exact x_callF (C := RX6) (maxL := 10) (rmY := rmK k) (v := some (.long r0)) hk hK hE2 (x_rec hK (ci := 5) rfl (fun _ _ e => by rw [e.1]; exact ha)) [.ref na] st (fun _ _ e => by rw [e.1]; exact hm) (hK.1.1 5 _ rfl).2 (hX.2.1 _ face_Chain) (lw_F q959 q916 q918 q142 q920) hs_mSum (rmFit_i hrm.1 (by show 8 + (10 + 11) + 60 * k ≤ rm.locals; omega)) ⟨rfl, rfl⟩ rfl hs hd rfl rfl hcs kk2
  · exact x_callF (C := RX12) (maxL := 9) (rmY := rmK k) (v := some (.long r0)) hk hK hE2 (x_rec hK (ci := 11) rfl (fun _ _ e => by rw [e.1]; exact ha)) [.ref na] st (fun _ _ e => by rw [e.1]; exact hm) (hK.1.1 11 _ rfl).2 (hX.2.1 _ face_After) (lw_F q959 q908 q910 q151 q912) hs_mSum (rmFit_i hrm.1 (by show 8 + (9 + 11) + 60 * k ≤ rm.locals; omega)) ⟨rfl, rfl⟩ rfl hs hd rfl rfl hcs kk2
  · exact x_callF (C := RX11) (maxL := 2) (rmY := rmK k) (v := some (.long r0)) hk hK hE2 (x_rec hK (ci := 10) rfl (fun _ _ e => by rw [e.1]; exact ha)) [.ref na] st (fun _ _ e => by rw [e.1]; exact hm) (hK.1.1 10 _ rfl).2 (hX.2.1 _ face_If) (lw_F q959 q924 q926 q150 q928) hs_mSum (rmFit_i hrm.1 (by show 8 + (2 + 11) + 60 * k ≤ rm.locals; omega)) ⟨rfl, rfl⟩ rfl hs hd rfl rfl hcs kk2
theorem scall_X0 (hΓ : DOK Γ) (hk : KOK K cc nL RX0 rm ret) (hK : CK Γ (kS K)) {tx : TXs Tx} (hE : ∀ H locs, I H locs → gE Γ tx (kS K) H) {q na k : Nat} {r0 : Int64} (hM : ∀ H locs, I H locs → SMet Γ tx H q na r0 k) (hrm : k + 1 ≤ rm.frames ∧ 29 + 60 * k ≤ rm.locals) (hs : Nat.ble ((st.map fun v => v.category).sum) 8 = true) (hd : decode cc pc = .ok (.invokeinterface 153 2, 5)) (hcs : cs ≤ rm.cells ∧ sl ≤ rm.slots) (kk : GGo K Q comp nL I cs sl (pc + 5) ls (.long r0 :: st)) : GGo K Q comp nL I cs sl pc ls (.ref na :: .ref q :: st) := by
  have hX := hΓ.x hK
  refine g_at (fun H locs hI => ?_)
  have kk2 : GGo K Q comp nL (fun H' l' => H' = H ∧ l' = locs) cs sl (pc + 5) ls (.long r0 :: st) := g_I (fun _ _ e => by rw [e.1, e.2]; exact hI) kk
  have hE2 : ∀ H' l', H' = H ∧ l' = locs → gE Γ tx (kS K) H' := fun _ _ e => by rw [e.1]; exact hE H locs hI
  rcases hM H locs hI with ⟨fs, ha, hm⟩ | ⟨fs, ha, hm⟩ | ⟨fs, ha, hm⟩ | ⟨fs, ha, hm⟩ | ⟨fs, ha, hm⟩ | ⟨fs, ha, hm⟩
  · exact x_callF (C := RX7) (maxL := 2) (rmY := rmK k) (v := some (.long r0)) hk hK hE2 (x_rec hK (ci := 6) rfl (fun _ _ e => by rw [e.1]; exact ha)) [.ref na] st (fun _ _ e => by rw [e.1]; exact hm) (hK.1.1 6 _ rfl).2 (hX.2.1 _ face_Plain) (lw_F q904 q967 q969 q144 q971) hs_mSum (rmFit_i hrm.1 (by show 8 + (2 + 11) + 60 * k ≤ rm.locals; omega)) ⟨rfl, rfl⟩ rfl hs hd rfl rfl hcs kk2
  · exact x_callF (C := RX13) (maxL := 2) (rmY := rmK k) (v := some (.long r0)) hk hK hE2 (x_rec hK (ci := 12) rfl (fun _ _ e => by rw [e.1]; exact ha)) [.ref na] st (fun _ _ e => by rw [e.1]; exact hm) (hK.1.1 12 _ rfl).2 (hX.2.1 _ face_Name) (lw_F q904 q961 q963 q152 q965) hs_mSum (rmFit_i hrm.1 (by show 8 + (2 + 11) + 60 * k ≤ rm.locals; omega)) ⟨rfl, rfl⟩ rfl hs hd rfl rfl hcs kk2
  · exact x_callF (C := RX14) (maxL := 2) (rmY := rmK k) (v := some (.long r0)) hk hK hE2 (x_rec hK (ci := 13) rfl (fun _ _ e => by rw [e.1]; exact ha)) [.ref na] st (fun _ _ e => by rw [e.1]; exact hm) (hK.1.1 13 _ rfl).2 (hX.2.1 _ face_Minus) (lw_F q904 q953 q955 q153 q957) hs_mSum (rmFit_i hrm.1 (by show 8 + (2 + 11) + 60 * k ≤ rm.locals; omega)) ⟨rfl, rfl⟩ rfl hs hd rfl rfl hcs kk2
  · exact x_callF (C := RX6) (maxL := 10) (rmY := rmK k) (v := some (.long r0)) hk hK hE2 (x_rec hK (ci := 5) rfl (fun _ _ e => by rw [e.1]; exact ha)) [.ref na] st (fun _ _ e => by rw [e.1]; exact hm) (hK.1.1 5 _ rfl).2 (hX.2.1 _ face_Chain) (lw_F q904 q916 q918 q142 q920) hs_mSum (rmFit_i hrm.1 (by show 8 + (10 + 11) + 60 * k ≤ rm.locals; omega)) ⟨rfl, rfl⟩ rfl hs hd rfl rfl hcs kk2
  · exact x_callF (C := RX12) (maxL := 9) (rmY := rmK k) (v := some (.long r0)) hk hK hE2 (x_rec hK (ci := 11) rfl (fun _ _ e => by rw [e.1]; exact ha)) [.ref na] st (fun _ _ e => by rw [e.1]; exact hm) (hK.1.1 11 _ rfl).2 (hX.2.1 _ face_After) (lw_F q904 q908 q910 q151 q912) hs_mSum (rmFit_i hrm.1 (by show 8 + (9 + 11) + 60 * k ≤ rm.locals; omega)) ⟨rfl, rfl⟩ rfl hs hd rfl rfl hcs kk2
  · exact x_callF (C := RX11) (maxL := 2) (rmY := rmK k) (v := some (.long r0)) hk hK hE2 (x_rec hK (ci := 10) rfl (fun _ _ e => by rw [e.1]; exact ha)) [.ref na] st (fun _ _ e => by rw [e.1]; exact hm) (hK.1.1 10 _ rfl).2 (hX.2.1 _ face_If) (lw_F q904 q924 q926 q150 q928) hs_mSum (rmFit_i hrm.1 (by show 8 + (2 + 11) + 60 * k ≤ rm.locals; omega)) ⟨rfl, rfl⟩ rfl hs hd rfl rfl hcs kk2
theorem acall_X10 (hΓ : DOK Γ) (hk : KOK K cc nL RX10 rm ret) (hK : CK Γ (kS K)) {tx : TXs Tx} (hE : ∀ H locs, I H locs → gE Γ tx (kS K) H) {q na k : Nat} {r0 : Int32} (hM : ∀ H locs, I H locs → AMet Γ tx H q na r0 k) (hrm : k + 1 ≤ rm.frames ∧ 29 + 60 * k ≤ rm.locals) (hs : Nat.ble ((st.map fun v => v.category).sum) 8 = true) (hd : decode cc pc = .ok (.invokeinterface 29 2, 5)) (hcs : cs ≤ rm.cells ∧ sl ≤ rm.slots) (kk : GGo K Q comp nL I cs sl (pc + 5) ls (.int r0 :: st)) : GGo K Q comp nL I cs sl pc ls (.ref na :: .ref q :: st) := by
  have hX := hΓ.x hK
  refine g_at (fun H locs hI => ?_)
  have kk2 : GGo K Q comp nL (fun H' l' => H' = H ∧ l' = locs) cs sl (pc + 5) ls (.int r0 :: st) := g_I (fun _ _ e => by rw [e.1, e.2]; exact hI) kk
  have hE2 : ∀ H' l', H' = H ∧ l' = locs → gE Γ tx (kS K) H' := fun _ _ e => by rw [e.1]; exact hE H locs hI
  rcases hM H locs hI with ⟨fs, ha, hm⟩ | ⟨fs, ha, hm⟩ | ⟨fs, ha, hm⟩
  · exact x_callF (C := RX9) (maxL := 4) (rmY := rmK k) (v := some (.int r0)) hk hK hE2 (x_rec hK (ci := 8) rfl (fun _ _ e => by rw [e.1]; exact ha)) [.ref na] st (fun _ _ e => by rw [e.1]; exact hm) (hK.1.1 8 _ rfl).2 (hX.2.1 _ face_Compared) (lw_F q943 q945 q947 q146 q949) hs_mAsk (rmFit_i hrm.1 (by show 8 + (4 + 11) + 60 * k ≤ rm.locals; omega)) ⟨rfl, rfl⟩ rfl hs hd rfl rfl hcs kk2
  · exact x_callF (C := RX8) (maxL := 2) (rmY := rmK k) (v := some (.int r0)) hk hK hE2 (x_rec hK (ci := 7) rfl (fun _ _ e => by rw [e.1]; exact ha)) [.ref na] st (fun _ _ e => by rw [e.1]; exact hm) (hK.1.1 7 _ rfl).2 (hX.2.1 _ face_Not) (lw_F q943 q973 q975 q145 q977) hs_mAsk (rmFit_i hrm.1 (by show 8 + (2 + 11) + 60 * k ≤ rm.locals; omega)) ⟨rfl, rfl⟩ rfl hs hd rfl rfl hcs kk2
  · exact x_callF (C := RX10) (maxL := 4) (rmY := rmK k) (v := some (.int r0)) hk hK hE2 (x_rec hK (ci := 9) rfl (fun _ _ e => by rw [e.1]; exact ha)) [.ref na] st (fun _ _ e => by rw [e.1]; exact hm) (hK.1.1 9 _ rfl).2 (hX.2.1 _ face_All) (lw_F q943 q934 q936 q149 q938) hs_mAsk (rmFit_i hrm.1 (by show 8 + (4 + 11) + 60 * k ≤ rm.locals; omega)) ⟨rfl, rfl⟩ rfl hs hd rfl rfl hcs kk2
theorem acall_X8 (hΓ : DOK Γ) (hk : KOK K cc nL RX8 rm ret) (hK : CK Γ (kS K)) {tx : TXs Tx} (hE : ∀ H locs, I H locs → gE Γ tx (kS K) H) {q na k : Nat} {r0 : Int32} (hM : ∀ H locs, I H locs → AMet Γ tx H q na r0 k) (hrm : k + 1 ≤ rm.frames ∧ 29 + 60 * k ≤ rm.locals) (hs : Nat.ble ((st.map fun v => v.category).sum) 8 = true) (hd : decode cc pc = .ok (.invokeinterface 13 2, 5)) (hcs : cs ≤ rm.cells ∧ sl ≤ rm.slots) (kk : GGo K Q comp nL I cs sl (pc + 5) ls (.int r0 :: st)) : GGo K Q comp nL I cs sl pc ls (.ref na :: .ref q :: st) := by
  have hX := hΓ.x hK
  refine g_at (fun H locs hI => ?_)
  have kk2 : GGo K Q comp nL (fun H' l' => H' = H ∧ l' = locs) cs sl (pc + 5) ls (.int r0 :: st) := g_I (fun _ _ e => by rw [e.1, e.2]; exact hI) kk
  have hE2 : ∀ H' l', H' = H ∧ l' = locs → gE Γ tx (kS K) H' := fun _ _ e => by rw [e.1]; exact hE H locs hI
  rcases hM H locs hI with ⟨fs, ha, hm⟩ | ⟨fs, ha, hm⟩ | ⟨fs, ha, hm⟩
  · exact x_callF (C := RX9) (maxL := 4) (rmY := rmK k) (v := some (.int r0)) hk hK hE2 (x_rec hK (ci := 8) rfl (fun _ _ e => by rw [e.1]; exact ha)) [.ref na] st (fun _ _ e => by rw [e.1]; exact hm) (hK.1.1 8 _ rfl).2 (hX.2.1 _ face_Compared) (lw_F q979 q945 q947 q146 q949) hs_mAsk (rmFit_i hrm.1 (by show 8 + (4 + 11) + 60 * k ≤ rm.locals; omega)) ⟨rfl, rfl⟩ rfl hs hd rfl rfl hcs kk2
  · exact x_callF (C := RX8) (maxL := 2) (rmY := rmK k) (v := some (.int r0)) hk hK hE2 (x_rec hK (ci := 7) rfl (fun _ _ e => by rw [e.1]; exact ha)) [.ref na] st (fun _ _ e => by rw [e.1]; exact hm) (hK.1.1 7 _ rfl).2 (hX.2.1 _ face_Not) (lw_F q979 q973 q975 q145 q977) hs_mAsk (rmFit_i hrm.1 (by show 8 + (2 + 11) + 60 * k ≤ rm.locals; omega)) ⟨rfl, rfl⟩ rfl hs hd rfl rfl hcs kk2
  · exact x_callF (C := RX10) (maxL := 4) (rmY := rmK k) (v := some (.int r0)) hk hK hE2 (x_rec hK (ci := 9) rfl (fun _ _ e => by rw [e.1]; exact ha)) [.ref na] st (fun _ _ e => by rw [e.1]; exact hm) (hK.1.1 9 _ rfl).2 (hX.2.1 _ face_All) (lw_F q979 q934 q936 q149 q938) hs_mAsk (rmFit_i hrm.1 (by show 8 + (4 + 11) + 60 * k ≤ rm.locals; omega)) ⟨rfl, rfl⟩ rfl hs hd rfl rfl hcs kk2
theorem acall_X11 (hΓ : DOK Γ) (hk : KOK K cc nL RX11 rm ret) (hK : CK Γ (kS K)) {tx : TXs Tx} (hE : ∀ H locs, I H locs → gE Γ tx (kS K) H) {q na k : Nat} {r0 : Int32} (hM : ∀ H locs, I H locs → AMet Γ tx H q na r0 k) (hrm : k + 1 ≤ rm.frames ∧ 29 + 60 * k ≤ rm.locals) (hs : Nat.ble ((st.map fun v => v.category).sum) 8 = true) (hd : decode cc pc = .ok (.invokeinterface 20 2, 5)) (hcs : cs ≤ rm.cells ∧ sl ≤ rm.slots) (kk : GGo K Q comp nL I cs sl (pc + 5) ls (.int r0 :: st)) : GGo K Q comp nL I cs sl pc ls (.ref na :: .ref q :: st) := by
  have hX := hΓ.x hK
  refine g_at (fun H locs hI => ?_)
  have kk2 : GGo K Q comp nL (fun H' l' => H' = H ∧ l' = locs) cs sl (pc + 5) ls (.int r0 :: st) := g_I (fun _ _ e => by rw [e.1, e.2]; exact hI) kk
  have hE2 : ∀ H' l', H' = H ∧ l' = locs → gE Γ tx (kS K) H' := fun _ _ e => by rw [e.1]; exact hE H locs hI
  rcases hM H locs hI with ⟨fs, ha, hm⟩ | ⟨fs, ha, hm⟩ | ⟨fs, ha, hm⟩
  · exact x_callF (C := RX9) (maxL := 4) (rmY := rmK k) (v := some (.int r0)) hk hK hE2 (x_rec hK (ci := 8) rfl (fun _ _ e => by rw [e.1]; exact ha)) [.ref na] st (fun _ _ e => by rw [e.1]; exact hm) (hK.1.1 8 _ rfl).2 (hX.2.1 _ face_Compared) (lw_F q930 q945 q947 q146 q949) hs_mAsk (rmFit_i hrm.1 (by show 8 + (4 + 11) + 60 * k ≤ rm.locals; omega)) ⟨rfl, rfl⟩ rfl hs hd rfl rfl hcs kk2
  · exact x_callF (C := RX8) (maxL := 2) (rmY := rmK k) (v := some (.int r0)) hk hK hE2 (x_rec hK (ci := 7) rfl (fun _ _ e => by rw [e.1]; exact ha)) [.ref na] st (fun _ _ e => by rw [e.1]; exact hm) (hK.1.1 7 _ rfl).2 (hX.2.1 _ face_Not) (lw_F q930 q973 q975 q145 q977) hs_mAsk (rmFit_i hrm.1 (by show 8 + (2 + 11) + 60 * k ≤ rm.locals; omega)) ⟨rfl, rfl⟩ rfl hs hd rfl rfl hcs kk2
  · exact x_callF (C := RX10) (maxL := 4) (rmY := rmK k) (v := some (.int r0)) hk hK hE2 (x_rec hK (ci := 9) rfl (fun _ _ e => by rw [e.1]; exact ha)) [.ref na] st (fun _ _ e => by rw [e.1]; exact hm) (hK.1.1 9 _ rfl).2 (hX.2.1 _ face_All) (lw_F q930 q934 q936 q149 q938) hs_mAsk (rmFit_i hrm.1 (by show 8 + (4 + 11) + 60 * k ≤ rm.locals; omega)) ⟨rfl, rfl⟩ rfl hs hd rfl rfl hcs kk2
end FC

theorem hk_i2 {a b : Nat} : a + 4 + 1 ≤ (rmK (a + 1 + 4)).frames ∧ 29 + 60 * (a + 4) ≤ (rmK (a + 1 + 4)).locals := ⟨by show a + 4 + 1 ≤ a + 1 + 4; omega, by show 29 + 60 * (a + 4) ≤ 60 * (a + 1 + 4); omega⟩
section EVAL
variable {Γ : CG} {tx : TXs Tx} {H0 : Heap} {v : Nat → Int32} {na : Nat}
theorem e_plain {q k : Nat} {n : Int32} (h1 : va_at (gD Γ) ccl (q, .inr (6, [.int n])) H0) {r : Int64} (hr : dPlain n v = some r) : RMet Γ tx yX7_of cX7_of 2 (some .long) (rmK k) [.ref q, .ref na] H0 (some (.long r)) := by
  refine r_met (view := fun r : Int64 => some (.long r)) (own := RX7) rfl (by decide) rfl (ls0 := [(0, .ref q), (1, .ref na)]) rfl (fun K hk hK hH hE => ?_) _ hr
  unfold dPlain
  refine g_aload_n (pc := 0) hk dX7_of_0 rfl ?_
  refine x_get (pc := 1) hk hK (ci := 6) rfl in_X7 (rd hH h1) 0 (by decide) q578 (Or.inl rfl) rfl dX7_of_1 ?_
  refine g_i2l (pc := 4) hk dX7_of_4 ?_
  exact p_lret (pc := 5) hk rfl dX7_of_5
theorem e_name {q k : Nat} {n : Int32} (h1 : va_at (gD Γ) ccl (q, .inr (12, [.int n])) H0) (hna : H0[na]? = some (arrV (gC Γ 0) 15 (fun j => .int (v j)))) {r : Int64} (hr : dName n v = some r) : RMet Γ tx yX13_of cX13_of 2 (some .long) (rmK k) [.ref q, .ref na] H0 (some (.long r)) := by
  refine r_met (view := fun r : Int64 => some (.long r)) (own := RX13) rfl (by decide) rfl (ls0 := [(0, .ref q), (1, .ref na)]) rfl (fun K hk hK hH hE => ?_) _ hr
  unfold dName
  refine g_gd (fun hin => ?_)
  refine g_aload_n (pc := 0) hk dX13_of_0 rfl ?_
  refine g_aload_n (pc := 1) hk dX13_of_1 rfl ?_
  refine x_get (pc := 2) hk hK (ci := 12) rfl in_X13 (rd hH h1) 0 (by decide) q774 (Or.inl rfl) rfl dX13_of_2 ?_
  refine x_iald (pc := 5) hk (rd hH hna) ((hK.1.2 0 _ rfl).1) hin dX13_of_5 ?_
  refine g_i2l (pc := 6) hk dX13_of_6 ?_
  exact p_lret (pc := 7) hk rfl dX13_of_7
theorem e_minus (hΓ : DOK Γ) {q d qx : Nat} {x : Den} (h1 : va_at (gD Γ) ccl (q, .inr (13, [.ref qx])) H0) (ih : ∀ a, x v = some a → SMet Γ tx H0 qx na a (d + 4)) {r : Int64} (hr : dMinus x v = some r) : RMet Γ tx yX14_of cX14_of 2 (some .long) (rmK (d + 1 + 4)) [.ref q, .ref na] H0 (some (.long r)) := by
  refine r_met (view := fun r : Int64 => some (.long r)) (own := RX14) rfl (by decide) rfl (ls0 := [(0, .ref q), (1, .ref na)]) rfl (fun K hk hK hH hE => ?_) _ hr
  unfold dMinus
  refine g_ob1 (fun a ha => ?_)
  refine g_aload_n (pc := 0) hk dX14_of_0 rfl ?_
  refine x_get (pc := 1) hk hK (ci := 13) rfl in_X14 (rd hH h1) 0 (by decide) q784 (Or.inl rfl) rfl dX14_of_1 ?_
  refine g_aload_n (pc := 4) hk dX14_of_4 rfl ?_
  refine scall_X14 (pc := 5) hΓ hk hK (rd hH hE) (rd hH (ih a ha)) (hk_i2 (b := 0)) rfl dX14_of_5 ⟨Nat.zero_le _, Nat.zero_le _⟩ ?_
  refine g_lneg (pc := 10) hk dX14_of_10 ?_
  exact p_lret (pc := 11) hk rfl dX14_of_11
theorem e_ite (hΓ : DOK Γ) {q d qq qy qn : Nat} {a : ADen} {y n : Den} (h1 : va_at (gD Γ) ccl (q, .inr (10, [.ref qq, .ref qy, .ref qn])) H0) (iha : ∀ t, a v = some t → AMet Γ tx H0 qq na t (d + 4)) (ihy : ∀ t, y v = some t → SMet Γ tx H0 qy na t (d + 4)) (ihn : ∀ t, n v = some t → SMet Γ tx H0 qn na t (d + 4)) {r : Int64} (hr : dIte a y n v = some r) : RMet Γ tx yX11_of cX11_of 2 (some .long) (rmK (d + 1 + 4)) [.ref q, .ref na] H0 (some (.long r)) := by
  refine r_met (view := fun r : Int64 => some (.long r)) (own := RX11) rfl (by decide) rfl (ls0 := [(0, .ref q), (1, .ref na)]) rfl (fun K hk hK hH hE => ?_) _ hr
  unfold dIte
  refine g_ob1 (fun t ht => ?_)
  refine g_aload_n (pc := 0) hk dX11_of_0 rfl ?_
  refine x_get (pc := 1) hk hK (ci := 10) rfl in_X11 (rd hH h1) 0 (by decide) q731 (Or.inl rfl) rfl dX11_of_1 ?_
  refine g_aload_n (pc := 4) hk dX11_of_4 rfl ?_
  refine acall_X11 (pc := 5) hΓ hk hK (rd hH hE) (rd hH (iha t ht)) (hk_i2 (b := 0)) rfl dX11_of_5 ⟨Nat.zero_le _, Nat.zero_le _⟩ ?_
  refine g_if_eq (pc := 10) (tgt := 26) hk dX11_of_10 rfl ?_ ?_
  · refine g_tl (fun a ha => ?_)
    refine g_aload_n (pc := 26) hk dX11_of_26 rfl ?_
    refine x_get (pc := 27) hk hK (ci := 10) rfl in_X11 (rd hH h1) 2 (by decide) q733 (Or.inl rfl) rfl dX11_of_27 ?_
    refine g_aload_n (pc := 30) hk dX11_of_30 rfl ?_
    refine scall_X11 (pc := 31) hΓ hk hK (rd hH hE) (rd hH (ihn a ha)) (hk_i2 (b := 0)) rfl dX11_of_31 ⟨Nat.zero_le _, Nat.zero_le _⟩ ?_
    exact p_lret (pc := 36) hk rfl dX11_of_36
  · refine g_tl (fun a ha => ?_)
    refine g_aload_n (pc := 13) hk dX11_of_13 rfl ?_
    refine x_get (pc := 14) hk hK (ci := 10) rfl in_X11 (rd hH h1) 1 (by decide) q732 (Or.inl rfl) rfl dX11_of_14 ?_
    refine g_aload_n (pc := 17) hk dX11_of_17 rfl ?_
    refine scall_X11 (pc := 18) hΓ hk hK (rd hH hE) (rd hH (ihy a ha)) (hk_i2 (b := 0)) rfl dX11_of_18 ⟨Nat.zero_le _, Nat.zero_le _⟩ ?_
    refine g_goto (pc := 23) (tgt := 36) hk dX11_of_23 rfl ?_
    exact p_lret (pc := 36) hk rfl dX11_of_36
theorem e_not (hΓ : DOK Γ) {q d qx : Nat} {x : ADen} (h1 : va_at (gD Γ) ccl (q, .inr (7, [.ref qx])) H0) (ih : ∀ a, x v = some a → AMet Γ tx H0 qx na a (d + 4)) {r : Int32} (hr : aNot x v = some r) : RMet Γ tx yX8_is cX8_is 2 (some .boolean) (rmK (d + 1 + 4)) [.ref q, .ref na] H0 (some (.int r)) := by
  refine r_met (view := fun r : Int32 => some (.int r)) (own := RX8) rfl (by decide) rfl (ls0 := [(0, .ref q), (1, .ref na)]) rfl (fun K hk hK hH hE => ?_) _ hr
  unfold aNot
  refine g_ob1 (fun a ha => ?_)
  refine g_aload_n (pc := 0) hk dX8_is_0 rfl ?_
  refine x_get (pc := 1) hk hK (ci := 7) rfl in_X8 (rd hH h1) 0 (by decide) q610 (Or.inl rfl) rfl dX8_is_1 ?_
  refine g_aload_n (pc := 4) hk dX8_is_4 rfl ?_
  refine acall_X8 (pc := 5) hΓ hk hK (rd hH hE) (rd hH (ih a ha)) (hk_i2 (b := 0)) rfl dX8_is_5 ⟨Nat.zero_le _, Nat.zero_le _⟩ ?_
  refine g_if_ne (pc := 10) (tgt := 17) hk dX8_is_10 rfl ?_ ?_
  · refine g_iconst (pc := 17) (v := 0) hk dX8_is_17 rfl ?_
    exact p_zret (pc := 18) hk rfl rfl dX8_is_18
  · refine g_iconst (pc := 13) (v := 1) hk dX8_is_13 rfl ?_
    refine g_goto (pc := 14) (tgt := 18) hk dX8_is_14 rfl ?_
    exact p_zret (pc := 18) hk rfl rfl dX8_is_18
theorem e_cmp (hΓ : DOK Γ) {q d qa qb : Nat} {s : Int32} {a b : Den} (h1 : va_at (gD Γ) ccl (q, .inr (8, [.int s, .ref qa, .ref qb])) H0) (iha : ∀ t, a v = some t → SMet Γ tx H0 qa na t (d + 4)) (ihb : ∀ t, b v = some t → SMet Γ tx H0 qb na t (d + 4)) {r : Int32} (hr : aCmp s a b v = some r) : RMet Γ tx yX9_is cX9_is 4 (some .boolean) (rmK (d + 1 + 4)) [.ref q, .ref na] H0 (some (.int r)) := by
  refine r_met (view := fun r : Int32 => some (.int r)) (own := RX9) rfl (by decide) rfl (ls0 := [(0, .ref q), (1, .ref na)]) rfl (fun K hk hK hH hE => ?_) _ hr
  unfold aCmp
  refine g_ob1 (fun x hx => g_ob1 (fun y hy => ?_))
  refine g_aload_n (pc := 0) hk dX9_is_0 rfl ?_
  refine x_get (pc := 1) hk hK (ci := 8) rfl in_X9 (rd hH h1) 1 (by decide) q621 (Or.inl rfl) rfl dX9_is_1 ?_
  refine g_aload_n (pc := 4) hk dX9_is_4 rfl ?_
  refine scall_X9 (pc := 5) hΓ hk hK (rd hH hE) (rd hH (iha x hx)) (hk_i2 (b := 0)) rfl dX9_is_5 ⟨Nat.zero_le _, Nat.zero_le _⟩ ?_
  refine g_aload_n (pc := 10) hk dX9_is_10 rfl ?_
  refine x_get (pc := 11) hk hK (ci := 8) rfl in_X9 (rd hH h1) 2 (by decide) q622 (Or.inl rfl) rfl dX9_is_11 ?_
  refine g_aload_n (pc := 14) hk dX9_is_14 rfl ?_
  refine scall_X9 (pc := 15) hΓ hk hK (rd hH hE) (rd hH (ihb y hy)) (hk_i2 (b := 0)) rfl dX9_is_15 ⟨Nat.zero_le _, Nat.zero_le _⟩ ?_
  refine g_lsub (pc := 20) hk dX9_is_20 ?_
  refine g_lstore_n (pc := 21) (i := 2) hk dX9_is_21 rfl (by decide) rfl ?_
  refine g_aload_n (pc := 22) hk dX9_is_22 rfl ?_
  refine x_get (pc := 23) hk hK (ci := 8) rfl in_X9 (rd hH h1) 0 (by decide) q620 (Or.inl rfl) rfl dX9_is_23 ?_
  unfold cmpV
  refine g_if (fun h => ?_) (fun n1 => ?_)
  · refine g_look (pc := 26) (off := 86) (tgt := 112) hk dX9_is_26 (by decide) (by rw [h]; first | done | rfl) rfl ?_
    refine g_lload_n (pc := 112) hk dX9_is_112 rfl ?_
    refine g_lconst (pc := 113) (v := 0) hk dX9_is_113 rfl ?_
    refine g_lcmp_eq (pc := 114) (tgt := 122) hk dX9_is_114 dX9_is_115 rfl ?_ ?_
    · refine g_iconst (pc := 122) (v := 0) hk dX9_is_122 rfl ?_
      exact p_zret (pc := 123) hk rfl rfl dX9_is_123
    · refine g_iconst (pc := 118) (v := 1) hk dX9_is_118 rfl ?_
      refine g_goto (pc := 119) (tgt := 123) hk dX9_is_119 rfl ?_
      exact p_zret (pc := 123) hk rfl rfl dX9_is_123
  refine g_if (fun h => ?_) (fun n2 => ?_)
  · refine g_look (pc := 26) (off := 50) (tgt := 76) hk dX9_is_26 (by decide) (by rw [h]; first | done | rfl) rfl ?_
    refine g_lload_n (pc := 76) hk dX9_is_76 rfl ?_
    refine g_lconst (pc := 77) (v := 0) hk dX9_is_77 rfl ?_
    refine g_lcmp_ge (pc := 78) (tgt := 86) hk dX9_is_78 dX9_is_79 rfl ?_ ?_
    · refine g_iconst (pc := 86) (v := 0) hk dX9_is_86 rfl ?_
      exact p_zret (pc := 87) hk rfl rfl dX9_is_87
    · refine g_iconst (pc := 82) (v := 1) hk dX9_is_82 rfl ?_
      refine g_goto (pc := 83) (tgt := 87) hk dX9_is_83 rfl ?_
      exact p_zret (pc := 87) hk rfl rfl dX9_is_87
  refine g_if (fun h => ?_) (fun n3 => ?_)
  · refine g_look (pc := 26) (off := 74) (tgt := 100) hk dX9_is_26 (by decide) (by rw [h]; first | done | rfl) rfl ?_
    refine g_lload_n (pc := 100) hk dX9_is_100 rfl ?_
    refine g_lconst (pc := 101) (v := 0) hk dX9_is_101 rfl ?_
    refine g_lcmp_ne (pc := 102) (tgt := 110) hk dX9_is_102 dX9_is_103 rfl ?_ ?_
    · refine g_iconst (pc := 110) (v := 0) hk dX9_is_110 rfl ?_
      exact p_zret (pc := 111) hk rfl rfl dX9_is_111
    · refine g_iconst (pc := 106) (v := 1) hk dX9_is_106 rfl ?_
      refine g_goto (pc := 107) (tgt := 111) hk dX9_is_107 rfl ?_
      exact p_zret (pc := 111) hk rfl rfl dX9_is_111
  refine g_if (fun h => ?_) (fun n4 => ?_)
  · refine g_look (pc := 26) (off := 62) (tgt := 88) hk dX9_is_26 (by decide) (by rw [h]; first | done | rfl) rfl ?_
    refine g_lload_n (pc := 88) hk dX9_is_88 rfl ?_
    refine g_lconst (pc := 89) (v := 0) hk dX9_is_89 rfl ?_
    refine g_lcmp_le (pc := 90) (tgt := 98) hk dX9_is_90 dX9_is_91 rfl ?_ ?_
    · refine g_iconst (pc := 98) (v := 0) hk dX9_is_98 rfl ?_
      exact p_zret (pc := 99) hk rfl rfl dX9_is_99
    · refine g_iconst (pc := 94) (v := 1) hk dX9_is_94 rfl ?_
      refine g_goto (pc := 95) (tgt := 99) hk dX9_is_95 rfl ?_
      exact p_zret (pc := 99) hk rfl rfl dX9_is_99
  refine g_if (fun h => ?_) (fun n5 => ?_)
  · refine g_look (pc := 26) (off := 98) (tgt := 124) hk dX9_is_26 (by decide) (by rw [h]; first | done | rfl) rfl ?_
    refine g_lload_n (pc := 124) hk dX9_is_124 rfl ?_
    refine g_lconst (pc := 125) (v := 0) hk dX9_is_125 rfl ?_
    refine g_lcmp_gt (pc := 126) (tgt := 134) hk dX9_is_126 dX9_is_127 rfl ?_ ?_
    · refine g_iconst (pc := 134) (v := 0) hk dX9_is_134 rfl ?_
      exact p_zret (pc := 135) hk rfl rfl dX9_is_135
    · refine g_iconst (pc := 130) (v := 1) hk dX9_is_130 rfl ?_
      refine g_goto (pc := 131) (tgt := 135) hk dX9_is_131 rfl ?_
      exact p_zret (pc := 135) hk rfl rfl dX9_is_135
  · refine g_look (pc := 26) (off := 110) (tgt := 136) hk dX9_is_26 (by decide) (by have z1 := ne_toInt n1 (z := 35) rfl; have z2 := ne_toInt n2 (z := 60) rfl; have z3 := ne_toInt n3 (z := 61) rfl; have z4 := ne_toInt n4 (z := 62) rfl; have z5 := ne_toInt n5 (z := 303) rfl; simp [Op.lookupswitch.offset, Ne.symm z1, Ne.symm z2, Ne.symm z3, Ne.symm z4, Ne.symm z5]; done) rfl ?_
    refine g_lload_n (pc := 136) hk dX9_is_136 rfl ?_
    refine g_lconst (pc := 137) (v := 0) hk dX9_is_137 rfl ?_
    refine g_lcmp_lt (pc := 138) (tgt := 146) hk dX9_is_138 dX9_is_139 rfl ?_ ?_
    · refine g_iconst (pc := 146) (v := 0) hk dX9_is_146 rfl ?_
      exact p_zret (pc := 147) hk rfl rfl dX9_is_147
    · refine g_iconst (pc := 142) (v := 1) hk dX9_is_142 rfl ?_
      refine g_goto (pc := 143) (tgt := 147) hk dX9_is_143 rfl ?_
      exact p_zret (pc := 147) hk rfl rfl dX9_is_147

end EVAL
def lsub (ls : List (Nat × Value)) : List (Nat × Value) → Prop
  | [] => True
  | q :: t => lget ls q.1 = some q.2 ∧ lsub ls t
theorem lsub_mem {ls : List (Nat × Value)} : ∀ {l : List (Nat × Value)}, lsub ls l → ∀ q ∈ l, q ∈ ls := by
  intro l
  induction l with
  | nil => intro _ q hq; cases hq
  | cons a t ih =>
    intro h q hq
    rcases List.mem_cons.mp hq with e | e
    · rw [e]; exact lget_mem h.1
    · exact ih h.2 q e
section G6
variable {ρ : Type} {K : KT} {Q : ρ → State → Prop} {comp A B : Option ρ} {nL : Nat} {I : Heap → List Loc → Prop} {cs sl pc : Nat} {ls : List (Nat × Value)} {st : List Value} {cc : ByteArray} {rm : Room} {ret : Option FieldType} {Γ : CG} {own : String}
theorem g_ls {ls' : List (Nat × Value)} (hl : lsub ls ls') (k : GGo K Q comp nL I cs sl pc ls' st) : GGo K Q comp nL I cs sl pc ls st := fun r hr H locs lsA hI hh => k r hr H locs lsA hI ⟨hh.1, hh.2.1, fun q hq => hh.2.2 q (lsub_mem hl q hq)⟩
theorem g_yes {c : Prop} [Decidable c] (h : c) (k : GGo K Q (if c then comp else none) nL I cs sl pc ls st) : GGo K Q comp nL I cs sl pc ls st := by rw [if_pos h] at k; exact k
theorem g_no {c : Prop} [Decidable c] (h : ¬ c) (k : GGo K Q (if c then none else comp) nL I cs sl pc ls st) : GGo K Q comp nL I cs sl pc ls st := by rw [if_neg h] at k; exact k
theorem g_callPN (hk : KOK K cc nL own rm ret) (hK : CK Γ (kS K)) {y : MethodName} {bytes : ByteArray} {maxL n idx : Nat} {retY : Option FieldType} {rmY : Room} {v : Option Value} {stk st2 : List Value} (As : List Value) (st : List Value) (hM : PMet y bytes maxL retY rmY As v) {host : String} (hN : Cond.methodLinkNest own idx y host ∈ cnw) (hst0 : Cond.static y ∈ lw_all) (hini : Cond.initialized y.cls ∈ lw_all) (hG : Cond.code y bytes maxL retY ∈ lw_all) (hy : y.cls ≠ "java/lang/invoke/MethodHandle" ∧ y.cls ≠ "java/lang/invoke/VarHandle" ∧ (parseMethodDescriptor y.desc).map (fun d => d.parameters.length) = some n) (hrm : rmFit maxL rmY rm = true) (hc0 : rmY.cells = 0 ∧ rmY.slots = 0) (hn : As.length = n) (hs : Nat.ble ((st.map fun v => v.category).sum) 8 = true) (hd : decode cc pc = .ok (.invokestatic idx, 3)) (hstk : stk = As.reverse ++ st) (hst2 : v.toList ++ st = st2) (hcs : cs ≤ rm.cells ∧ sl ≤ rm.slots) (kk : GGo K Q comp nL I cs sl (pc + 3) ls st2) : GGo K Q comp nL I cs sl pc ls stk := by
  subst hst2
  intro r hr H locs lsA hI hh T hT X
  obtain ⟨v', st₀, t, T', L, h0, X', hL, e1, e2, ⟨hv, hz⟩, stp⟩ := va_runSN (g := F0 (kM K) pc lsA stk) (As := As) (rest := st) (cc := cc) (nL := nL) (own := own) (Ts := lw_all) ⟨hk.1, hk.2.1, hk.2.2.1, hk.2.2.2.1, hk.2.2.2.2.1⟩ (hM K.2.1) (⟨va_cnB (host := host) n hk.2.2.2.2.1 (lw_meth hG) rfl hc0.1 hc0.2 (hK.2.1 _ hN) (hk.2.2.2.2.1 _ hini) hy (rmFit_ok hrm hk.2.2.2.2.2.2.2), hk.2.2.2.2.1 _ hst0, trivial⟩) ⟨fun a U g mk q => q, fun U hU hW => ⟨rfl, trivial⟩⟩ rfl hn hh.1 hstk (lv_room (Nat.le_of_ble_eq_true hs)) hd ⟨(by show cs + 0 ≤ (kR K).cells; rw [hk.2.2.2.2.2.2.2]; exact hcs.1), (by show sl + 0 ≤ (kR K).slots; rw [hk.2.2.2.2.2.2.2]; exact hcs.2)⟩ T hT X
  cases hv
  have hL0 : L = [] := by
    cases L with
    | nil => rfl
    | cons a t => exact absurd (hL a List.mem_cons_self) id
  subst hL0
  rw [List.append_nil] at X'
  have e3 : T'.heap = H := by rw [e1, hz, h0]
  obtain ⟨t2, a1, b1⟩ := kk r hr H locs lsA hI hh T' e3 X'
  exact ⟨t2, stp t2 a1, b1⟩
/-- an Integer's value, a small box -/
theorem x_box (hk : KOK K cc nL RJ15 rm ret) {idx k : Nat} (hB : ∀ H locs, I H locs → BXs Γ (kS K) H) (hkk : k < 256) (hl : Cond.fieldLink RJ15 idx RJ15 "value" "I" ∈ lw_all) (hd : decode cc pc = .ok (.getfield idx, 3)) (kk : GGo K Q comp nL I cs sl (pc + 3) ls (.int (vb_c k) :: st)) : GGo K Q comp nL I cs sl pc ls (.ref (gA Γ (1000 + k)) :: st) := by
  intro r hr H locs lsA hI hh
  obtain ⟨cf, kc, fi, f, cell, h1, h2, h3, h4, h5, h6⟩ := (hB H locs hI).2 k hkk
  exact W.getf hk.1 hk.2.1 hk.2.2.2.1 (hk.2.2.2.2.1 _ hl) h1 h2 h3 h4 (v := .int (vb_c k)) h5 rfl rfl hd (kk r hr H locs lsA hI hh)
theorem x_castI (hk : KOK K cc nL own rm ret) {idx k : Nat} (hB : ∀ H locs, I H locs → BXs Γ (kS K) H) (hkk : k < 256) (hl : Cond.classLink own idx "java/lang/Integer" ∈ lw_all) (hd : decode cc pc = .ok (.checkcast idx, 3)) (kk : GGo K Q comp nL I cs sl (pc + 3) ls (.ref (gA Γ (1000 + k)) :: st)) : GGo K Q comp nL I cs sl pc ls (.ref (gA Γ (1000 + k)) :: st) := by
  intro r hr H locs lsA hI hh
  obtain ⟨cell, h1, h2, h3, -⟩ := (hB H locs hI).1 k hkk
  exact va_castE hk.1 hk.2.1 hk.2.2.2.1 (hk.2.2.2.2.1 _ hl) ⟨cell, h1, h2, h3⟩ hd (kk r hr H locs lsA hI hh)
theorem x_castS (hΓ : DOK Γ) (hk : KOK K cc nL own rm ret) (hK : CK Γ (kS K)) {tx : TXs Tx} {idx q na k : Nat} {r0 : Int64} (hM : ∀ H locs, I H locs → SMet Γ tx H q na r0 k) (hl : Cond.classLink own idx "ShaveOfAnother$Sum" ∈ lw_all) (hd : decode cc pc = .ok (.checkcast idx, 3)) (kk : GGo K Q comp nL I cs sl (pc + 3) ls (.ref q :: st)) : GGo K Q comp nL I cs sl pc ls (.ref q :: st) := by
  have hX := hΓ.x hK
  refine g_at (fun H locs hI => ?_)
  have kk2 : GGo K Q comp nL (fun H' l' => H' = H ∧ l' = locs) cs sl (pc + 3) ls (.ref q :: st) := g_I (fun _ _ e => by rw [e.1, e.2]; exact hI) kk
  rcases hM H locs hI with ⟨fs, ha, hm⟩ | ⟨fs, ha, hm⟩ | ⟨fs, ha, hm⟩ | ⟨fs, ha, hm⟩ | ⟨fs, ha, hm⟩ | ⟨fs, ha, hm⟩
  · exact x_checkcast hk hX (C := RX7) hl cx_966 (x_rec hK (ci := 6) rfl (fun _ _ e => by rw [e.1]; exact ha)) hd kk2
  · exact x_checkcast hk hX (C := RX13) hl cx_960 (x_rec hK (ci := 12) rfl (fun _ _ e => by rw [e.1]; exact ha)) hd kk2
  · exact x_checkcast hk hX (C := RX14) hl cx_952 (x_rec hK (ci := 13) rfl (fun _ _ e => by rw [e.1]; exact ha)) hd kk2
  · exact x_checkcast hk hX (C := RX6) hl cx_915 (x_rec hK (ci := 5) rfl (fun _ _ e => by rw [e.1]; exact ha)) hd kk2
  · exact x_checkcast hk hX (C := RX12) hl cx_907 (x_rec hK (ci := 11) rfl (fun _ _ e => by rw [e.1]; exact ha)) hd kk2
  · exact x_checkcast hk hX (C := RX11) hl cx_923 (x_rec hK (ci := 10) rfl (fun _ _ e => by rw [e.1]; exact ha)) hd kk2
theorem x_castA (hΓ : DOK Γ) (hk : KOK K cc nL own rm ret) (hK : CK Γ (kS K)) {tx : TXs Tx} {idx q na k : Nat} {r0 : Int32} (hM : ∀ H locs, I H locs → AMet Γ tx H q na r0 k) (hl : Cond.classLink own idx "ShaveOfAnother$Asked" ∈ lw_all) (hd : decode cc pc = .ok (.checkcast idx, 3)) (kk : GGo K Q comp nL I cs sl (pc + 3) ls (.ref q :: st)) : GGo K Q comp nL I cs sl pc ls (.ref q :: st) := by
  have hX := hΓ.x hK
  refine g_at (fun H locs hI => ?_)
  have kk2 : GGo K Q comp nL (fun H' l' => H' = H ∧ l' = locs) cs sl (pc + 3) ls (.ref q :: st) := g_I (fun _ _ e => by rw [e.1, e.2]; exact hI) kk
  rcases hM H locs hI with ⟨fs, ha, hm⟩ | ⟨fs, ha, hm⟩ | ⟨fs, ha, hm⟩
  · exact x_checkcast hk hX (C := RX9) hl cx_944 (x_rec hK (ci := 8) rfl (fun _ _ e => by rw [e.1]; exact ha)) hd kk2
  · exact x_checkcast hk hX (C := RX8) hl cx_972 (x_rec hK (ci := 7) rfl (fun _ _ e => by rw [e.1]; exact ha)) hd kk2
  · exact x_checkcast hk hX (C := RX10) hl cx_933 (x_rec hK (ci := 9) rfl (fun _ _ e => by rw [e.1]; exact ha)) hd kk2
end G6
section EVAL2
variable {Γ : CG} {tx : TXs Tx} {H0 : Heap} {v : Nat → Int32} {na : Nat}
theorem hv_intValue : yJ15_intValue.cls = RJ15 ∧ yJ15_intValue.cls ≠ "java/lang/invoke/MethodHandle" ∧ yJ15_intValue.cls ≠ "java/lang/invoke/VarHandle" ∧ (parseMethodDescriptor yJ15_intValue.desc).map (fun d => d.parameters.length) = some 0 := by decide +kernel
theorem hv_jsize : yJ3_size.cls = RJ3 ∧ yJ3_size.cls ≠ "java/lang/invoke/MethodHandle" ∧ yJ3_size.cls ≠ "java/lang/invoke/VarHandle" ∧ (parseMethodDescriptor yJ3_size.desc).map (fun d => d.parameters.length) = some 0 := by decide +kernel
theorem hv_jget : yJ3_get.cls = RJ3 ∧ yJ3_get.cls ≠ "java/lang/invoke/MethodHandle" ∧ yJ3_get.cls ≠ "java/lang/invoke/VarHandle" ∧ (parseMethodDescriptor yJ3_get.desc).map (fun d => d.parameters.length) = some 1 := by decide +kernel
theorem hs_powered : yX0_powered.cls ≠ "java/lang/invoke/MethodHandle" ∧ yX0_powered.cls ≠ "java/lang/invoke/VarHandle" ∧ (parseMethodDescriptor yX0_powered.desc).map (fun d => d.parameters.length) = some 2 := by decide +kernel
theorem hs_shortOf : yX0_shortOf.cls ≠ "java/lang/invoke/MethodHandle" ∧ yX0_shortOf.cls ≠ "java/lang/invoke/VarHandle" ∧ (parseMethodDescriptor yX0_shortOf.desc).map (fun d => d.parameters.length) = some 1 := by decide +kernel
theorem e_intValue (hΓ : DOK Γ) {k : Nat} (hkk : k < 256) : RMet Γ tx yJ15_intValue cJ15_intValue 1 (some .int) (rmK 1) [.ref (gA Γ (1000 + k))] H0 (some (.int (vb_c k))) := by
  refine r_met (view := fun r : Int32 => some (.int r)) (comp := some (vb_c k)) (own := RJ15) rfl (by decide) rfl (ls0 := [(0, .ref (gA Γ (1000 + k)))]) rfl (fun K hk hK hH hE => ?_) _ rfl
  refine g_aload_n (pc := 0) hk dJ15_intValue_0 rfl ?_
  refine x_box (pc := 1) hk (rd hH (P := fun H => BXs Γ (kS K) H) (hΓ.2 _ _ _ hE)) hkk q824 dJ15_intValue_1 ?_
  exact p_iret (pc := 4) hk rfl dJ15_intValue_4
theorem e_af_l {d : Nat} {K : KT} (hk : KOK K cX12_of 9 RX12 (rmK (d + 1 + 4)) (some .long)) (hK : CK Γ (kS K)) (hH : (kS K).heap = H0) (hna : H0[na]? = some (arrV (gC Γ 0) 15 (fun j => .int (v j)))) : ∀ (n : Nat) (left : Int64) (at0 : Int32), GGo K (pQ K (fun r : Int64 => some (.long r))) (afL v n left at0) 9 (pI K) 0 0 50 [(1, .ref na), (6, .int at0), (7, .long left)] [] := by
  intro n
  induction n with
  | zero => intro left at0; exact g_none
  | succ n ih =>
    intro left at0
    unfold afL
    refine g_lload (pc := 50) hk dX12_of_50 rfl ?_
    refine g_lconst (pc := 52) (v := 0) hk dX12_of_52 rfl ?_
    refine g_lcmp_le (pc := 53) (tgt := 75) hk dX12_of_53 dX12_of_54 rfl ?_ ?_
    · refine g_iload (pc := 75) hk dX12_of_75 rfl ?_
      refine g_i2l (pc := 77) hk dX12_of_77 ?_
      exact p_lret (pc := 78) hk rfl dX12_of_78
    · refine g_gd (fun hin => ?_)
      refine g_aload_n (pc := 57) hk dX12_of_57 rfl ?_
      refine g_bipush (pc := 58) (v := 7) hk dX12_of_58 rfl ?_
      refine g_iload (pc := 60) hk dX12_of_60 rfl ?_
      refine g_iadd (pc := 62) hk dX12_of_62 ?_
      refine x_iald (pc := 63) hk (rd hH hna) ((hK.1.2 0 _ rfl).1) hin dX12_of_63 ?_
      refine g_istore (pc := 64) (i := 6) hk dX12_of_64 (by decide) rfl ?_
      refine g_lload (pc := 66) hk dX12_of_66 rfl ?_
      refine g_lconst (pc := 68) (v := 1) hk dX12_of_68 rfl ?_
      refine g_lsub (pc := 69) hk dX12_of_69 ?_
      refine g_lstore (pc := 70) (i := 7) hk dX12_of_70 (by decide) rfl ?_
      refine g_goto (pc := 72) (tgt := 50) hk dX12_of_72 rfl ?_
      exact g_ls (ls' := [(1, .ref na), (6, .int (v (7 + at0).toNatClampNeg)), (7, .long (left - 1))]) ⟨rfl, rfl, rfl, trivial⟩ (ih _ _)
theorem e_after (hΓ : DOK Γ) {q d qc qb : Nat} {c b : Den} (h1 : va_at (gD Γ) ccl (q, .inr (11, [.ref qc, .ref qb])) H0) (hna : H0[na]? = some (arrV (gC Γ 0) 15 (fun j => .int (v j)))) (ihc : ∀ t, c v = some t → SMet Γ tx H0 qc na t (d + 4)) (ihb : ∀ t, b v = some t → SMet Γ tx H0 qb na t (d + 4)) {r : Int64} (hr : dAfter c b v = some r) : RMet Γ tx yX12_of cX12_of 9 (some .long) (rmK (d + 1 + 4)) [.ref q, .ref na] H0 (some (.long r)) := by
  refine r_met (view := fun r : Int64 => some (.long r)) (own := RX12) rfl (by decide) rfl (ls0 := [(0, .ref q), (1, .ref na)]) rfl (fun K hk hK hH hE => ?_) _ hr
  unfold dAfter
  refine g_ob1 (fun x hx => g_ob1 (fun y hy => ?_))
  refine g_aload_n (pc := 0) hk dX12_of_0 rfl ?_
  refine x_get (pc := 1) hk hK (ci := 11) rfl in_X12 (rd hH h1) 0 (by decide) q751 (Or.inl rfl) rfl dX12_of_1 ?_
  refine g_aload_n (pc := 4) hk dX12_of_4 rfl ?_
  refine scall_X12 (pc := 5) hΓ hk hK (rd hH hE) (rd hH (ihc x hx)) (hk_i2 (b := 0)) rfl dX12_of_5 ⟨Nat.zero_le _, Nat.zero_le _⟩ ?_
  refine g_lstore_n (pc := 10) (i := 2) hk dX12_of_10 rfl (by decide) rfl ?_
  refine g_aload_n (pc := 11) hk dX12_of_11 rfl ?_
  refine x_get (pc := 12) hk hK (ci := 11) rfl in_X12 (rd hH h1) 1 (by decide) q752 (Or.inl rfl) rfl dX12_of_12 ?_
  refine g_aload_n (pc := 15) hk dX12_of_15 rfl ?_
  refine scall_X12 (pc := 16) hΓ hk hK (rd hH hE) (rd hH (ihb y hy)) (hk_i2 (b := 0)) rfl dX12_of_16 ⟨Nat.zero_le _, Nat.zero_le _⟩ ?_
  refine g_lstore (pc := 21) (i := 4) hk dX12_of_21 (by decide) rfl ?_
  unfold evAf
  refine g_lload_n (pc := 23) hk dX12_of_23 rfl ?_
  refine g_lconst (pc := 24) (v := 0) hk dX12_of_24 rfl ?_
  refine g_lcmp_lt (pc := 25) (tgt := 37) hk dX12_of_25 dX12_of_26 rfl ?_ ?_
  · refine g_lconst (pc := 37) (v := 0) hk dX12_of_37 rfl ?_
    exact p_lret (pc := 38) hk rfl dX12_of_38
  refine g_lload_n (pc := 29) hk dX12_of_29 rfl ?_
  refine g_ldc2 (pc := 30) (v := 8) hk q1007 dX12_of_30 ?_
  refine g_lcmp_lt (pc := 33) (tgt := 39) hk dX12_of_33 dX12_of_34 rfl ?_ ?_
  · refine g_ob1 (fun t ht => ?_)
    refine g_lload_n (pc := 39) hk dX12_of_39 rfl ?_
    refine g_l2i (pc := 40) hk dX12_of_40 ?_
    refine g_istore (pc := 41) (i := 6) hk dX12_of_41 (by decide) rfl ?_
    refine g_lload (pc := 43) hk dX12_of_43 rfl ?_
    refine g_callPN (pc := 45) hk hK [.long y] [] (cm_shortOf y t ht) cn_1008 q1009 q124 q1010 hs_shortOf (rmFit_i (by show 1 + 1 ≤ d + 1 + 4; omega) (by show 8 + (2 + 11) + 40 ≤ 60 * (d + 1 + 4); omega)) ⟨rfl, rfl⟩ rfl rfl dX12_of_45 rfl rfl ⟨Nat.zero_le _, Nat.zero_le _⟩ ?_
    refine g_lstore (pc := 48) (i := 7) hk dX12_of_48 (by decide) rfl ?_
    exact g_ls (ls' := [(1, .ref na), (6, .int x.toInt32), (7, .long t)]) ⟨rfl, rfl, rfl, trivial⟩ (e_af_l hk hK hH hna _ _ _)
  · refine g_lconst (pc := 37) (v := 0) hk dX12_of_37 rfl ?_
    exact p_lret (pc := 38) hk rfl dX12_of_38
end EVAL2
