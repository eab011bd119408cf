/-! DOINGS: does, played -/
set_option maxRecDepth 100000
abbrev Dg : Type := Int32 × Int32 × Int32 × Int32
def dgV (t : Dg) : List Value := [.int t.1, .int t.2.1, .int t.2.2.1, .int t.2.2.2]
theorem hv_x15_sort : yX15_sort.cls = RX15 ∧ yX15_sort.cls ≠ "java/lang/invoke/MethodHandle" ∧ yX15_sort.cls ≠ "java/lang/invoke/VarHandle" ∧ (parseMethodDescriptor yX15_sort.desc).map (fun d => d.parameters.length) = some 0 := by decide +kernel
theorem hv_x15_a : yX15_a.cls = RX15 ∧ yX15_a.cls ≠ "java/lang/invoke/MethodHandle" ∧ yX15_a.cls ≠ "java/lang/invoke/VarHandle" ∧ (parseMethodDescriptor yX15_a.desc).map (fun d => d.parameters.length) = some 0 := by decide +kernel
theorem hv_x15_b : yX15_b.cls = RX15 ∧ yX15_b.cls ≠ "java/lang/invoke/MethodHandle" ∧ yX15_b.cls ≠ "java/lang/invoke/VarHandle" ∧ (parseMethodDescriptor yX15_b.desc).map (fun d => d.parameters.length) = some 0 := by decide +kernel
theorem hv_x15_number : yX15_number.cls = RX15 ∧ yX15_number.cls ≠ "java/lang/invoke/MethodHandle" ∧ yX15_number.cls ≠ "java/lang/invoke/VarHandle" ∧ (parseMethodDescriptor yX15_number.desc).map (fun d => d.parameters.length) = some 0 := by decide +kernel
section DACC
variable {Γ : CG} {tx : TXs Tx} {H0 : Heap} {q : Nat} {t : Dg}
theorem e_sort (h1 : va_at (gD Γ) ccl (q, .inr (14, dgV t)) H0) : RMet Γ tx yX15_sort cX15_sort 1 (some .int) (rmK 1) [.ref q] H0 (some (.int t.1)) := by
  refine r_met (view := fun r : Int32 => some (.int r)) (comp := some t.1) (own := RX15) rfl (by decide) rfl (ls0 := [(0, .ref q)]) rfl (fun K hk hK hH hE => ?_) _ rfl
  refine g_aload_n (pc := 0) hk dX15_sort_0 rfl ?_
  refine x_get (pc := 1) hk hK (ci := 14) rfl in_X15 (rd hH h1) 0 (by decide) q851 (Or.inl rfl) rfl dX15_sort_1 ?_
  exact p_iret (pc := 4) hk rfl dX15_sort_4
theorem e_a (h1 : va_at (gD Γ) ccl (q, .inr (14, dgV t)) H0) : RMet Γ tx yX15_a cX15_a 1 (some .int) (rmK 1) [.ref q] H0 (some (.int t.2.1)) := by
  refine r_met (view := fun r : Int32 => some (.int r)) (comp := some t.2.1) (own := RX15) rfl (by decide) rfl (ls0 := [(0, .ref q)]) rfl (fun K hk hK hH hE => ?_) _ rfl
  refine g_aload_n (pc := 0) hk dX15_a_0 rfl ?_
  refine x_get (pc := 1) hk hK (ci := 14) rfl in_X15 (rd hH h1) 1 (by decide) q852 (Or.inl rfl) rfl dX15_a_1 ?_
  exact p_iret (pc := 4) hk rfl dX15_a_4
theorem e_b (h1 : va_at (gD Γ) ccl (q, .inr (14, dgV t)) H0) : RMet Γ tx yX15_b cX15_b 1 (some .int) (rmK 1) [.ref q] H0 (some (.int t.2.2.1)) := by
  refine r_met (view := fun r : Int32 => some (.int r)) (comp := some t.2.2.1) (own := RX15) rfl (by decide) rfl (ls0 := [(0, .ref q)]) rfl (fun K hk hK hH hE => ?_) _ rfl
  refine g_aload_n (pc := 0) hk dX15_b_0 rfl ?_
  refine x_get (pc := 1) hk hK (ci := 14) rfl in_X15 (rd hH h1) 2 (by decide) q853 (Or.inl rfl) rfl dX15_b_1 ?_
  exact p_iret (pc := 4) hk rfl dX15_b_4
theorem e_number (h1 : va_at (gD Γ) ccl (q, .inr (14, dgV t)) H0) : RMet Γ tx yX15_number cX15_number 1 (some .int) (rmK 1) [.ref q] H0 (some (.int t.2.2.2)) := by
  refine r_met (view := fun r : Int32 => some (.int r)) (comp := some t.2.2.2) (own := RX15) rfl (by decide) rfl (ls0 := [(0, .ref q)]) rfl (fun K hk hK hH hE => ?_) _ rfl
  refine g_aload_n (pc := 0) hk dX15_number_0 rfl ?_
  refine x_get (pc := 1) hk hK (ci := 14) rfl in_X15 (rd hH h1) 3 (by decide) q854 (Or.inl rfl) rfl dX15_number_1 ?_
  exact p_iret (pc := 4) hk rfl dX15_number_4
end DACC
def DI (Γ : CG) (s : State) (σ : CS) (yd : Nat) (t : Dg) : Heap → List Loc → Prop := fun H locs => CI Γ s σ H locs ∧ va_at (gD Γ) ccl (yd, .inr (14, dgV t)) H
def dPc (Γ : CG) (av : List Value) (σ : CS) (yd : Nat) (t : Dg) (sz : Nat) : Array Value → State → Prop := va_Pc av (fun U => (U.heap.size = sz ∧ CW Γ σ U.heap ∧ gE Γ σ.2.2 U U.heap) ∧ va_at (gD Γ) ccl (yd, .inr (14, dgV t)) U.heap ∧ CK Γ U)
def DMet (Γ : CG) (y : MethodName) (bytes : ByteArray) (maxL : Nat) (ret : Option FieldType) (rm : Room) (av : List Value) (σ : CS) (yd : Nat) (t : Dg) (v : Option Value) (σ' : CS) : Prop :=
  ∀ (l : Launch) (sz : Nat), Met l y (ws_ y bytes maxL ret) rm (dPc Γ av σ yd t sz) (cQc Γ v σ') rm.cells rm.slots (cAc Γ sz)
theorem dPc_blind {Γ : CG} {σ : CS} {yd : Nat} {t : Dg} (av : List Value) (sz : Nat) : FrameBlind (dPc Γ av σ yd t sz) := fun a U g mk q => by
  obtain ⟨q0, ⟨q1, qW, qE⟩, qd, qK⟩ := q
  have hW : U.WarmedH (U.calling g mk a).vm := State.WarmedH.refl U
  exact ⟨q0, ⟨q1, qW, qK.2.2.2.2.2.1 _ _ _ _ hW.alike qE⟩, qd, qK.warm hW⟩
theorem d_met {ρ : Type} {Γ : CG} {y : MethodName} {bytes : ByteArray} {maxL : Nat} {ret : Option FieldType} {rm : Room} {av : List Value} {σ : CS} {yd : Nat} {t : Dg} {comp : Option ρ} {view : ρ → Option Value × CS} {ls0 : List (Nat × Value)} {own : String} (hc : y.cls = own) (hpl : plainName own = true) (hl : Nat.ble (lg_sl av).length maxL = true) (hls : lv_args 0 av = ls0)
    (body : ∀ K : KT, KOK K bytes maxL own rm ret → CK Γ (kS K) → GGo K (cQ K Γ rm view) comp maxL (DI Γ (kS K) σ yd t) 0 0 0 ls0 []) (r : ρ) (hr : comp = some r) : DMet Γ y bytes maxL ret rm av σ yd t (view r).1 (view r).2 := by
  intro l sz
  subst hls
  refine Met.ofW (cc := bytes) (maxL := maxL) (ret := ret) (by rw [hc]; exact hpl) rfl ?_
  intro p e s m args below meth c s₁ B hml hv
  obtain ⟨rfl, ⟨hsz, hP, hE⟩, hd, hKK⟩ := hv
  subst hsz
  have hts := atoms_spec (ws := ws_ y bytes maxL ret) B.pre
  have hown : s.vm.findClass y.cls = some m.cls := findClass_of_methodNamed B.named
  rw [hc] at hown
  rw [lg_entry_eq]
  exact body (p, l, e, (headSpec (ws_ y bytes maxL ret) rm).room, s, m, av.toArray, below, meth, c) ⟨B.exec, B.bytes, hml, hown, fun w h => hts w (List.mem_cons_of_mem _ h), B.notSynchronized, B.returns, rfl⟩ hKK r hr s.heap [] _ ⟨⟨hP, hE, cFr.rf, fun _ h => by cases h⟩, hd⟩ (lv_entry av (Nat.le_of_ble_eq_true hl))
def C_does (σ : CS) (t : Dg) : Option (Int32 × CS) :=
  if t.1 = 203 then ob2 (C_person σ t.2.1 t.2.2.1) (fun r σ1 => if r = -1 then some (0, σ1) else some (1, σ1))
  else if t.1 = 204 then ob2 (C_other σ t.2.1 t.2.2.1) (fun r σ1 => if isZ r = true then some (r, σ1) else none)
  else if t.1 = 205 then ob2 (C_shave σ t.2.1) (fun r σ1 => if r = -1 then some (0, σ1) else some (1, σ1))
  else if t.1 = 206 then ob2 (C_calm σ t.2.1) (fun r σ1 => if isZ r = true then some (r, σ1) else none)
  else ob2 (C_passesAll σ t.2.1) (fun r σ1 => if isZ r = true then some (r, σ1) else none)
def rm_c_does : Room := { frames := 345, cells := 1, slots := 4, locals := 21000 }
theorem hv_c_does : yX0_does.cls = RX0 ∧ yX0_does.cls ≠ "java/lang/invoke/MethodHandle" ∧ yX0_does.cls ≠ "java/lang/invoke/VarHandle" ∧ (parseMethodDescriptor yX0_does.desc).map (fun d => d.parameters.length) = some 1 := by decide +kernel
theorem cm_does (Γ : CG) (hΓ : DTX Γ) (σ : CS) (yd : Nat) (t : Dg) (r : Int32 × CS) (h : C_does σ t = some r) : DMet Γ yX0_does cX0_does 2 (some .boolean) rm_c_does [.ref (gA Γ 300), .ref yd] σ yd t (some (.int r.1)) r.2 := by
  refine d_met (view := fun r : Int32 × CS => (some (Value.int r.1), r.2)) (own := RX0) rfl (by decide) rfl (ls0 := [(0, .ref (gA Γ 300)), (1, .ref yd)]) rfl (fun K hk hK => ?_) r h
  unfold C_does
  have hE : ∀ H locs, DI Γ (kS K) σ yd t H locs → gE Γ σ.2.2 (kS K) H := fun _ _ i => i.1.2.1
  have hR := x_rec (I := DI Γ (kS K) σ yd t) hK (ci := 14) rfl (fun _ _ i => i.2)
  have ca : ∀ {ρ : Type} {comp : Option ρ} {Q : ρ → State → Prop} {nL pc : Nat} {ls : List (Nat × Value)} {st : List Value}, Nat.ble ((st.map fun v => v.category).sum) 8 = true → decode cX0_does pc = .ok (.invokevirtual 215, 3) → KOK K cX0_does nL RX0 rm_c_does (some .boolean) → GGo K Q comp nL (DI Γ (kS K) σ yd t) 0 0 (pc + 3) ls (.int t.2.1 :: st) → GGo K Q comp nL (DI Γ (kS K) σ yd t) 0 0 pc ls (.ref yd :: st) := fun {ρ comp Q nL pc ls st} hs hd hk kk => x_callV (tx := σ.2.2) (rmY := rmK 1) (v := some (.int t.2.1)) hk hK hE hR [] st (fun _ _ i => e_a i.2) (lw_V q1063 q1064 q1065 q157 q1066) hv_x15_a rfl ⟨rfl, rfl⟩ rfl hs hd rfl rfl ⟨Nat.zero_le _, Nat.zero_le _⟩ kk
  have cb : ∀ {ρ : Type} {comp : Option ρ} {Q : ρ → State → Prop} {nL pc : Nat} {ls : List (Nat × Value)} {st : List Value}, Nat.ble ((st.map fun v => v.category).sum) 8 = true → decode cX0_does pc = .ok (.invokevirtual 218, 3) → KOK K cX0_does nL RX0 rm_c_does (some .boolean) → GGo K Q comp nL (DI Γ (kS K) σ yd t) 0 0 (pc + 3) ls (.int t.2.2.1 :: st) → GGo K Q comp nL (DI Γ (kS K) σ yd t) 0 0 pc ls (.ref yd :: st) := fun {ρ comp Q nL pc ls st} hs hd hk kk => x_callV (tx := σ.2.2) (rmY := rmK 1) (v := some (.int t.2.2.1)) hk hK hE hR [] st (fun _ _ i => e_b i.2) (lw_V q1067 q1068 q1069 q157 q1070) hv_x15_b rfl ⟨rfl, rfl⟩ rfl hs hd rfl rfl ⟨Nat.zero_le _, Nat.zero_le _⟩ kk
  refine g_aload_n (pc := 0) hk dX0_does_0 rfl ?_
  refine x_callV (pc := 1) (tx := σ.2.2) (rmY := rmK 1) (v := some (.int t.1)) hk hK hE hR [] [] (fun _ _ i => e_sort i.2) (lw_V q1059 q1060 q1061 q157 q1062) hv_x15_sort rfl ⟨rfl, rfl⟩ rfl rfl dX0_does_1 rfl rfl ⟨Nat.zero_le _, Nat.zero_le _⟩ ?_
  refine g_if (fun h1 => ?_) (fun n1 => ?_)
  · refine g_tabIn (pc := 4) (tgt := 36) hk 203 h1 dX0_does_4 (by decide) (by decide) rfl rfl ?_
    refine g_aload_n (pc := 36) hk dX0_does_36 rfl ?_
    refine g_aload_n (pc := 37) hk dX0_does_37 rfl ?_
    refine ca (pc := 38) rfl dX0_does_38 hk ?_
    refine g_aload_n (pc := 41) hk dX0_does_41 rfl ?_
    refine cb (pc := 42) rfl dX0_does_42 hk ?_
    refine g_I (I' := CI Γ (kS K) σ) (fun _ _ i => i.1) ?_
    refine g_ob2 (fun r1 σ1 h2 => ?_)
    refine c_callV (pc := 45) hk hK (rec_X hK) [.int t.2.1, .int t.2.2.1] [] (cm_person Γ σ t.2.1 t.2.2.1 (r1, σ1) h2) (lw_V q1071 q293 q294 q124 q295) hv_c_person rfl rfl rfl dX0_does_45 rfl rfl ⟨rfl, rfl⟩ ?_
    refine g_iconst (pc := 48) (v := (-1)) hk dX0_does_48 rfl ?_
    refine g_icmp_eq (pc := 49) (tgt := 56) hk dX0_does_49 rfl ?_ ?_
    · refine g_iconst (pc := 56) (v := 0) hk dX0_does_56 rfl ?_
      exact c_zret (pc := 57) hk hK rfl rfl dX0_does_57 rfl rfl
    · refine g_iconst (pc := 52) (v := 1) hk dX0_does_52 rfl ?_
      refine g_goto (pc := 53) (tgt := 57) hk dX0_does_53 rfl ?_
      exact c_zret (pc := 57) hk hK rfl rfl dX0_does_57 rfl rfl
  refine g_if (fun h1 => ?_) (fun n2 => ?_)
  · refine g_tabIn (pc := 4) (tgt := 58) hk 204 h1 dX0_does_4 (by decide) (by decide) rfl rfl ?_
    refine g_aload_n (pc := 58) hk dX0_does_58 rfl ?_
    refine g_aload_n (pc := 59) hk dX0_does_59 rfl ?_
    refine ca (pc := 60) rfl dX0_does_60 hk ?_
    refine g_aload_n (pc := 63) hk dX0_does_63 rfl ?_
    refine cb (pc := 64) rfl dX0_does_64 hk ?_
    refine g_I (I' := CI Γ (kS K) σ) (fun _ _ i => i.1) ?_
    refine g_ob2 (fun r1 σ1 h2 => ?_)
    refine c_callV (pc := 67) hk hK (rec_X hK) [.int t.2.1, .int t.2.2.1] [] (cm_other Γ σ t.2.1 t.2.2.1 (r1, σ1) h2) (lw_V q1072 q304 q305 q124 q306) hv_c_other rfl rfl rfl dX0_does_67 rfl rfl ⟨rfl, rfl⟩ ?_
    exact g_gd (fun hz => c_zret (pc := 70) hk hK hz rfl dX0_does_70 rfl rfl)
  refine g_if (fun h1 => ?_) (fun n3 => ?_)
  · refine g_tabIn (pc := 4) (tgt := 71) hk 205 h1 dX0_does_4 (by decide) (by decide) rfl rfl ?_
    refine g_aload_n (pc := 71) hk dX0_does_71 rfl ?_
    refine g_aload_n (pc := 72) hk dX0_does_72 rfl ?_
    refine ca (pc := 73) rfl dX0_does_73 hk ?_
    refine g_I (I' := CI Γ (kS K) σ) (fun _ _ i => i.1) ?_
    refine g_ob2 (fun r1 σ1 h2 => ?_)
    refine c_callV (pc := 76) hk hK (rec_X hK) [.int t.2.1] [] (cm_shave Γ hΓ σ t.2.1 (r1, σ1) h2) (lw_V q1073 q877 q878 q124 q879) hv_c_shave rfl rfl rfl dX0_does_76 rfl rfl ⟨rfl, rfl⟩ ?_
    refine g_iconst (pc := 79) (v := (-1)) hk dX0_does_79 rfl ?_
    refine g_icmp_eq (pc := 80) (tgt := 87) hk dX0_does_80 rfl ?_ ?_
    · refine g_iconst (pc := 87) (v := 0) hk dX0_does_87 rfl ?_
      exact c_zret (pc := 88) hk hK rfl rfl dX0_does_88 rfl rfl
    · refine g_iconst (pc := 83) (v := 1) hk dX0_does_83 rfl ?_
      refine g_goto (pc := 84) (tgt := 88) hk dX0_does_84 rfl ?_
      exact c_zret (pc := 88) hk hK rfl rfl dX0_does_88 rfl rfl
  refine g_if (fun h1 => ?_) (fun n4 => ?_)
  · refine g_tabIn (pc := 4) (tgt := 89) hk 206 h1 dX0_does_4 (by decide) (by decide) rfl rfl ?_
    refine g_aload_n (pc := 89) hk dX0_does_89 rfl ?_
    refine g_aload_n (pc := 90) hk dX0_does_90 rfl ?_
    refine ca (pc := 91) rfl dX0_does_91 hk ?_
    refine g_I (I' := CI Γ (kS K) σ) (fun _ _ i => i.1) ?_
    refine g_ob2 (fun r1 σ1 h2 => ?_)
    refine c_callV (pc := 94) hk hK (rec_X hK) [.int t.2.1] [] (cm_calm Γ σ t.2.1 (r1, σ1) h2) (lw_V q1074 q1029 q1030 q124 q1031) hv_c_calm rfl rfl rfl dX0_does_94 rfl rfl ⟨rfl, rfl⟩ ?_
    exact g_gd (fun hz => c_zret (pc := 97) hk hK hz rfl dX0_does_97 rfl rfl)
  · refine g_tabOut (pc := 4) (tgt := 98) hk dX0_does_4 (by have z1 := ne_toInt n1 (z := 203) rfl; have z2 := ne_toInt n2 (z := 204) rfl; have z3 := ne_toInt n3 (z := 205) rfl; have z4 := ne_toInt n4 (z := 206) rfl; omega) rfl ?_
    refine g_aload_n (pc := 98) hk dX0_does_98 rfl ?_
    refine g_aload_n (pc := 99) hk dX0_does_99 rfl ?_
    refine ca (pc := 100) rfl dX0_does_100 hk ?_
    refine g_I (I' := CI Γ (kS K) σ) (fun _ _ i => i.1) ?_
    refine g_ob2 (fun r1 σ1 h2 => ?_)
    refine c_callV (pc := 103) hk hK (rec_X hK) [.int t.2.1] [] (cm_passesAll Γ σ t.2.1 (r1, σ1) h2) (lw_V q1075 q1077 qs34 q124 q1078) hv_c_passesAll rfl rfl rfl dX0_does_103 rfl rfl ⟨rfl, rfl⟩ ?_
    exact g_gd (fun hz => c_zret (pc := 106) hk hK hz rfl dX0_does_106 rfl rfl)

/-! played -/
def DsAt (Γ : CG) (H : Heap) (es : List Nat) (ds : List Dg) : Prop := es.length = ds.length ∧ ∀ (k y : Nat) (t : Dg), es[k]? = some y → ds[k]? = some t → ¬ cSt Γ y ∧ va_at (gD Γ) ccl (y, .inr (14, dgV t)) H
def PI (Γ : CG) (s : State) (σ : CS) (dl : Nat) (es : List Nat) (ds : List Dg) : Heap → List Loc → Prop := fun H locs => CI Γ s σ H locs ∧ ListAt Γ (fun a => ¬ cSt Γ a) H dl es ∧ DsAt Γ H es ds
section P10
variable {ρ : Type} {K : KT} {Q : ρ → State → Prop} {comp A B : Option ρ} {nL : Nat} {I : Heap → List Loc → Prop} {cs sl pc : Nat} {ls : List (Nat × Value)} {st : List Value} {cc : ByteArray} {rm : Room} {ret : Option FieldType} {Γ : CG} {own : String} {σ : CS} {dl : Nat} {es : List Nat} {ds : List Dg}
theorem x_castE (hk : KOK K cc nL own rm ret) {a idx : Nat} {nm : String} (hl : Cond.classLink own idx nm ∈ lw_all) (hr : ∀ H locs, I H locs → ∃ cell : Cell, H[a]? = some cell ∧ cell.vm.isStatics = false ∧ (kS K).vm.findClass nm = some cell.cls) (hd : decode cc pc = .ok (.checkcast idx, 3)) (kk : GGo K Q comp nL I cs sl (pc + 3) ls (.ref a :: st)) : GGo K Q comp nL I cs sl pc ls (.ref a :: st) :=
  fun r hr9 H locs lsA hI hh => va_castE hk.1 hk.2.1 hk.2.2.2.1 (hk.2.2.2.2.1 _ hl) (hr H locs hI) hd (kk r hr9 H locs lsA hI hh)
/-- a doing is done; the list of doings stays -/
theorem p_does (hk : KOK K cc nL RX0 rm ret) (hK : CK Γ (kS K)) {yd : Nat} {t : Dg} {r : Int32} {σ' : CS} {st : List Value} (hat : ∀ H locs, PI Γ (kS K) σ dl es ds H locs → va_at (gD Γ) ccl (yd, .inr (14, dgV t)) H) (hM : DMet Γ yX0_does cX0_does 2 (some .boolean) rm_c_does [.ref (gA Γ 300), .ref yd] σ yd t (some (.int r)) σ') (hrm : rmFit 2 rm_c_does rm = true) (hs : Nat.ble ((st.map fun v => v.category).sum) 8 = true) (hd : decode cc pc = .ok (.invokevirtual 249, 3)) (hcs : cs + 1 ≤ rm.cells ∧ sl + 4 ≤ rm.slots) (kk : GGo K Q comp nL (PI Γ (kS K) σ' dl es ds) (cs + 1) (sl + 4) (pc + 3) ls (.int r :: st)) : GGo K Q comp nL (PI Γ (kS K) σ dl es ds) cs sl pc ls (.ref yd :: .ref (gA Γ 300) :: st) := by
  intro r9 hr H locs lsA hPI hh T hT X
  have hI := hPI.1
  obtain ⟨v', st₀, t9, T', L, h0, X', hL, e1, e2, ⟨⟨hv, hP', hE'⟩, hF⟩, stp⟩ := va_runV (g := F0 (kM K) pc lsA (.ref yd :: .ref (gA Γ 300) :: st)) (As := [.ref yd]) (rest := st) (cc := cc) (nL := nL) (own := RX0) (Ts := lw_all) ⟨hk.1, hk.2.1, hk.2.2.1, hk.2.2.2.1, hk.2.2.2.2.1⟩ (hM K.2.1 H.size) (cwV 1 hk.2.2.2.2.1 (lw_V q1055 q1057 qs33 q124 q1058) rfl rfl rfl hv_c_does (rmFit_ok hrm hk.2.2.2.2.2.2.2)) ⟨dPc_blind _ _, rec_X hK H hI.1, fun U hU hW => ⟨rfl, ⟨by rw [hU], by rw [hU]; exact hI.1, by rw [hU]; exact hK.2.2.2.2.2.1 _ _ _ _ hW.alike hI.2.1⟩, by rw [hU]; exact hat H locs hPI, hK.warm hW⟩⟩ rfl rfl hh.1 rfl (lv_room (Nat.le_of_ble_eq_true hs)) hd ⟨(by show cs + 1 ≤ (kR K).cells; rw [hk.2.2.2.2.2.2.2]; exact hcs.1), (by show sl + 4 ≤ (kR K).slots; rw [hk.2.2.2.2.2.2.2]; exact hcs.2)⟩ T hT X
  cases hv
  rw [h0] at hF
  have hE2 : gE Γ σ'.2.2 (kS K) T'.heap := by
    rw [e1]
    exact hK.2.2.2.2.2.1 _ _ _ _ (by rw [← e2]; exact X'.warmed.alike.symm) hE'
  have hF' : cFr Γ H T'.heap := by rw [e1]; exact hF
  obtain ⟨t2, a1, b1⟩ := kk r9 hr T'.heap (locs ++ L) lsA ⟨⟨by rw [e1]; exact hP', hE2, hI.2.2.1.trans hF', fun q hq => (List.mem_append.mp hq).elim (hI.2.2.2 q) (fun h => (hL q h).elim Or.inl (fun h => Or.inr (Nat.le_trans hI.2.2.1.1 h)))⟩, hPI.2.1.kept (fun q hq hn => ⟨hn, hF'.2 q hq hn⟩), hPI.2.2.1, fun k y t h1 h2 => by
    have z := hPI.2.2.2 k y t h1 h2
    exact ⟨z.1, z.2.kept (hF'.2 _ z.2.lt z.1)⟩⟩ hh T' rfl X'
  exact ⟨t2, stp t2 a1, b1⟩
end P10
def plL : List Dg → CS → Option (Int32 × CS)
  | [], σ => some (-1, σ)
  | t :: rest, σ => ob2 (C_does σ t) (fun r σ1 => if r = 0 then some (t.2.2.2, σ1) else plL rest σ1)
def C_played (σ : CS) (v1 : Int32) : Option (Int32 × CS) :=
  ob1 (C_isText σ v1) (fun r => if r = 0 then some (-2, σ) else if inb v1 4 = true then ob1 (cT σ 0 v1.toNatClampNeg) (fun q => if Nat.ble (σ.2.2.2 q).2.length 24 = true then plL (σ.2.2.2 q).2 σ else none) else none)
def rm_c_played : Room := { frames := 350, cells := 24, slots := 96, locals := 22000 }
theorem hv_c_played : yX0_played.cls = RX0 ∧ yX0_played.cls ≠ "java/lang/invoke/MethodHandle" ∧ yX0_played.cls ≠ "java/lang/invoke/VarHandle" ∧ (parseMethodDescriptor yX0_played.desc).map (fun d => d.parameters.length) = some 1 := by decide +kernel
theorem cm_played_l {K : KT} {Γ : CG} (hk : KOK K cX0_played 4 RX0 rm_c_played (some .int)) (hK : CK Γ (kS K)) (hΓ : DTX Γ) {dl : Nat} {es : List Nat} {ds : List Dg} (hds : ds.length ≤ 24) (hes : es.length = ds.length) : ∀ (rest pre : List Dg) (σ : CS) (C S : Nat), C + rest.length ≤ 24 → S + 4 * rest.length ≤ 96 → ds = pre ++ rest → GGo K (cQ K Γ rm_c_played (fun r : Int32 × CS => (some (Value.int r.1), r.2))) (plL rest σ) 4 (PI Γ (kS K) σ dl es ds) C S 26 [(0, .ref (gA Γ 300)), (2, .ref dl), (3, .int (nI pre.length))] [] := by
  intro rest
  induction rest with
  | nil =>
    intro pre σ C S hC hS hf
    rw [List.append_nil] at hf
    have hn : ¬ nI pre.length < nI es.length := by rw [hes, hf]; exact fun h => Int32.lt_irrefl h
    have hE : ∀ H locs, PI Γ (kS K) σ dl es ds H locs → gE Γ σ.2.2 (kS K) H := fun _ _ i => i.1.2.1
    unfold plL
    refine g_iload_n (pc := 26) hk dX0_played_26 rfl ?_
    refine g_aload_n (pc := 27) hk dX0_played_27 rfl ?_
    refine x_callV (pc := 28) (C := RJ3) (v := some (.int (nI es.length))) (tx := σ.2.2) (rmY := rmK 1) hk hK hE (fun H locs hI => by obtain ⟨-, m, a, cap, h1, -⟩ := hI.2.1; exact va_recv (q0 := 0) (ci := 15) hK.1 (va_P1 h1) rfl rfl) [] [.int (nI pre.length)] (fun H locs hI => l_size hI.2.1) (lw_V q1052 q692 q693 q133 q694) hv_jsize rfl ⟨rfl, rfl⟩ rfl rfl dX0_played_28 rfl rfl ⟨by show C ≤ 24; omega, by show S ≤ 96; omega⟩ ?_
    refine g_no hn ?_
    refine g_icmp_ge (pc := 31) (tgt := 67) hk dX0_played_31 rfl ?_ g_none
    refine g_iconst (pc := 67) (v := (-1)) hk dX0_played_67 rfl ?_
    refine g_I (I' := CI Γ (kS K) σ) (fun _ _ i => i.1) ?_
    exact c_iret (pc := 68) hk hK rfl dX0_played_68 (Nat.ble_eq.mpr (by show C ≤ 24; omega)) (Nat.ble_eq.mpr (by show S ≤ 96; omega))
  | cons t rest ih =>
    intro pre σ C S hC hS hf
    rw [List.length_cons] at hC hS
    have hlen : pre.length < es.length := by rw [hes, hf, List.length_append, List.length_cons]; omega
    have hi : ds[pre.length]? = some t := by rw [hf]; simp
    obtain ⟨yd, hyd⟩ : ∃ yd, es[pre.length]? = some yd := ⟨_, List.getElem?_eq_getElem hlen⟩
    have hy : nI pre.length < nI es.length := nI_lt hlen (by omega)
    have hE : ∀ (σ : CS) H locs, PI Γ (kS K) σ dl es ds H locs → gE Γ σ.2.2 (kS K) H := fun _ _ _ i => i.1.2.1
    have hRl : ∀ (σ : CS) H locs, PI Γ (kS K) σ dl es ds H locs → ∃ cell : Cell, H[dl]? = some cell ∧ cell.vm.isStatics = false ∧ (kS K).vm.findClass RJ3 = some cell.cls := fun σ H locs hI => by obtain ⟨-, m, a, cap, h1, -⟩ := hI.2.1; exact va_recv (q0 := 0) (ci := 15) hK.1 (va_P1 h1) rfl rfl
    have hat : ∀ (σ : CS) H locs, PI Γ (kS K) σ dl es ds H locs → va_at (gD Γ) ccl (yd, .inr (14, dgV t)) H := fun σ H locs hI => (hI.2.2.2 _ _ _ hyd hi).2
    have hRd : ∀ (σ : CS) H locs, PI Γ (kS K) σ dl es ds H locs → ∃ cell : Cell, H[yd]? = some cell ∧ cell.vm.isStatics = false ∧ (kS K).vm.findClass RX15 = some cell.cls := fun σ => x_rec hK (ci := 14) rfl (hat σ)
    unfold plL
    refine g_ob2 (fun r σ1 hr => ?_)
    refine g_iload_n (pc := 26) hk dX0_played_26 rfl ?_
    refine g_aload_n (pc := 27) hk dX0_played_27 rfl ?_
    refine x_callV (pc := 28) (C := RJ3) (v := some (.int (nI es.length))) (tx := σ.2.2) (rmY := rmK 1) hk hK (hE σ) (hRl σ) [] [.int (nI pre.length)] (fun H locs hI => l_size hI.2.1) (lw_V q1052 q692 q693 q133 q694) hv_jsize rfl ⟨rfl, rfl⟩ rfl rfl dX0_played_28 rfl rfl ⟨by show C ≤ 24; omega, by show S ≤ 96; omega⟩ ?_
    refine g_yes hy ?_
    refine g_icmp_ge (pc := 31) (tgt := 67) hk dX0_played_31 rfl g_none ?_
    refine g_aload_n (pc := 34) hk dX0_played_34 rfl ?_
    refine g_aload_n (pc := 35) hk dX0_played_35 rfl ?_
    refine g_iload_n (pc := 36) hk dX0_played_36 rfl ?_
    refine x_callV (pc := 37) (C := RJ3) (v := some (.ref yd)) (tx := σ.2.2) (rmY := rmK 3) hk hK (hE σ) (hRl σ) [.int (nI pre.length)] [.ref (gA Γ 300)] (fun H locs hI => l_get hI.2.1 hyd) (lw_V q1053 q696 q697 q133 q698) hv_jget rfl ⟨rfl, rfl⟩ rfl rfl dX0_played_37 rfl rfl ⟨by show C ≤ 24; omega, by show S ≤ 96; omega⟩ ?_
    refine x_castE (pc := 40) hk q1054 (hRd σ) dX0_played_40 ?_
    refine p_does (pc := 43) hk hK (hat σ) (cm_does Γ hΓ σ yd t (r, σ1) hr) rfl rfl dX0_played_43 ⟨by show C + 1 ≤ 24; omega, by show S + 4 ≤ 96; omega⟩ ?_
    refine g_if_ne (pc := 46) (tgt := 61) hk dX0_played_46 rfl ?_ ?_
    · refine g_iinc (pc := 61) (v := 1) hk dX0_played_61 rfl rfl (by decide) rfl ?_
      refine g_goto (pc := 64) (tgt := 26) hk dX0_played_64 rfl ?_
      have := ih (pre ++ [t]) σ1 (C + 1) (S + 4) (by omega) (by omega) (by rw [hf, List.append_assoc]; rfl)
      rw [List.length_append, List.length_singleton, ← nI_1] at this
      exact g_ls (ls' := [(0, .ref (gA Γ 300)), (2, .ref dl), (3, .int (nI pre.length + 1))]) ⟨rfl, rfl, rfl, trivial⟩ this
    · refine g_aload_n (pc := 49) hk dX0_played_49 rfl ?_
      refine g_iload_n (pc := 50) hk dX0_played_50 rfl ?_
      refine x_callV (pc := 51) (C := RJ3) (v := some (.ref yd)) (tx := σ1.2.2) (rmY := rmK 3) hk hK (hE σ1) (hRl σ1) [.int (nI pre.length)] [] (fun H locs hI => l_get hI.2.1 hyd) (lw_V q1053 q696 q697 q133 q698) hv_jget rfl ⟨rfl, rfl⟩ rfl rfl dX0_played_51 rfl rfl ⟨by show C + 1 ≤ 24; omega, by show S + 4 ≤ 96; omega⟩ ?_
      refine x_castE (pc := 54) hk q1054 (hRd σ1) dX0_played_54 ?_
      refine x_callV (pc := 57) (C := RX15) (v := some (.int t.2.2.2)) (tx := σ1.2.2) (rmY := rmK 1) hk hK (hE σ1) (hRd σ1) [] [] (fun H locs hI => e_number (hat σ1 H locs hI)) (lw_V q1080 q1081 q1082 q157 q1083) hv_x15_number rfl ⟨rfl, rfl⟩ rfl rfl dX0_played_57 rfl rfl ⟨by show C + 1 ≤ 24; omega, by show S + 4 ≤ 96; omega⟩ ?_
      refine g_I (I' := CI Γ (kS K) σ1) (fun _ _ i => i.1) ?_
      exact c_iret (pc := 60) hk hK rfl dX0_played_60 (Nat.ble_eq.mpr (by show C + 1 ≤ 24; omega)) (Nat.ble_eq.mpr (by show S + 4 ≤ 96; omega))
theorem cm_played (Γ : CG) (hΓ : DTX Γ) (σ : CS) (v1 : Int32) (r : Int32 × CS) (h : C_played σ v1 = some r) : CMet Γ yX0_played cX0_played 4 (some .int) rm_c_played [.ref (gA Γ 300), .int v1] σ (some (.int r.1)) r.2 := by
  refine c_met (view := fun r : Int32 × CS => (some (Value.int r.1), r.2)) (own := RX0) rfl (by decide) rfl (ls0 := [(0, .ref (gA Γ 300)), (1, .int v1)]) rfl (fun K hk hK => ?_) r h
  unfold C_played
  refine g_ob1 (fun r1 h1 => ?_)
  refine g_aload_n (pc := 0) hk dX0_played_0 rfl ?_
  refine g_iload_n (pc := 1) hk dX0_played_1 rfl ?_
  refine c_callV (pc := 2) hk hK (rec_X hK) [.int v1] [] (cm_isText Γ σ v1 r1 h1) (lw_V q872 q874 qs24 q124 q875) hv_c_isText rfl rfl rfl dX0_played_2 rfl rfl ⟨rfl, rfl⟩ ?_
  refine g_if_ne (pc := 5) (tgt := 11) hk dX0_played_5 rfl ?_ ?_
  · refine g_aload_n (pc := 11) hk dX0_played_11 rfl ?_
    refine c_getR (pc := 12) hk hK cr_0 cf_0 dX0_played_12 ?_
    refine c_getS (pc := 15) (w := 0) hk hK (by decide) sr_10 sn_10 dX0_played_15 ?_
    refine g_iload_n (pc := 18) hk dX0_played_18 rfl ?_
    refine c_aaldT (pc := 19) (w := 0) hk hK (by decide) dX0_played_19 (fun q hin hq => g_gd (fun hds => ?_))
    refine g_at (fun H locs hI => ?_)
    obtain ⟨hn, la, dl, n, lq, es, h1, h2, h3, h4, h5, h6, h7⟩ := (hΓ.2 _ _ _ hI.2.1).2.2 0 _ q (by decide) (inb_lt hin) hq
    refine x_getN (pc := 20) hk hK (ci := 3) (host := RX0) rfl in_X4 (fun _ _ e => by rw [e.1]; exact h1) 2 (by decide) cn_402 rfl rfl dX0_played_20 ?_
    refine g_I (I' := PI Γ (kS K) σ dl es (σ.2.2.2 q).2) (fun _ _ e => by rw [e.1, e.2]; exact ⟨hI, h5, h6, h7⟩) ?_
    refine g_astore_n (pc := 23) (i := 2) hk dX0_played_23 rfl (by decide) rfl ?_
    refine g_iconst (pc := 24) (v := 0) hk dX0_played_24 rfl ?_
    refine g_istore_n (pc := 25) (i := 3) hk dX0_played_25 rfl (by decide) rfl ?_
    exact g_ls (ls' := [(0, .ref (gA Γ 300)), (2, .ref dl), (3, .int (nI ([] : List Dg).length))]) ⟨rfl, rfl, rfl, trivial⟩ (cm_played_l hk hK hΓ (Nat.le_of_ble_eq_true hds) h6 _ [] σ _ _ (by have := Nat.le_of_ble_eq_true hds; show 0 + _ ≤ 24; omega) (by have := Nat.le_of_ble_eq_true hds; show 0 + 4 * _ ≤ 96; omega) rfl)
  · refine g_bipush (pc := 8) (v := (-2)) hk dX0_played_8 rfl ?_
    exact c_iret (pc := 10) hk hK rfl dX0_played_10 rfl rfl
