/-! ArrayList: the constructor, add, grow; Arrays.copyOf -/
set_option maxRecDepth 100000
theorem p_newLength {c : Nat} (hc : c < 100000) : PMet yJ12_newLength cJ12_newLength 4 (some .int) (rmK 2) [.int (nI c), .int 1, .int (nI (c / 2))] (some (.int (nI (nwN c)))) := by
  have hm : i_max 1 (nI (c / 2)) = nI (if c / 2 < 1 then 1 else c / 2) := by
    unfold i_max
    rw [show (1 : Int32) = nI 1 from rfl]
    by_cases h : 1 < c / 2
    · rw [if_pos ((nI_ltI (by omega) (by omega)).mpr h), if_neg (by omega)]
    · rw [if_neg (fun z => h ((nI_ltI (by omega) (by omega)).mp z))]
      by_cases h2 : c / 2 < 1
      · rw [if_pos h2]
      · rw [if_neg h2, show c / 2 = 1 by omega]
  have hb : nwN c < 300000 ∧ 0 < nwN c := by
    unfold nwN
    split <;> omega
  refine p_met (view := fun r : Int32 => some (.int r)) (comp := some (nI (nwN c))) (own := RJ12) rfl (by decide) rfl (ls0 := [(0, .int (nI c)), (1, .int 1), (2, .int (nI (c / 2)))]) rfl (fun K hk => ?_) _ rfl
  refine g_iload_n (pc := 0) hk dJ12_newLength_0 rfl ?_
  refine g_iload_n (pc := 1) hk dJ12_newLength_1 rfl ?_
  refine g_iload_n (pc := 2) hk dJ12_newLength_2 rfl ?_
  refine g_i_max (pc := 3) hk q649 rfl rfl rfl dJ12_newLength_3 ⟨rfl, rfl⟩ ?_
  rw [hm]
  refine g_iadd (pc := 6) hk dJ12_newLength_6 ?_
  rw [nI_add, show c + (if c / 2 < 1 then 1 else c / 2) = nwN c from rfl]
  refine g_istore_n (pc := 7) (i := 3) hk dJ12_newLength_7 rfl (by decide) rfl ?_
  refine g_iconst (pc := 8) (v := 0) hk dJ12_newLength_8 rfl ?_
  refine g_iload_n (pc := 9) hk dJ12_newLength_9 rfl ?_
  refine g_yes (c := (0 : Int32) < nI (nwN c)) ((nI_ltI (a := 0) (by omega) (by omega)).mpr hb.2) ?_
  refine g_icmp_ge (pc := 10) (tgt := 21) hk dJ12_newLength_10 rfl g_none ?_
  refine g_iload_n (pc := 13) hk dJ12_newLength_13 rfl ?_
  refine g_ldc (pc := 14) (v := 2147483639) hk q652 dJ12_newLength_14 ?_
  refine g_no (c := (2147483639 : Int32) < nI (nwN c)) (fun z => ?_) ?_
  · have := (nI_ltI (a := 2147483639) (by omega) (by omega)).mp z
    omega
  refine g_icmp_gt (pc := 16) (tgt := 21) hk dJ12_newLength_16 rfl g_none ?_
  refine g_iload_n (pc := 19) hk dJ12_newLength_19 rfl ?_
  exact p_iret (pc := 20) hk rfl dJ12_newLength_20
theorem hs_newLength : yJ12_newLength.cls ≠ "java/lang/invoke/MethodHandle" ∧ yJ12_newLength.cls ≠ "java/lang/invoke/VarHandle" ∧ (parseMethodDescriptor yJ12_newLength.desc).map (fun d => d.parameters.length) = some 3 := by decide +kernel
theorem hs_copyOf : yJ0_copyOf.cls ≠ "java/lang/invoke/MethodHandle" ∧ yJ0_copyOf.cls ≠ "java/lang/invoke/VarHandle" ∧ (parseMethodDescriptor yJ0_copyOf.desc).map (fun d => d.parameters.length) = some 2 := by decide +kernel
theorem hs_copyOf_2 : yJ0_copyOf_2.cls ≠ "java/lang/invoke/MethodHandle" ∧ yJ0_copyOf_2.cls ≠ "java/lang/invoke/VarHandle" ∧ (parseMethodDescriptor yJ0_copyOf_2.desc).map (fun d => d.parameters.length) = some 3 := by decide +kernel
theorem hv_grow : yJ3_grow.cls = RJ3 ∧ yJ3_grow.cls ≠ "java/lang/invoke/MethodHandle" ∧ yJ3_grow.cls ≠ "java/lang/invoke/VarHandle" ∧ (parseMethodDescriptor yJ3_grow.desc).map (fun d => d.parameters.length) = some 0 := by decide +kernel
theorem hv_grow_2 : yJ3_grow_2.cls = RJ3 ∧ yJ3_grow_2.cls ≠ "java/lang/invoke/MethodHandle" ∧ yJ3_grow_2.cls ≠ "java/lang/invoke/VarHandle" ∧ (parseMethodDescriptor yJ3_grow_2.desc).map (fun d => d.parameters.length) = some 1 := by decide +kernel
theorem hv_add : yJ3_add.cls = RJ3 ∧ yJ3_add.cls ≠ "java/lang/invoke/MethodHandle" ∧ yJ3_add.cls ≠ "java/lang/invoke/VarHandle" ∧ (parseMethodDescriptor yJ3_add.desc).map (fun d => d.parameters.length) = some 1 := by decide +kernel
theorem hv_add_2 : yJ3_add_2.cls = RJ3 ∧ yJ3_add_2.cls ≠ "java/lang/invoke/MethodHandle" ∧ yJ3_add_2.cls ≠ "java/lang/invoke/VarHandle" ∧ (parseMethodDescriptor yJ3_add_2.desc).map (fun d => d.parameters.length) = some 3 := by decide +kernel
section XGC
variable {ρ : Type} {K : KT} {Q : ρ → State → Prop} {comp : Option ρ} {nL : Nat} {I : Heap → List Loc → Prop} {cs sl pc : Nat} {ls : List (Nat × Value)} {st : List Value} {cc : ByteArray} {rm : Room} {ret : Option FieldType} {own : String} {Γ : CG}
theorem x_ldcM (hk : KOK K cc nL own rm ret) {C : String} {index mi : Nat} (hl : Cond.classLink own index C ∈ lw_all) (hM : va_Mi C mi (kS K)) (hd : decode cc pc = .ok (.ldc index, 2)) (kk : GGo K Q comp nL I cs sl (pc + 2) ls (.ref mi :: st)) : GGo K Q comp nL I cs sl pc ls st := fun r hr H locs lsA hI hh => va_ldcM hk.1 hk.2.1 hk.2.2.2.1 (hk.2.2.2.2.1 _ hl) hM hd (kk r hr H locs lsA hI hh)
theorem x_getC (hk : KOK K cc nL own rm ret) (hK : CK Γ (kS K)) (hX : XK (kS K)) {a n idx mi : Nat} {fv : Nat → Value} (hl : Cond.methodLink own idx ⟨"java/lang/Object", "getClass", "()Ljava/lang/Class;"⟩ ∈ lw_all) (hM : va_Mi "[Ljava/lang/Object;" mi (kS K)) (hcell : ∀ H locs, I H locs → H[a]? = some (arrV (gC Γ 5) n fv)) (hr1 : Nat.ble 1 rm.frames = true) (hr2 : Nat.ble 40 rm.locals = true) (hs : Nat.ble ((st.map fun v => v.category).sum) 8 = true) (hd : decode cc pc = .ok (.invokevirtual idx, 3)) (kk : GGo K Q comp nL I cs sl (pc + 3) ls (.ref mi :: st)) : GGo K Q comp nL I cs sl pc ls (.ref a :: st) := by
  intro r hr H locs lsA hI hh
  obtain ⟨-, -, -, -, -, h4⟩ := (hK.1.2 5 _ rfl).2
  exact va_getC (C := "[Ljava/lang/Object;") hk.1 hk.2.1 (by rw [hh.1]; exact hk.2.2.1) hk.2.2.2.1 (hk.2.2.2.2.1 _ hl) (va_Dc.use hX.2.2.2.2.2.1) (hk.2.2.2.2.1 _ q2067) (hk.2.2.2.2.1 _ q660) (hk.2.2.2.2.1 _ q680) hM ⟨_, hcell H locs hI, rfl, h4⟩ (by show 1 ≤ (kR K).frames; rw [hk.2.2.2.2.2.2.2]; exact Nat.le_of_ble_eq_true hr1) (by have e1 := Nat.le_of_ble_eq_true hs; have e2 := Nat.le_of_ble_eq_true hr2; show _ ≤ (kR K).locals; rw [hk.2.2.2.2.2.2.2]; omega) hd (kk r hr H locs lsA hI hh)
theorem x_alenA (hk : KOK K cc nL own rm ret) {cA : ClassId} {ty : FieldType} {a n : Nat} {fv : Nat → Value} (hcell : ∀ H locs, I H locs → H[a]? = some (arrV cA n fv)) (hty : ArrOfT (kS K) cA ty) (hn : n < 2 ^ 31) (hd : decode cc pc = .ok (.arraylength, 1)) (kk : GGo K Q comp nL I cs sl (pc + 1) ls (.int (nI n) :: st)) : GGo K Q comp nL I cs sl pc ls (.ref a :: st) := by
  intro r hr H locs lsA hI hh
  refine W.alen (n := nI n) hk.1 hk.2.1 (hcell H locs hI) (hty _ _) ?_ rfl rfl hd (kk r hr H locs lsA hI hh)
  rw [arrV_size]
  rfl
end XGC
section ALI
variable {Γ : CG} {tx : TXs Tx}
theorem o_copyOf_2 (hΓ : DLX Γ) {H0 : Heap} {a0 mi N : Nat} {es : List Nat} (hN : N < 100000) (hle : es.length ≤ N) (hc : H0[a0]? = some (arrV (gC Γ 5) es.length (fun i => va_rf es[i]?))) : OMet Γ tx yJ0_copyOf_2 cJ0_copyOf_2 4 (some (.array (.object "java/lang/Object"))) { frames := 2, cells := 1, slots := N, locals := 100 } [.ref a0, .int (nI N), .ref mi] H0 (fun U => va_Mi "[Ljava/lang/Object;" mi U ∧ LEl U H0 es) (fun _ => False) (some (.ref H0.size)) (fun H1 => H1.size = H0.size + 1 ∧ H1[H0.size]? = some (arrV (gC Γ 5) N (fun i => va_rf es[i]?))) := by
  refine o_met (own := RJ0) rfl (by decide) rfl (ls0 := [(0, .ref a0), (1, .int (nI N)), (2, .ref mi)]) rfl (fun K hk hK hH hE hPre => ?_)
  have hX := hΓ.1.1.1.1.x hK
  have hlt := (Array.getElem?_eq_some_iff.mp hc).1
  refine g_aload_n (pc := 0) hk dJ0_copyOf_2_0 rfl ?_
  refine x_ldcM (pc := 1) hk q684 hPre.1 dJ0_copyOf_2_1 ?_
  refine x_acmpne (pc := 3) (tgt := 13) hk dJ0_copyOf_2_3 rfl (fun h => absurd rfl h) (fun _ => ?_)
  refine g_iload_n (pc := 6) hk dJ0_copyOf_2_6 rfl ?_
  refine x_anew (pc := 7) (N := N) hk hK hX q686 rfl hN (by show 0 + 1 ≤ 1; omega) (by show 0 + N ≤ N; omega) dJ0_copyOf_2_7 (fun q => ?_)
  refine g_I (I' := fun H1 locs => q = H0.size ∧ (H1.size = H0.size + 1 ∧ (∀ x, x < H0.size → H1[x]? = H0[x]?) ∧ H1[q]? = some (arrV (gC Γ 5) N (fun _ => va_rf none))) ∧ ∀ l ∈ locs, False ∨ (kS K).heap.size ≤ l.base) (fun H1 locs hI => ?_) ?_
  · obtain ⟨H, ⟨h1, h2, rfl⟩, h4, h5, h6, h7⟩ := hI
    exact ⟨h4, ⟨h5, h6, h7⟩, h2⟩
  refine g_goto (pc := 10) (tgt := 24) hk dJ0_copyOf_2_10 rfl ?_
  refine g_astore_n (pc := 24) (i := 3) hk dJ0_copyOf_2_24 rfl (by decide) rfl ?_
  refine g_aload_n (pc := 25) hk dJ0_copyOf_2_25 rfl ?_
  refine g_iconst (pc := 26) (v := 0) hk dJ0_copyOf_2_26 rfl ?_
  refine g_aload_n (pc := 27) hk dJ0_copyOf_2_27 rfl ?_
  refine g_iconst (pc := 28) (v := 0) hk dJ0_copyOf_2_28 rfl ?_
  refine g_aload_n (pc := 29) hk dJ0_copyOf_2_29 rfl ?_
  refine x_alenA (pc := 30) (n := es.length) (fv := fun i => va_rf es[i]?) hk (fun H locs hI => by rw [hI.2.1.2.1 _ hlt]; exact hc) (hK.1.2 5 _ rfl).1 (by omega) dJ0_copyOf_2_30 ?_
  refine g_iload_n (pc := 31) hk dJ0_copyOf_2_31 rfl ?_
  refine g_i_min (pc := 32) hk q687 rfl rfl rfl dJ0_copyOf_2_32 ⟨rfl, by show Nat.ble (0 + N) N = true; exact Nat.ble_eq.mpr (by omega)⟩ ?_
  have hmin : i_min (nI es.length) (nI N) = nI es.length := by
    unfold i_min
    rw [if_neg]
    rw [nI_ltI (by omega) (by omega)]
    omega
  rw [hmin]
  refine x_copyO (pc := 35) (N := es.length) (n0 := es.length) (n1 := N) (f := fun i => es[i]?) (g := fun _ => none) hk hK hX (fun H locs hI => by rw [hI.2.1.2.1 _ hlt]; exact hc) (fun H locs hI => hI.2.1.2.2) (fun H locs hI i y hy => ?_) rfl (Nat.le_refl _) hle (by omega) q688 rfl rfl rfl dJ0_copyOf_2_35 ?_
  · exact (hPre.2 y (List.mem_of_getElem? hy)).kept (fun h => hI.2.1.2.1 _ h)
  refine g_I (I' := OW K (fun _ => False) (fun H1 => q = H0.size ∧ H1.size = H0.size + 1 ∧ H1[q]? = some (arrV (gC Γ 5) N (fun i => va_rf es[i]?)))) (fun H1 locs1 hI => ?_) ?_
  · obtain ⟨H, locs, ⟨h1, ⟨h2, h3, h4⟩, h5⟩, h6, h7, h8, h9⟩ := hI
    rw [es_cpy] at h6
    refine ⟨⟨by rw [hH]; omega, fun x hx _ => ?_⟩, fun l hl => ?_, h1, by omega, h6⟩
    · rw [hH] at hx ⊢
      rw [h8 x (by omega), h3 x hx]
    · rcases h9 l hl with h | h
      · exact h5 l h
      · exact Or.inr (by rw [h, h1, hH]; exact Nat.le_refl _)
  refine g_aload_n (pc := 38) hk dJ0_copyOf_2_38 rfl ?_
  refine g_at (fun H1 locs1 hI => ?_)
  obtain ⟨h1, h2, h3, h4, h5⟩ := hI
  subst h3
  refine g_I (I' := OW K (fun _ => False) (fun H => H = H1)) (fun H l e => by rw [e.1, e.2]; exact ⟨h1, h2, rfl⟩) ?_
  exact o_aret (pc := 39) hk (Or.inr ⟨_, rfl⟩) (fun H e => by rw [e]; exact ⟨h4, h5⟩) dJ0_copyOf_2_39 (by show 0 + 1 ≤ 1; omega) (by show 0 + N ≤ N; omega)
end ALI
