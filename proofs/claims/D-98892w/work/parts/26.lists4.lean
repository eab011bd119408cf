/-! ArrayList: grow, add, the constructor -/
set_option maxRecDepth 100000
section ALJ
variable {Γ : CG} {tx : TXs Tx}
theorem o_copyOf (hΓ : DLX Γ) {H0 : Heap} {a0 N : Nat} {es : List Nat} (hN : N < 100000) (hle : es.length ≤ N) (hc : H0[a0]? = some (arrV (gC Γ 5) es.length (fun i => va_rf es[i]?))) : OMet Γ tx yJ0_copyOf cJ0_copyOf 2 (some (.array (.object "java/lang/Object"))) { frames := 3, cells := 1, slots := N, locals := 160 } [.ref a0, .int (nI N)] H0 (fun U => LEl U H0 es) (fun _ => False) (some (.ref H0.size)) (fun H1 => H1.size = H0.size + 1 ∧ H1[H0.size]? = some (arrV (gC Γ 5) N (fun i => va_rf es[i]?))) := by
  refine o_met (own := RJ0) rfl (by decide) rfl (ls0 := [(0, .ref a0), (1, .int (nI N))]) rfl (fun K hk hK hH hE hPre => ?_)
  have hX := hΓ.1.1.1.1.x hK
  obtain ⟨mi, hMi⟩ := hX.2.2.2.2.1
  refine g_aload_n (pc := 0) hk dJ0_copyOf_0 rfl ?_
  refine g_iload_n (pc := 1) hk dJ0_copyOf_1 rfl ?_
  refine g_aload_n (pc := 2) hk dJ0_copyOf_2 rfl ?_
  refine x_getC (pc := 3) hk hK hX q659 hMi (fun H locs hI => by rw [hI.2.2]; exact hc) rfl rfl rfl dJ0_copyOf_3 ?_
  refine o_callS (pc := 6) (tx := tx) (rmY := { frames := 2, cells := 1, slots := N, locals := 100 }) (v := fun H => some (.ref H.size)) (R := fun H H1 => H1.size = H.size + 1 ∧ H1[H.size]? = some (arrV (gC Γ 5) N (fun i => va_rf es[i]?))) (Pre := fun H U => va_Mi "[Ljava/lang/Object;" mi U ∧ LEl U H es) (fr := fun _ => False) hk hK (fun H locs hI => by rw [hI.2.2]; exact hE) (fun H s U hvm h => ⟨va_Mi.moved hvm h.1, h.2.moved hvm⟩) (fun H locs hI => by rw [hI.2.2]; exact ⟨hMi, hPre⟩) [.ref a0, .int (nI N), .ref mi] [] (fun H locs hI => by rw [hI.2.2]; exact o_copyOf_2 hΓ hN hle hc) (lw_S q681 q682 q126 q683) hs_copyOf_2 rfl rfl rfl dJ0_copyOf_6 rfl ⟨by show 0 + 1 ≤ 1; omega, by show 0 + N ≤ N; omega⟩ (fun H locs hI => ?_)
  obtain ⟨h1, h2, rfl⟩ := hI
  refine g_I (I' := OW K (fun _ => False) (fun H1 => H1.size = H.size + 1 ∧ H1[H.size]? = some (arrV (gC Γ 5) N (fun i => va_rf es[i]?)))) (fun H1 locs1 hI => ?_) ?_
  · obtain ⟨h3, h4, h5⟩ := hI
    refine ⟨⟨by omega, fun x hx _ => ?_⟩, fun l hl => ?_, h3⟩
    · rw [hH] at hx ⊢
      exact h4.2 x hx (fun z => z)
    · rcases h5 l hl with h | h | h
      · exact h2 l h
      · exact Or.inl h
      · exact Or.inr (by rw [hH]; exact h)
  exact o_aret (pc := 9) hk (Or.inr ⟨_, rfl⟩) (fun H e => e) dJ0_copyOf_9 (by show 0 + 1 ≤ 1; omega) (by show 0 + N ≤ N; omega)
theorem o_grow_e (hΓ : DLX Γ) {H0 : Heap} {l : Nat} {m : Int32} (hl : va_at (gD Γ) ccl (l, .inr (15, [.int m, .ref (gA Γ 600), .int 0])) H0) : OMet Γ tx yJ3_grow_2 cJ3_grow_2 4 (some (.array (.object "java/lang/Object"))) { frames := 5, cells := 1, slots := 10, locals := 260 } [.ref l, .int 1] H0 (fun U => LEl U H0 []) (fun q => q = l) (some (.ref H0.size)) (fun H1 => va_at (gD Γ) ccl (l, .inr (15, [.int m, .ref H0.size, .int 0])) H1 ∧ H1.size = H0.size + 1 ∧ H1[H0.size]? = some (arrV (gC Γ 5) 10 (fun _ => va_rf none))) := by
  refine o_met (own := RJ3) rfl (by decide) rfl (ls0 := [(0, .ref l), (1, .int 1)]) rfl (fun K hk hK hH hE hPre => ?_)
  have hX := hΓ.1.1.1.1.x hK
  have hS := (hΓ.2 _ _ _ hE).1
  have hlt := hl.lt
  refine g_aload_n (pc := 0) hk dJ3_grow_2_0 rfl ?_
  refine x_get (pc := 1) hk hK (ci := 15) rfl in_J3 (fun H locs hI => by rw [hI.2.2]; exact hl) 1 (by decide) q384 (Or.inl rfl) rfl dJ3_grow_2_1 ?_
  refine x_alenT (pc := 4) hk (fun H locs hI => by rw [hI.2.2]; exact hS.2) dJ3_grow_2_4 ?_
  refine g_istore_n (pc := 5) (i := 2) hk dJ3_grow_2_5 rfl (by decide) rfl ?_
  refine g_iload_n (pc := 6) hk dJ3_grow_2_6 rfl ?_
  refine g_no (c := (0 : Int32) < Int32.ofNat 0) (by decide) ?_
  refine g_if_gt (pc := 7) (tgt := 20) hk dJ3_grow_2_7 rfl g_none ?_
  refine g_aload_n (pc := 10) hk dJ3_grow_2_10 rfl ?_
  refine x_get (pc := 11) hk hK (ci := 15) rfl in_J3 (fun H locs hI => by rw [hI.2.2]; exact hl) 1 (by decide) q384 (Or.inl rfl) rfl dJ3_grow_2_11 ?_
  refine x_gets (pc := 14) (C := RJ3) (v := .ref (gA Γ 600)) hk (fun H locs hI => by rw [hI.2.2]; exact hS.1) q382 dJ3_grow_2_14 ?_
  refine x_acmpeq (pc := 17) (tgt := 45) (A := none) (B := none) hk dJ3_grow_2_17 rfl (fun _ => ?_) (fun h => absurd rfl h)
  refine g_aload_n (pc := 45) hk dJ3_grow_2_45 rfl ?_
  refine g_bipush (pc := 46) (v := 10) hk dJ3_grow_2_46 rfl ?_
  refine g_iload_n (pc := 48) hk dJ3_grow_2_48 rfl ?_
  refine g_i_max (pc := 49) hk q689 rfl rfl rfl dJ3_grow_2_49 ⟨rfl, rfl⟩ ?_
  refine x_anew (pc := 52) (N := 10) hk hK hX q690 rfl (by omega) (by show 0 + 1 ≤ 1; omega) (by show 0 + 10 ≤ 10; omega) dJ3_grow_2_52 (fun q => ?_)
  refine g_dup_x1 (pc := 55) hk dJ3_grow_2_55 rfl rfl ?_
  refine x_put (pc := 56) (ci := 15) (fs := [.int m, .ref (gA Γ 600), .int 0]) (ref := RJ3) hk hK rfl in_J3 tyJ3 tyJ3_ok nmJ3 (fun H1 locs hI => ?_) 1 (by decide) q384 rfl rfl rfl rfl (show 1 < 3 by decide) dJ3_grow_2_56 ?_
  · obtain ⟨H, hI, -, -, ho, -⟩ := hI
    exact hl.kept (by rw [ho _ (by rw [hI.2.2]; exact hlt), hI.2.2])
  refine g_I (I' := OW K (fun q => q = l) (fun H1 => q = H0.size ∧ va_at (gD Γ) ccl (l, .inr (15, [.int m, .ref q, .int 0])) H1 ∧ H1.size = H0.size + 1 ∧ H1[q]? = some (arrV (gC Γ 5) 10 (fun _ => va_rf none)))) (fun H1 locs1 hI => ?_) ?_
  · obtain ⟨H2, locs, ⟨H, hI, h3, h4, h5, h6⟩, h7, h8, h9, h10⟩ := hI
    obtain ⟨h1, h2, rfl⟩ := hI
    refine ⟨⟨by rw [hH]; omega, fun x hx hn => ?_⟩, fun z hz => ?_, h3, h7, by omega, ?_⟩
    · rw [hH] at hx ⊢
      rw [h9 x hn, h5 x hx]
    · rcases h10 z hz with h | h
      · exact h2 z h
      · exact Or.inl h
    · rw [h9 q (by omega)]
      exact h6
  refine g_at (fun H1 locs1 hI => ?_)
  obtain ⟨h1, h2, rfl, h4⟩ := hI
  refine g_I (I' := OW K (fun q => q = l) (fun H => H = H1)) (fun H l e => by rw [e.1, e.2]; exact ⟨h1, h2, rfl⟩) ?_
  exact o_aret (pc := 59) hk (Or.inr ⟨_, rfl⟩) (fun H e => by rw [e]; exact h4) dJ3_grow_2_59 (by show 0 + 1 ≤ 1; omega) (by show 0 + 10 ≤ 10; omega)
theorem o_grow_f (hΓ : DLX Γ) {H0 : Heap} {l a : Nat} {m : Int32} {es : List Nat} (hl : va_at (gD Γ) ccl (l, .inr (15, [.int m, .ref a, .int (nI es.length)])) H0) (hne : a ≠ l) (h0 : es.length ≠ 0) (hn : es.length < 10000) (hc : H0[a]? = some (arrV (gC Γ 5) es.length (fun i => va_rf es[i]?))) : OMet Γ tx yJ3_grow_2 cJ3_grow_2 4 (some (.array (.object "java/lang/Object"))) { frames := 5, cells := 1, slots := nwN es.length, locals := 260 } [.ref l, .int (nI (es.length + 1))] H0 (fun U => LEl U H0 es) (fun q => q = l) (some (.ref H0.size)) (fun H1 => va_at (gD Γ) ccl (l, .inr (15, [.int m, .ref H0.size, .int (nI es.length)])) H1 ∧ H1.size = H0.size + 1 ∧ H1[H0.size]? = some (arrV (gC Γ 5) (nwN es.length) (fun i => va_rf es[i]?))) := by
  have hnw : es.length ≤ nwN es.length ∧ nwN es.length < 100000 := by
    unfold nwN
    split <;> omega
  refine o_met (own := RJ3) rfl (by decide) rfl (ls0 := [(0, .ref l), (1, .int (nI (es.length + 1)))]) rfl (fun K hk hK hH hE hPre => ?_)
  have hX := hΓ.1.1.1.1.x hK
  have hlt := hl.lt
  refine g_aload_n (pc := 0) hk dJ3_grow_2_0 rfl ?_
  refine x_get (pc := 1) hk hK (ci := 15) rfl in_J3 (fun H locs hI => by rw [hI.2.2]; exact hl) 1 (by decide) q384 (Or.inl rfl) rfl dJ3_grow_2_1 ?_
  refine x_alenA (pc := 4) (n := es.length) (fv := fun i => va_rf es[i]?) hk (fun H locs hI => by rw [hI.2.2]; exact hc) (hK.1.2 5 _ rfl).1 (by omega) dJ3_grow_2_4 ?_
  refine g_istore_n (pc := 5) (i := 2) hk dJ3_grow_2_5 rfl (by decide) rfl ?_
  refine g_iload_n (pc := 6) hk dJ3_grow_2_6 rfl ?_
  refine g_yes (c := (0 : Int32) < nI es.length) ((nI_ltI (a := 0) (by omega) (by omega)).mpr (by omega)) ?_
  refine g_if_gt (pc := 7) (tgt := 20) hk dJ3_grow_2_7 rfl ?_ g_none
  refine g_iload_n (pc := 20) hk dJ3_grow_2_20 rfl ?_
  refine g_iload_n (pc := 21) hk dJ3_grow_2_21 rfl ?_
  refine g_iload_n (pc := 22) hk dJ3_grow_2_22 rfl ?_
  refine g_isub (pc := 23) hk dJ3_grow_2_23 ?_
  refine g_iload_n (pc := 24) hk dJ3_grow_2_24 rfl ?_
  refine g_iconst (pc := 25) (v := 1) hk dJ3_grow_2_25 rfl ?_
  refine g_ishr (pc := 26) hk dJ3_grow_2_26 ?_
  have e1 : nI (es.length + 1) - nI es.length = 1 := by
    rw [pe_sub (by omega), show es.length + 1 - es.length = 1 by omega]
    rfl
  have e2 : i_shr (nI es.length) 1 = nI (es.length / 2) := pe_shr (k := 1) (by omega) (by decide)
  rw [e1, e2]
  refine g_callP (pc := 27) hk [.int (nI es.length), .int 1, .int (nI (es.length / 2))] [] (p_newLength (by omega)) (lw_S q646 q647 q147 q648) hs_newLength rfl ⟨rfl, rfl⟩ rfl rfl dJ3_grow_2_27 rfl rfl ⟨rfl, Nat.ble_eq.mpr (Nat.zero_le _)⟩ ?_
  refine g_istore_n (pc := 30) (i := 3) hk dJ3_grow_2_30 rfl (by decide) rfl ?_
  refine g_aload_n (pc := 31) hk dJ3_grow_2_31 rfl ?_
  refine g_aload_n (pc := 32) hk dJ3_grow_2_32 rfl ?_
  refine x_get (pc := 33) hk hK (ci := 15) rfl in_J3 (fun H locs hI => by rw [hI.2.2]; exact hl) 1 (by decide) q384 (Or.inl rfl) rfl dJ3_grow_2_33 ?_
  refine g_iload_n (pc := 36) hk dJ3_grow_2_36 rfl ?_
  refine o_callS (pc := 37) (tx := tx) (rmY := { frames := 3, cells := 1, slots := nwN es.length, locals := 160 }) (v := fun H => some (.ref H.size)) (R := fun H H1 => H1.size = H.size + 1 ∧ H1[H.size]? = some (arrV (gC Γ 5) (nwN es.length) (fun i => va_rf es[i]?))) (Pre := fun H U => LEl U H es) (fr := fun _ => False) hk hK (fun H locs hI => by rw [hI.2.2]; exact hE) (fun H s U hvm h => h.moved hvm) (fun H locs hI => by rw [hI.2.2]; exact hPre) [.ref a, .int (nI (nwN es.length))] [.ref l] (fun H locs hI => by rw [hI.2.2]; exact o_copyOf hΓ hnw.2 hnw.1 hc) (lw_S q656 q657 q126 q658) hs_copyOf rfl rfl rfl dJ3_grow_2_37 rfl ⟨by show 0 + 1 ≤ 1; omega, by show 0 + nwN es.length ≤ nwN es.length; omega⟩ (fun H locs hI => ?_)
  obtain ⟨h1, h2, rfl⟩ := hI
  refine g_dup_x1 (pc := 40) hk dJ3_grow_2_40 rfl rfl ?_
  refine x_put (pc := 41) (ci := 15) (fs := [.int m, .ref a, .int (nI es.length)]) (ref := RJ3) hk hK rfl in_J3 tyJ3 tyJ3_ok nmJ3 (fun H1 locs hI => hl.kept (hI.2.1.2 _ hlt (fun z => z))) 1 (by decide) q384 rfl rfl rfl rfl (show 1 < 3 by decide) dJ3_grow_2_41 ?_
  refine g_I (I' := OW K (fun q => q = l) (fun H1 => va_at (gD Γ) ccl (l, .inr (15, [.int m, .ref H.size, .int (nI es.length)])) H1 ∧ H1.size = H.size + 1 ∧ H1[H.size]? = some (arrV (gC Γ 5) (nwN es.length) (fun i => va_rf es[i]?)))) (fun H1 locs1 hI => ?_) ?_
  · obtain ⟨H2, locs2, ⟨⟨h3, h4⟩, h5, h6⟩, h7, h8, h9, h10⟩ := hI
    refine ⟨⟨by rw [hH]; omega, fun x hx hn => ?_⟩, fun z hz => ?_, h7, by omega, ?_⟩
    · rw [hH] at hx ⊢
      rw [h9 x hn, h5.2 x hx (fun z => z)]
    · rcases h10 z hz with h | h
      · rcases h6 z h with h | h | h
        · exact h2 z h
        · exact h.elim
        · exact Or.inr (by rw [hH]; exact h)
      · exact Or.inl h
    · rw [h9 _ (by omega)]
      exact h4
  exact o_aret (pc := 44) hk (Or.inr ⟨_, rfl⟩) (fun H e => e) dJ3_grow_2_44 (by show 0 + 1 ≤ 1; omega) (by show 0 + nwN es.length ≤ nwN es.length; omega)
/-- grow: a new array, all else of the list as it was -/
theorem o_grow_2 (hΓ : DLX Γ) {H0 : Heap} {l a : Nat} {m : Int32} {es : List Nat} (hl : va_at (gD Γ) ccl (l, .inr (15, [.int m, .ref a, .int (nI es.length)])) H0) (hL : LHt Γ H0 l a es) (hf : ¬ es.length < capN es.length) : OMet Γ tx yJ3_grow_2 cJ3_grow_2 4 (some (.array (.object "java/lang/Object"))) { frames := 5, cells := 1, slots := capN (es.length + 1), locals := 260 } [.ref l, .int (nI (es.length + 1))] H0 (fun U => LEl U H0 es) (fun q => q = l) (some (.ref H0.size)) (fun H1 => va_at (gD Γ) ccl (l, .inr (15, [.int m, .ref H0.size, .int (nI es.length)])) H1 ∧ H1.size = H0.size + 1 ∧ H1[H0.size]? = some (arrV (gC Γ 5) (capN (es.length + 1)) (fun i => va_rf es[i]?))) := by
  obtain ⟨-, h2, h3, h4⟩ := hL
  by_cases he : es = []
  · subst he
    have ha := h3 rfl
    subst ha
    exact o_grow_e (tx := tx) hΓ hl
  · have h0 : es.length ≠ 0 := fun z => he (List.length_eq_zero_iff.mp z)
    have hcap : capN es.length = es.length := by have := capN_le es.length; omega
    have hc := (h4 he).2
    rw [hcap] at hc
    rw [cap_full hf h0, hcap]
    exact o_grow_f hΓ hl (h4 he).1 h0 (by omega) hc
theorem o_grow (hΓ : DLX Γ) {H0 : Heap} {l a : Nat} {m : Int32} {es : List Nat} (hl : va_at (gD Γ) ccl (l, .inr (15, [.int m, .ref a, .int (nI es.length)])) H0) (hL : LHt Γ H0 l a es) (hf : ¬ es.length < capN es.length) : OMet Γ tx yJ3_grow cJ3_grow 1 (some (.array (.object "java/lang/Object"))) { frames := 6, cells := 1, slots := capN (es.length + 1), locals := 320 } [.ref l] H0 (fun U => LEl U H0 es) (fun q => q = l) (some (.ref H0.size)) (fun H1 => va_at (gD Γ) ccl (l, .inr (15, [.int m, .ref H0.size, .int (nI es.length)])) H1 ∧ H1.size = H0.size + 1 ∧ H1[H0.size]? = some (arrV (gC Γ 5) (capN (es.length + 1)) (fun i => va_rf es[i]?))) := by
  refine o_met (own := RJ3) rfl (by decide) rfl (ls0 := [(0, .ref l)]) rfl (fun K hk hK hH hE hPre => ?_)
  refine g_aload_n (pc := 0) hk dJ3_grow_0 rfl ?_
  refine g_aload_n (pc := 1) hk dJ3_grow_1 rfl ?_
  refine x_get (pc := 2) hk hK (ci := 15) rfl in_J3 (fun H locs hI => by rw [hI.2.2]; exact hl) 2 (by decide) q385 (Or.inl rfl) rfl dJ3_grow_2 ?_
  refine g_iconst (pc := 5) (v := 1) hk dJ3_grow_5 rfl ?_
  refine g_iadd (pc := 6) hk dJ3_grow_6 ?_
  rw [nI_1]
  refine o_callV (pc := 7) (tx := tx) (C := RJ3) (rmY := { frames := 5, cells := 1, slots := capN (es.length + 1), locals := 260 }) (v := fun H => some (.ref H.size)) (R := fun H H1 => va_at (gD Γ) ccl (l, .inr (15, [.int m, .ref H.size, .int (nI es.length)])) H1 ∧ H1.size = H.size + 1 ∧ H1[H.size]? = some (arrV (gC Γ 5) (capN (es.length + 1)) (fun i => va_rf es[i]?))) (Pre := fun H U => LEl U H es) (fr := fun q => q = l) hk hK (fun H locs hI => by rw [hI.2.2]; exact hE) (fun H s U hvm h => h.moved hvm) (fun H locs hI => by rw [hI.2.2]; exact hPre) (x_rec hK (ci := 15) rfl (fun H locs hI => by rw [hI.2.2]; exact hl)) [.int (nI (es.length + 1))] [] (fun H locs hI => by rw [hI.2.2]; exact o_grow_2 hΓ hl hL hf) (lw_V q642 q644 qs17 q133 q645) hv_grow_2 rfl rfl rfl dJ3_grow_7 rfl ⟨by show 0 + 1 ≤ 1; omega, by show 0 + capN (es.length + 1) ≤ capN (es.length + 1); omega⟩ (fun H locs hI => ?_)
  obtain ⟨h1, h2, rfl⟩ := hI
  refine g_I (I' := OW K (fun q => q = l) (fun H1 => va_at (gD Γ) ccl (l, .inr (15, [.int m, .ref H.size, .int (nI es.length)])) H1 ∧ H1.size = H.size + 1 ∧ H1[H.size]? = some (arrV (gC Γ 5) (capN (es.length + 1)) (fun i => va_rf es[i]?)))) (fun H1 locs1 hI => ?_) ?_
  · obtain ⟨h3, h4, h5⟩ := hI
    refine ⟨⟨by rw [hH]; exact h4.1, fun x hx hn => ?_⟩, fun z hz => ?_, h3⟩
    · rw [hH] at hx ⊢
      exact h4.2 x hx hn
    · rcases h5 z hz with h | h | h
      · exact h2 z h
      · exact Or.inl h
      · exact Or.inr (by rw [hH]; exact h)
  exact o_aret (pc := 10) hk (Or.inr ⟨_, rfl⟩) (fun H e => e) dJ3_grow_10 (by show 0 + 1 ≤ 1; omega) (by show 0 + capN (es.length + 1) ≤ capN (es.length + 1); omega)
/-- the end of add: a place is there -/
theorem o_add_11 (hΓ : DLX Γ) {K : KT} {l a x cap cs sl : Nat} {m : Int32} {es : List Nat} {rm : Room} {H0 : Heap} {fr : Nat → Prop} (hk : KOK K cJ3_add_2 4 RJ3 rm none) (hK : CK Γ (kS K)) (hH : (kS K).heap = H0) (hcap : capN (es.length + 1) = cap) (hlt : es.length < cap) (hsz : es.length + 1 < 1000) (hne : a ≠ l) (hfl : fr l) (hfa : fr a ∨ H0.size ≤ a) (h1 : cs ≤ rm.cells) (h2 : sl ≤ rm.slots) {sz : Nat} {R : Heap → Prop} (hR : ∀ H1, LHt Γ H1 l a (es ++ [x]) → H1.size = sz → R H1) : GGo K (oQ K fr rm none R) (some ()) 4 (OW K fr (fun H => va_at (gD Γ) ccl (l, .inr (15, [.int m, .ref a, .int (nI es.length)])) H ∧ H[a]? = some (arrV (gC Γ 5) cap (fun i => va_rf es[i]?)) ∧ elO (kS K) H x ∧ H.size = sz)) cs sl 11 [(0, .ref l), (1, .ref x), (2, .ref a), (3, .int (nI es.length))] [] := by
  have hX := hΓ.1.1.1.1.x hK
  have hc9 := capN_le (es.length + 1)
  refine g_aload_n (pc := 11) hk dJ3_add_2_11 rfl ?_
  refine g_iload_n (pc := 12) hk dJ3_add_2_12 rfl ?_
  refine g_aload_n (pc := 13) hk dJ3_add_2_13 rfl ?_
  refine x_aastO (pc := 14) (n := cap) (j := es.length) (fv := fun i => es[i]?) hk hK hX (fun H locs hI => hI.2.2.2.1) (fun H locs hI => hI.2.2.2.2.1) (inb_nI hlt (by omega)) (nI_clamp (by omega)) dJ3_add_2_14 ?_
  rw [es_put]
  refine g_aload_n (pc := 15) hk dJ3_add_2_15 rfl ?_
  refine g_iload_n (pc := 16) hk dJ3_add_2_16 rfl ?_
  refine g_iconst (pc := 17) (v := 1) hk dJ3_add_2_17 rfl ?_
  refine g_iadd (pc := 18) hk dJ3_add_2_18 ?_
  rw [nI_1]
  refine x_put (pc := 19) (ci := 15) (fs := [.int m, .ref a, .int (nI es.length)]) (ref := RJ3) hk hK rfl in_J3 tyJ3 tyJ3_ok nmJ3 (fun H1 locs hI => ?_) 2 (by decide) q385 rfl rfl rfl rfl (show 2 < 3 by decide) dJ3_add_2_19 ?_
  · obtain ⟨H, locs2, hI, h3, h4, h5, h6⟩ := hI
    exact hI.2.2.1.kept (h5 l (Ne.symm hne))
  refine g_I (I' := OW K fr (fun H1 => LHt Γ H1 l a (es ++ [x]) ∧ H1.size = sz)) (fun H1 locs1 hI => ?_) ?_
  · obtain ⟨H2, locs2, ⟨H, locs, ⟨⟨k1, k2⟩, k3, k4, k5, k6, k7⟩, h3, h4, h5, h6⟩, h7, h8, h9, h10⟩ := hI
    refine ⟨⟨by omega, fun q hq hn => ?_⟩, fun z hz => ?_, ⟨⟨m, ?_⟩, ?_, fun e => ?_, fun _ => ⟨hne, ?_⟩⟩, by omega⟩
    · have ql : q ≠ l := fun e => hn (e ▸ hfl)
      have qa : q ≠ a := fun e => hfa.elim (fun h => hn (e ▸ h)) (fun h => by rw [hH] at hq; omega)
      rw [h9 q ql, h5 q qa, k2 q hq hn]
    · rcases h10 z hz with h | h
      · rcases h6 z h with h | h
        · exact k3 z h
        · exact hfa.elim (fun w => Or.inl (by rw [h]; exact w)) (fun w => Or.inr (by rw [h, hH]; exact w))
      · exact Or.inl (by rw [h]; exact hfl)
    · rw [List.length_append, List.length_singleton]
      exact h7
    · rw [List.length_append, List.length_singleton]
      exact hsz
    · exact absurd e (by simp)
    · rw [h9 a hne, List.length_append, List.length_singleton, hcap]
      exact h3
  exact o_vret (pc := 22) hk (fun H e => hR H e.1 e.2) dJ3_add_2_22 h1 h2
theorem o_add_3 (hΓ : DLX Γ) {K : KT} {l a x : Nat} {m : Int32} {es : List Nat} {H0 : Heap} (hk : KOK K cJ3_add_2 4 RJ3 { frames := 7, cells := adC es.length, slots := adS es.length, locals := 380 } none) (hK : CK Γ (kS K)) (hH : (kS K).heap = H0) (hE : gE Γ tx (kS K) H0) (hPre : LEl (kS K) H0 (x :: es)) (hxl : x ≠ l) (hl : va_at (gD Γ) ccl (l, .inr (15, [.int m, .ref a, .int (nI es.length)])) H0) (hL : LHt Γ H0 l a es) (hsz : es.length + 1 < 1000) (hf : ¬ es.length < capN es.length) : GGo K (oQ K (fun q => q = l ∨ (es ≠ [] ∧ q = a)) { frames := 7, cells := adC es.length, slots := adS es.length, locals := 380 } none (fun H1 => ∃ a', (a' = a ∨ a' = H0.size) ∧ (es = [] → a' = H0.size) ∧ H1.size = H0.size + adC es.length ∧ LHt Γ H1 l a' (es ++ [x]))) (some ()) 4 (OW K (fun q => q = l ∨ (es ≠ [] ∧ q = a)) (fun H => H = H0)) 0 0 3 [(0, .ref l), (1, .ref x), (2, .ref a), (3, .int (nI es.length))] [.int (nI es.length), .int (nI es.length)] := by
  have hlt := hL.lt
  have hc1 : adC es.length = 1 := if_neg hf
  have hc2 : adS es.length = capN (es.length + 1) := if_neg hf
  have hcap := capN_le (es.length + 1)
  refine g_yes (c := nI es.length = nI es.length) rfl ?_
  refine g_icmp_ne (pc := 3) (tgt := 11) hk dJ3_add_2_3 rfl g_none ?_
  refine g_aload_n (pc := 6) hk dJ3_add_2_6 rfl ?_
  refine o_callV (pc := 7) (tx := tx) (C := RJ3) (rmY := { frames := 6, cells := 1, slots := capN (es.length + 1), locals := 320 }) (v := fun H => some (.ref H.size)) (R := fun H H1 => va_at (gD Γ) ccl (l, .inr (15, [.int m, .ref H.size, .int (nI es.length)])) H1 ∧ H1.size = H.size + 1 ∧ H1[H.size]? = some (arrV (gC Γ 5) (capN (es.length + 1)) (fun i => va_rf es[i]?))) (Pre := fun H U => LEl U H es) (fr := fun q => q = l) hk hK (fun H locs hI => by rw [hI.2.2]; exact hE) (fun H s U hvm h => h.moved hvm) (fun H locs hI => by rw [hI.2.2]; exact fun e he => hPre e (List.mem_cons_of_mem _ he)) (x_rec hK (ci := 15) rfl (fun H locs hI => by rw [hI.2.2]; exact hl)) [] [] (fun H locs hI => by rw [hI.2.2]; exact o_grow hΓ hl hL hf) (lw_V q638 q640 qs16 q133 q641) hv_grow rfl rfl rfl dJ3_add_2_7 rfl ⟨by show 0 + 1 ≤ adC es.length; omega, by show 0 + capN (es.length + 1) ≤ adS es.length; omega⟩ (fun H locs hI => ?_)
  obtain ⟨h1, h2, rfl⟩ := hI
  refine g_I (I' := OW K (fun q => q = l ∨ (es ≠ [] ∧ q = a)) (fun H1 => va_at (gD Γ) ccl (l, .inr (15, [.int m, .ref H.size, .int (nI es.length)])) H1 ∧ H1[H.size]? = some (arrV (gC Γ 5) (capN (es.length + 1)) (fun i => va_rf es[i]?)) ∧ elO (kS K) H1 x ∧ H1.size = H.size + 1)) (fun H1 locs1 hI => ?_) ?_
  · obtain ⟨⟨h3, h3b, h3c⟩, h4, h5⟩ := hI
    refine ⟨⟨by rw [hH]; exact h4.1, fun q hq hn => ?_⟩, fun z hz => ?_, h3, h3c, ?_, h3b⟩
    · rw [hH] at hq ⊢
      exact h4.2 q hq (fun e => hn (Or.inl e))
    · rcases h5 z hz with h | h | h
      · exact h2 z h
      · exact Or.inl (Or.inl h)
      · exact Or.inr (by rw [hH]; exact h)
    · exact (hPre x List.mem_cons_self).kept (fun hx => h4.2 x hx hxl)
  refine g_astore_n (pc := 10) (i := 2) hk dJ3_add_2_10 rfl (by decide) rfl ?_
  refine g_ls (ls' := [(0, .ref l), (1, .ref x), (2, .ref H.size), (3, .int (nI es.length))]) ⟨rfl, rfl, rfl, rfl, trivial⟩ ?_
  exact o_add_11 hΓ hk hK hH rfl (by omega) hsz (by omega) (Or.inl rfl) (Or.inr (Nat.le_refl _)) (by show 0 + 1 ≤ adC es.length; omega) (by show 0 + capN (es.length + 1) ≤ adS es.length; omega) (fun H1 hh hz => ⟨H.size, Or.inr rfl, fun _ => rfl, by omega, hh⟩)
theorem o_add_2 (hΓ : DLX Γ) {H0 : Heap} {l a x : Nat} {m : Int32} {es : List Nat} (hxl : x ≠ l) (hl : va_at (gD Γ) ccl (l, .inr (15, [.int m, .ref a, .int (nI es.length)])) H0) (hL : LHt Γ H0 l a es) (hsz : es.length + 1 < 1000) : OMet Γ tx yJ3_add_2 cJ3_add_2 4 none { frames := 7, cells := adC es.length, slots := adS es.length, locals := 380 } [.ref l, .ref x, .ref a, .int (nI es.length)] H0 (fun U => LEl U H0 (x :: es)) (fun q => q = l ∨ (es ≠ [] ∧ q = a)) none (fun H1 => ∃ a', (a' = a ∨ a' = H0.size) ∧ (es = [] → a' = H0.size) ∧ H1.size = H0.size + adC es.length ∧ LHt Γ H1 l a' (es ++ [x])) := by
  have hlt := hL.lt
  have hcap := capN_le es.length
  refine o_met (own := RJ3) rfl (by decide) rfl (ls0 := [(0, .ref l), (1, .ref x), (2, .ref a), (3, .int (nI es.length))]) rfl (fun K hk hK hH hE hPre => ?_)
  have hX := hΓ.1.1.1.1.x hK
  have hS := (hΓ.2 _ _ _ hE).1
  refine g_iload_n (pc := 0) hk dJ3_add_2_0 rfl ?_
  refine g_aload_n (pc := 1) hk dJ3_add_2_1 rfl ?_
  by_cases he : es = []
  · have ha := hL.2.2.1 he
    refine x_alenT (pc := 2) (N := 0) (t := a) hk (fun H locs hI => by rw [hI.2.2, ha]; exact hS.2) dJ3_add_2_2 ?_
    have hn : es.length = 0 := by rw [he]; rfl
    rw [show Int32.ofNat 0 = nI es.length by rw [hn]; rfl]
    exact o_add_3 hΓ hk hK hH hE hPre hxl hl hL hsz (by rw [hn]; decide)
  · have hc := (hL.2.2.2 he).2
    refine x_alenA (pc := 2) (n := capN es.length) (fv := fun i => va_rf es[i]?) hk (fun H locs hI => by rw [hI.2.2]; exact hc) (hK.1.2 5 _ rfl).1 (by omega) dJ3_add_2_2 ?_
    by_cases hf : es.length < capN es.length
    · refine g_no (c := nI es.length = nI (capN es.length)) (pe_ne (by omega) (by omega) (by omega)) ?_
      refine g_icmp_ne (pc := 3) (tgt := 11) hk dJ3_add_2_3 rfl ?_ g_none
      have hc1 : adC es.length = 0 := if_pos hf
      have hc2 : adS es.length = 0 := if_pos hf
      refine g_I (I' := OW K (fun q => q = l ∨ (es ≠ [] ∧ q = a)) (fun H => va_at (gD Γ) ccl (l, .inr (15, [.int m, .ref a, .int (nI es.length)])) H ∧ H[a]? = some (arrV (gC Γ 5) (capN es.length) (fun i => va_rf es[i]?)) ∧ elO (kS K) H x ∧ H.size = H0.size)) (fun H1 locs1 hI => ?_) ?_
      · obtain ⟨h1, h2, rfl⟩ := hI
        exact ⟨h1, h2, hl, hc, hPre x List.mem_cons_self, rfl⟩
      exact o_add_11 hΓ hk hK hH (cap_room hf) hf hsz (hL.2.2.2 he).1 (Or.inl rfl) (Or.inl (Or.inr ⟨he, rfl⟩)) (by omega) (by omega) (fun H1 hh hz => ⟨a, Or.inl rfl, fun e => absurd e he, by omega, hh⟩)
    · rw [show capN es.length = es.length by omega]
      exact o_add_3 hΓ hk hK hH hE hPre hxl hl hL hsz hf
/-- what the world's fixed part rests on is older than b -/
def gEb (Γ : CG) (tx : TXs Tx) (b : Nat) (U : State) (H : Heap) : Prop := ∃ Hb : Heap, gE Γ tx U Hb ∧ cFr Γ Hb H ∧ Hb.size ≤ b
theorem gEb.put {b : Nat} {U : State} {H H1 : Heap} (h : gEb Γ tx b U H) (hz : H.size ≤ H1.size) (ho : ∀ q : Nat, q < H.size → q < b → H1[q]? = H[q]?) : gEb Γ tx b U H1 := by
  obtain ⟨Hb, h1, h2, h3⟩ := h
  exact ⟨Hb, h1, ⟨Nat.le_trans h2.1 hz, fun q hq hn => (ho q (Nat.lt_of_lt_of_le hq h2.1) (by omega)).trans (h2.2 q hq hn)⟩, h3⟩
theorem gEb.ge (hO : cOK Γ) {b : Nat} {U : State} {H : Heap} (h : gEb Γ tx b U H) : gE Γ tx U H := by
  obtain ⟨Hb, h1, h2, h3⟩ := h
  exact hO.2.1 _ _ _ _ h2 h1
theorem gEb.moved (hO : cOK Γ) {b : Nat} {s U : State} {H : Heap} (hvm : s.vm.Alike U.vm) (h : gEb Γ tx b s H) : gEb Γ tx b U H := by
  obtain ⟨Hb, h1, h2⟩ := h
  exact ⟨Hb, hO.2.2.1 _ _ _ _ hvm h1, h2⟩
theorem x_putS {ρ : Type} {K : KT} {Q : ρ → State → Prop} {comp : Option ρ} {nL : Nat} {I : Heap → List Loc → Prop} {cs sl pc : Nat} {ls : List (Nat × Value)} {st : List Value} {cc : ByteArray} {rm : Room} {ret : Option FieldType} {own : String} (hk : KOK K cc nL own rm ret) (hK : CK Γ (kS K)) {ci N idx : Nat} {C ref : String} {T : u_T} {fs : List Value} {a : Nat} {v : Value} (hc : ccl[ci]? = some (C, T, N)) (hin : ∀ w ∈ u_ws C T N, w ∈ lw_all) (ty0 : Nat → FieldType) (hty : ∀ k, k < N → parseFieldDescriptor (T k).2.2.1 = some (ty0 k)) (hnm : ∀ a, a < N → ∀ b, b < N → a ≠ b → (T a).2.1 ≠ (T b).2.1) (ha : ∀ H locs, I H locs → va_at (gD Γ) ccl (a, .inr (ci, fs)) H) (k : Nat) (hkN : k < N) (hl : Cond.fieldLink own idx ref (T k).2.1 (T k).2.2.1 ∈ lw_all) (hs : Cond.sameField ref (T k).1 (T k).2.1 (T k).2.2.1 ∈ lw_all) (hfin : (T k).2.2.2 = false) (hn : narrow (ty0 k) v = v) (hfit : fits (ty0 k) v = true) (hkl : k < fs.length) (hd : decode cc pc = .ok (.putfield idx, 3))
    (kk : GGo K Q comp nL (fun H1 locs1 => ∃ H locs, I H locs ∧ va_at (gD Γ) ccl (a, .inr (ci, fs.set k v)) H1 ∧ H1.size = H.size ∧ (∀ q : Nat, q ≠ a → H1[q]? = H[q]?) ∧ ∀ l ∈ locs1, l ∈ locs ∨ l.base = a) cs sl (pc + 3) ls st) : GGo K Q comp nL I cs sl pc ls (v :: .ref a :: st) := by
  intro r hr H locs lsA hI hh
  refine c_put0 (D := gD Γ) (ci := ci) (v := v) (ty := ty0 k) (C := C) (T := T) (N := N) hk.1 hk.2.1 hk.2.2.2.2.1 hin ty0 hty hnm hk.2.2.2.1 hK.1 (ha H locs hI) hc k hkN (hk.2.2.2.2.1 _ hl) (fun x h9 => u_same (hk.2.2.2.2.1 _ hs) x h9) hfin (hty k hkN) hn hfit hkl hd (fun H1 locs1 hP hz oq hlo => ?_)
  exact kk r hr H1 locs1 lsA ⟨H, locs, hI, hP, hz, oq, hlo⟩ hh
/-- add: one more at the end -/
theorem o_add (hΓ : DLX Γ) {H0 : Heap} {l a x b : Nat} {es : List Nat} (hb : b ≤ l) (hxl : x ≠ l) (hel : l ∉ es) (hL : LHt Γ H0 l a es) (hsz : es.length + 1 < 1000) : OMet Γ tx yJ3_add cJ3_add 2 (some .boolean) { frames := 8, cells := adC es.length, slots := adS es.length, locals := 440 } [.ref l, .ref x] H0 (fun U => LEl U H0 (x :: es) ∧ gEb Γ tx b U H0) (fun q => q = l ∨ (es ≠ [] ∧ q = a)) (some (.int 1)) (fun H1 => ∃ a', (a' = a ∨ a' = H0.size) ∧ (es = [] → a' = H0.size) ∧ H1.size = H0.size + adC es.length ∧ LHt Γ H1 l a' (es ++ [x])) := by
  have hlt := hL.lt
  have hL' := hL
  obtain ⟨⟨m, hl⟩, hL2, hL3, hL4⟩ := hL
  refine o_met (own := RJ3) rfl (by decide) rfl (ls0 := [(0, .ref l), (1, .ref x)]) rfl (fun K hk hK hH hE hPre => ?_)
  refine g_aload_n (pc := 0) hk dJ3_add_0 rfl ?_
  refine g_dup (pc := 1) hk dJ3_add_1 rfl ?_
  refine x_get (pc := 2) hk hK (ci := 15) (ref := RJ3) rfl in_J3 (fun H locs hI => by rw [hI.2.2]; exact hl) 0 (by decide) q387 (Or.inr q388) rfl dJ3_add_2 ?_
  refine g_iconst (pc := 5) (v := 1) hk dJ3_add_5 rfl ?_
  refine g_iadd (pc := 6) hk dJ3_add_6 ?_
  refine x_putS (pc := 7) (ci := 15) (fs := [.int m, .ref a, .int (nI es.length)]) (ref := RJ3) hk hK rfl in_J3 tyJ3 tyJ3_ok nmJ3 (fun H1 locs hI => by rw [hI.2.2]; exact hl) 0 (by decide) q387 q388 rfl rfl rfl (show 0 < 3 by decide) dJ3_add_7 ?_
  refine g_I (I' := OW K (fun q => q = l ∨ (es ≠ [] ∧ q = a)) (fun H1 => va_at (gD Γ) ccl (l, .inr (15, [.int (m + 1), .ref a, .int (nI es.length)])) H1 ∧ H1.size = H0.size ∧ ∀ q : Nat, q ≠ l → H1[q]? = H0[q]?)) (fun H1 locs1 hI => ?_) ?_
  · obtain ⟨H, locs, ⟨h1, h2, rfl⟩, h4, h5, h6, h7⟩ := hI
    refine ⟨⟨by rw [hH, h5]; exact Nat.le_refl _, fun q hq hn => ?_⟩, fun z hz => ?_, h4, h5, h6⟩
    · rw [hH]
      exact h6 q (fun e => hn (Or.inl e))
    · rcases h7 z hz with h | h
      · exact h2 z h
      · exact Or.inl (Or.inl h)
  refine g_aload_n (pc := 10) hk dJ3_add_10 rfl ?_
  refine g_aload_n (pc := 11) hk dJ3_add_11 rfl ?_
  refine g_aload_n (pc := 12) hk dJ3_add_12 rfl ?_
  refine x_get (pc := 13) hk hK (ci := 15) rfl in_J3 (fun H locs hI => hI.2.2.1) 1 (by decide) q384 (Or.inl rfl) rfl dJ3_add_13 ?_
  refine g_aload_n (pc := 16) hk dJ3_add_16 rfl ?_
  refine x_get (pc := 17) hk hK (ci := 15) rfl in_J3 (fun H locs hI => hI.2.2.1) 2 (by decide) q385 (Or.inl rfl) rfl dJ3_add_17 ?_
  have mkL : ∀ H locs, OW K (fun q => q = l ∨ (es ≠ [] ∧ q = a)) (fun H1 => va_at (gD Γ) ccl (l, .inr (15, [.int (m + 1), .ref a, .int (nI es.length)])) H1 ∧ H1.size = H0.size ∧ ∀ q : Nat, q ≠ l → H1[q]? = H0[q]?) H locs → LHt Γ H l a es := fun H locs hI => ⟨⟨_, hI.2.2.1⟩, hL2, hL3, fun hne => ⟨(hL4 hne).1, by rw [hI.2.2.2.2 a (hL4 hne).1]; exact (hL4 hne).2⟩⟩
  have mkE : ∀ H locs, OW K (fun q => q = l ∨ (es ≠ [] ∧ q = a)) (fun H1 => va_at (gD Γ) ccl (l, .inr (15, [.int (m + 1), .ref a, .int (nI es.length)])) H1 ∧ H1.size = H0.size ∧ ∀ q : Nat, q ≠ l → H1[q]? = H0[q]?) H locs → LEl (kS K) H (x :: es) := fun H locs hI => hPre.1.kept (fun e _ he => hI.2.2.2.2 e (fun z => by
    rcases List.mem_cons.mp he with h | h
    · exact hxl (h ▸ z)
    · exact hel (z ▸ h)))
  refine o_callV (pc := 20) (tx := tx) (C := RJ3) (rmY := { frames := 7, cells := adC es.length, slots := adS es.length, locals := 380 }) (v := fun H => none) (R := fun H H1 => ∃ a', (a' = a ∨ a' = H.size) ∧ (es = [] → a' = H.size) ∧ H1.size = H.size + adC es.length ∧ LHt Γ H1 l a' (es ++ [x])) (Pre := fun H U => LEl U H (x :: es)) (fr := fun q => q = l ∨ (es ≠ [] ∧ q = a)) hk hK (fun H locs hI => (hPre.2.put (by rw [hI.2.2.2.1]; exact Nat.le_refl _) (fun q _ hq => hI.2.2.2.2 q (by omega))).ge hK.2.2.2) (fun H s U hvm h => h.moved hvm) mkE (x_rec hK (ci := 15) rfl (fun H locs hI => hI.2.2.1)) [.ref x, .ref a, .int (nI es.length)] [] (fun H locs hI => o_add_2 hΓ hxl hI.2.2.1 (mkL H locs hI) hsz) (lw_V q634 q636 qs15 q133 q637) hv_add_2 rfl rfl rfl dJ3_add_20 rfl ⟨by show 0 + adC es.length ≤ adC es.length; omega, by show 0 + adS es.length ≤ adS es.length; omega⟩ (fun H locs hI => ?_)
  obtain ⟨h1, h2, h3, h4, h5⟩ := hI
  refine g_I (I' := OW K (fun q => q = l ∨ (es ≠ [] ∧ q = a)) (fun H1 => ∃ a', (a' = a ∨ a' = H0.size) ∧ (es = [] → a' = H0.size) ∧ H1.size = H0.size + adC es.length ∧ LHt Γ H1 l a' (es ++ [x]))) (fun H1 locs1 hI => ?_) ?_
  · obtain ⟨k1, k2, k3⟩ := hI
    rw [h4] at k1
    refine ⟨⟨Nat.le_trans h1.1 k2.1, fun q hq hn => ?_⟩, fun z hz => ?_, k1⟩
    · rw [k2.2 q (Nat.lt_of_lt_of_le hq h1.1) hn]
      exact h1.2 q hq hn
    · rcases k3 z hz with h | h | h
      · exact h2 z h
      · exact Or.inl h
      · exact Or.inr (Nat.le_trans h1.1 h)
  refine g_iconst (pc := 23) (v := 1) hk dJ3_add_23 rfl ?_
  exact o_zret (pc := 24) hk rfl (fun H e => e) dJ3_add_24 (by show 0 + adC es.length ≤ adC es.length; omega) (by show 0 + adS es.length ≤ adS es.length; omega)
/-! constructors: the frames above -/
theorem x_objI {ρ : Type} {K : KT} {Q : ρ → State → Prop} {comp : Option ρ} {nL : Nat} {I : Heap → List Loc → Prop} {cs sl pc idx : Nat} {ls : List (Nat × Value)} {st : List Value} {cc : ByteArray} {rm : Room} {ret : Option FieldType} {own : String} (hk : KOK K cc nL own rm ret) {a : Nat} (hl : Cond.methodLink own idx Lib.objectInit ∈ lw_all) (hi : Cond.instanceMethod Lib.objectInit ∈ lw_all) (hcd : Cond.code Lib.objectInit ⟨#[0xb1]⟩ 1 none ∈ lw_all) (hs : Nat.ble ((st.map fun v => v.category).sum) 8 = true) (hr1 : Nat.ble 1 rm.frames = true) (hr2 : Nat.ble 20 rm.locals = true) (hd : decode cc pc = .ok (.invokespecial idx, 3)) (kk : GGo K Q comp nL I cs sl (pc + 3) ls st) : GGo K Q comp nL I cs sl pc ls (.ref a :: st) := by
  intro r hr H locs lsA hI hh
  exact W.objInit hk.1 hk.2.1 hk.2.2.2.1 (hk.2.2.2.2.1 _ hl) (hk.2.2.2.2.1 _ hi) (hk.2.2.2.2.1 _ hcd) rfl (by rw [hh.1]; exact hk.2.2.1.symm) rfl hd (by show 1 ≤ (kR K).frames; rw [hk.2.2.2.2.2.2.2]; exact Nat.le_of_ble_eq_true hr1) (by have e1 := Nat.le_of_ble_eq_true hs; have e2 := Nat.le_of_ble_eq_true hr2; show 2 * 0 + _ + 12 ≤ (kR K).locals; rw [hk.2.2.2.2.2.2.2]; omega) (kk r hr H locs lsA hI hh)
end ALJ
