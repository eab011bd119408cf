/-! one; all of the recursive methods, so deep (made by mkdx25.py) -/
set_option maxRecDepth 100000
section ONE
variable {Γ : CG} {tx : TXs Tx} {π : PPar}
theorem kNm_of (s : Int32) : ∀ (l : List Int32) (j : Nat), j + l.length < 15 → ¬ kNm s l j = -1 → ∃ n, n < 15 ∧ kNm s l j = nI n := by
  intro l
  induction l with
  | nil => intro j _ h; exact absurd rfl h
  | cons x t ih =>
    intro j hj h
    rw [List.length_cons] at hj
    unfold kNm at h ⊢
    split
    · exact ⟨j, by omega, rfl⟩
    · rename_i hne
      rw [if_neg hne] at h
      exact ih (j + 1) (by omega) h
theorem k_one (hΓ : DLX Γ) {F L k ks k1 ka kc Fs Ls F1 L1 Fc Lc Fa La : Nat} {one : TKS → Option (KRs Den)} {ask : TKS → Option (KRs ADen)} (hS : subOK Γ tx π .inl yX3_sum cX3_sum 3 (.object "ShaveOfAnother$Sum") Fs Ls ks (K_sum π one)) (h1 : subOK Γ tx π .inl yX3_one cX3_one 3 (.object "ShaveOfAnother$Sum") F1 L1 k1 one) (hC : subOK Γ tx π .inl yX3_choice cX3_choice 4 (.object "ShaveOfAnother$Sum") Fc Lc kc (K_choice π one ask)) (hA : subOK Γ tx π .inl yX3_after cX3_after 3 (.object "ShaveOfAnother$Sum") Fa La ka (K_after π one)) (hSb : Fs ≤ F ∧ Ls ≤ L) (h1b : F1 ≤ F ∧ L1 ≤ L) (hCb : Fc ≤ F ∧ Lc ≤ L) (hAb : Fa ≤ F ∧ La ≤ L) (hka : ka ≤ k + 1) (hkc : kc ≤ k + 1) (hks : ks ≤ k) (hk1 : k1 ≤ k) (hF : 24 ≤ F) (hL : 1200 ≤ L) : subOK Γ tx π .inl yX3_one cX3_one 3 (.object "ShaveOfAnother$Sum") (F + 1) (L + 40) (k + 1) (K_one π one ask) := by
  intro H0 τ r ht hr
  refine x_met (view := fun r : KRs Den => vwS Γ π .inl H0 (k + 1) r.1) (comp := some r) (own := RX3) rfl (by decide) rfl (ls0 := [(0, .ref π.1)]) rfl (fun K hk hK htab htr hH hG => ?_) r rfl
  subst hH
  have ht9 := ht.lt
  refine px_in ?_ ht
  unfold K_one at hr
  refine g_aload_n (pc := 0) hk dX3_one_0 rfl ?_
  refine kg_25 (pc := 1) hk hK (fun _ _ e => e.1) dX3_one_1 ?_
  refine g_sipush (pc := 4) (v := 300) hk dX3_one_4 rfl ?_
  by_cases e1 : τ.2.2.1 = 300
  · rw [if_pos e1] at hr
    refine g_yes (c := τ.2.2.1 = 300) e1 ?_
    refine g_icmp_ne (pc := 7) (tgt := 26) hk dX3_one_7 rfl g_none ?_
    have c1 : 2 ≤ r.2.1 ∧ 9 ≤ r.2.2 := by
      rcases obE_some hr with ⟨_, -, h⟩ | ⟨_, -, h⟩ <;> (cases h; exact ⟨Nat.le_refl _, Nat.le_refl _⟩)
    refine py_new (pc := 10) (ci := 6) (N := 1) (fs := [.int 0]) (E2 := fun _ _ => True) hk hK rfl in_X7 tyX7 tyX7_ok q565 q566 q144 (fun j hj => by
      rcases (show j = 0 by omega) with rfl; rfl) (by show 0 + 1 ≤ r.2.1; omega) (by show 0 + 1 ≤ r.2.2; omega) dX3_one_10 ht9 (fun _ _ _ _ _ _ => trivial) (fun c => ?_)
    refine g_dup (pc := 13) hk dX3_one_13 rfl ?_
    refine g_aload_n (pc := 14) hk dX3_one_14 rfl ?_
    refine g_iconst (pc := 15) (v := 0) hk dX3_one_15 rfl ?_
    refine g_sipush (pc := 16) (v := 9999) hk dX3_one_16 rfl ?_
    rcases obE_some hr with ⟨e, hn, h⟩ | ⟨x, hn, h⟩
    · cases h
      exact px_callE (pc := 19) (rmY := rm_x_wn) hk hK htab htr hG rfl [.int 0, .int 9999] [.ref c, .ref c] (fun H ht _ _ => k_number hΓ.1 ht hn) (lw_V q567 q569 qs9 q129 q570) hv_k_number (rmFit_i (by show 8 + 1 ≤ F + 1; omega) (by show 8 + (4 + 11) + 500 ≤ L + 40; omega)) rfl rfl dX3_one_19 rfl ⟨Nat.le_refl 2, Nat.le_refl 9⟩
    · cases h
      refine px_callR (pc := 19) (tx := tx) (rmY := rm_x_wn) (τ' := x.2) (E' := fun _ H => True ∧ va_at (gD Γ) ccl (c, .inr (6, [.int 0])) H ∧ (kS K).heap.size ≤ c) (V := fun v => v = some (.int x.1)) (R := fun _ v H1 => v = some (.int x.1) ∧ va_at (gD Γ) ccl (π.1, .inr (2, tkF Γ π x.2)) H1) hk hK htr hG [.int 0, .int 9999] [.ref c, .ref c] (fun H ht _ _ => k_number hΓ.1 ht hn) (fun H v H1 e1 _ e3 e4 => ⟨e4.1, e4.2, trivial, e1.2.1.kept (e3.2 _ e1.2.1.lt (by have := e1.2.2; omega)), e1.2.2⟩) (lw_V q567 q569 qs9 q129 q570) hv_k_number (rmFit_i (by show 8 + 1 ≤ F + 1; omega) (by show 8 + (4 + 11) + 500 ≤ L + 40; omega)) rfl rfl dX3_one_19 rfl ⟨Nat.le_refl 2, Nat.le_refl 9⟩ (fun v hv => ?_)
      subst hv
      refine py_rec (pc := 22) (ci := 6) (gs := [.int x.1]) hk hK htr hG [.int x.1] [.ref c] (fun H hf => n_X7 x.1 hf) cn_571 q572 q144 q573 rfl hi_X7 (by show 4 ≤ F + 1; omega) (by show 8 + (2 + 11) + 160 ≤ L + 40; omega) rfl rfl dX3_one_22 rfl ⟨Nat.le_refl 2, Nat.le_refl 9⟩ ht9 (fun _ _ _ _ _ => trivial) ?_
      exact x_aretX (pc := 25) hk (Or.inl ⟨_, rfl⟩) rfl (fun H locs hI => ⟨⟨c, rfl, hI.1, DAt.up (show DAt Γ _ H 0 (.inl (dPlain x.1)) c from ⟨hI.2.2.2.2.2, Or.inl ⟨x.1, rfl, hI.2.2.2.2.1⟩⟩) (Nat.zero_le _)⟩, hI.2.1, hI.2.2.1⟩) dX3_one_25 (Nat.le_refl 2) (Nat.le_refl 9)
  rw [if_neg e1] at hr
  refine g_no (c := τ.2.2.1 = 300) e1 ?_
  refine g_icmp_ne (pc := 7) (tgt := 26) hk dX3_one_7 rfl ?_ g_none
  refine g_aload_n (pc := 26) hk dX3_one_26 rfl ?_
  refine kg_25 (pc := 27) hk hK (fun _ _ e => e.1) dX3_one_27 ?_
  refine g_sipush (pc := 30) (v := 212) hk dX3_one_30 rfl ?_
  by_cases e2 : τ.2.2.1 = 212
  · rw [if_pos e2] at hr
    refine g_yes (c := τ.2.2.1 = 212) e2 ?_
    refine g_icmp_ne (pc := 33) (tgt := 41) hk dX3_one_33 rfl g_none ?_
    refine g_aload_n (pc := 36) hk dX3_one_36 rfl ?_
    obtain ⟨po, a, b⟩ := r
    rcases po with e | ⟨d, τ1⟩
    · exact py_subE (pc := 37) hk hK htab htr hG rfl hC hr [] (lw_V q582 q584 qs10 q129 q585) hv_k_choice (Nat.succ_le_succ hCb.1) (by have z9 := hCb.2; show 8 + (4 + 11) + _ ≤ L + 40; omega) rfl dX3_one_37 rfl ⟨by show 0 + a ≤ a; omega, by show 0 + b ≤ b; omega⟩
    · refine py_subD (pc := 37) hk hK htr hG PSt.tr hC hr [] (lw_V q582 q584 qs10 q129 q585) hv_k_choice (Nat.succ_le_succ hCb.1) (by have z9 := hCb.2; show 8 + (4 + 11) + _ ≤ L + 40; omega) rfl dX3_one_37 rfl ⟨by show 0 + a ≤ a; omega, by show 0 + b ≤ b; omega⟩ (fun q => ?_)
      exact x_aretX (pc := 40) hk (Or.inl ⟨_, rfl⟩) rfl (fun H locs hI => ⟨⟨q, rfl, hI.1, DAt.up hI.2.2.2.2 hkc⟩, hI.2.1, hI.2.2.1⟩) dX3_one_40 (by show 0 + a ≤ a; omega) (by show 0 + b ≤ b; omega)
  rw [if_neg e2] at hr
  refine g_no (c := τ.2.2.1 = 212) e2 ?_
  refine g_icmp_ne (pc := 33) (tgt := 41) hk dX3_one_33 rfl ?_ g_none
  refine g_aload_n (pc := 41) hk dX3_one_41 rfl ?_
  refine kg_25 (pc := 42) hk hK (fun _ _ e => e.1) dX3_one_42 ?_
  refine g_sipush (pc := 45) (v := 210) hk dX3_one_45 rfl ?_
  by_cases e3 : τ.2.2.1 = 210
  · rw [if_pos e3] at hr
    refine g_yes (c := τ.2.2.1 = 210) e3 ?_
    refine g_icmp_ne (pc := 48) (tgt := 56) hk dX3_one_48 rfl g_none ?_
    refine g_aload_n (pc := 51) hk dX3_one_51 rfl ?_
    obtain ⟨po, a, b⟩ := r
    rcases po with e | ⟨d, τ1⟩
    · exact py_subE (pc := 52) hk hK htab htr hG rfl hA hr [] (lw_V q741 q743 qs19 q129 q744) hv_k_after (Nat.succ_le_succ hAb.1) (by have z9 := hAb.2; show 8 + (3 + 11) + _ ≤ L + 40; omega) rfl dX3_one_52 rfl ⟨by show 0 + a ≤ a; omega, by show 0 + b ≤ b; omega⟩
    · refine py_subD (pc := 52) hk hK htr hG PSt.tr hA hr [] (lw_V q741 q743 qs19 q129 q744) hv_k_after (Nat.succ_le_succ hAb.1) (by have z9 := hAb.2; show 8 + (3 + 11) + _ ≤ L + 40; omega) rfl dX3_one_52 rfl ⟨by show 0 + a ≤ a; omega, by show 0 + b ≤ b; omega⟩ (fun q => ?_)
      exact x_aretX (pc := 55) hk (Or.inl ⟨_, rfl⟩) rfl (fun H locs hI => ⟨⟨q, rfl, hI.1, DAt.up hI.2.2.2.2 hka⟩, hI.2.1, hI.2.2.1⟩) dX3_one_55 (by show 0 + a ≤ a; omega) (by show 0 + b ≤ b; omega)
  rw [if_neg e3] at hr
  refine g_no (c := τ.2.2.1 = 210) e3 ?_
  refine g_icmp_ne (pc := 48) (tgt := 56) hk dX3_one_48 rfl ?_ g_none
  refine g_aload_n (pc := 56) hk dX3_one_56 rfl ?_
  refine x_callV (pc := 57) (tx := tx) (v := some (.int (kNm τ.2.2.1 kNAMED 0))) (rmY := rmK 1) hk hK (fun H locs hI => (hG.fr hI.2.1).ge hK.2.2.2) (x_rec hK (ci := 2) rfl (fun H locs hI => hI.1)) [] _ (fun H locs hI => k_nameNow hΓ hI.1) (lw_V q758 q760 qs20 q129 q761) hv_k_nameNow (rmFit_i (by show 1 + 1 ≤ F + 1; omega) (by show 8 + (2 + 11) + 60 ≤ L + 40; omega)) ⟨rfl, rfl⟩ rfl rfl dX3_one_57 rfl rfl ⟨Nat.zero_le _, Nat.zero_le _⟩ ?_
  refine g_istore_n (pc := 60) (i := 1) hk dX3_one_60 rfl (by decide) rfl ?_
  refine g_iload_n (pc := 61) hk dX3_one_61 rfl ?_
  refine g_iconst (pc := 62) (v := (-1)) hk dX3_one_62 rfl ?_
  by_cases e4 : kNm τ.2.2.1 kNAMED 0 = -1
  · rw [if_pos e4] at hr
    refine g_yes (c := kNm τ.2.2.1 kNAMED 0 = -1) e4 ?_
    refine g_icmp_eq (pc := 63) (tgt := 93) hk dX3_one_63 rfl ?_ g_none
    have clo : ∀ (x : Den) (τ3 : TKS) (q cs sl : Nat) (E : Heap → Prop), PSt π E → (∀ H, E H → DAt Γ (fun a => (kS K).heap.size ≤ a) H (k + 1) (.inl x) q) → r.1 = .inr (x, dOpen τ3) → cs ≤ r.2.1 → sl ≤ r.2.2 → GGo K (xQ K Γ π { frames := F + 1, cells := r.2.1, slots := r.2.2, locals := L + 40 } (fun r : KRs Den => vwS Γ π .inl (kS K).heap (k + 1) r.1)) (some r) 3 (PX K Γ π τ3 E) cs sl 154 [(0, .ref π.1), (2, .ref q)] [] := by
      intro x τ3 q cs sl E hE hD hr1 hc hs
      obtain ⟨po, a, b⟩ := r
      cases hr1
      refine g_aload_n (pc := 154) hk dX3_one_154 rfl ?_
      refine g_dup (pc := 155) hk dX3_one_155 rfl ?_
      refine kg_77 (pc := 156) hk hK (fun _ _ e => e.1) dX3_one_156 ?_
      refine g_iconst (pc := 159) (v := 1) hk dX3_one_159 rfl ?_
      refine g_isub (pc := 160) hk dX3_one_160 ?_
      refine py_close (pc := 161) hk hK hE dX3_one_161 ?_
      refine g_aload_n (pc := 164) hk dX3_one_164 rfl ?_
      exact x_aretX (pc := 165) hk (Or.inl ⟨_, rfl⟩) rfl (fun H locs hI => ⟨⟨q, rfl, hI.1, hD H hI.2.2.2⟩, hI.2.1, hI.2.2.1⟩) dX3_one_165 hc hs
    refine g_aload_n (pc := 93) hk dX3_one_93 rfl ?_
    refine kg_25 (pc := 94) hk hK (fun _ _ e => e.1) dX3_one_94 ?_
    refine g_bipush (pc := 97) (v := 40) hk dX3_one_97 rfl ?_
    by_cases e5 : τ.2.2.1 = 40
    · rw [if_pos e5] at hr
      refine g_yes (c := τ.2.2.1 = 40) e5 ?_
      refine g_icmp_ne (pc := 99) (tgt := 120) hk dX3_one_99 rfl g_none ?_
      refine g_aload_n (pc := 102) hk dX3_one_102 rfl ?_
      rcases obE_some hr with ⟨e, ho, h⟩ | ⟨τ1, ho, h⟩
      · cases h
        exact py_opensE (pc := 103) hΓ.1 hk hK htab htr hG rfl ho (by show 9 ≤ F + 1; omega) (by show 540 ≤ L + 40; omega) rfl dX3_one_103 ⟨by show 0 + 1 ≤ 1; omega, by show 0 + 8 ≤ 8; omega⟩
      have c1 : 1 ≤ r.2.1 ∧ 8 ≤ r.2.2 := by
        rcases obK_some h with ⟨_, _, _, -, h⟩ | ⟨_, _, _, _, -, h⟩
        · cases h; dsimp only; omega
        rcases obE_some h with ⟨_, -, h⟩ | ⟨_, -, h⟩
        · cases h; dsimp only; omega
        cases h; dsimp only; omega
      refine py_opensR (pc := 103) hΓ.1 hk hK htr hG PSt.tr ho (by show 9 ≤ F + 1; omega) (by show 540 ≤ L + 40; omega) rfl dX3_one_103 ⟨by show 0 + 1 ≤ r.2.1; omega, by show 0 + 8 ≤ r.2.2; omega⟩ ?_
      refine g_aload_n (pc := 106) hk dX3_one_106 rfl ?_
      rcases obK_some h with ⟨e, a, b, hx, h⟩ | ⟨x, τ2, a, b, hx, h⟩
      · cases h
        exact py_subE (pc := 107) hk hK htab htr hG rfl hS hx [] (lw_V q547 q549 qs5 q129 q550) hv_k_sum (Nat.succ_le_succ hSb.1) (by have z9 := hSb.2; show 8 + (3 + 11) + _ ≤ L + 40; omega) rfl dX3_one_107 rfl ⟨by show 0 + 1 + a ≤ 1 + a; omega, by show 0 + 8 + b ≤ 8 + b; omega⟩
      have c2 : 1 + a ≤ r.2.1 ∧ 8 + b ≤ r.2.2 := by
        rcases obE_some h with ⟨_, -, h⟩ | ⟨_, -, h⟩
        · cases h; dsimp only; omega
        cases h; dsimp only; omega
      refine py_subD (pc := 107) hk hK htr hG PSt.tr hS hx [] (lw_V q547 q549 qs5 q129 q550) hv_k_sum (Nat.succ_le_succ hSb.1) (by have z9 := hSb.2; show 8 + (3 + 11) + _ ≤ L + 40; omega) rfl dX3_one_107 rfl ⟨by show 0 + 1 + a ≤ r.2.1; omega, by show 0 + 8 + b ≤ r.2.2; omega⟩ (fun q => ?_)
      have st1 : PSt π (fun H => True ∧ DNE Γ (kS K).heap.size ks (.inl x) q H) := PSt.tr.and (DNE.st ht9)
      refine g_astore_n (pc := 110) (i := 2) hk dX3_one_110 rfl (by decide) rfl ?_
      refine g_aload_n (pc := 111) hk dX3_one_111 rfl ?_
      refine g_bipush (pc := 112) (v := 41) hk dX3_one_112 rfl ?_
      rcases obE_some h with ⟨e, hw, h⟩ | ⟨τ3, hw, h⟩
      · cases h
        exact py_wantE (pc := 114) hΓ.1 hk hK htab htr hG rfl hw (by show 9 ≤ F + 1; omega) (by show 540 ≤ L + 40; omega) rfl dX3_one_114 ⟨by show 0 + 1 + a + 1 ≤ 1 + a + 1; omega, by show 0 + 8 + b + 8 ≤ 8 + b + 8; omega⟩
      cases h
      refine py_wantR (pc := 114) hΓ.1 hk hK htr hG st1 hw (by show 9 ≤ F + 1; omega) (by show 540 ≤ L + 40; omega) rfl dX3_one_114 ⟨by show 0 + 1 + a + 1 ≤ 1 + a + 1; omega, by show 0 + 8 + b + 8 ≤ 8 + b + 8; omega⟩ ?_
      refine g_goto (pc := 117) (tgt := 154) hk dX3_one_117 rfl ?_
      exact g_ls (ls' := [(0, .ref π.1), (2, .ref q)]) ⟨rfl, rfl, trivial⟩ (clo x τ3 q _ _ _ st1 (fun H hE => DAt.up hE.2 (by omega)) rfl (by show 0 + 1 + a + 1 ≤ 1 + a + 1; omega) (by show 0 + 8 + b + 8 ≤ 8 + b + 8; omega))
    rw [if_neg e5] at hr
    refine g_no (c := τ.2.2.1 = 40) e5 ?_
    refine g_icmp_ne (pc := 99) (tgt := 120) hk dX3_one_99 rfl ?_ g_none
    refine g_aload_n (pc := 120) hk dX3_one_120 rfl ?_
    refine kg_25 (pc := 121) hk hK (fun _ _ e => e.1) dX3_one_121 ?_
    refine g_bipush (pc := 124) (v := 45) hk dX3_one_124 rfl ?_
    by_cases e6 : τ.2.2.1 = 45
    · rw [if_pos e6] at hr
      refine g_yes (c := τ.2.2.1 = 45) e6 ?_
      refine g_icmp_ne (pc := 126) (tgt := 148) hk dX3_one_126 rfl g_none ?_
      refine g_aload_n (pc := 129) hk dX3_one_129 rfl ?_
      rcases obE_some hr with ⟨e, ho, h⟩ | ⟨τ1, ho, h⟩
      · cases h
        exact py_opensE (pc := 130) hΓ.1 hk hK htab htr hG rfl ho (by show 9 ≤ F + 1; omega) (by show 540 ≤ L + 40; omega) rfl dX3_one_130 ⟨by show 0 + 1 ≤ 1; omega, by show 0 + 8 ≤ 8; omega⟩
      have c1 : 2 ≤ r.2.1 ∧ 9 ≤ r.2.2 := by
        rcases obK_some h with ⟨_, _, _, -, h⟩ | ⟨_, _, _, _, -, h⟩
        · cases h; dsimp only; omega
        cases h; dsimp only; omega
      refine py_opensR (pc := 130) hΓ.1 hk hK htr hG PSt.tr ho (by show 9 ≤ F + 1; omega) (by show 540 ≤ L + 40; omega) rfl dX3_one_130 ⟨by show 0 + 1 ≤ r.2.1; omega, by show 0 + 8 ≤ r.2.2; omega⟩ ?_
      refine py_new (pc := 133) (ci := 13) (N := 1) (fs := [.null]) (E2 := fun _ _ => True) hk hK rfl in_X14 tyX14 tyX14_ok q778 q779 q153 (fun j hj => by
        rcases (show j = 0 by omega) with rfl; rfl) (by show 0 + 1 + 1 ≤ r.2.1; omega) (by show 0 + 8 + 1 ≤ r.2.2; omega) dX3_one_133 ht9 (fun _ _ _ _ _ _ => trivial) (fun c => ?_)
      refine g_dup (pc := 136) hk dX3_one_136 rfl ?_
      refine g_aload_n (pc := 137) hk dX3_one_137 rfl ?_
      rcases obK_some h with ⟨e, a, b, hx, h⟩ | ⟨x, τ2, a, b, hx, h⟩
      · cases h
        exact py_subE (pc := 138) hk hK htab htr hG rfl h1 hx [.ref c, .ref c] (lw_V q561 q563 qs8 q129 q564) hv_k_one (Nat.succ_le_succ h1b.1) (by have z9 := h1b.2; show 8 + (3 + 11) + _ ≤ L + 40; omega) rfl dX3_one_138 rfl ⟨by show 0 + 1 + 1 + a ≤ 2 + a; omega, by show 0 + 8 + 1 + b ≤ 9 + b; omega⟩
      cases h
      refine py_subX (pc := 138) hk hK htr hG ht9 PSt.tr h1 hx [.ref c, .ref c] (lw_V q561 q563 qs8 q129 q564) hv_k_one (Nat.succ_le_succ h1b.1) (by have z9 := h1b.2; show 8 + (3 + 11) + _ ≤ L + 40; omega) rfl dX3_one_138 rfl ⟨by show 0 + 1 + 1 + a ≤ 2 + a; omega, by show 0 + 8 + 1 + b ≤ 9 + b; omega⟩ (fun q => ?_)
      refine py_rec (pc := 141) (ci := 13) (gs := [.ref q]) hk hK htr hG [.ref q] [.ref c] (fun H hf => n_X14 q hf) cn_780 q781 q153 q782 rfl hi_X14 (by show 4 ≤ F + 1; omega) (by show 8 + (2 + 11) + 160 ≤ L + 40; omega) rfl rfl dX3_one_141 rfl ⟨by show 0 + 1 + 1 + a ≤ 2 + a; omega, by show 0 + 8 + 1 + b ≤ 9 + b; omega⟩ ht9 (fun H H1 hE _ ho => ⟨trivial, hE.2.put ho⟩) ?_
      refine g_astore_n (pc := 144) (i := 2) hk dX3_one_144 rfl (by decide) rfl ?_
      refine g_goto (pc := 145) (tgt := 154) hk dX3_one_145 rfl ?_
      exact g_ls (ls' := [(0, .ref π.1), (2, .ref c)]) ⟨rfl, rfl, trivial⟩ (clo (dMinus x) τ2 c _ _ _ (fun H H1 h hFr => ⟨⟨trivial, DNX.st ht9 H H1 h.1.2 hFr⟩, h.2.1.kept (hFr.2 _ h.2.1.lt (by have := h.2.2; omega)), h.2.2⟩) (fun H hE => Or.inr ⟨hE.2.2, Or.inl ⟨x, q, rfl, hE.2.1, hE.1.2.e hk1⟩⟩) rfl (by show 0 + 1 + 1 + a ≤ 2 + a; omega) (by show 0 + 8 + 1 + b ≤ 9 + b; omega))
    rw [if_neg e6] at hr
    refine g_no (c := τ.2.2.1 = 45) e6 ?_
    refine g_icmp_ne (pc := 126) (tgt := 148) hk dX3_one_126 rfl ?_ g_none
    cases hr
    refine g_aload_n (pc := 148) hk dX3_one_148 rfl ?_
    refine g_iconst (pc := 149) (v := 1) hk dX3_one_149 rfl ?_
    exact px_thr (pc := 150) hΓ.1 hk hK htab htr hG rfl (rmFit_i (by show 6 + 1 ≤ F + 1; omega) (by show 8 + (2 + 11) + 160 ≤ L + 40; omega)) ⟨Nat.le_refl 1, Nat.le_refl 8⟩ dX3_one_150 dX3_one_153
  · rw [if_neg e4] at hr
    refine g_no (c := kNm τ.2.2.1 kNAMED 0 = -1) e4 ?_
    refine g_icmp_eq (pc := 63) (tgt := 93) hk dX3_one_63 rfl g_none ?_
    obtain ⟨g, hg, h⟩ := ob1_some hr
    refine g_aload_n (pc := 66) hk dX3_one_66 rfl ?_
    refine g_iload_n (pc := 67) hk dX3_one_67 rfl ?_
    refine x_callV (pc := 68) (tx := tx) (v := some (.int g)) (rmY := rmK 1) hk hK (fun H locs hI => (hG.fr hI.2.1).ge hK.2.2.2) (x_rec hK (ci := 2) rfl (fun H locs hI => hI.1)) [.int (kNm τ.2.2.1 kNAMED 0)] _ (fun H locs hI => k_mayName hI.1 hg) (lw_V q764 q766 qs21 q129 q767) hv_k_mayName (rmFit_i (by show 1 + 1 ≤ F + 1; omega) (by show 8 + (2 + 11) + 60 ≤ L + 40; omega)) ⟨rfl, rfl⟩ rfl rfl dX3_one_68 rfl rfl ⟨Nat.zero_le _, Nat.zero_le _⟩ ?_
    by_cases e5 : g = 0
    · rw [if_pos e5] at h
      cases h
      refine g_yes (c := g = 0) e5 ?_
      refine g_if_ne (pc := 71) (tgt := 80) hk dX3_one_71 rfl g_none ?_
      refine g_aload_n (pc := 74) hk dX3_one_74 rfl ?_
      refine g_iconst (pc := 75) (v := 5) hk dX3_one_75 rfl ?_
      exact px_thr (pc := 76) hΓ.1 hk hK htab htr hG rfl (rmFit_i (by show 6 + 1 ≤ F + 1; omega) (by show 8 + (2 + 11) + 160 ≤ L + 40; omega)) ⟨Nat.le_refl 1, Nat.le_refl 8⟩ dX3_one_76 dX3_one_79
    · rw [if_neg e5] at h
      obtain ⟨τ1, hn, h⟩ := ob1_some h
      cases h
      refine g_no (c := g = 0) e5 ?_
      refine g_if_ne (pc := 71) (tgt := 80) hk dX3_one_71 rfl ?_ g_none
      refine g_aload_n (pc := 80) hk dX3_one_80 rfl ?_
      refine px_next (pc := 81) hΓ.1 hk hK htr hG PSt.tr hn (rmFit_i (by show 6 + 1 ≤ F + 1; omega) (by show 8 + (3 + 11) + 400 ≤ L + 40; omega)) rfl dX3_one_81 ⟨Nat.zero_le _, Nat.zero_le _⟩ ?_
      refine py_new (pc := 84) (ci := 12) (N := 1) (fs := [.int 0]) (E2 := fun _ _ => True) hk hK rfl in_X13 tyX13 tyX13_ok q768 q769 q152 (fun j hj => by
        rcases (show j = 0 by omega) with rfl; rfl) (Nat.le_refl 1) (Nat.le_refl 1) dX3_one_84 ht9 (fun _ _ _ _ _ _ => trivial) (fun c => ?_)
      refine g_dup (pc := 87) hk dX3_one_87 rfl ?_
      refine g_iload_n (pc := 88) hk dX3_one_88 rfl ?_
      refine py_rec (pc := 89) (ci := 12) (gs := [.int (kNm τ.2.2.1 kNAMED 0)]) hk hK htr hG [.int (kNm τ.2.2.1 kNAMED 0)] [.ref c] (fun H hf => n_X13 _ hf) cn_770 q771 q152 q772 rfl hi_X13 (by show 4 ≤ F + 1; omega) (by show 8 + (2 + 11) + 160 ≤ L + 40; omega) rfl rfl dX3_one_89 rfl ⟨Nat.le_refl 1, Nat.le_refl 1⟩ ht9 (fun _ _ _ _ _ => trivial) ?_
      exact x_aretX (pc := 92) hk (Or.inl ⟨_, rfl⟩) rfl (fun H locs hI => ⟨⟨c, rfl, hI.1, DAt.up (show DAt Γ _ H 0 (.inl (dName (kNm τ.2.2.1 kNAMED 0))) c from ⟨hI.2.2.2.2.2, Or.inr ⟨_, rfl, hI.2.2.2.2.1⟩⟩) (Nat.zero_le _)⟩, hI.2.1, hI.2.2.1⟩) dX3_one_92 (Nat.le_refl 1) (Nat.le_refl 1)
theorem subOK.wk {α : Type} {inj : α → Den ⊕ ADen} {y : MethodName} {bytes : ByteArray} {maxL : Nat} {rt : FieldType} {F L k k' : Nat} {f : TKS → Option (KRs α)} (h : subOK Γ tx π inj y bytes maxL rt F L k f) (hk : k = k') : subOK Γ tx π inj y bytes maxL rt F L k' f := hk ▸ h
/-- all of the grammar, so deep -/
theorem k_pair (hΓ : DLX Γ) : ∀ d : Nat, subOK Γ tx π .inl yX3_one cX3_one 3 (.object "ShaveOfAnother$Sum") (24 + 8 * d) (1200 + 400 * d) (6 * d) (K_pair π d).1 ∧ subOK Γ tx π .inr yX3_ask cX3_ask 3 (.object "ShaveOfAnother$Asked") (24 + 8 * d) (1200 + 400 * d) (6 * d) (K_pair π d).2 := by
  intro d
  induction d with
  | zero => exact ⟨fun _ _ _ _ h => (by cases h), fun _ _ _ _ h => (by cases h)⟩
  | succ d ih =>
    obtain ⟨h1, ha⟩ := ih
    have hp := k_power hΓ h1 (by omega) (by omega)
    have hr : subOK Γ tx π .inl yX3_product cX3_product 3 (.object "ShaveOfAnother$Sum") _ _ _ (K_prod π (K_pair π d).1) := k_product hΓ hp (by omega) (by omega)
    have hs : subOK Γ tx π .inl yX3_sum cX3_sum 3 (.object "ShaveOfAnother$Sum") _ _ _ (K_sum π (K_pair π d).1) := k_sum hΓ hr (by omega) (by omega)
    have hb : subOK Γ tx π .inr yX3_both cX3_both 2 (.object "ShaveOfAnother$Asked") _ _ _ (K_both π (K_pair π d).2) := k_both hΓ ha (by omega) (by omega)
    have he : subOK Γ tx π .inr yX3_either cX3_either 2 (.object "ShaveOfAnother$Asked") _ _ _ (K_either π (K_pair π d).2) := k_either hΓ hb (by omega) (by omega)
    have hc := k_choice (tx := tx) (π := π) (F := 24 + 8 * d + 4) (L := 1200 + 400 * d + 160) (k := 6 * d + 4) (one := (K_pair π d).1) (ask := (K_pair π d).2) hΓ rfl rfl hs he ⟨by omega, by omega⟩ ⟨by omega, by omega⟩ (by omega) (by omega) (by omega) (by omega)
    have hf : subOK Γ tx π .inl yX3_after cX3_after 3 (.object "ShaveOfAnother$Sum") _ _ (6 * d + 1) (K_after π (K_pair π d).1) := fun H0 τ r ht hr => k_after hΓ h1 (by omega) (by omega) H0 τ r ht hr
    have e1 : 24 + 8 * (d + 1) = (24 + 8 * d + 7) + 1 := by omega
    have e2 : 1200 + 400 * (d + 1) = (1200 + 400 * d + 360) + 40 := by omega
    have e3 : 6 * (d + 1) = 6 * d + 5 + 1 := by omega
    rw [e1, e2, e3]
    exact ⟨k_one hΓ hs h1 hc hf ⟨by omega, by omega⟩ ⟨by omega, by omega⟩ ⟨by omega, by omega⟩ ⟨by omega, by omega⟩ (by omega) (by omega) (by omega) (by omega) (by omega) (by omega), k_ask hΓ hs ha ⟨by omega, by omega⟩ ⟨by omega, by omega⟩ (by omega) (by omega) (by omega) (by omega)⟩
end ONE
