/-! power -/
set_option maxRecDepth 100000
theorem hv_k_after : yX3_after.cls = RX3 ∧ yX3_after.cls ≠ "java/lang/invoke/MethodHandle" ∧ yX3_after.cls ≠ "java/lang/invoke/VarHandle" ∧ (parseMethodDescriptor yX3_after.desc).map (fun d => d.parameters.length) = some 0 := by decide +kernel
theorem hv_k_choice : yX3_choice.cls = RX3 ∧ yX3_choice.cls ≠ "java/lang/invoke/MethodHandle" ∧ yX3_choice.cls ≠ "java/lang/invoke/VarHandle" ∧ (parseMethodDescriptor yX3_choice.desc).map (fun d => d.parameters.length) = some 0 := by decide +kernel
theorem hv_k_either : yX3_either.cls = RX3 ∧ yX3_either.cls ≠ "java/lang/invoke/MethodHandle" ∧ yX3_either.cls ≠ "java/lang/invoke/VarHandle" ∧ (parseMethodDescriptor yX3_either.desc).map (fun d => d.parameters.length) = some 0 := by decide +kernel
theorem hv_k_both : yX3_both.cls = RX3 ∧ yX3_both.cls ≠ "java/lang/invoke/MethodHandle" ∧ yX3_both.cls ≠ "java/lang/invoke/VarHandle" ∧ (parseMethodDescriptor yX3_both.desc).map (fun d => d.parameters.length) = some 0 := by decide +kernel
theorem hv_k_ask : yX3_ask.cls = RX3 ∧ yX3_ask.cls ≠ "java/lang/invoke/MethodHandle" ∧ yX3_ask.cls ≠ "java/lang/invoke/VarHandle" ∧ (parseMethodDescriptor yX3_ask.desc).map (fun d => d.parameters.length) = some 0 := by decide +kernel
section POW
variable {Γ : CG} {tx : TXs Tx} {π : PPar}
theorem ch_power_l (hΓ : DLX Γ) {K : KT} {F L k : Nat} {sub : TKS → Option (KRs Den)} {rm : Room} (hk : KOK K cX3_power 3 RX3 rm (some (.object "ShaveOfAnother$Sum"))) (hK : CK Γ (kS K)) (htab : noTab K) (htr : K.2.1.stackTraces = false) (hG : PG Γ tx π (kS K) (kS K).heap) (ht9 : π.1 < (kS K).heap.size) (hS : subOK Γ tx π .inl yX3_one cX3_one 3 (.object "ShaveOfAnother$Sum") F L k sub) (hF : 24 ≤ F ∧ F + 1 ≤ rm.frames) (hL : 1200 ≤ L ∧ L + 40 ≤ rm.locals) (c : Nat) : ∀ (m : Nat) (τ : TKS) (x0 : Den) (items : List (Nat × Den × Nat)) (qf lm lg am ag cs sl : Nat) (r : KRs Den), K_pwl π sub m τ (chS x0 items) items.length cs sl = some r → r.2.1 ≤ rm.cells → r.2.2 ≤ rm.slots → GGo K (xQ K Γ π rm (fun r : KRs Den => vwS Γ π .inl (kS K).heap (k + 1) r.1)) (some r) 3 (PX K Γ π τ (CHE Γ (kS K).heap.size k c qf lm lg am ag x0 items)) cs sl 25 [(0, .ref π.1), (2, .ref c)] [] := by
  intro m
  induction m with
  | zero => intro τ x0 items qf lm lg am ag cs sl r h; cases h
  | succ m ih =>
    intro τ x0 items qf lm lg am ag cs sl r h hc hs
    have hup := K_pwl_up h
    have hst := CHE.st (Γ := Γ) (π := π) (s := (kS K).heap.size) (k := k) (c := c) (qf := qf) (lm := lm) (lg := lg) (am := am) (ag := ag) (x0 := x0) (items := items) ht9
    unfold K_pwl at h
    refine g_aload_n (pc := 25) hk dX3_power_25 rfl ?_
    refine kg_25 (pc := 26) hk hK (fun _ _ e => e.1) dX3_power_26 ?_
    refine g_bipush (pc := 29) (v := 94) hk dX3_power_29 rfl ?_
    by_cases h1 : τ.2.2.1 = 94
    · rw [if_pos h1] at h
      refine g_yes (c := τ.2.2.1 = 94) h1 ?_
      refine g_icmp_ne (pc := 31) (tgt := 51) hk dX3_power_31 rfl g_none ?_
      obtain ⟨τ1, hn1, h⟩ := ob1_some h
      refine g_aload_n (pc := 34) hk dX3_power_34 rfl ?_
      refine px_next (pc := 35) hΓ.1 hk hK htr hG hst hn1 (rmFit_i (by show 6 + 1 ≤ _; omega) (by show 8 + (3 + 11) + 400 ≤ _; omega)) rfl dX3_power_35 ⟨by omega, by omega⟩ ?_
      refine g_aload_n (pc := 38) hk dX3_power_38 rfl ?_
      refine g_bipush (pc := 39) (v := 94) hk dX3_power_39 rfl ?_
      refine g_aload_n (pc := 41) hk dX3_power_41 rfl ?_
      rcases obK_some h with ⟨e, a, b, hsub, h⟩ | ⟨d, τ2, a, b, hsub, h⟩
      · cases h
        exact py_subE (pc := 42) hk hK htab htr hG rfl hS hsub [.int 94, .ref c] (lw_V q561 q563 qs8 q129 q564) hv_k_one hF.2 (by omega) rfl dX3_power_42 rfl ⟨hc, hs⟩
      · have hlt9 : items.length < 900 := by
          by_cases z : items.length < 900
          · exact z
          · rw [if_neg z] at h; cases h
        rw [if_pos hlt9] at h
        have hup2 := K_pwl_up h
        refine py_subR (pc := 42) hk hK htr hG hst hS hsub [.int 94, .ref c] (lw_V q561 q563 qs8 q129 q564) hv_k_one hF.2 (by omega) rfl dX3_power_42 rfl ⟨by omega, by omega⟩ (fun q => ?_)
        refine py_chadd (pc := 45) (k := k) (o := 94) (d := d) hΓ hk hK hG ht9 (by decide) hlt9 (by omega) (by omega) dX3_power_45 ⟨by omega, by omega⟩ (fun H hE => hE) (fun am' ag' => ?_)
        refine g_goto (pc := 48) (tgt := 25) hk dX3_power_48 rfl ?_
        refine ih τ2 x0 (items ++ [(94 + 128, d, q)]) qf lm lg am' ag' _ _ r ?_ hc hs
        rw [List.length_append, List.length_singleton, chS, List.foldl_append]
        show K_pwl π sub m τ2 (dBin (vb_c (94 + 128)) (chS x0 items) d) (items.length + 1) _ _ = some r
        rw [vb_nI]
        exact h
    · rw [if_neg h1] at h
      refine g_no (c := τ.2.2.1 = 94) h1 ?_
      refine g_icmp_ne (pc := 31) (tgt := 51) hk dX3_power_31 rfl ?_ g_none
      cases h
      refine g_aload_n (pc := 51) hk dX3_power_51 rfl ?_
      refine x_callV (pc := 52) (tx := tx) (v := some (.ref (if items.map (fun i => i.2.2) = [] then qf else c))) (rmY := rmK 2) hk hK (fun H locs hI => (hG.fr hI.2.1).ge hK.2.2.2) (x_rec hK (ci := 5) rfl (fun H locs hI => hI.2.2.2.1.1)) [] _ (fun H locs hI => r_itself hI.2.2.2.1) (lw_V q829 q830 q831 q142 q832) hv_ch_its (rmFit_i (by show 2 + 1 ≤ _; omega) (by show 8 + (1 + 11) + 120 ≤ _; omega)) ⟨rfl, rfl⟩ rfl rfl dX3_power_52 rfl rfl ⟨hc, hs⟩ ?_
      exact x_aretX (pc := 55) hk (Or.inl ⟨_, rfl⟩) rfl (fun H locs hI => ⟨⟨_, rfl, hI.1, che_end hI.2.2.2 (by have h9 := hI.2.2.2.1.2.1.2.1; rw [List.length_map] at h9; omega)⟩, hI.2.1, hI.2.2.1⟩) dX3_power_55 hc hs
/-- what was read, somewhere in new cells -/
def DNE (Γ : CG) (s k : Nat) (e : Den ⊕ ADen) (q : Nat) (H : Heap) : Prop := DAt Γ (fun a => s ≤ a) H k e q
theorem DNE.st {Γ : CG} {π : PPar} {s k : Nat} {e : Den ⊕ ADen} {q : Nat} (hs : π.1 < s) : PSt π (DNE Γ s k e q) := fun H H1 h hF => DAt.kept (fun a ha h2 => ⟨h2, hF.2 a ha (by have h3 : s ≤ a := h2; omega)⟩) h
theorem DNE.of {Γ : CG} {s k : Nat} {e : Den ⊕ ADen} {q : Nat} {H H' : Heap} (hs : s ≤ H'.size) (h : DAt Γ (fun x => H'.size ≤ x) H k e q) : DNE Γ s k e q H := DAt.kept (fun a _ h2 => ⟨by have h3 : H'.size ≤ a := h2; omega, rfl⟩) h
theorem k_power (hΓ : DLX Γ) {F L k : Nat} {sub : TKS → Option (KRs Den)} (hS : subOK Γ tx π .inl yX3_one cX3_one 3 (.object "ShaveOfAnother$Sum") F L k sub) (hF : 24 ≤ F) (hL : 1200 ≤ L) : subOK Γ tx π .inl yX3_power cX3_power 3 (.object "ShaveOfAnother$Sum") (F + 1) (L + 40) (k + 1) (K_power π sub) := by
  intro H0 τ r ht hr
  refine x_met (view := fun r : KRs Den => vwS Γ π .inl H0 (k + 1) r.1) (comp := some r) (own := RX3) rfl (by decide) rfl (ls0 := [(0, .ref π.1)]) rfl (fun K hk hK htab htr hH hG => ?_) r rfl
  subst hH
  have ht9 := ht.lt
  refine px_in ?_ ht
  unfold K_power at hr
  refine g_aload_n (pc := 0) hk dX3_power_0 rfl ?_
  rcases obK_some hr with ⟨e, a, b, hsub, h⟩ | ⟨d, τ2, a, b, hsub, h⟩
  · cases h
    exact py_subE (pc := 1) hk hK htab htr hG rfl hS hsub [] (lw_V q561 q563 qs8 q129 q564) hv_k_one (Nat.le_refl _) (by show 8 + (3 + 11) + L ≤ L + 40; omega) rfl dX3_power_1 rfl ⟨by show 0 + a ≤ a; omega, by show 0 + b ≤ b; omega⟩
  have hlow : a ≤ r.2.1 ∧ b ≤ r.2.2 := by
    split at h
    · have := K_pwl_up h
      omega
    · cases h
      exact ⟨Nat.le_refl _, Nat.le_refl _⟩
  refine py_subR (pc := 1) hk hK htr hG PSt.tr hS hsub [] (lw_V q561 q563 qs8 q129 q564) hv_k_one (Nat.le_refl _) (by show 8 + (3 + 11) + L ≤ L + 40; omega) rfl dX3_power_1 rfl ⟨by show 0 + a ≤ r.2.1; omega, by show 0 + b ≤ r.2.2; omega⟩ (fun q => ?_)
  refine g_I (I' := PX K Γ π τ2 (DNE Γ (kS K).heap.size k (.inl d) q)) (fun H locs hI => ?_) ?_
  · obtain ⟨h1, h2, h3, -, H', -, h5, h6, h7⟩ := hI
    exact ⟨h1, h2, h3, DNE.of h5.1 h7⟩
  refine g_astore_n (pc := 4) (i := 1) hk dX3_power_4 rfl (by decide) rfl ?_
  refine g_aload_n (pc := 5) hk dX3_power_5 rfl ?_
  refine kg_25 (pc := 6) hk hK (fun _ _ e => e.1) dX3_power_6 ?_
  refine g_bipush (pc := 9) (v := 94) hk dX3_power_9 rfl ?_
  by_cases h1 : τ2.2.2.1 = 94
  · rw [if_pos h1] at h
    have hup := K_pwl_up h
    refine g_yes (c := τ2.2.2.1 = 94) h1 ?_
    refine g_icmp_eq (pc := 11) (tgt := 16) hk dX3_power_11 rfl ?_ g_none
    refine py_new (pc := 16) (ci := 5) (N := 3) (fs := [.null, .null, .null]) (E2 := fun c H => DAt Γ (fun a => (kS K).heap.size ≤ a ∧ a < c) H k (.inl d) q) hk hK rfl in_X6 tyX6 tyX6_ok q551 q552 q142 (fun j hj => by
      rcases (show j = 0 ∨ j = 1 ∨ j = 2 by omega) with rfl | rfl | rfl <;> rfl) (by show 0 + a + 1 ≤ r.2.1; omega) (by show 0 + b + 3 ≤ r.2.2; omega) dX3_power_16 ht9 (fun H H1 hE hz ho _ => DAt.kept (fun x hx hr2 => ⟨⟨hr2, hx⟩, ho x hx⟩) hE) (fun c => ?_)
    refine g_dup (pc := 19) hk dX3_power_19 rfl ?_
    refine g_aload_n (pc := 20) hk dX3_power_20 rfl ?_
    refine x_initB (pc := 21) (tx := tx) (b := π.1) (rmY := rm_x_ch) (R := fun H H1 => ∃ lm lg, ChH Γ H1 c c q lm lg (gA Γ 600) (gA Γ 600) [] [] ∧ H.size ≤ lm ∧ H.size ≤ lg) hk hK htr (fun H locs hI => (hG.fr hI.2.1).1) [.ref q] [.ref c] (fun H locs hI => ?_) q788 q789 q142 q790 rfl hi_X6 (rmFit_i (by show 5 + 1 ≤ F + 1; omega) (by show 8 + (2 + 11) + 260 ≤ L + 40; omega)) rfl rfl dX3_power_21 rfl ⟨by show 0 + a + 1 + 2 ≤ r.2.1; omega, by show 0 + b + 3 + 6 ≤ r.2.2; omega⟩ ?_
    · exact n_X6 hΓ (by have := hI.2.2.2.2.2; omega) hI.2.2.2.2.1
    refine g_astore_n (pc := 24) (i := 2) hk dX3_power_24 rfl (by decide) rfl ?_
    refine g_at (fun H1 locs1 hI => ?_)
    obtain ⟨H, locs, hP, ⟨lm, lg, hC, hlm, hlg⟩, hFr, hlo⟩ := hI
    obtain ⟨p1, p2, p3, p10, p4, p5⟩ := hP
    refine g_widen (cs' := a + 1 + 2) (sl' := b + 3 + 6) (by show 0 + a + 1 + 2 ≤ _; omega) (by show 0 + b + 3 + 6 ≤ _; omega) ?_
    have h600 : gA Γ 600 < (kS K).heap.size := by
      obtain ⟨cell, h4, -⟩ := (hΓ.2 _ _ _ (hG.ge hK.2.2.2)).1.2
      exact (Array.getElem?_eq_some_iff.mp h4).1
    have hcl := p4.lt
    refine g_I (I' := PX K Γ π τ2 (CHE Γ (kS K).heap.size k c q lm lg (gA Γ 600) (gA Γ 600) d [])) (fun H2 l2 e => ?_) ?_
    · obtain ⟨rfl, rfl⟩ := e
      refine ⟨p1.kept (hFr.2 _ p1.lt (by omega)), ⟨Nat.le_trans p2.1 hFr.1, fun x hx hn => (hFr.2 x (by have := p2.1; omega) (by omega)).trans (p2.2 x hx hn)⟩, fun z hz => ?_, ?_, ?_, fun i hi => by cases hi⟩
      · rcases hlo z hz with h | h | h
        · exact p3 z h
        · exact Or.inr (by rw [h]; exact p5)
        · exact Or.inr (Nat.le_trans p2.1 h)
      · obtain ⟨c1, c2, c3, c4, c5, c6, c7⟩ := hC
        exact ⟨c1, c2, c3, c4, ⟨by omega, by omega, by omega⟩, c6, fun e => absurd rfl e⟩
      · exact p10.kept (fun x hx hr2 => by
          obtain ⟨hr3, hr4⟩ : (kS K).heap.size ≤ x ∧ x < c := hr2
          exact ⟨⟨by omega, by omega, by omega, by omega, by omega, by omega⟩, hFr.2 x hx (by omega)⟩)
    exact g_ls (ls' := [(0, .ref π.1), (2, .ref c)]) ⟨rfl, rfl, trivial⟩ (ch_power_l hΓ hk hK htab htr hG ht9 hS ⟨hF, Nat.le_refl _⟩ ⟨hL, Nat.le_refl _⟩ c 400 τ2 d [] q lm lg (gA Γ 600) (gA Γ 600) _ _ r h (Nat.le_refl _) (Nat.le_refl _))
  · rw [if_neg h1] at h
    refine g_no (c := τ2.2.2.1 = 94) h1 ?_
    refine g_icmp_eq (pc := 11) (tgt := 16) hk dX3_power_11 rfl g_none ?_
    cases h
    refine g_aload_n (pc := 14) hk dX3_power_14 rfl ?_
    exact x_aretX (pc := 15) hk (Or.inl ⟨_, rfl⟩) rfl (fun H locs hI => ⟨⟨_, rfl, hI.1, Or.inl hI.2.2.2⟩, hI.2.1, hI.2.2.1⟩) dX3_power_15 (by show 0 + a ≤ a; omega) (by show 0 + b ≤ b; omega)
end POW
