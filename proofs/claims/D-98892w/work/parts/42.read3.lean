/-! read, whole -/
set_option maxRecDepth 100000
section RDL
variable {Γ : CG} {tx : TXs Tx} {π : PPar}
theorem clamp3 {i : Int32} (h : inb i 3 = true) : i.toNatClampNeg < 3 := inb_lt h
theorem rd_loop (hΓ : DLX Γ) {K : KT} {rm : Room} (hk : KOK K cX3_read 2 RX3 rm (some (.object "ShaveOfAnother$Text"))) (hK : CK Γ (kS K)) (htab : noTab K) (htr : K.2.1.stackTraces = false) (hG : PG Γ tx π (kS K) (kS K).heap) (ht9 : π.1 < (kS K).heap.size) {F L k : Nat} {sum : TKS → Option (KRs Den)} (hS : subOK Γ tx π .inl yX3_sum cX3_sum 3 (.object "ShaveOfAnother$Sum") F L k sum) (hF : 13 ≤ rm.frames ∧ F + 1 ≤ rm.frames) (hL : 1000 ≤ rm.locals ∧ L + 40 ≤ rm.locals) {t la dl : Nat} {r : KRs Tx} (hc : r.2.1 ≤ rm.cells) (hs : r.2.2 ≤ rm.slots) : ∀ (m : Nat) (τ : TKS) (lw : Nat → Option Den) (lq : Nat → Option Nat) (es : List Nat) (ds : List D4) (a n cs sl : Nat), K_rd π sum m τ lw ds n cs sl = some r → n ≤ 24 → es.length ≤ n → GGo K (xQ K Γ π rm (fun r : KRs Tx => vwX Γ π (kS K).heap k r.1)) (some r) 2 (PX K Γ π τ (RDE Γ (kS K).heap.size k t la dl a lw lq es ds n)) cs sl 12 [(0, .ref π.1), (1, .ref t)] [] := by
  have hX := hΓ.1.1.1.1.x hK
  intro m
  induction m with
  | zero => intro τ lw lq es ds a n cs sl h; cases h
  | succ m ih =>
    intro τ lw lq es ds a n cs sl h hn hes
    have hup := K_rd_up _ _ _ _ _ _ _ _ h
    unfold K_rd at h
    refine g_aload_n (pc := 12) hk dX3_read_12 rfl ?_
    refine kg_25 (pc := 13) hk hK (fun _ _ e => e.1) dX3_read_13 ?_
    refine g_sipush (pc := 16) (v := 301) hk dX3_read_16 rfl ?_
    by_cases h301 : τ.2.2.1 = 301
    · rw [if_pos h301] at h
      cases h
      refine g_yes (c := τ.2.2.1 = 301) h301 ?_
      refine g_icmp_eq (pc := 19) (tgt := 173) hk dX3_read_19 rfl ?_ g_none
      refine g_aload_n (pc := 173) hk dX3_read_173 rfl ?_
      exact x_aretX (pc := 174) hk (Or.inl ⟨_, rfl⟩) rfl (fun H locs hI => ⟨⟨t, rfl, la, dl, a, lq, es, n, hI.2.2.2⟩, hI.2.1, hI.2.2.1⟩) dX3_read_174 hc hs
    rw [if_neg h301] at h
    refine g_no (c := τ.2.2.1 = 301) h301 ?_
    refine g_icmp_eq (pc := 19) (tgt := 173) hk dX3_read_19 rfl g_none ?_
    refine g_aload_n (pc := 22) hk dX3_read_22 rfl ?_
    refine kg_25 (pc := 23) hk hK (fun _ _ e => e.1) dX3_read_23 ?_
    refine g_sipush (pc := 26) (v := 200) hk dX3_read_26 rfl ?_
    by_cases h200 : τ.2.2.1 < 200
    · rw [if_pos h200] at h
      cases h
      refine g_yes (c := τ.2.2.1 < 200) h200 ?_
      refine g_icmp_lt (pc := 29) (tgt := 42) hk dX3_read_29 rfl ?_ g_none
      refine g_aload_n (pc := 42) hk dX3_read_42 rfl ?_
      refine g_iconst (pc := 43) (v := 1) hk dX3_read_43 rfl ?_
      exact px_thr (pc := 44) hΓ.1 hk hK htab htr hG rfl (rmFit_i (by show 6 + 1 ≤ _; omega) (by show 8 + (2 + 11) + 160 ≤ _; omega)) ⟨hc, hs⟩ dX3_read_44 dX3_read_47
    rw [if_neg h200] at h
    refine g_no (c := τ.2.2.1 < 200) h200 ?_
    refine g_icmp_lt (pc := 29) (tgt := 42) hk dX3_read_29 rfl g_none ?_
    refine g_aload_n (pc := 32) hk dX3_read_32 rfl ?_
    refine kg_25 (pc := 33) hk hK (fun _ _ e => e.1) dX3_read_33 ?_
    refine g_sipush (pc := 36) (v := 207) hk dX3_read_36 rfl ?_
    by_cases h207 : 207 < τ.2.2.1
    · rw [if_pos h207] at h
      cases h
      refine g_yes (c := 207 < τ.2.2.1) h207 ?_
      refine g_icmp_le (pc := 39) (tgt := 48) hk dX3_read_39 rfl g_none ?_
      refine g_aload_n (pc := 42) hk dX3_read_42 rfl ?_
      refine g_iconst (pc := 43) (v := 1) hk dX3_read_43 rfl ?_
      exact px_thr (pc := 44) hΓ.1 hk hK htab htr hG rfl (rmFit_i (by show 6 + 1 ≤ _; omega) (by show 8 + (2 + 11) + 160 ≤ _; omega)) ⟨hc, hs⟩ dX3_read_44 dX3_read_47
    rw [if_neg h207] at h
    refine g_no (c := 207 < τ.2.2.1) h207 ?_
    refine g_icmp_le (pc := 39) (tgt := 48) hk dX3_read_39 rfl ?_ g_none
    refine g_aload_n (pc := 48) hk dX3_read_48 rfl ?_
    refine g_aload_n (pc := 49) hk dX3_read_49 rfl ?_
    refine kg_25 (pc := 50) hk hK (fun _ _ e => e.1) dX3_read_50 ?_
    refine px_83 (pc := 53) (f := fun _ => some r) hk hK (RDE.st ht9) dX3_read_53 ?_
    have go : ∀ cs sl, K_r88 π sum (K_rd π sum m) (sKind τ τ.2.2.1) lw ds n cs sl = some r → GGo K (xQ K Γ π rm (fun r : KRs Tx => vwX Γ π (kS K).heap k r.1)) (some r) 2 (PX K Γ π (sKind τ τ.2.2.1) (RDE Γ (kS K).heap.size k t la dl a lw lq es ds n)) cs sl 88 [(0, .ref π.1), (1, .ref t)] [] := fun cs sl h =>
      rd_88 hΓ hk hK htab htr hG ht9 hS hF hL (K_rd_up m) h hc hs hn hes (fun τ4 lw' lq' es' ds' a' c' s' h4 h5 h6 => ih τ4 lw' lq' es' ds' a' (n + 1) c' s' h4 h6 h5)
    refine g_aload_n (pc := 56) hk dX3_read_56 rfl ?_
    refine kg_83 (pc := 57) hk hK (fun _ _ e => e.1) dX3_read_57 ?_
    refine g_sipush (pc := 60) (v := 202) hk dX3_read_60 rfl ?_
    by_cases h202 : 202 < τ.2.2.1
    · rw [if_pos h202] at h
      refine g_yes (c := 202 < τ.2.2.1) h202 ?_
      refine g_icmp_gt (pc := 63) (tgt := 88) hk dX3_read_63 rfl ?_ g_none
      exact go _ _ h
    rw [if_neg h202] at h
    refine g_no (c := 202 < τ.2.2.1) h202 ?_
    refine g_icmp_gt (pc := 63) (tgt := 88) hk dX3_read_63 rfl g_none ?_
    by_cases hin : inb (τ.2.2.1 - 200) 3 = true
    · rw [if_pos hin] at h
      refine g_aload_n (pc := 66) hk dX3_read_66 rfl ?_
      refine x_getN (pc := 67) hk hK (ci := 3) (host := RX0) rfl in_X4 (fun H locs hI => hI.2.2.2.1.1) 0 (by decide) cn_397 rfl rfl dX3_read_67 ?_
      refine g_aload_n (pc := 70) hk dX3_read_70 rfl ?_
      refine kg_83 (pc := 71) hk hK (fun _ _ e => e.1) dX3_read_71 ?_
      refine g_sipush (pc := 74) (v := 200) hk dX3_read_74 rfl ?_
      refine g_isub (pc := 77) hk dX3_read_77 ?_
      refine x_aald (pc := 78) hk (fun H locs hI => hI.2.2.2.1.2.1) ((hK.1.2 4 _ rfl).1) rfl hin dX3_read_78 ?_
      refine g_at (fun H9 locs9 hI9 => ?_)
      have hlt : (τ.2.2.1 - 200).toNatClampNeg < 3 := inb_lt hin
      rcases hI9.2.2.2.2.2.1 _ hlt with ⟨z1, z2⟩ | ⟨x, y, z1, z2, -⟩
      · have z3 : lw (lwI (sKind τ τ.2.2.1)) = none := z1
        rw [z3] at h
        rw [show lq ((sKind τ τ.2.2.1).2.2.2.2.2 - 200).toNatClampNeg = none from z2]
        refine g_ifnlN (pc := 79) (tgt := 88) hk dX3_read_79 rfl ?_
        exact g_I (fun _ _ e => by rw [e.1, e.2]; exact hI9) (go _ _ h)
      · have z3 : lw (lwI (sKind τ τ.2.2.1)) = some x := z1
        rw [z3] at h
        cases h
        rw [show lq ((sKind τ τ.2.2.1).2.2.2.2.2 - 200).toNatClampNeg = some y from z2]
        refine g_ifnl (pc := 79) hk dX3_read_79 ?_
        refine g_I (I' := PX K Γ π (sKind τ τ.2.2.1) (RDE Γ (kS K).heap.size k t la dl a lw lq es ds n)) (fun _ _ e => by rw [e.1, e.2]; exact hI9) ?_
        refine g_aload_n (pc := 82) hk dX3_read_82 rfl ?_
        refine g_iconst (pc := 83) (v := 4) hk dX3_read_83 rfl ?_
        exact px_thr (pc := 84) hΓ.1 hk hK htab htr hG rfl (rmFit_i (by show 6 + 1 ≤ _; omega) (by show 8 + (2 + 11) + 160 ≤ _; omega)) ⟨hc, hs⟩ dX3_read_84 dX3_read_87
    · rw [if_neg hin] at h; cases h
def rm_x_rd (r : KRs Tx) : Room := { frames := 130, cells := r.2.1, slots := r.2.2, locals := 6400 }
theorem k_read (hΓ : DLX Γ) {H0 : Heap} {τ : TKS} (ht : va_at (gD Γ) ccl (π.1, .inr (2, tkF Γ π τ)) H0) {r : KRs Tx} (hr : K_read π τ = some r) : XMet Γ tx π yX3_read cX3_read 2 (some (.object "ShaveOfAnother$Text")) (rm_x_rd r) [.ref π.1] H0 (vwX Γ π H0 75 r.1) := by
  refine x_met (view := fun r : KRs Tx => vwX Γ π H0 75 r.1) (comp := some r) (own := RX3) rfl (by decide) rfl (ls0 := [(0, .ref π.1)]) rfl (fun K hk hK htab htr hH hG => ?_) r rfl
  subst hH
  have ht9 := ht.lt
  refine px_in ?_ ht
  have hS : subOK Γ tx π .inl yX3_sum cX3_sum 3 (.object "ShaveOfAnother$Sum") 123 6120 75 (rdSum π) := by
    have hp := k_power (tx := tx) (π := π) hΓ (k_pair hΓ 12).1 (by decide) (by decide)
    have hq : subOK Γ tx π .inl yX3_product cX3_product 3 (.object "ShaveOfAnother$Sum") _ _ _ (K_prod π (K_pair π 12).1) := k_product hΓ hp (by decide) (by decide)
    exact k_sum hΓ hq (by decide) (by decide)
  unfold K_read at hr
  obtain ⟨τ1, hn, hr⟩ := ob1_some hr
  have hup := K_rd_up _ _ _ _ _ _ _ _ hr
  have h600 : gA Γ 600 < (kS K).heap.size := by
    obtain ⟨cell, h4, -⟩ := (hΓ.2 _ _ _ (hG.ge hK.2.2.2)).1.2
    exact (Array.getElem?_eq_some_iff.mp h4).1
  refine py_new (pc := 0) (ci := 3) (N := 3) (fs := [.null, .int 0, .null]) (E2 := fun _ _ => True) hk hK rfl in_X4 tyX4 tyX4_ok q362 q363 q130 (fun j hj => by
    rcases (show j = 0 ∨ j = 1 ∨ j = 2 by omega) with rfl | rfl | rfl <;> rfl) (by show 0 + 1 ≤ r.2.1; omega) (by show 0 + 3 ≤ r.2.2; omega) dX3_read_0 ht9 (fun _ _ _ _ _ _ => trivial) (fun t => ?_)
  refine g_dup (pc := 3) hk dX3_read_3 rfl ?_
  refine x_initNB (pc := 4) (tx := tx) (b := π.1) (rmY := rm_x_ch) (R := fun H H1 => ∃ la dl, va_at (gD Γ) ccl (t, .inr (3, [.ref la, .int 0, .ref dl])) H1 ∧ H1[la]? = some (arrV (gC Γ 4) 3 (fun _ => va_rf none)) ∧ LHt Γ H1 dl (gA Γ 600) [] ∧ H.size ≤ la ∧ H.size ≤ dl ∧ la ≠ dl) hk hK htr (fun H locs hI => (hG.fr hI.2.1).1) [] [.ref t] (fun H locs hI => ?_) cn_364 q365 q130 q366 rfl hi_X4 (rmFit_i (by show 5 + 1 ≤ 130; decide) (by show 8 + (1 + 11) + 260 ≤ 6400; decide)) rfl rfl dX3_read_4 rfl ⟨by show 0 + 1 + 2 ≤ r.2.1; omega, by show 0 + 3 + 6 ≤ r.2.2; omega⟩ ?_
  · exact n_X4 hΓ (by have := hI.2.2.2.2.2; omega) hI.2.2.2.2.1
  refine g_astore_n (pc := 7) (i := 1) hk dX3_read_7 rfl (by decide) rfl ?_
  refine g_at (fun H1 locs1 hI => ?_)
  obtain ⟨H, locs, hP, ⟨la, dl, c1, c2, c3, c4, c5, c6⟩, hFr, hlo⟩ := hI
  obtain ⟨p1, p2, p3, -, p4, p5⟩ := hP
  have hcl := p4.lt
  refine g_I (I' := PX K Γ π τ (RDE Γ (kS K).heap.size 75 t la dl (gA Γ 600) (fun _ => none) (fun _ => none) [] [] 0)) (fun H2 l2 e => ?_) ?_
  · obtain ⟨rfl, rfl⟩ := e
    have hz := p2.1
    refine ⟨p1.kept (hFr.2 _ p1.lt (by omega)), ⟨Nat.le_trans p2.1 hFr.1, fun x hx hn => (hFr.2 x (by omega) (by omega)).trans (p2.2 x hx hn)⟩, fun z hz => ?_, ⟨c1, c2, c3⟩, ⟨⟨p5, by omega, by omega⟩, ⟨by omega, by omega, c6⟩, fun e => absurd rfl e⟩, fun i _ => Or.inl ⟨rfl, rfl⟩, rfl, fun j y d e1 e2 => by cases e1⟩
    rcases hlo z hz with h | h | h
    · exact p3 z h
    · exact Or.inr (by rw [h]; exact p5)
    · exact Or.inr (Nat.le_trans p2.1 h)
  refine g_aload_n (pc := 8) hk dX3_read_8 rfl ?_
  refine px_next (pc := 9) hΓ.1 hk hK htr hG (RDE.st ht9) hn (rmFit_i (by show 6 + 1 ≤ 130; decide) (by show 8 + (3 + 11) + 400 ≤ 6400; decide)) rfl dX3_read_9 ⟨by show 0 + 1 + 2 ≤ r.2.1; omega, by show 0 + 3 + 6 ≤ r.2.2; omega⟩ ?_
  refine g_widen (cs' := 3) (sl' := 9) (Nat.le_refl _) (Nat.le_refl _) ?_
  refine g_ls (ls' := [(0, .ref π.1), (1, .ref t)]) ⟨rfl, rfl, trivial⟩ ?_
  exact rd_loop hΓ hk hK htab htr hG ht9 hS ⟨by show 13 ≤ 130; decide, by show 123 + 1 ≤ 130; decide⟩ ⟨by show 1000 ≤ 6400; decide, by show 6120 + 40 ≤ 6400; decide⟩ (Nat.le_refl _) (Nat.le_refl _) 400 τ1 (fun _ => none) (fun _ => none) [] [] (gA Γ 600) 0 3 9 hr (by decide) (Nat.zero_le _)
end RDL
