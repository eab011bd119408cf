/-! read, walked -/
set_option maxRecDepth 100000
theorem hv_k_read : yX3_read.cls = RX3 ∧ yX3_read.cls ≠ "java/lang/invoke/MethodHandle" ∧ yX3_read.cls ≠ "java/lang/invoke/VarHandle" ∧ (parseMethodDescriptor yX3_read.desc).map (fun d => d.parameters.length) = some 0 := by decide +kernel
section RDW
variable {Γ : CG} {tx : TXs Tx} {π : PPar}
/-- behind a clause's body: the sign, the count -/
theorem rd_154 (hΓ : DLX Γ) {K : KT} {rm : Room} (hk : KOK K cX3_read 2 RX3 rm (some (.object "ShaveOfAnother$Text"))) (hK : CK Γ (kS K)) (htab : noTab K) (htr : K.2.1.stackTraces = false) (hG : PG Γ tx π (kS K) (kS K).heap) (ht9 : π.1 < (kS K).heap.size) (hF : 12 ≤ rm.frames) (hL : 900 ≤ rm.locals) {t la dl a k n cs sl : Nat} {lw : Nat → Option Den} {lq : Nat → Option Nat} {es : List Nat} {ds : List D4} {τ : TKS} {f : TKS → Option (KRs Tx)} {r : KRs Tx} (h : obE (K_want π 59 τ) (fun e => some (.inl e, cs + 1, sl + 8)) f = some r) (hc : cs + 1 ≤ rm.cells) (hs : sl + 8 ≤ rm.slots)
    (kk : ∀ τ4, f τ4 = some r → GGo K (xQ K Γ π rm (fun r : KRs Tx => vwX Γ π (kS K).heap k r.1)) (some r) 2 (PX K Γ π τ4 (RDE Γ (kS K).heap.size k t la dl a lw lq es ds (n + 1))) (cs + 1) (sl + 8) 12 [(0, .ref π.1), (1, .ref t)] []) : GGo K (xQ K Γ π rm (fun r : KRs Tx => vwX Γ π (kS K).heap k r.1)) (some r) 2 (PX K Γ π τ (RDE Γ (kS K).heap.size k t la dl a lw lq es ds n)) cs sl 154 [(0, .ref π.1), (1, .ref t)] [] := by
  refine g_aload_n (pc := 154) hk dX3_read_154 rfl ?_
  refine g_bipush (pc := 155) (v := 59) hk dX3_read_155 rfl ?_
  rcases obE_some h with ⟨e, hw, h⟩ | ⟨τ4, hw, h⟩
  · cases h
    exact py_wantE (pc := 157) hΓ.1 hk hK htab htr hG rfl hw (by omega) (by omega) rfl dX3_read_157 ⟨hc, hs⟩
  refine py_wantR (pc := 157) hΓ.1 hk hK htr hG (RDE.st ht9) hw (by omega) (by omega) rfl dX3_read_157 ⟨hc, hs⟩ ?_
  refine g_aload_n (pc := 160) hk dX3_read_160 rfl ?_
  refine g_dup (pc := 161) hk dX3_read_161 rfl ?_
  refine x_getN (pc := 162) hk hK (ci := 3) (host := RX0) rfl in_X4 (fun H locs hI => hI.2.2.2.1.1) 1 (by decide) cn_399 rfl rfl dX3_read_162 ?_
  refine g_iconst (pc := 165) (v := 1) hk dX3_read_165 rfl ?_
  refine g_iadd (pc := 166) hk dX3_read_166 ?_
  rw [nI_1]
  refine x_putN (pc := 167) (ci := 3) (fs := [.ref la, .int (nI n), .ref dl]) (host := RX0) hk hK rfl in_X4 tyX4 tyX4_ok nmX4 (fun H locs hI => hI.2.2.2.1.1) 1 (by decide) cn_399 rfl rfl rfl rfl (show 1 < 3 by decide) dX3_read_167 ?_
  refine g_I (I' := PX K Γ π τ4 (RDE Γ (kS K).heap.size k t la dl a lw lq es ds (n + 1))) (fun H1 locs1 hI => ?_) ?_
  · obtain ⟨H, locs, ⟨p1, p2, p3, ⟨e1, e2, e3⟩, ⟨⟨e4, e5, e6⟩, e7, e8⟩, e9, e10, e11⟩, h5, h6, h7, h8⟩ := hI
    refine ⟨p1.kept (h7 _ (by omega)), ⟨by have := p2.1; omega, fun x hx hn => (h7 x (by omega)).trans (p2.2 x hx hn)⟩, fun z hz => (h8 z hz).elim (p3 z) (fun w => Or.inr (by rw [w]; exact e4)), ⟨h5, by rw [h7 la (by omega)]; exact e2, e3.kept (h7 _ (by omega)) (fun e => h7 _ (e8 e).2.1)⟩, ⟨⟨e4, e5, e6⟩, e7, e8⟩, fun i hi => ?_, e10, fun j y d z1 z2 => ?_⟩
    · rcases e9 i hi with z | ⟨x, y, z1, z2, z3⟩
      · exact Or.inl z
      · exact Or.inr ⟨x, y, z1, z2, z3.kept (fun q hq w => ⟨w, h7 q w.2.1⟩)⟩
    · obtain ⟨w1, w2⟩ := e11 j y d z1 z2
      exact ⟨w1, w2.kept (h7 _ w1.2.1)⟩
  refine g_goto (pc := 170) (tgt := 12) hk dX3_read_170 rfl ?_
  exact kk τ4 h
theorem rd_88 (hΓ : DLX Γ) {K : KT} {rm : Room} (hk : KOK K cX3_read 2 RX3 rm (some (.object "ShaveOfAnother$Text"))) (hK : CK Γ (kS K)) (htab : noTab K) (htr : K.2.1.stackTraces = false) (hG : PG Γ tx π (kS K) (kS K).heap) (ht9 : π.1 < (kS K).heap.size) {F L k : Nat} {sum : TKS → Option (KRs Den)} (hS : subOK Γ tx π .inl yX3_sum cX3_sum 3 (.object "ShaveOfAnother$Sum") F L k sum) (hF : 13 ≤ rm.frames ∧ F + 1 ≤ rm.frames) (hL : 1000 ≤ rm.locals ∧ L + 40 ≤ rm.locals) {t la dl a n cs sl : Nat} {lw : Nat → Option Den} {lq : Nat → Option Nat} {es : List Nat} {ds : List D4} {τ : TKS} {rec : TKS → (Nat → Option Den) → List D4 → Nat → Nat → Nat → Option (KRs Tx)} {r : KRs Tx} (hrec : ∀ τ lw ds n c s r, rec τ lw ds n c s = some r → c ≤ r.2.1 ∧ s ≤ r.2.2) (h : K_r88 π sum rec τ lw ds n cs sl = some r) (hc : r.2.1 ≤ rm.cells) (hs : r.2.2 ≤ rm.slots) (hn : n ≤ 24) (hes : es.length ≤ n)
    (kk : ∀ τ4 lw' lq' es' ds' a' c' s', rec τ4 lw' ds' (n + 1) c' s' = some r → es'.length ≤ n + 1 → n + 1 ≤ 24 → GGo K (xQ K Γ π rm (fun r : KRs Tx => vwX Γ π (kS K).heap k r.1)) (some r) 2 (PX K Γ π τ4 (RDE Γ (kS K).heap.size k t la dl a' lw' lq' es' ds' (n + 1))) c' s' 12 [(0, .ref π.1), (1, .ref t)] []) : GGo K (xQ K Γ π rm (fun r : KRs Tx => vwX Γ π (kS K).heap k r.1)) (some r) 2 (PX K Γ π τ (RDE Γ (kS K).heap.size k t la dl a lw lq es ds n)) cs sl 88 [(0, .ref π.1), (1, .ref t)] [] := by
  have hX := hΓ.1.1.1.1.x hK
  have hup := K_r88_up hrec h
  have hst : PSt π (RDE Γ (kS K).heap.size k t la dl a lw lq es ds n) := RDE.st ht9
  have h600 : gA Γ 600 < (kS K).heap.size := by
    obtain ⟨cell, h4, -⟩ := (hΓ.2 _ _ _ (hG.ge hK.2.2.2)).1.2
    exact (Array.getElem?_eq_some_iff.mp h4).1
  unfold K_r88 at h
  refine g_aload_n (pc := 88) hk dX3_read_88 rfl ?_
  refine x_getN (pc := 89) hk hK (ci := 3) (host := RX0) rfl in_X4 (fun H locs hI => hI.2.2.2.1.1) 1 (by decide) cn_399 rfl rfl dX3_read_89 ?_
  refine g_bipush (pc := 92) (v := 24) hk dX3_read_92 rfl ?_
  by_cases h24 : n = 24
  · rw [if_pos h24] at h
    cases h
    refine g_yes (c := nI n = 24) (by rw [h24]; rfl) ?_
    refine g_icmp_ne (pc := 94) (tgt := 104) hk dX3_read_94 rfl g_none ?_
    refine g_aload_n (pc := 97) hk dX3_read_97 rfl ?_
    refine g_bipush (pc := 98) (v := 6) hk dX3_read_98 rfl ?_
    exact px_thr (pc := 100) hΓ.1 hk hK htab htr hG rfl (rmFit_i (by show 6 + 1 ≤ _; omega) (by show 8 + (2 + 11) + 160 ≤ _; omega)) ⟨hc, hs⟩ dX3_read_100 dX3_read_103
  rw [if_neg h24] at h
  refine g_no (c := nI n = 24) (pe_ne (b := 24) (by omega) (by omega) h24) ?_
  refine g_icmp_ne (pc := 94) (tgt := 104) hk dX3_read_94 rfl ?_ g_none
  obtain ⟨τ2, hn2, h⟩ := ob1_some h
  refine g_aload_n (pc := 104) hk dX3_read_104 rfl ?_
  refine px_next (pc := 105) hΓ.1 hk hK htr hG hst hn2 (rmFit_i (by show 6 + 1 ≤ _; omega) (by show 8 + (3 + 11) + 400 ≤ _; omega)) rfl dX3_read_105 ⟨by omega, by omega⟩ ?_
  refine g_aload_n (pc := 108) hk dX3_read_108 rfl ?_
  refine kg_83 (pc := 109) hk hK (fun _ _ e => e.1) dX3_read_109 ?_
  refine g_sipush (pc := 112) (v := 202) hk dX3_read_112 rfl ?_
  by_cases hkd : 202 < τ2.2.2.2.2.2
  · rw [if_pos hkd] at h
    refine g_yes (c := 202 < τ2.2.2.2.2.2) hkd ?_
    refine g_icmp_gt (pc := 115) (tgt := 138) hk dX3_read_115 rfl ?_ g_none
    by_cases hdo : isDo τ2.2.2.2.2.2 = true
    · rw [if_pos hdo] at h
      refine g_aload_n (pc := 138) hk dX3_read_138 rfl ?_
      refine x_getN (pc := 139) hk hK (ci := 3) (host := RX0) rfl in_X4 (fun H locs hI => hI.2.2.2.1.1) 2 (by decide) cn_401 rfl rfl dX3_read_139 ?_
      refine g_aload_n (pc := 142) hk dX3_read_142 rfl ?_
      refine g_aload_n (pc := 143) hk dX3_read_143 rfl ?_
      refine x_getN (pc := 144) hk hK (ci := 3) (host := RX0) rfl in_X4 (fun H locs hI => hI.2.2.2.1.1) 1 (by decide) cn_399 rfl rfl dX3_read_144 ?_
      rcases obK_some h with ⟨e, a1, b1, hd, h⟩ | ⟨x, τ3, a1, b1, hd, h⟩
      · cases h
        exact px_callE (pc := 147) (tx := tx) (rmY := rm_x_do) hk hK htab htr hG rfl [.int (nI n)] [.ref dl] (fun H ht _ _ => k_doing hΓ ht (isDo_or hdo) hd) (lw_V q837 q839 qs22 q129 q840) hv_k_doing (rmFit_i (by show 12 + 1 ≤ _; omega) (by show 8 + (3 + 11) + 900 ≤ _; omega)) rfl rfl dX3_read_147 rfl ⟨hc, hs⟩
      have hup2 : cs + 4 + adC ds.length + 1 ≤ r.2.1 ∧ sl + 28 + adS ds.length + 8 ≤ r.2.2 := by
        rcases obE_some h with ⟨e, -, h⟩ | ⟨τ4, -, h⟩
        · cases h; exact ⟨Nat.le_refl _, Nat.le_refl _⟩
        · exact hrec _ _ _ _ _ _ _ h
      refine px_callR (pc := 147) (tx := tx) (rmY := rm_x_do) (τ' := τ3) (V := fun v => ∃ q, v = some (.ref q)) (E' := fun v H => RDE Γ (kS K).heap.size k t la dl a lw lq es ds n H ∧ ∃ (H' : Heap) (q : Nat), v = some (.ref q) ∧ RDE Γ (kS K).heap.size k t la dl a lw lq es ds n H' ∧ (kS K).heap.size ≤ H'.size ∧ H'.size ≤ q ∧ va_at (gD Γ) ccl (q, .inr (14, [.int x.1, .int x.2.1, .int x.2.2.1, .int x.2.2.2])) H) (R := fun H v H1 => ∃ q, v = some (.ref q) ∧ va_at (gD Γ) ccl (π.1, .inr (2, tkF Γ π τ3)) H1 ∧ va_at (gD Γ) ccl (q, .inr (14, [.int x.1, .int x.2.1, .int x.2.2.1, .int x.2.2.2])) H1 ∧ H.size ≤ q) hk hK htr hG [.int (nI n)] [.ref dl] (fun H ht _ _ => k_doing hΓ ht (isDo_or hdo) hd) (fun H v H1 e1 e2 e3 e4 => ?_) (lw_V q837 q839 qs22 q129 q840) hv_k_doing (rmFit_i (by show 12 + 1 ≤ _; omega) (by show 8 + (3 + 11) + 900 ≤ _; omega)) rfl rfl dX3_read_147 rfl ⟨by show cs + 4 ≤ _; omega, by show sl + 28 ≤ _; omega⟩ (fun v hv => ?_)
      · obtain ⟨q, w1, w2, w3, w4⟩ := e4
        exact ⟨⟨q, w1⟩, w2, hst _ _ e1 e3, H, q, w1, e1, e2.1, w4, w3⟩
      obtain ⟨q, rfl⟩ := hv
      have hdl : ∀ H, RDE Γ (kS K).heap.size k t la dl a lw lq es ds n H → es.length = ds.length := fun H hE => hE.2.2.2.1
      refine g_at (fun H9 locs9 hI9 => ?_)
      have hlen := hdl _ hI9.2.2.2.1
      refine g_I (I' := PX K Γ π τ3 (fun H => RDE Γ (kS K).heap.size k t la dl a lw lq es ds n H ∧ ∃ (H' : Heap) (q' : Nat), some (Value.ref q) = some (.ref q') ∧ RDE Γ (kS K).heap.size k t la dl a lw lq es ds n H' ∧ (kS K).heap.size ≤ H'.size ∧ H'.size ≤ q' ∧ va_at (gD Γ) ccl (q', .inr (14, [.int x.1, .int x.2.1, .int x.2.2.1, .int x.2.2.2])) H)) (fun _ _ e => by rw [e.1, e.2]; exact hI9) ?_
      refine py_ladd (pc := 150) (l := dl) (a := a) (q := q) (es := es) (E' := fun a' => RDE Γ (kS K).heap.size k t la dl a' lw lq (es ++ [q]) (ds ++ [x]) n) hΓ hk hK hG ht9 (by omega) (by omega) (by omega) rfl dX3_read_150 (by rw [hlen]; exact ⟨by show cs + 4 + _ ≤ _; omega, by show sl + 28 + _ ≤ _; omega⟩) (fun H hE => ?_) (fun H H1 a' hE hz ho r1 r2 r4 => ?_) (fun a' => ?_)
      · obtain ⟨⟨⟨e1, e2, e3⟩, ⟨⟨e4, e5, e6⟩, e7, e8⟩, e9, e10, e11⟩, H', q', w0, ⟨⟨f1, f2, f3⟩, f4⟩, w1, w2, w3⟩ := hE
        cases w0
        have hl3 := f3.lt
        refine ⟨e3, e6, fun e => (e8 e).1, fun e he => ?_, by omega, fun hm => ?_⟩
        · rcases List.mem_cons.mp he with z | z
          · rw [z]
            exact ⟨_, cx_2064, x_rec (I := fun H' _ => H' = H) hK (ci := 14) rfl (fun _ _ e => by rw [e]; exact w3) H [] rfl⟩
          · obtain ⟨j, hj, hje⟩ := List.getElem_of_mem z
            have hj2 : es[j]? = some e := by rw [List.getElem?_eq_getElem hj, hje]
            obtain ⟨d, hd9⟩ : ∃ d, ds[j]? = some d := ⟨ds[j]'(by omega), List.getElem?_eq_getElem (by omega)⟩
            exact ⟨_, cx_2064, x_rec (I := fun H' _ => H' = H) hK (ci := 14) rfl (fun _ _ ee => by rw [ee]; exact (e11 j e d hj2 hd9).2) H [] rfl⟩
        · obtain ⟨j, hj, hje⟩ := List.getElem_of_mem hm
          have hj2 : es[j]? = some dl := by rw [List.getElem?_eq_getElem hj, hje]
          obtain ⟨d, hd9⟩ : ∃ d, ds[j]? = some d := ⟨ds[j]'(by omega), List.getElem?_eq_getElem (by omega)⟩
          exact (e11 j dl d hj2 hd9).1.2.2.2.1 rfl
      · obtain ⟨⟨⟨e1, e2, e3⟩, ⟨⟨e4, e5, e6⟩, e7, e8⟩, e9, e10, e11⟩, H', q', w0, ⟨⟨f1, f2, f3⟩, f4⟩, w1, w2, w3⟩ := hE
        cases w0
        have hl1 := f1.lt
        have hl2 := (Array.getElem?_eq_some_iff.mp f2).1
        have hl3 := f3.lt
        have g1 := e1.lt
        have g2 := (Array.getElem?_eq_some_iff.mp e2).1
        have ha0 : es = [] → a < (kS K).heap.size := fun e => by rw [e3.2.2.1 e]; exact h600
        have ha' : (kS K).heap.size ≤ a' ∧ a' ≠ t ∧ a' ≠ la := by
          rcases r1 with z | z
          · by_cases e : es = []
            · have := r2 e; have := ha0 e; omega
            · rw [z]; exact e8 e
          · omega
        have mvO : ∀ x : Nat, x < H.size → rdO t la dl a x → rdO t la dl a' x := fun x hx w => ⟨w.1, w.2.1, w.2.2.1, fun z => r1.elim (fun v => w.2.2.2 (by omega)) (fun v => by omega)⟩
        have old : ∀ x : Nat, x < H.size → rdO t la dl a x → H1[x]? = H[x]? := fun x hx w => ho x hx w.2.2.1 (fun _ => w.2.2.2)
        refine ⟨⟨e1.kept (ho _ g1 e7.2.1 (fun e => Ne.symm (e8 e).2.1)), by rw [ho la g2 e7.2.2 (fun e => Ne.symm (e8 e).2.2)]; exact e2, r4⟩, ⟨⟨e4, e5, e6⟩, e7, fun _ => ha'⟩, fun i hi => ?_, by rw [List.length_append, List.length_append, e10]; rfl, fun j y d z1 z2 => ?_⟩
        · rcases e9 i hi with z | ⟨x9, y, z1, z2, z3⟩
          · exact Or.inl z
          · exact Or.inr ⟨x9, y, z1, z2, z3.kept (fun q hq w => ⟨⟨w.1, mvO q hq w.2⟩, old q hq w.2⟩)⟩
        · rcases Nat.lt_or_ge j es.length with hj | hj
          · rw [List.getElem?_append_left hj] at z1
            rw [List.getElem?_append_left (by omega)] at z2
            obtain ⟨w4, w5⟩ := e11 j y d z1 z2
            exact ⟨⟨w4.1, mvO y w5.lt w4.2⟩, w5.kept (old y w5.lt w4.2)⟩
          · have hj1 := (List.getElem?_eq_some_iff.mp z1).1
            rw [List.length_append, List.length_singleton] at hj1
            have hj2 : j = es.length := by omega
            subst hj2
            rw [List.getElem?_append_right (Nat.le_refl _), Nat.sub_self] at z1
            rw [List.getElem?_append_right (by omega), e10, Nat.sub_self] at z2
            cases z1
            cases z2
            have hq := w3.lt
            have hqa : es ≠ [] → @Ne Nat q a := fun e => by have := f3.lt.2 e; omega
            have hqo : @Ne Nat q a := by
              by_cases e : es = []
              · have := ha0 e; omega
              · exact hqa e
            refine ⟨⟨by omega, by omega, by omega, by omega, fun z => r1.elim (fun v => hqo (by omega)) (fun v => by omega)⟩, w3.kept (ho q hq (by omega) (fun _ => hqo))⟩
      · refine g_pop (pc := 153) hk dX3_read_153 rfl ?_
        rw [hlen]
        exact rd_154 hΓ hk hK htab htr hG ht9 (by omega) (by omega) h (by show cs + 4 + _ + 1 ≤ _; omega) (by show sl + 28 + _ + 8 ≤ _; omega) (fun τ4 h4 => kk τ4 lw lq (es ++ [q]) (ds ++ [x]) a' _ _ h4 (by rw [List.length_append, List.length_singleton]; omega) (by omega))
    · rw [if_neg hdo] at h; cases h
  · rw [if_neg hkd] at h
    refine g_no (c := 202 < τ2.2.2.2.2.2) hkd ?_
    refine g_icmp_gt (pc := 115) (tgt := 138) hk dX3_read_115 rfl g_none ?_
    by_cases hin : inb (τ2.2.2.2.2.2 - 200) 3 = true
    · rw [if_pos hin] at h
      refine g_aload_n (pc := 118) hk dX3_read_118 rfl ?_
      refine x_getN (pc := 119) hk hK (ci := 3) (host := RX0) rfl in_X4 (fun H locs hI => hI.2.2.2.1.1) 0 (by decide) cn_397 rfl rfl dX3_read_119 ?_
      refine g_aload_n (pc := 122) hk dX3_read_122 rfl ?_
      refine kg_83 (pc := 123) hk hK (fun _ _ e => e.1) dX3_read_123 ?_
      refine g_sipush (pc := 126) (v := 200) hk dX3_read_126 rfl ?_
      refine g_isub (pc := 129) hk dX3_read_129 ?_
      refine g_aload_n (pc := 130) hk dX3_read_130 rfl ?_
      rcases obK_some h with ⟨e, a1, b1, hd, h⟩ | ⟨d, τ3, a1, b1, hd, h⟩
      · cases h
        exact py_subE (pc := 131) hk hK htab htr hG rfl hS hd [.int (τ2.2.2.2.2.2 - 200), .ref la] (lw_V q547 q549 qs5 q129 q550) hv_k_sum hF.2 (by omega) rfl dX3_read_131 rfl ⟨hc, hs⟩
      have hup2 : cs + a1 + 1 ≤ r.2.1 ∧ sl + b1 + 8 ≤ r.2.2 := by
        rcases obE_some h with ⟨e, -, h⟩ | ⟨τ4, -, h⟩
        · cases h; exact ⟨Nat.le_refl _, Nat.le_refl _⟩
        · exact hrec _ _ _ _ _ _ _ h
      refine py_subR (pc := 131) hk hK htr hG hst hS hd [.int (τ2.2.2.2.2.2 - 200), .ref la] (lw_V q547 q549 qs5 q129 q550) hv_k_sum hF.2 (by omega) rfl dX3_read_131 rfl ⟨by omega, by omega⟩ (fun q => ?_)
      refine g_at (fun H9 locs9 hI9 => ?_)
      obtain ⟨p1, p2, p3, ⟨⟨e1, e2, e3⟩, ⟨⟨e4, e5, e6⟩, e7, e8⟩, e9, e10, e11⟩, H', ⟨⟨f1, f2, f3⟩, f4⟩, w1, w2, w3⟩ := hI9
      obtain ⟨C, hC, hcell⟩ := w3.sm hK
      refine x_aastS (pc := 134) (n := 3) (j := lwI τ2) (fv := lq) hk hK hX (fun H l e => by rw [e.1]; exact e2) hC (fun H l e => by rw [e.1]; exact hcell) hin rfl dX3_read_134 ?_
      refine g_I (I' := PX K Γ π τ3 (RDE Γ (kS K).heap.size k t la dl a (va_up lw (lwI τ2) (some d)) (va_up lq (lwI τ2) (some q)) es ds n)) (fun H1 locs1 hI => ?_) ?_
      · obtain ⟨H, locs, ⟨rfl, rfl⟩, h3, h4, h5, h6⟩ := hI
        have hl1 := f1.lt
        have hl2 := (Array.getElem?_eq_some_iff.mp f2).1
        have hl3 := f3.lt
        have hs0 := w1.1
        refine ⟨p1.kept (h5 _ (by omega)), ⟨by have := p2.1; omega, fun x hx hn => (h5 x (by omega)).trans (p2.2 x hx hn)⟩, fun z hz => (h6 z hz).elim (p3 z) (fun w => Or.inr (by rw [w]; exact e5)), ⟨e1.kept (h5 _ e7.1), h3, e3.kept (h5 _ (Ne.symm e7.2.2)) (fun e => h5 _ (e8 e).2.2)⟩, ⟨⟨e4, e5, e6⟩, e7, e8⟩, fun i hi => ?_, e10, fun j y d9 z1 z2 => ?_⟩
        · by_cases hi2 : i = lwI τ2
          · refine Or.inr ⟨d, q, by simp only [va_up]; rw [if_pos hi2], by simp only [va_up]; rw [if_pos hi2], w3.kept (fun x hx w => ?_)⟩
            have w9 : H'.size ≤ x := w
            have hxa : x ≠ a := fun z => by
              by_cases e : es = []
              · have := e3.2.2.1 e; omega
              · have := hl3.2 e; omega
            exact ⟨⟨by omega, by omega, by omega, by omega, hxa⟩, h5 x (by omega)⟩
          · simp only [va_up]
            rw [if_neg hi2, if_neg hi2]
            rcases e9 i hi with z | ⟨x, y, z1, z2, z3⟩
            · exact Or.inl z
            · exact Or.inr ⟨x, y, z1, z2, z3.kept (fun x hx w => ⟨w, h5 x w.2.2.1⟩)⟩
        · obtain ⟨w4, w5⟩ := e11 j y d9 z1 z2
          exact ⟨w4, w5.kept (h5 y w4.2.2.1)⟩
      refine g_goto (pc := 135) (tgt := 154) hk dX3_read_135 rfl ?_
      exact rd_154 hΓ hk hK htab htr hG ht9 (by omega) (by omega) h (by omega) (by omega) (fun τ4 h4 => kk τ4 _ _ es ds a _ _ h4 (by omega) (by omega))
    · rw [if_neg hin] at h; cases h
end RDW
