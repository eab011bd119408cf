/-! sum, product: chains (made by mkdx20.py) -/
set_option maxRecDepth 100000
theorem vb_nI (o : Nat) : vb_c (o + 128) = nI o := by
  show nI (o + 128) - nI 128 = nI o
  rw [pe_sub (by omega), Nat.add_sub_cancel]
def chS (acc : Den) (items : List (Nat × Den × Nat)) : Den := items.foldl (fun a i => dBin (vb_c i.1) a i.2.1) acc
/-- the chain's part of a parse method's world -/
def CHE (Γ : CG) (s k c qf lm lg am ag : Nat) (x0 : Den) (items : List (Nat × Den × Nat)) (H : Heap) : Prop :=
  ChH Γ H s c qf lm lg am ag (items.map (fun i => i.2.2)) (items.map (fun i => gA Γ (1000 + i.1))) ∧ DAt Γ (fun a => s ≤ a ∧ chO c lm lg am ag a) H k (.inl x0) qf ∧ (∀ i ∈ items, i.1 < 256 ∧ DAt Γ (fun a => s ≤ a ∧ chO c lm lg am ag a) H k (.inl i.2.1) i.2.2)
theorem ChH.kept {Γ : CG} {H H1 : Heap} {s c qf lm lg am ag : Nat} {ms gs : List Nat} (h : ChH Γ H s c qf lm lg am ag ms gs) (ho : ∀ x : Nat, x < H.size → s ≤ x → H1[x]? = H[x]?) : ChH Γ H1 s c qf lm lg am ag ms gs := by
  obtain ⟨h1, h2, h3, h4, h5, h6, h7⟩ := h
  have hg : gs ≠ [] → ms ≠ [] := fun e z => by rw [z] at h4; exact e (List.length_eq_zero_iff.mp h4.symm)
  exact ⟨h1.kept (ho _ h1.lt h5.1), h2.kept (ho _ h2.lt.1 h5.2.1) (fun e => ho _ (h2.lt.2 e) (h7 e).1.1), h3.kept (ho _ h3.lt.1 h5.2.2) (fun e => ho _ (h3.lt.2 e) (h7 (hg e)).1.2), h4, h5, h6, h7⟩
theorem ChH.lt {Γ : CG} {H : Heap} {s c qf lm lg am ag : Nat} {ms gs : List Nat} (h : ChH Γ H s c qf lm lg am ag ms gs) : (c < H.size ∧ lm < H.size ∧ lg < H.size) ∧ (ms ≠ [] → am < H.size ∧ ag < H.size) := by
  obtain ⟨h1, h2, h3, h4, -⟩ := h
  have hg : ms ≠ [] → gs ≠ [] := fun e z => by rw [z] at h4; exact e (List.length_eq_zero_iff.mp h4)
  exact ⟨⟨h1.lt, h2.lt.1, h3.lt.1⟩, fun e => ⟨h2.lt.2 e, h3.lt.2 (hg e)⟩⟩
theorem CHE.kept {Γ : CG} {H H1 : Heap} {s k c qf lm lg am ag : Nat} {x0 : Den} {items : List (Nat × Den × Nat)} (h : CHE Γ s k c qf lm lg am ag x0 items H) (ho : ∀ x : Nat, x < H.size → s ≤ x → H1[x]? = H[x]?) : CHE Γ s k c qf lm lg am ag x0 items H1 :=
  ⟨h.1.kept ho, h.2.1.kept (fun a ha h2 => ⟨h2, ho a ha h2.1⟩), fun i hi => ⟨(h.2.2 i hi).1, (h.2.2 i hi).2.kept (fun a ha h2 => ⟨h2, ho a ha h2.1⟩)⟩⟩
theorem CHE.st {Γ : CG} {π : PPar} {s k c qf lm lg am ag : Nat} {x0 : Den} {items : List (Nat × Den × Nat)} (hs : π.1 < s) : PSt π (CHE Γ s k c qf lm lg am ag x0 items) := fun H H1 h hF => h.kept (fun x hx h2 => hF.2 x hx (by omega))
/-- a chain's address is a sum's -/
theorem che_end {Γ : CG} {H : Heap} {s k c qf lm lg am ag : Nat} {x0 : Den} {items : List (Nat × Den × Nat)} (h : CHE Γ s k c qf lm lg am ag x0 items H) (hn : items.length < 2 ^ 30) : DAt Γ (fun a => s ≤ a) H (k + 1) (.inl (chS x0 items)) (if items.map (fun i => i.2.2) = [] then qf else c) := by
  obtain ⟨⟨h1, h2, h3, h4, h5, h6, h7⟩, h8, h9⟩ := h
  have wk : ∀ {e : Den ⊕ ADen} {q : Nat}, DAt Γ (fun a => s ≤ a ∧ chO c lm lg am ag a) H k e q → DAt Γ (fun a => s ≤ a) H k e q := fun hd => hd.kept (fun a _ z => ⟨z.1, rfl⟩)
  have hg : items.map (fun i => gA Γ (1000 + i.1)) ≠ [] → items.map (fun i => i.2.2) ≠ [] := fun e z => by rw [z] at h4; exact e (List.length_eq_zero_iff.mp h4.symm)
  by_cases he : items.map (fun i => i.2.2) = []
  · rw [if_pos he]
    have : items = [] := List.map_eq_nil_iff.mp he
    subst this
    exact Or.inl (wk h8)
  · rw [if_neg he]
    exact Or.inr ⟨h5.1, Or.inr (Or.inl ⟨x0, qf, lm, lg, items, rfl, h1, wk h8, h2.list h5.2.1 (fun e => (h7 e).1.1), h3.list h5.2.2 (fun e => (h7 (hg e)).1.2), fun i hi => ⟨(h9 i hi).1, wk (h9 i hi).2⟩, hn⟩)⟩
theorem hv_k_sum : yX3_sum.cls = RX3 ∧ yX3_sum.cls ≠ "java/lang/invoke/MethodHandle" ∧ yX3_sum.cls ≠ "java/lang/invoke/VarHandle" ∧ (parseMethodDescriptor yX3_sum.desc).map (fun d => d.parameters.length) = some 0 := by decide +kernel
theorem hv_k_product : yX3_product.cls = RX3 ∧ yX3_product.cls ≠ "java/lang/invoke/MethodHandle" ∧ yX3_product.cls ≠ "java/lang/invoke/VarHandle" ∧ (parseMethodDescriptor yX3_product.desc).map (fun d => d.parameters.length) = some 0 := by decide +kernel
theorem hv_k_power : yX3_power.cls = RX3 ∧ yX3_power.cls ≠ "java/lang/invoke/MethodHandle" ∧ yX3_power.cls ≠ "java/lang/invoke/VarHandle" ∧ (parseMethodDescriptor yX3_power.desc).map (fun d => d.parameters.length) = some 0 := by decide +kernel
theorem hv_k_one : yX3_one.cls = RX3 ∧ yX3_one.cls ≠ "java/lang/invoke/MethodHandle" ∧ yX3_one.cls ≠ "java/lang/invoke/VarHandle" ∧ (parseMethodDescriptor yX3_one.desc).map (fun d => d.parameters.length) = some 0 := by decide +kernel
section CHW
variable {ρ : Type} {K : KT} {Q : ρ → State → Prop} {comp : Option ρ} {nL : Nat} {cs sl pc : Nat} {ls : List (Nat × Value)} {st : List Value} {cc : ByteArray} {rm : Room} {ret : Option FieldType} {Γ : CG} {π : PPar} {τ : TKS} {tx : TXs Tx}
/-- Chain.add within a parse method -/
theorem py_chadd {k c qf lm lg am ag o q : Nat} {x0 d : Den} {items : List (Nat × Den × Nat)} {E : Heap → Prop} (hΓ : DLX Γ) (hk : KOK K cc nL RX3 rm ret) (hK : CK Γ (kS K)) (hG : PG Γ tx π (kS K) (kS K).heap) (ht9 : π.1 < (kS K).heap.size) (ho : o < 128) (hn : items.length < 900) (hF : 10 ≤ rm.frames) (hL : 600 ≤ rm.locals) (hd : decode cc pc = .ok (.invokevirtual 167, 3)) (hcs : cs + 2 * adC items.length ≤ rm.cells ∧ sl + 2 * adS items.length ≤ rm.slots) (hE : ∀ H, E H → CHE Γ (kS K).heap.size k c qf lm lg am ag x0 items H ∧ ∃ H' : Heap, CHE Γ (kS K).heap.size k c qf lm lg am ag x0 items H' ∧ pFr π.1 (kS K).heap H' ∧ H'.size ≤ H.size ∧ DAt Γ (fun x => H'.size ≤ x) H k (.inl d) q)
    (kk : ∀ am' ag', GGo K Q comp nL (PX K Γ π τ (CHE Γ (kS K).heap.size k c qf lm lg am' ag' x0 (items ++ [(o + 128, d, q)]))) (cs + 2 * adC items.length) (sl + 2 * adS items.length) (pc + 3) ls []) : GGo K Q comp nL (PX K Γ π τ E) cs sl pc ls [.ref q, .int (nI o), .ref c] := by
  refine g_at (fun H locs hI => ?_)
  obtain ⟨hC, H', hC', hF', hz', hD⟩ := hE H hI.2.2.2
  obtain ⟨hch, hx0, hit⟩ := hC
  have hlt' := hC'.1.lt
  have hq := hD.rg
  have hq1 : H'.size ≤ q := hq.1
  have hgeb : gEb Γ tx π.1 (kS K) H := (hG.fr hI.2.1).1
  have hs0 := hF'.1
  have hlen : (items.map (fun i => i.2.2)).length = items.length := List.length_map _
  have hE1 : PX K Γ π τ E H locs := hI
  have hel : LEl (kS K) H (q :: items.map (fun i => i.2.2)) := fun e he => by
    rcases List.mem_cons.mp he with h | h
    · rw [h]; exact hD.el hK
    · obtain ⟨i, hi, rfl⟩ := List.mem_map.mp h
      exact (hit i hi).2.el hK
  have hgl : LEl (kS K) H (items.map (fun i => gA Γ (1000 + i.1))) := fun e he => by
    obtain ⟨i, hi, rfl⟩ := List.mem_map.mp he
    exact box_el hΓ (hgeb.ge hK.2.2.2) (hit i hi).1
  have hch2 := hch
  obtain ⟨c1, c2, c3, c4, c5, c6, c7⟩ := hch2
  refine o_callV (tx := tx) (C := RX6) (rmY := { frames := 9, cells := 2 * adC items.length, slots := 2 * adS items.length, locals := 520 }) (v := fun _ => none) (R := fun _ H1 => ∃ am' ag', ChH Γ H1 (kS K).heap.size c qf lm lg am' ag' (items.map (fun i => i.2.2) ++ [q]) (items.map (fun i => gA Γ (1000 + i.1)) ++ [gA Γ (1000 + (o + 128))]) ∧ (am' = am ∨ H.size ≤ am') ∧ (ag' = ag ∨ H.size ≤ ag') ∧ (items.map (fun i => i.2.2) = [] → H.size ≤ am' ∧ H.size ≤ ag')) (Pre := fun H9 U => LEl U H (q :: items.map (fun i => i.2.2)) ∧ LEl U H (items.map (fun i => gA Γ (1000 + i.1))) ∧ gEb Γ tx π.1 U H) (fr := chF lm lg am ag (items.map (fun i => i.2.2))) hk hK (fun H9 l9 e => by rw [e.1]; exact hgeb.ge hK.2.2.2) (fun H9 s U hvm h => ⟨h.1.moved hvm, h.2.1.moved hvm, h.2.2.moved hK.2.2.2 hvm⟩) (fun H9 l9 e => ⟨hel, hgl, hgeb⟩) (x_rec hK (ci := 5) rfl (fun H9 l9 e => by rw [e.1]; exact c1)) [.int (nI o), .ref q] [] (fun H9 l9 e => ?_) (lw_V q804 q805 q806 q142 q807) hv_ch_add (rmFit_i hF (by show 8 + (3 + 11) + 520 ≤ _; omega)) rfl rfl hd rfl hcs (fun H9 l9 e => ?_)
  · rw [e.1]
    have := o_chadd (tx := tx) (x := q) hΓ hch ho (Nat.le_of_lt ht9) ⟨by omega, by omega, fun e => by have := hlt'.2 e; omega⟩ (fun e he => ?_) (fun e he => ?_) (by rw [hlen]; omega)
    · rw [hlen] at this
      exact this
    · obtain ⟨i, hi, rfl⟩ := List.mem_map.mp he
      have := (hit i hi).2.rg.1.2
      exact ⟨this.2.1, this.2.2.1, this.2.2.2.2⟩
    · obtain ⟨i, hi, rfl⟩ := List.mem_map.mp he
      have := box_lt hΓ hgeb (hit i hi).1
      omega
  · obtain ⟨rfl, rfl⟩ := e
    refine g_at (fun H1 locs1 hI1 => ?_)
    obtain ⟨⟨am', ag', r1, r2, r3, r4⟩, ⟨f1, f2⟩, f3⟩ := hI1
    have old : ∀ x : Nat, x < H9.size → ¬ chF lm lg am ag (items.map (fun i => i.2.2)) x → H1[x]? = H9[x]? := f2
    have nch : ∀ x : Nat, chO c lm lg am ag x → ¬ chF lm lg am ag (items.map (fun i => i.2.2)) x := fun x h z => by
      rcases z with z | z | ⟨-, z | z⟩
      · exact h.2.1 z
      · exact h.2.2.1 z
      · exact h.2.2.2.1 z
      · exact h.2.2.2.2 z
    have nlo : ∀ x : Nat, x < (kS K).heap.size → ¬ chF lm lg am ag (items.map (fun i => i.2.2)) x := fun x h z => by
      rcases z with z | z | ⟨hne, z | z⟩
      · omega
      · omega
      · have := (c7 hne).1; omega
      · have := (c7 hne).1; omega
    have hnew : ∀ x : Nat, x < H9.size → chO c lm lg am ag x → chO c lm lg am' ag' x := fun x hx h => ⟨h.1, h.2.1, h.2.2.1, fun z => r2.elim (fun w => h.2.2.2.1 (by omega)) (fun w => by omega), fun z => r3.elim (fun w => h.2.2.2.2 (by omega)) (fun w => by omega)⟩
    have hqo : ∀ x : Nat, H'.size ≤ x → chO c lm lg am ag x ∨ items.map (fun i => i.2.2) = [] := fun x hx => by
      by_cases e : items.map (fun i => i.2.2) = []
      · exact Or.inr e
      · have := hlt'.2 e
        exact Or.inl ⟨by omega, by omega, by omega, by omega, by omega⟩
    refine g_I (fun H2 l2 e => ?_) (kk am' ag')
    obtain ⟨rfl, rfl⟩ := e
    refine ⟨hE1.1.kept (old _ hE1.1.lt (nlo _ ht9)), ⟨Nat.le_trans hE1.2.1.1 f1, fun x hx hn => (old x (Nat.lt_of_lt_of_le hx hE1.2.1.1) (nlo x hx)).trans (hE1.2.1.2 x hx hn)⟩, fun z hz => ?_, ?_, ?_, fun i hi => ?_⟩
    · rcases f3 z hz with h | h | h
      · exact hE1.2.2.1 z h
      · rcases Nat.lt_or_ge z.base (kS K).heap.size with w | w
        · exact absurd h (nlo _ w)
        · exact Or.inr w
      · exact Or.inr (Nat.le_trans hE1.2.1.1 h)
    · rw [List.map_append, List.map_append]
      exact r1
    · exact hx0.kept (fun x hx h => ⟨⟨h.1, hnew x hx h.2⟩, old x hx (nch x h.2)⟩)
    · rcases List.mem_append.mp hi with h | h
      · exact ⟨(hit i h).1, (hit i h).2.kept (fun x hx h => ⟨⟨h.1, hnew x hx h.2⟩, old x hx (nch x h.2)⟩)⟩
      · rw [List.mem_singleton.mp h]
        refine ⟨by show o + 128 < 256; omega, hD.kept (fun x hx h => ?_)⟩
        have h' : H'.size ≤ x := h
        have hc : x ≠ c ∧ x ≠ lm ∧ x ≠ lg := ⟨by omega, by omega, by omega⟩
        have hm : items.map (fun i => i.2.2) ≠ [] → x ≠ am ∧ x ≠ ag := fun e => by have := hlt'.2 e; exact ⟨by omega, by omega⟩
        refine ⟨⟨by omega, hc.1, hc.2.1, hc.2.2, fun z => ?_, fun z => ?_⟩, old x hx (fun z => ?_)⟩
        · by_cases e : items.map (fun i => i.2.2) = []
          · have := (r4 e).1; omega
          · exact r2.elim (fun w => (hm e).1 (by omega)) (fun w => by omega)
        · by_cases e : items.map (fun i => i.2.2) = []
          · have := (r4 e).2; omega
          · exact r3.elim (fun w => (hm e).2 (by omega)) (fun w => by omega)
        · rcases z with z | z | ⟨hne, z | z⟩
          · exact hc.2.1 z
          · exact hc.2.2 z
          · exact (hm hne).1 z
          · exact (hm hne).2 z
end CHW
section CH_sum
variable {Γ : CG} {tx : TXs Tx} {π : PPar}
theorem ch_sum_l (hΓ : DLX Γ) {K : KT} {F L k : Nat} {sub : TKS → Option (KRs Den)} {rm : Room} (hk : KOK K cX3_sum 3 RX3 rm (some (.object "ShaveOfAnother$Sum"))) (hK : CK Γ (kS K)) (htab : noTab K) (htr : K.2.1.stackTraces = false) (hG : PG Γ tx π (kS K) (kS K).heap) (ht9 : π.1 < (kS K).heap.size) (hS : subOK Γ tx π .inl yX3_product cX3_product 3 (.object "ShaveOfAnother$Sum") F L k sub) (hF : 24 ≤ F ∧ F + 1 ≤ rm.frames) (hL : 1200 ≤ L ∧ L + 40 ≤ rm.locals) (c : Nat) : ∀ (m : Nat) (τ : TKS) (x0 : Den) (items : List (Nat × Den × Nat)) (qf lm lg am ag cs sl : Nat) (r : KRs Den), K_chl π 43 45 sub m τ (chS x0 items) items.length cs sl = some r → r.2.1 ≤ rm.cells → r.2.2 ≤ rm.slots → GGo K (xQ K Γ π rm (fun r : KRs Den => vwS Γ π .inl (kS K).heap (k + 1) r.1)) (some r) 3 (PX K Γ π τ (CHE Γ (kS K).heap.size k c qf lm lg am ag x0 items)) cs sl 12 [(0, .ref π.1), (1, .ref c)] [] := by
  intro m
  induction m with
  | zero => intro τ x0 items qf lm lg am ag cs sl r h; cases h
  | succ m ih =>
    intro τ x0 items qf lm lg am ag cs sl r h hc hs
    have hup := K_chl_up h
    have hst := CHE.st (Γ := Γ) (π := π) (s := (kS K).heap.size) (k := k) (c := c) (qf := qf) (lm := lm) (lg := lg) (am := am) (ag := ag) (x0 := x0) (items := items) ht9
    have step : ∀ o : Nat, o < 128 → τ.2.2.1 = nI o → ob1 (K_next π τ) (fun τ1 => obK (sub τ1) (fun e a b => some (.inl e, cs + a, sl + b)) (fun d τ2 a b => if items.length < 900 then K_chl π 43 45 sub m τ2 (dBin (nI o) (chS x0 items) d) (items.length + 1) (cs + a + 2 * adC items.length) (sl + b + 2 * adS items.length) else none)) = some r → GGo K (xQ K Γ π rm (fun r : KRs Den => vwS Γ π .inl (kS K).heap (k + 1) r.1)) (some r) 3 (PX K Γ π τ (CHE Γ (kS K).heap.size k c qf lm lg am ag x0 items)) cs sl 30 [(0, .ref π.1), (1, .ref c)] [] := by
      intro o ho hso h
      obtain ⟨τ1, hn1, h⟩ := ob1_some h
      refine g_aload_n (pc := 30) hk dX3_sum_30 rfl ?_
      refine kg_25 (pc := 31) hk hK (fun _ _ e => e.1) dX3_sum_31 ?_
      refine g_istore_n (pc := 34) (i := 2) hk dX3_sum_34 rfl (by decide) rfl ?_
      refine g_aload_n (pc := 35) hk dX3_sum_35 rfl ?_
      rw [hso]
      refine px_next (pc := 36) hΓ.1 hk hK htr hG hst hn1 (rmFit_i (by show 6 + 1 ≤ _; omega) (by show 8 + (3 + 11) + 400 ≤ _; omega)) rfl dX3_sum_36 ⟨by omega, by omega⟩ ?_
      refine g_aload_n (pc := 39) hk dX3_sum_39 rfl ?_
      refine g_iload_n (pc := 40) hk dX3_sum_40 rfl ?_
      refine g_aload_n (pc := 41) hk dX3_sum_41 rfl ?_
      rcases obK_some h with ⟨e, a, b, hsub, h⟩ | ⟨d, τ2, a, b, hsub, h⟩
      · cases h
        exact py_subE (pc := 42) hk hK htab htr hG rfl hS hsub [.int (nI o), .ref c] (lw_V q553 q555 qs6 q129 q556) hv_k_product hF.2 (by omega) rfl dX3_sum_42 rfl ⟨hc, hs⟩
      · have hlt9 : items.length < 900 := by
          by_cases z : items.length < 900
          · exact z
          · rw [if_neg z] at h; cases h
        rw [if_pos hlt9] at h
        have hup2 := K_chl_up h
        refine py_subR (pc := 42) hk hK htr hG hst hS hsub [.int (nI o), .ref c] (lw_V q553 q555 qs6 q129 q556) hv_k_product hF.2 (by omega) rfl dX3_sum_42 rfl ⟨by omega, by omega⟩ (fun q => ?_)
        refine py_chadd (pc := 45) (k := k) (o := o) (d := d) hΓ hk hK hG ht9 ho hlt9 (by omega) (by omega) dX3_sum_45 ⟨by omega, by omega⟩ (fun H hE => hE) (fun am' ag' => ?_)
        refine g_goto (pc := 48) (tgt := 12) hk dX3_sum_48 rfl ?_
        refine g_ls (ls' := [(0, .ref π.1), (1, .ref c)]) ⟨rfl, rfl, trivial⟩ ?_
        refine ih τ2 x0 (items ++ [(o + 128, d, q)]) qf lm lg am' ag' _ _ r ?_ hc hs
        rw [List.length_append, List.length_singleton, chS, List.foldl_append]
        show K_chl π 43 45 sub m τ2 (dBin (vb_c (o + 128)) (chS x0 items) d) (items.length + 1) _ _ = some r
        rw [vb_nI]
        exact h
    unfold K_chl at h
    refine g_aload_n (pc := 12) hk dX3_sum_12 rfl ?_
    refine kg_25 (pc := 13) hk hK (fun _ _ e => e.1) dX3_sum_13 ?_
    refine g_bipush (pc := 16) (v := 43) hk dX3_sum_16 rfl ?_
    by_cases h1 : τ.2.2.1 = nI 43
    · rw [if_pos h1] at h
      refine g_yes (c := τ.2.2.1 = 43) h1 ?_
      refine g_icmp_eq (pc := 18) (tgt := 30) hk dX3_sum_18 rfl ?_ g_none
      exact step 43 (by decide) h1 h
    · rw [if_neg h1] at h
      refine g_no (c := τ.2.2.1 = 43) h1 ?_
      refine g_icmp_eq (pc := 18) (tgt := 30) hk dX3_sum_18 rfl g_none ?_
      refine g_aload_n (pc := 21) hk dX3_sum_21 rfl ?_
      refine kg_25 (pc := 22) hk hK (fun _ _ e => e.1) dX3_sum_22 ?_
      refine g_bipush (pc := 25) (v := 45) hk dX3_sum_25 rfl ?_
      by_cases h2 : τ.2.2.1 = nI 45
      · rw [if_pos h2] at h
        refine g_yes (c := τ.2.2.1 = 45) h2 ?_
        refine g_icmp_ne (pc := 27) (tgt := 51) hk dX3_sum_27 rfl g_none ?_
        exact step 45 (by decide) h2 h
      · rw [if_neg h2] at h
        refine g_no (c := τ.2.2.1 = 45) h2 ?_
        refine g_icmp_ne (pc := 27) (tgt := 51) hk dX3_sum_27 rfl ?_ g_none
        cases h
        refine g_aload_n (pc := 51) hk dX3_sum_51 rfl ?_
        refine x_callV (pc := 52) (tx := tx) (v := some (.ref (if items.map (fun i => i.2.2) = [] then qf else c))) (rmY := rmK 2) hk hK (fun H locs hI => (hG.fr hI.2.1).ge hK.2.2.2) (x_rec hK (ci := 5) rfl (fun H locs hI => hI.2.2.2.1.1)) [] _ (fun H locs hI => r_itself hI.2.2.2.1) (lw_V q829 q830 q831 q142 q832) hv_ch_its (rmFit_i (by show 2 + 1 ≤ _; omega) (by show 8 + (1 + 11) + 120 ≤ _; omega)) ⟨rfl, rfl⟩ rfl rfl dX3_sum_52 rfl rfl ⟨hc, hs⟩ ?_
        exact x_aretX (pc := 55) hk (Or.inl ⟨_, rfl⟩) rfl (fun H locs hI => ⟨⟨_, rfl, hI.1, che_end hI.2.2.2 (by have h9 := hI.2.2.2.1.2.1.2.1; rw [List.length_map] at h9; omega)⟩, hI.2.1, hI.2.2.1⟩) dX3_sum_55 hc hs
theorem k_sum (hΓ : DLX Γ) {F L k : Nat} {sub : TKS → Option (KRs Den)} (hS : subOK Γ tx π .inl yX3_product cX3_product 3 (.object "ShaveOfAnother$Sum") F L k sub) (hF : 24 ≤ F) (hL : 1200 ≤ L) : subOK Γ tx π .inl yX3_sum cX3_sum 3 (.object "ShaveOfAnother$Sum") (F + 1) (L + 40) (k + 1) (K_chn π 43 45 sub) := by
  intro H0 τ r ht hr
  refine x_met (view := fun r : KRs Den => vwS Γ π .inl H0 (k + 1) r.1) (comp := some r) (own := RX3) rfl (by decide) rfl (ls0 := [(0, .ref π.1)]) rfl (fun K hk hK htab htr hH hG => ?_) r rfl
  subst hH
  have ht9 := ht.lt
  refine px_in ?_ ht
  unfold K_chn at hr
  have hlow : 1 ≤ r.2.1 ∧ 3 ≤ r.2.2 := by
    rcases obK_some hr with ⟨e, a, b, hsub, h⟩ | ⟨d, τ2, a, b, hsub, h⟩
    · cases h
      exact ⟨by show 1 ≤ 1 + a; omega, by show 3 ≤ 3 + b; omega⟩
    · have := K_chl_up h
      omega
  refine py_new (pc := 0) (ci := 5) (N := 3) (fs := [.null, .null, .null]) (E2 := fun _ _ => True) hk hK rfl in_X6 tyX6 tyX6_ok q551 q552 q142 (fun j hj => by
    rcases (show j = 0 ∨ j = 1 ∨ j = 2 by omega) with rfl | rfl | rfl <;> rfl) (by show 0 + 1 ≤ r.2.1; omega) (by show 0 + 3 ≤ r.2.2; omega) dX3_sum_0 ht9 (fun _ _ _ _ _ _ => trivial) (fun c => ?_)
  refine g_dup (pc := 3) hk dX3_sum_3 rfl ?_
  refine g_aload_n (pc := 4) hk dX3_sum_4 rfl ?_
  rcases obK_some hr with ⟨e, a, b, hsub, h⟩ | ⟨d, τ2, a, b, hsub, h⟩
  · cases h
    exact py_subE (pc := 5) hk hK htab htr hG rfl hS hsub [.ref c, .ref c] (lw_V q553 q555 qs6 q129 q556) hv_k_product (Nat.le_refl _) (by show 8 + (3 + 11) + L ≤ L + 40; omega) rfl dX3_sum_5 rfl ⟨by show 0 + 1 + a ≤ 1 + a; omega, by show 0 + 3 + b ≤ 3 + b; omega⟩
  have hup := K_chl_up h
  refine py_subR (pc := 5) hk hK htr hG (fun H H1 hE hFr => ⟨trivial, hE.2.1.kept (hFr.2 _ hE.2.1.lt (by omega)), hE.2.2⟩) hS hsub [.ref c, .ref c] (lw_V q553 q555 qs6 q129 q556) hv_k_product (Nat.le_refl _) (by show 8 + (3 + 11) + L ≤ L + 40; omega) rfl dX3_sum_5 rfl ⟨by show 0 + 1 + a ≤ r.2.1; omega, by show 0 + 3 + b ≤ r.2.2; omega⟩ (fun q => ?_)
  refine x_initB (pc := 8) (tx := tx) (b := π.1) (rmY := rm_x_ch) (R := fun H H1 => ∃ lm lg, ChH Γ H1 c c q lm lg (gA Γ 600) (gA Γ 600) [] [] ∧ H.size ≤ lm ∧ H.size ≤ lg) hk hK htr (fun H locs hI => (hG.fr hI.2.1).1) [.ref q] [.ref c] (fun H locs hI => ?_) q788 q789 q142 q790 rfl hi_X6 (rmFit_i (by show 5 + 1 ≤ F + 1; omega) (by show 8 + (2 + 11) + 260 ≤ L + 40; omega)) rfl rfl dX3_sum_8 rfl ⟨by show 0 + 1 + a + 2 ≤ r.2.1; omega, by show 0 + 3 + b + 6 ≤ r.2.2; omega⟩ ?_
  · exact n_X6 hΓ (by have := hI.2.2.2.1.2.2; omega) hI.2.2.2.1.2.1
  refine g_astore_n (pc := 11) (i := 1) hk dX3_sum_11 rfl (by decide) rfl ?_
  refine g_at (fun H1 locs1 hI => ?_)
  obtain ⟨H, locs, hP, ⟨lm, lg, hC, hlm, hlg⟩, hFr, hlo⟩ := hI
  obtain ⟨p1, p2, p3, ⟨-, p4, p5⟩, H', ⟨-, p6, p7⟩, p8, p9, p10⟩ := hP
  refine g_widen (cs' := 1 + a + 2) (sl' := 3 + b + 6) (by show 0 + 1 + a + 2 ≤ _; omega) (by show 0 + 3 + b + 6 ≤ _; omega) ?_
  have h600 : gA Γ 600 < (kS K).heap.size := by
    obtain ⟨cell, h4, -⟩ := (hΓ.2 _ _ _ (hG.ge hK.2.2.2)).1.2
    exact (Array.getElem?_eq_some_iff.mp h4).1
  have hcl := p4.lt
  refine g_I (I' := PX K Γ π τ2 (CHE Γ (kS K).heap.size k c q lm lg (gA Γ 600) (gA Γ 600) d [])) (fun H2 l2 e => ?_) ?_
  · obtain ⟨rfl, rfl⟩ := e
    refine ⟨p1.kept (hFr.2 _ p1.lt (by omega)), ⟨Nat.le_trans p2.1 hFr.1, fun x hx hn => (hFr.2 x (by have := p2.1; omega) (by omega)).trans (p2.2 x hx hn)⟩, fun z hz => ?_, ?_, ?_, fun i hi => by cases hi⟩
    · rcases hlo z hz with h | h | h
      · exact p3 z h
      · exact Or.inr (by rw [h]; exact p5)
      · exact Or.inr (Nat.le_trans p2.1 h)
    · obtain ⟨c1, c2, c3, c4, c5, c6, c7⟩ := hC
      exact ⟨c1, c2, c3, c4, ⟨by omega, by omega, by omega⟩, c6, fun e => absurd rfl e⟩
    · have hcH := p6.lt
      exact p10.kept (fun x hx hr2 => by
        have hr3 : H'.size ≤ x := hr2
        exact ⟨⟨by omega, by omega, by omega, by omega, by omega, by omega⟩, hFr.2 x hx (by omega)⟩)
  exact g_ls (ls' := [(0, .ref π.1), (1, .ref c)]) ⟨rfl, rfl, trivial⟩ (ch_sum_l hΓ hk hK htab htr hG ht9 hS ⟨hF, Nat.le_refl _⟩ ⟨hL, Nat.le_refl _⟩ c 400 τ2 d [] q lm lg (gA Γ 600) (gA Γ 600) _ _ r h (Nat.le_refl _) (Nat.le_refl _))
end CH_sum
section CH_product
variable {Γ : CG} {tx : TXs Tx} {π : PPar}
theorem ch_product_l (hΓ : DLX Γ) {K : KT} {F L k : Nat} {sub : TKS → Option (KRs Den)} {rm : Room} (hk : KOK K cX3_product 3 RX3 rm (some (.object "ShaveOfAnother$Sum"))) (hK : CK Γ (kS K)) (htab : noTab K) (htr : K.2.1.stackTraces = false) (hG : PG Γ tx π (kS K) (kS K).heap) (ht9 : π.1 < (kS K).heap.size) (hS : subOK Γ tx π .inl yX3_power cX3_power 3 (.object "ShaveOfAnother$Sum") F L k sub) (hF : 24 ≤ F ∧ F + 1 ≤ rm.frames) (hL : 1200 ≤ L ∧ L + 40 ≤ rm.locals) (c : Nat) : ∀ (m : Nat) (τ : TKS) (x0 : Den) (items : List (Nat × Den × Nat)) (qf lm lg am ag cs sl : Nat) (r : KRs Den), K_chl π 42 47 sub m τ (chS x0 items) items.length cs sl = some r → r.2.1 ≤ rm.cells → r.2.2 ≤ rm.slots → GGo K (xQ K Γ π rm (fun r : KRs Den => vwS Γ π .inl (kS K).heap (k + 1) r.1)) (some r) 3 (PX K Γ π τ (CHE Γ (kS K).heap.size k c qf lm lg am ag x0 items)) cs sl 12 [(0, .ref π.1), (1, .ref c)] [] := by
  intro m
  induction m with
  | zero => intro τ x0 items qf lm lg am ag cs sl r h; cases h
  | succ m ih =>
    intro τ x0 items qf lm lg am ag cs sl r h hc hs
    have hup := K_chl_up h
    have hst := CHE.st (Γ := Γ) (π := π) (s := (kS K).heap.size) (k := k) (c := c) (qf := qf) (lm := lm) (lg := lg) (am := am) (ag := ag) (x0 := x0) (items := items) ht9
    have step : ∀ o : Nat, o < 128 → τ.2.2.1 = nI o → ob1 (K_next π τ) (fun τ1 => obK (sub τ1) (fun e a b => some (.inl e, cs + a, sl + b)) (fun d τ2 a b => if items.length < 900 then K_chl π 42 47 sub m τ2 (dBin (nI o) (chS x0 items) d) (items.length + 1) (cs + a + 2 * adC items.length) (sl + b + 2 * adS items.length) else none)) = some r → GGo K (xQ K Γ π rm (fun r : KRs Den => vwS Γ π .inl (kS K).heap (k + 1) r.1)) (some r) 3 (PX K Γ π τ (CHE Γ (kS K).heap.size k c qf lm lg am ag x0 items)) cs sl 30 [(0, .ref π.1), (1, .ref c)] [] := by
      intro o ho hso h
      obtain ⟨τ1, hn1, h⟩ := ob1_some h
      refine g_aload_n (pc := 30) hk dX3_product_30 rfl ?_
      refine kg_25 (pc := 31) hk hK (fun _ _ e => e.1) dX3_product_31 ?_
      refine g_istore_n (pc := 34) (i := 2) hk dX3_product_34 rfl (by decide) rfl ?_
      refine g_aload_n (pc := 35) hk dX3_product_35 rfl ?_
      rw [hso]
      refine px_next (pc := 36) hΓ.1 hk hK htr hG hst hn1 (rmFit_i (by show 6 + 1 ≤ _; omega) (by show 8 + (3 + 11) + 400 ≤ _; omega)) rfl dX3_product_36 ⟨by omega, by omega⟩ ?_
      refine g_aload_n (pc := 39) hk dX3_product_39 rfl ?_
      refine g_iload_n (pc := 40) hk dX3_product_40 rfl ?_
      refine g_aload_n (pc := 41) hk dX3_product_41 rfl ?_
      rcases obK_some h with ⟨e, a, b, hsub, h⟩ | ⟨d, τ2, a, b, hsub, h⟩
      · cases h
        exact py_subE (pc := 42) hk hK htab htr hG rfl hS hsub [.int (nI o), .ref c] (lw_V q557 q559 qs7 q129 q560) hv_k_power hF.2 (by omega) rfl dX3_product_42 rfl ⟨hc, hs⟩
      · have hlt9 : items.length < 900 := by
          by_cases z : items.length < 900
          · exact z
          · rw [if_neg z] at h; cases h
        rw [if_pos hlt9] at h
        have hup2 := K_chl_up h
        refine py_subR (pc := 42) hk hK htr hG hst hS hsub [.int (nI o), .ref c] (lw_V q557 q559 qs7 q129 q560) hv_k_power hF.2 (by omega) rfl dX3_product_42 rfl ⟨by omega, by omega⟩ (fun q => ?_)
        refine py_chadd (pc := 45) (k := k) (o := o) (d := d) hΓ hk hK hG ht9 ho hlt9 (by omega) (by omega) dX3_product_45 ⟨by omega, by omega⟩ (fun H hE => hE) (fun am' ag' => ?_)
        refine g_goto (pc := 48) (tgt := 12) hk dX3_product_48 rfl ?_
        refine g_ls (ls' := [(0, .ref π.1), (1, .ref c)]) ⟨rfl, rfl, trivial⟩ ?_
        refine ih τ2 x0 (items ++ [(o + 128, d, q)]) qf lm lg am' ag' _ _ r ?_ hc hs
        rw [List.length_append, List.length_singleton, chS, List.foldl_append]
        show K_chl π 42 47 sub m τ2 (dBin (vb_c (o + 128)) (chS x0 items) d) (items.length + 1) _ _ = some r
        rw [vb_nI]
        exact h
    unfold K_chl at h
    refine g_aload_n (pc := 12) hk dX3_product_12 rfl ?_
    refine kg_25 (pc := 13) hk hK (fun _ _ e => e.1) dX3_product_13 ?_
    refine g_bipush (pc := 16) (v := 42) hk dX3_product_16 rfl ?_
    by_cases h1 : τ.2.2.1 = nI 42
    · rw [if_pos h1] at h
      refine g_yes (c := τ.2.2.1 = 42) h1 ?_
      refine g_icmp_eq (pc := 18) (tgt := 30) hk dX3_product_18 rfl ?_ g_none
      exact step 42 (by decide) h1 h
    · rw [if_neg h1] at h
      refine g_no (c := τ.2.2.1 = 42) h1 ?_
      refine g_icmp_eq (pc := 18) (tgt := 30) hk dX3_product_18 rfl g_none ?_
      refine g_aload_n (pc := 21) hk dX3_product_21 rfl ?_
      refine kg_25 (pc := 22) hk hK (fun _ _ e => e.1) dX3_product_22 ?_
      refine g_bipush (pc := 25) (v := 47) hk dX3_product_25 rfl ?_
      by_cases h2 : τ.2.2.1 = nI 47
      · rw [if_pos h2] at h
        refine g_yes (c := τ.2.2.1 = 47) h2 ?_
        refine g_icmp_ne (pc := 27) (tgt := 51) hk dX3_product_27 rfl g_none ?_
        exact step 47 (by decide) h2 h
      · rw [if_neg h2] at h
        refine g_no (c := τ.2.2.1 = 47) h2 ?_
        refine g_icmp_ne (pc := 27) (tgt := 51) hk dX3_product_27 rfl ?_ g_none
        cases h
        refine g_aload_n (pc := 51) hk dX3_product_51 rfl ?_
        refine x_callV (pc := 52) (tx := tx) (v := some (.ref (if items.map (fun i => i.2.2) = [] then qf else c))) (rmY := rmK 2) hk hK (fun H locs hI => (hG.fr hI.2.1).ge hK.2.2.2) (x_rec hK (ci := 5) rfl (fun H locs hI => hI.2.2.2.1.1)) [] _ (fun H locs hI => r_itself hI.2.2.2.1) (lw_V q829 q830 q831 q142 q832) hv_ch_its (rmFit_i (by show 2 + 1 ≤ _; omega) (by show 8 + (1 + 11) + 120 ≤ _; omega)) ⟨rfl, rfl⟩ rfl rfl dX3_product_52 rfl rfl ⟨hc, hs⟩ ?_
        exact x_aretX (pc := 55) hk (Or.inl ⟨_, rfl⟩) rfl (fun H locs hI => ⟨⟨_, rfl, hI.1, che_end hI.2.2.2 (by have h9 := hI.2.2.2.1.2.1.2.1; rw [List.length_map] at h9; omega)⟩, hI.2.1, hI.2.2.1⟩) dX3_product_55 hc hs
theorem k_product (hΓ : DLX Γ) {F L k : Nat} {sub : TKS → Option (KRs Den)} (hS : subOK Γ tx π .inl yX3_power cX3_power 3 (.object "ShaveOfAnother$Sum") F L k sub) (hF : 24 ≤ F) (hL : 1200 ≤ L) : subOK Γ tx π .inl yX3_product cX3_product 3 (.object "ShaveOfAnother$Sum") (F + 1) (L + 40) (k + 1) (K_chn π 42 47 sub) := by
  intro H0 τ r ht hr
  refine x_met (view := fun r : KRs Den => vwS Γ π .inl H0 (k + 1) r.1) (comp := some r) (own := RX3) rfl (by decide) rfl (ls0 := [(0, .ref π.1)]) rfl (fun K hk hK htab htr hH hG => ?_) r rfl
  subst hH
  have ht9 := ht.lt
  refine px_in ?_ ht
  unfold K_chn at hr
  have hlow : 1 ≤ r.2.1 ∧ 3 ≤ r.2.2 := by
    rcases obK_some hr with ⟨e, a, b, hsub, h⟩ | ⟨d, τ2, a, b, hsub, h⟩
    · cases h
      exact ⟨by show 1 ≤ 1 + a; omega, by show 3 ≤ 3 + b; omega⟩
    · have := K_chl_up h
      omega
  refine py_new (pc := 0) (ci := 5) (N := 3) (fs := [.null, .null, .null]) (E2 := fun _ _ => True) hk hK rfl in_X6 tyX6 tyX6_ok q551 q552 q142 (fun j hj => by
    rcases (show j = 0 ∨ j = 1 ∨ j = 2 by omega) with rfl | rfl | rfl <;> rfl) (by show 0 + 1 ≤ r.2.1; omega) (by show 0 + 3 ≤ r.2.2; omega) dX3_product_0 ht9 (fun _ _ _ _ _ _ => trivial) (fun c => ?_)
  refine g_dup (pc := 3) hk dX3_product_3 rfl ?_
  refine g_aload_n (pc := 4) hk dX3_product_4 rfl ?_
  rcases obK_some hr with ⟨e, a, b, hsub, h⟩ | ⟨d, τ2, a, b, hsub, h⟩
  · cases h
    exact py_subE (pc := 5) hk hK htab htr hG rfl hS hsub [.ref c, .ref c] (lw_V q557 q559 qs7 q129 q560) hv_k_power (Nat.le_refl _) (by show 8 + (3 + 11) + L ≤ L + 40; omega) rfl dX3_product_5 rfl ⟨by show 0 + 1 + a ≤ 1 + a; omega, by show 0 + 3 + b ≤ 3 + b; omega⟩
  have hup := K_chl_up h
  refine py_subR (pc := 5) hk hK htr hG (fun H H1 hE hFr => ⟨trivial, hE.2.1.kept (hFr.2 _ hE.2.1.lt (by omega)), hE.2.2⟩) hS hsub [.ref c, .ref c] (lw_V q557 q559 qs7 q129 q560) hv_k_power (Nat.le_refl _) (by show 8 + (3 + 11) + L ≤ L + 40; omega) rfl dX3_product_5 rfl ⟨by show 0 + 1 + a ≤ r.2.1; omega, by show 0 + 3 + b ≤ r.2.2; omega⟩ (fun q => ?_)
  refine x_initB (pc := 8) (tx := tx) (b := π.1) (rmY := rm_x_ch) (R := fun H H1 => ∃ lm lg, ChH Γ H1 c c q lm lg (gA Γ 600) (gA Γ 600) [] [] ∧ H.size ≤ lm ∧ H.size ≤ lg) hk hK htr (fun H locs hI => (hG.fr hI.2.1).1) [.ref q] [.ref c] (fun H locs hI => ?_) q788 q789 q142 q790 rfl hi_X6 (rmFit_i (by show 5 + 1 ≤ F + 1; omega) (by show 8 + (2 + 11) + 260 ≤ L + 40; omega)) rfl rfl dX3_product_8 rfl ⟨by show 0 + 1 + a + 2 ≤ r.2.1; omega, by show 0 + 3 + b + 6 ≤ r.2.2; omega⟩ ?_
  · exact n_X6 hΓ (by have := hI.2.2.2.1.2.2; omega) hI.2.2.2.1.2.1
  refine g_astore_n (pc := 11) (i := 1) hk dX3_product_11 rfl (by decide) rfl ?_
  refine g_at (fun H1 locs1 hI => ?_)
  obtain ⟨H, locs, hP, ⟨lm, lg, hC, hlm, hlg⟩, hFr, hlo⟩ := hI
  obtain ⟨p1, p2, p3, ⟨-, p4, p5⟩, H', ⟨-, p6, p7⟩, p8, p9, p10⟩ := hP
  refine g_widen (cs' := 1 + a + 2) (sl' := 3 + b + 6) (by show 0 + 1 + a + 2 ≤ _; omega) (by show 0 + 3 + b + 6 ≤ _; omega) ?_
  have h600 : gA Γ 600 < (kS K).heap.size := by
    obtain ⟨cell, h4, -⟩ := (hΓ.2 _ _ _ (hG.ge hK.2.2.2)).1.2
    exact (Array.getElem?_eq_some_iff.mp h4).1
  have hcl := p4.lt
  refine g_I (I' := PX K Γ π τ2 (CHE Γ (kS K).heap.size k c q lm lg (gA Γ 600) (gA Γ 600) d [])) (fun H2 l2 e => ?_) ?_
  · obtain ⟨rfl, rfl⟩ := e
    refine ⟨p1.kept (hFr.2 _ p1.lt (by omega)), ⟨Nat.le_trans p2.1 hFr.1, fun x hx hn => (hFr.2 x (by have := p2.1; omega) (by omega)).trans (p2.2 x hx hn)⟩, fun z hz => ?_, ?_, ?_, fun i hi => by cases hi⟩
    · rcases hlo z hz with h | h | h
      · exact p3 z h
      · exact Or.inr (by rw [h]; exact p5)
      · exact Or.inr (Nat.le_trans p2.1 h)
    · obtain ⟨c1, c2, c3, c4, c5, c6, c7⟩ := hC
      exact ⟨c1, c2, c3, c4, ⟨by omega, by omega, by omega⟩, c6, fun e => absurd rfl e⟩
    · have hcH := p6.lt
      exact p10.kept (fun x hx hr2 => by
        have hr3 : H'.size ≤ x := hr2
        exact ⟨⟨by omega, by omega, by omega, by omega, by omega, by omega⟩, hFr.2 x hx (by omega)⟩)
  exact g_ls (ls' := [(0, .ref π.1), (1, .ref c)]) ⟨rfl, rfl, trivial⟩ (ch_product_l hΓ hk hK htab htr hG ht9 hS ⟨hF, Nat.le_refl _⟩ ⟨hL, Nat.le_refl _⟩ c 400 τ2 d [] q lm lg (gA Γ 600) (gA Γ 600) _ _ r h (Nat.le_refl _) (Nat.le_refl _))
end CH_product
