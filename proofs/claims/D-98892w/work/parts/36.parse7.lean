/-! both, either: lists of askings (made by mkdx24.py) -/
set_option maxRecDepth 100000
theorem DAt.as {Γ : CG} {Rg : Nat → Prop} {K : KT} (hK : CK Γ (kS K)) {H : Heap} : ∀ {k : Nat} {x : ADen} {q : Nat}, DAt Γ Rg H k (.inr x) q → ∃ C, Cond.castable C "ShaveOfAnother$Asked" ∈ cxw ∧ ∃ cell : Cell, H[q]? = some cell ∧ cell.vm.isStatics = false ∧ (kS K).vm.findClass C = some cell.cls := by
  have mk : ∀ {q ci N : Nat} {fs : List Value} {C : String} {T : u_T}, ccl[ci]? = some (C, T, N) → Cond.castable C "ShaveOfAnother$Asked" ∈ cxw → va_at (gD Γ) ccl (q, .inr (ci, fs)) H → ∃ C, Cond.castable C "ShaveOfAnother$Asked" ∈ cxw ∧ ∃ cell : Cell, H[q]? = some cell ∧ cell.vm.isStatics = false ∧ (kS K).vm.findClass C = some cell.cls := fun hc hx ha => ⟨_, hx, x_rec (I := fun H' _ => H' = H) hK hc (fun _ _ e => by rw [e]; exact ha) H [] rfl⟩
  intro k
  induction k with
  | zero =>
    intro x q h
    obtain ⟨h0, h | h⟩ := h
    · obtain ⟨n, he, h1⟩ := h; cases he
    · obtain ⟨n, he, h1⟩ := h; cases he
  | succ k ih =>
    intro x q h
    rcases h with h | ⟨h0, h⟩
    · exact ih h
    rcases h with h | h | h | h | h | h | h
    · obtain ⟨_, _, he, _⟩ := h; cases he
    · obtain ⟨_, _, _, _, _, he, _⟩ := h; cases he
    · obtain ⟨_, _, _, _, he, _⟩ := h; cases he
    · obtain ⟨_, _, _, _, _, _, he, _⟩ := h; cases he
    · obtain ⟨_, _, _, _, _, _, h1, _⟩ := h; exact mk rfl cx_944 h1
    · obtain ⟨_, _, _, h1, _⟩ := h; exact mk rfl cx_972 h1
    · obtain ⟨_, _, _, _, _, _, h1, _⟩ := h; exact mk rfl cx_933 h1
section PYL
variable {ρ : Type} {K : KT} {Q : ρ → State → Prop} {comp : Option ρ} {nL : Nat} {cs sl pc : Nat} {ls : List (Nat × Value)} {st stk : List Value} {cc : ByteArray} {rm : Room} {ret : Option FieldType} {Γ : CG} {π : PPar} {τ τ' : TKS} {tx : TXs Tx} {E : Heap → Prop} {view : ρ → PRes} {r0 : ρ}
/-- new ArrayList() -/
theorem py_list (hΓ : DLX Γ) (hk : KOK K cc nL RX3 rm ret) (hK : CK Γ (kS K)) (htr : K.2.1.stackTraces = false) (hG : PG Γ tx π (kS K) (kS K).heap) (ht9 : π.1 < (kS K).heap.size) (hE : ∀ H H1, E H → H.size ≤ H1.size → (∀ q : Nat, q < H.size → H1[q]? = H[q]?) → E H1) (hF : 4 ≤ rm.frames) (hL : 200 ≤ rm.locals) (hs : Nat.ble ((st.map fun v => v.category).sum) 6 = true) (hc : cs + 1 ≤ rm.cells) (hs2 : sl + 3 ≤ rm.slots) (hd1 : decode cc pc = .ok (.new 106, 3)) (hd2 : decode cc (pc + 3) = .ok (.dup, 1)) (hd3 : decode cc (pc + 4) = .ok (.invokespecial 125, 3))
    (kk : ∀ q, GGo K Q comp nL (PX K Γ π τ (fun H => E H ∧ LHt Γ H q (gA Γ 600) [] ∧ (kS K).heap.size ≤ q)) (cs + 1) (sl + 3) (pc + 7) ls (.ref q :: st)) : GGo K Q comp nL (PX K Γ π τ E) cs sl pc ls st := by
  refine x_new (ci := 15) (N := 3) (fs := [.int 0, .null, .int 0]) hk hK rfl in_J3 tyJ3 tyJ3_ok q594 q371 q133 (fun j hj => by
    rcases (show j = 0 ∨ j = 1 ∨ j = 2 by omega) with rfl | rfl | rfl <;> rfl) hc hs2 hd1 (fun q => ?_)
  refine g_dup hk hd2 rfl ?_
  refine g_I (I' := fun H1 locs => ∃ H, PX K Γ π τ E H locs ∧ q = H.size ∧ H1.size = H.size + 1 ∧ (∀ x, x < H.size → H1[x]? = H[x]?) ∧ va_at (gD Γ) ccl (q, .inr (15, [.int 0, .null, .int 0])) H1) (fun H1 locs hI => ?_) ?_
  · obtain ⟨H, h1, h2, h3, h4, h5, -⟩ := hI
    exact ⟨H, h1, h2, h3, h4, h5⟩
  refine x_init (tx := tx) (rmY := rm_x_r2) (R := fun H H1 => LHt Γ H1 q (gA Γ 600) [] ∧ H1.size = H.size) hk hK htr (fun H1 locs hI => ?_) [] (.ref q :: st) (fun H1 locs hI => ?_) q595 q373 q133 q374 rfl hi_J3 (rmFit_i hF (by show 8 + (1 + 11) + 160 ≤ _; omega)) rfl ?_ hd3 rfl ⟨hc, hs2⟩ ?_
  · obtain ⟨H, h1, h2, h3, h4, h5⟩ := hI
    exact (hG.fr (h1.2.1.trans ⟨by omega, fun x hx _ => h4 x hx⟩)).ge hK.2.2.2
  · obtain ⟨H, h1, h2, h3, h4, h5⟩ := hI
    exact n_J3 hΓ h5
  · have := Nat.le_of_ble_eq_true hs
    refine Nat.ble_eq.mpr ?_
    rw [List.map_cons, List.sum_cons]
    show 1 + (st.map fun v => v.category).sum ≤ 8
    omega
  · refine g_I (fun H1 locs1 hI => ?_) (kk q)
    obtain ⟨H2, locs2, ⟨H, h1, h2, h3, h4, h5⟩, h6, h7, h8⟩ := hI
    have hold : ∀ x : Nat, x < H.size → H1[x]? = H[x]? := fun x hx => by rw [h7.2 x (by omega) (by omega), h4 x hx]
    have h9 := h1.2.1.1
    refine ⟨h1.1.kept (hold _ h1.1.lt), h1.2.1.trans ⟨by omega, fun x hx _ => hold x hx⟩, fun z hz => ?_, hE H H1 h1.2.2.2 (by omega) hold, h6.1, by omega⟩
    rcases h8 z hz with h | h | h
    · exact h1.2.2.1 z h
    · exact Or.inr (by rw [h, h2]; exact h9)
    · exact Or.inr (by omega)
/-- a list's add within a parse method -/
theorem py_ladd {l a q : Nat} {es : List Nat} {E' : Nat → Heap → Prop} (hΓ : DLX Γ) (hk : KOK K cc nL RX3 rm ret) (hK : CK Γ (kS K)) (hG : PG Γ tx π (kS K) (kS K).heap) (ht9 : π.1 < (kS K).heap.size) (hn : es.length < 950) (hF : 10 ≤ rm.frames) (hL : 600 ≤ rm.locals) (hs : Nat.ble ((st.map fun v => v.category).sum) 8 = true) (hd : decode cc pc = .ok (.invokevirtual 105, 3)) (hcs : cs + adC es.length ≤ rm.cells ∧ sl + adS es.length ≤ rm.slots)
    (hE : ∀ H, E H → LHt Γ H l a es ∧ (kS K).heap.size ≤ l ∧ (es ≠ [] → (kS K).heap.size ≤ a) ∧ LEl (kS K) H (q :: es) ∧ q ≠ l ∧ l ∉ es)
    (hE' : ∀ H H1 a', E H → H.size ≤ H1.size → (∀ x : Nat, x < H.size → x ≠ l → (es ≠ [] → x ≠ a) → H1[x]? = H[x]?) → (a' = a ∨ H.size ≤ a') → (es = [] → H.size ≤ a') → LHt Γ H1 l a' (es ++ [q]) → E' a' H1)
    (kk : ∀ a', GGo K Q comp nL (PX K Γ π τ (E' a')) (cs + adC es.length) (sl + adS es.length) (pc + 3) ls (.int 1 :: st)) : GGo K Q comp nL (PX K Γ π τ E) cs sl pc ls (.ref q :: .ref l :: st) := by
  refine g_at (fun H locs hI => ?_)
  obtain ⟨hL9, hl, ha, hel, hq, hles⟩ := hE H hI.2.2.2
  have hgeb : gEb Γ tx π.1 (kS K) H := (hG.fr hI.2.1).1
  refine o_callV (tx := tx) (C := RJ3) (rmY := { frames := 8, cells := adC es.length, slots := adS es.length, locals := 440 }) (v := fun _ => some (.int 1)) (R := fun _ H1 => ∃ a', (a' = a ∨ a' = H.size) ∧ (es = [] → a' = H.size) ∧ H1.size = H.size + adC es.length ∧ LHt Γ H1 l a' (es ++ [q])) (Pre := fun _ U => LEl U H (q :: es) ∧ gEb Γ tx π.1 U H) (fr := fun x => x = l ∨ (es ≠ [] ∧ x = a)) hk hK (fun H9 l9 e => by rw [e.1]; exact hgeb.ge hK.2.2.2) (fun H9 s U hvm h => ⟨h.1.moved hvm, h.2.moved hK.2.2.2 hvm⟩) (fun H9 l9 e => ⟨hel, hgeb⟩) (x_rec hK (ci := 15) rfl (fun H9 l9 e => by rw [e.1]; exact hL9.1.choose_spec)) [.ref q] st (fun H9 l9 e => by rw [e.1]; exact o_add hΓ (by omega) hq hles hL9 (by omega)) (lw_V q630 q631 q632 q133 q633) hv_add (rmFit_i (by show 8 + 1 ≤ _; omega) (by show 8 + (2 + 11) + 440 ≤ _; omega)) rfl hs hd rfl hcs (fun H9 l9 e => ?_)
  obtain ⟨rfl, rfl⟩ := e
  refine g_at (fun H1 locs1 hI1 => ?_)
  obtain ⟨⟨a', r1, r2, r3, r4⟩, ⟨f1, f2⟩, f3⟩ := hI1
  have old : ∀ x : Nat, x < H9.size → x ≠ l → (es ≠ [] → x ≠ a) → H1[x]? = H9[x]? := fun x hx a1 a2 => f2 x hx (fun z => z.elim a1 (fun w => a2 w.1 w.2))
  have nlo : ∀ x : Nat, x < (kS K).heap.size → x ≠ l ∧ (es ≠ [] → x ≠ a) := fun x hx => ⟨by omega, fun e => by have := ha e; omega⟩
  refine g_I (fun H2 l2 e => ?_) (kk a')
  obtain ⟨rfl, rfl⟩ := e
  refine ⟨hI.1.kept (old _ hI.1.lt (nlo _ ht9).1 (nlo _ ht9).2), ⟨Nat.le_trans hI.2.1.1 f1, fun x hx hn => (old x (Nat.lt_of_lt_of_le hx hI.2.1.1) (nlo x hx).1 (nlo x hx).2).trans (hI.2.1.2 x hx hn)⟩, fun z hz => ?_, hE' H9 H2 a' hI.2.2.2 f1 old (r1.imp id (fun w => by omega)) (fun e => by have := r2 e; omega) r4⟩
  rcases f3 z hz with h | h | h
  · exact hI.2.2.1 z h
  · rcases Nat.lt_or_ge z.base (kS K).heap.size with w | w
    · exact (h.elim (nlo _ w).1 (fun y => (nlo _ w).2 y.1 y.2)).elim
    · exact Or.inr w
  · exact Or.inr (Nat.le_trans hI.2.1.1 h)
end PYL
def asS (cnd : Bool) (acc : ADen) (items : List (ADen × Nat)) : ADen := items.foldl (fun a i => aTwo cnd a i.1) acc
/-- the list's part of a parse method's world -/
def LSE (Γ : CG) (s k l a : Nat) (x0 : ADen) (q0 : Nat) (items : List (ADen × Nat)) (H : Heap) : Prop := LHt Γ H l a (q0 :: items.map (fun i => i.2)) ∧ (s ≤ l ∧ s ≤ a) ∧ DAt Γ (fun x => s ≤ x ∧ x ≠ l ∧ x ≠ a) H k (.inr x0) q0 ∧ ∀ i ∈ items, DAt Γ (fun x => s ≤ x ∧ x ≠ l ∧ x ≠ a) H k (.inr i.1) i.2
theorem LSE.kept {Γ : CG} {H H1 : Heap} {s k l a q0 : Nat} {x0 : ADen} {items : List (ADen × Nat)} (h : LSE Γ s k l a x0 q0 items H) (ho : ∀ x : Nat, x < H.size → s ≤ x → H1[x]? = H[x]?) : LSE Γ s k l a x0 q0 items H1 :=
  ⟨h.1.kept (ho _ h.1.lt.1 h.2.1.1) (fun e => ho _ (h.1.lt.2 e) h.2.1.2), h.2.1, h.2.2.1.kept (fun x hx h2 => ⟨h2, ho x hx h2.1⟩), fun i hi => (h.2.2.2 i hi).kept (fun x hx h2 => ⟨h2, ho x hx h2.1⟩)⟩
theorem LSE.st {Γ : CG} {π : PPar} {s k l a q0 : Nat} {x0 : ADen} {items : List (ADen × Nat)} (hs : π.1 < s) : PSt π (LSE Γ s k l a x0 q0 items) := fun H H1 h hF => h.kept (fun x hx h2 => hF.2 x hx (by omega))
section BI_both
variable {Γ : CG} {tx : TXs Tx} {π : PPar}
theorem bi_both_l (hΓ : DLX Γ) {K : KT} {F L k : Nat} {sub : TKS → Option (KRs ADen)} {rm : Room} (hk : KOK K cX3_both 2 RX3 rm (some (.object "ShaveOfAnother$Asked"))) (hK : CK Γ (kS K)) (htab : noTab K) (htr : K.2.1.stackTraces = false) (hG : PG Γ tx π (kS K) (kS K).heap) (ht9 : π.1 < (kS K).heap.size) (hS : subOK Γ tx π .inr yX3_ask cX3_ask 3 (.object "ShaveOfAnother$Asked") F L k sub) (hF : 24 ≤ F ∧ F + 1 ≤ rm.frames) (hL : 1200 ≤ L ∧ L + 40 ≤ rm.locals) (l : Nat) : ∀ (m : Nat) (τ : TKS) (x0 : ADen) (q0 : Nat) (items : List (ADen × Nat)) (a cs sl : Nat) (r : KRs ADen), K_bnl π 217 true sub m τ (asS true x0 items) (items.length + 1) cs sl = some r → r.2.1 ≤ rm.cells → r.2.2 ≤ rm.slots → GGo K (xQ K Γ π rm (fun r : KRs ADen => vwS Γ π .inr (kS K).heap (k + 1) r.1)) (some r) 2 (PX K Γ π τ (LSE Γ (kS K).heap.size k l a x0 q0 items)) cs sl 17 [(0, .ref π.1), (1, .ref l)] [] := by
  intro m
  induction m with
  | zero => intro τ x0 q0 items a cs sl r h; cases h
  | succ m ih =>
    intro τ x0 q0 items a cs sl r h hc hs
    have hX := hΓ.1.1.1.1.x hK
    have hup := K_bnl_up h
    have hst := LSE.st (Γ := Γ) (π := π) (s := (kS K).heap.size) (k := k) (l := l) (a := a) (x0 := x0) (q0 := q0) (items := items) ht9
    have hlen : (q0 :: items.map (fun i => i.2)).length = items.length + 1 := by rw [List.length_cons, List.length_map]
    unfold K_bnl at h
    refine g_aload_n (pc := 17) hk dX3_both_17 rfl ?_
    refine kg_25 (pc := 18) hk hK (fun _ _ e => e.1) dX3_both_18 ?_
    refine g_sipush (pc := 21) (v := 217) hk dX3_both_21 rfl ?_
    by_cases h1 : τ.2.2.1 = nI 217
    · rw [if_pos h1] at h
      refine g_yes (c := τ.2.2.1 = 217) h1 ?_
      refine g_icmp_ne (pc := 24) (tgt := 43) hk dX3_both_24 rfl g_none ?_
      obtain ⟨τ1, hn1, h⟩ := ob1_some h
      refine g_aload_n (pc := 27) hk dX3_both_27 rfl ?_
      refine px_next (pc := 28) hΓ.1 hk hK htr hG hst hn1 (rmFit_i (by show 6 + 1 ≤ _; omega) (by show 8 + (3 + 11) + 400 ≤ _; omega)) rfl dX3_both_28 ⟨by omega, by omega⟩ ?_
      refine g_aload_n (pc := 31) hk dX3_both_31 rfl ?_
      refine g_aload_n (pc := 32) hk dX3_both_32 rfl ?_
      rcases obK_some h with ⟨e, a1, b1, hsub, h⟩ | ⟨d, τ2, a1, b1, hsub, h⟩
      · cases h
        exact py_subE (pc := 33) hk hK htab htr hG rfl hS hsub [.ref l] (lw_V q600 q602 qs14 q129 q603) hv_k_ask hF.2 (by omega) rfl dX3_both_33 rfl ⟨hc, hs⟩
      · have hlt9 : items.length + 1 < 900 := by
          by_cases z : items.length + 1 < 900
          · exact z
          · rw [if_neg z] at h; cases h
        rw [if_pos hlt9] at h
        have hup2 := K_bnl_up h
        refine py_subR (pc := 33) hk hK htr hG hst hS hsub [.ref l] (lw_V q600 q602 qs14 q129 q603) hv_k_ask hF.2 (by omega) rfl dX3_both_33 rfl ⟨by omega, by omega⟩ (fun q => ?_)
        refine py_ladd (pc := 36) (l := l) (a := a) (q := q) (es := q0 :: items.map (fun i => i.2)) (E' := fun a' => LSE Γ (kS K).heap.size k l a' x0 q0 (items ++ [(d, q)])) hΓ hk hK hG ht9 (by rw [hlen]; omega) (by omega) (by omega) rfl dX3_both_36 (by rw [hlen]; exact ⟨by omega, by omega⟩) (fun H hE => ?_) (fun H H1 a' hE hz ho r1 r2 r4 => ?_) (fun a' => ?_)
        · obtain ⟨⟨e1, e2, e3, e4⟩, H', ⟨e5, e6, -⟩, e7, e8, e9⟩ := hE
          have hq := e9.rg
          have hq1 : H'.size ≤ q := hq.1
          have hl5 := e5.lt
          refine ⟨e1, e2.1, fun _ => e2.2, fun e he => ?_, by omega, fun hm => ?_⟩
          · rcases List.mem_cons.mp he with h | h
            · rw [h]; exact e9.el hK
            · rcases List.mem_cons.mp h with h | h
              · rw [h]; exact e3.el hK
              · obtain ⟨i, hi, rfl⟩ := List.mem_map.mp h
                exact (e4 i hi).el hK
          · rcases List.mem_cons.mp hm with h | h
            · have := e3.rg.1.2.1; exact this h.symm
            · obtain ⟨i, hi, he⟩ := List.mem_map.mp h
              exact (e4 i hi).rg.1.2.1 he
        · obtain ⟨⟨e1, e2, e3, e4⟩, H', ⟨e5, e6, -⟩, e7, e8, e9⟩ := hE
          have hl5 := e5.lt
          have ha5 := hl5.2 (by simp)
          have mv : ∀ {e : Den ⊕ ADen} {p : Nat}, DAt Γ (fun x => (kS K).heap.size ≤ x ∧ x ≠ l ∧ x ≠ a) H k e p → DAt Γ (fun x => (kS K).heap.size ≤ x ∧ x ≠ l ∧ x ≠ a') H1 k e p := fun hd => hd.kept (fun x hx h2 => ⟨⟨h2.1, h2.2.1, fun z => r1.elim (fun w => h2.2.2 (by omega)) (fun w => by omega)⟩, ho x hx h2.2.1 (fun _ => h2.2.2)⟩)
          have ha' : (kS K).heap.size ≤ a' := r1.elim (fun w => by rw [w]; exact e2.2) (fun w => by have := e7.1; omega)
          refine ⟨?_, ⟨e2.1, ha'⟩, mv e3, fun i hi => ?_⟩
          · rw [List.map_append]
            exact r4
          · rcases List.mem_append.mp hi with h | h
            · exact mv (e4 i h)
            · rw [List.mem_singleton.mp h]
              exact e9.kept (fun x hx h2 => by
                have h3 : H'.size ≤ x := h2
                exact ⟨⟨by have := e7.1; omega, by omega, fun z => r1.elim (fun w => by omega) (fun w => by omega)⟩, ho x hx (by omega) (fun _ => by omega)⟩)
        · refine g_pop (pc := 39) hk dX3_both_39 rfl ?_
          refine g_goto (pc := 40) (tgt := 17) hk dX3_both_40 rfl ?_
          rw [hlen]
          refine ih τ2 x0 q0 (items ++ [(d, q)]) a' _ _ r ?_ hc hs
          rw [List.length_append, List.length_singleton, asS, List.foldl_append]
          exact h
    · rw [if_neg h1] at h
      refine g_no (c := τ.2.2.1 = 217) h1 ?_
      refine g_icmp_ne (pc := 24) (tgt := 43) hk dX3_both_24 rfl ?_ g_none
      refine g_aload_n (pc := 43) hk dX3_both_43 rfl ?_
      refine x_callV (pc := 44) (tx := tx) (v := some (.int (nI (q0 :: items.map (fun i => i.2)).length))) (rmY := rmK 1) hk hK (fun H locs hI => (hG.fr hI.2.1).ge hK.2.2.2) (fun H locs hI => x_rec (I := fun H9 _ => H9 = H) hK (ci := 15) rfl (fun _ _ e => by rw [e]; exact hI.2.2.2.1.1.choose_spec) H [] rfl) [] _ (fun H locs hI => l_size (hI.2.2.2.1.list (Rg := fun _ => True) trivial (fun _ => trivial))) (lw_V q691 q692 q693 q133 q694) hv_jsize (rmFit_i (by show 1 + 1 ≤ _; omega) (by show 8 + (1 + 11) + 60 ≤ _; omega)) ⟨rfl, rfl⟩ rfl rfl dX3_both_44 rfl rfl ⟨by omega, by omega⟩ ?_
      rw [hlen]
      refine g_iconst (pc := 47) (v := 1) hk dX3_both_47 rfl ?_
      cases items with
      | nil =>
        rw [if_pos (show ([] : List (ADen × Nat)).length + 1 = 1 from rfl)] at h
        cases h
        refine g_yes (c := nI ([] : List (ADen × Nat)).length.succ = 1) rfl ?_
        refine g_icmp_ne (pc := 48) (tgt := 62) hk dX3_both_48 rfl g_none ?_
        refine g_aload_n (pc := 51) hk dX3_both_51 rfl ?_
        refine g_iconst (pc := 52) (v := 0) hk dX3_both_52 rfl ?_
        refine x_callV (pc := 53) (tx := tx) (v := some (.ref q0)) (rmY := rmK 3) hk hK (fun H locs hI => (hG.fr hI.2.1).ge hK.2.2.2) (fun H locs hI => x_rec (I := fun H9 _ => H9 = H) hK (ci := 15) rfl (fun _ _ e => by rw [e]; exact hI.2.2.2.1.1.choose_spec) H [] rfl) [.int (nI 0)] _ (fun H locs hI => l_get (hI.2.2.2.1.list (Rg := fun _ => True) trivial (fun _ => trivial)) rfl) (lw_V q695 q696 q697 q133 q698) hv_jget (rmFit_i (by show 3 + 1 ≤ _; omega) (by show 8 + (2 + 11) + 180 ≤ _; omega)) ⟨rfl, rfl⟩ rfl rfl dX3_both_53 rfl rfl ⟨hc, hs⟩ ?_
        refine g_at (fun H locs hI => ?_)
        obtain ⟨C, hC, hcell⟩ := hI.2.2.2.2.2.1.as hK
        refine x_checkcast (pc := 56) hk hX q707 hC (fun H9 l9 e => by rw [e.1]; exact hcell) dX3_both_56 ?_
        refine g_I (I' := PX K Γ π τ (LSE Γ (kS K).heap.size k l a x0 q0 [])) (fun H9 l9 e => by rw [e.1, e.2]; exact hI) ?_
        refine g_goto (pc := 59) (tgt := 71) hk dX3_both_59 rfl ?_
        exact x_aretX (pc := 71) hk (Or.inl ⟨_, rfl⟩) rfl (fun H locs hI => ⟨⟨q0, rfl, hI.1, Or.inl (hI.2.2.2.2.2.1.kept (fun x _ h2 => ⟨h2.1, rfl⟩))⟩, hI.2.1, hI.2.2.1⟩) dX3_both_71 hc hs
      | cons it items =>
        have hl9 : (it :: items).length = items.length + 1 := rfl
        rw [if_neg (by omega)] at h
        cases h
        have hnn : items.length + 2 < 2 ^ 31 ∨ True := Or.inr trivial
        refine g_at (fun H locs hI => ?_)
        have hbig := hI.2.2.2.1.2.1
        rw [hlen] at hbig
        refine g_I (I' := PX K Γ π τ (LSE Γ (kS K).heap.size k l a x0 q0 (it :: items))) (fun H9 l9 e => by rw [e.1, e.2]; exact hI) ?_
        refine g_no (c := nI ((it :: items).length + 1) = 1) (pe_ne (b := 1) (by omega) (by omega) (by omega)) ?_
        refine g_icmp_ne (pc := 48) (tgt := 62) hk dX3_both_48 rfl ?_ g_none
        refine py_new (pc := 62) (ci := 9) (N := 2) (fs := [.int 0, .null]) (E2 := fun c H => LHt Γ H l a (q0 :: (it :: items).map (fun i => i.2)) ∧ ((kS K).heap.size ≤ l ∧ (kS K).heap.size ≤ a) ∧ (l ≠ c ∧ a ≠ c) ∧ DNX Γ (kS K).heap.size k c (.inr x0) q0 H ∧ ∀ i ∈ it :: items, DNX Γ (kS K).heap.size k c (.inr i.1) i.2 H) hk hK rfl in_X10 tyX10 tyX10_ok q708 q709 q149 (fun j hj => by
          rcases (show j = 0 ∨ j = 1 by omega) with rfl | rfl <;> rfl) hc hs dX3_both_62 ht9 (fun H H1 hE hz ho _ => ?_) (fun c => ?_)
        · obtain ⟨e1, e2, e3, e4⟩ := hE
          have wk : ∀ {e : Den ⊕ ADen} {p : Nat}, DAt Γ (fun x => (kS K).heap.size ≤ x ∧ x ≠ l ∧ x ≠ a) H k e p → DNE Γ (kS K).heap.size k e p H := fun hd => hd.kept (fun x _ h2 => ⟨h2.1, rfl⟩)
          have hl5 := e1.lt
          have ha5 := hl5.2 (by simp)
          exact ⟨e1.kept (ho _ hl5.1) (fun _ => ho _ ha5), e2, ⟨by omega, by omega⟩, (wk e3).x ho, fun i hi => (wk (e4 i hi)).x ho⟩
        refine g_dup (pc := 65) hk dX3_both_65 rfl ?_
        refine g_iconst (pc := 66) (v := 1) hk dX3_both_66 rfl ?_
        refine g_aload_n (pc := 67) hk dX3_both_67 rfl ?_
        refine py_rec (pc := 68) (ci := 9) (gs := [.int 1, .ref l]) hk hK htr hG [.int 1, .ref l] [.ref c] (fun H hf => n_X10 1 l rfl hf) cn_710 q711 q149 q712 rfl hi_X10 (by omega) (by show 8 + (3 + 11) + 160 ≤ _; omega) rfl rfl dX3_both_68 rfl ⟨hc, hs⟩ ht9 (fun H H1 hE _ ho => ⟨hE.1.kept (ho _ hE.2.2.1.1) (fun _ => ho _ hE.2.2.1.2), hE.2.1, hE.2.2.1, hE.2.2.2.1.put ho, fun i hi => (hE.2.2.2.2 i hi).put ho⟩) ?_
        exact x_aretX (pc := 71) hk (Or.inl ⟨_, rfl⟩) rfl (fun H locs hI => ⟨⟨c, rfl, hI.1, Or.inr ⟨hI.2.2.2.2.2, Or.inr (Or.inr (Or.inr (Or.inr (Or.inr (Or.inr ⟨true, x0, l, q0, it :: items, rfl, hI.2.2.2.2.1, hI.2.2.2.1.2.2.2.1.e (Nat.le_refl _), hI.2.2.2.1.1.list hI.2.2.2.1.2.1.1 (fun _ => hI.2.2.2.1.2.1.2), fun i hi => (hI.2.2.2.1.2.2.2.2 i hi).e (Nat.le_refl _), (by simp), by omega⟩)))))⟩⟩, hI.2.1, hI.2.2.1⟩) dX3_both_71 hc hs
theorem k_both (hΓ : DLX Γ) {F L k : Nat} {sub : TKS → Option (KRs ADen)} (hS : subOK Γ tx π .inr yX3_ask cX3_ask 3 (.object "ShaveOfAnother$Asked") F L k sub) (hF : 24 ≤ F) (hL : 1200 ≤ L) : subOK Γ tx π .inr yX3_both cX3_both 2 (.object "ShaveOfAnother$Asked") (F + 1) (L + 40) (k + 1) (K_bin π 217 true sub) := by
  intro H0 τ r ht hr
  refine x_met (view := fun r : KRs ADen => vwS Γ π .inr H0 (k + 1) r.1) (comp := some r) (own := RX3) rfl (by decide) rfl (ls0 := [(0, .ref π.1)]) rfl (fun K hk hK htab htr hH hG => ?_) r rfl
  subst hH
  have ht9 := ht.lt
  refine px_in ?_ ht
  unfold K_bin at hr
  have z1 : adC 0 = 1 := rfl
  have z2 : adS 0 = 10 := rfl
  have hlow : 1 ≤ r.2.1 ∧ 3 ≤ r.2.2 := by
    rcases obK_some hr with ⟨e, a, b, hsub, h⟩ | ⟨d, τ2, a, b, hsub, h⟩
    · cases h
      exact ⟨by show 1 ≤ 1 + a; omega, by show 3 ≤ 3 + b; omega⟩
    · have := K_bnl_up h
      omega
  refine py_list (pc := 0) hΓ hk hK htr hG ht9 (fun _ _ _ _ _ => trivial) (by show 4 ≤ F + 1; omega) (by show 200 ≤ L + 40; omega) rfl (by show 0 + 1 ≤ r.2.1; omega) (by show 0 + 3 ≤ r.2.2; omega) dX3_both_0 dX3_both_3 dX3_both_4 (fun l => ?_)
  refine g_astore_n (pc := 7) (i := 1) hk dX3_both_7 rfl (by decide) rfl ?_
  refine g_aload_n (pc := 8) hk dX3_both_8 rfl ?_
  refine g_aload_n (pc := 9) hk dX3_both_9 rfl ?_
  rcases obK_some hr with ⟨e, a, b, hsub, h⟩ | ⟨d, τ2, a, b, hsub, h⟩
  · cases h
    exact py_subE (pc := 10) hk hK htab htr hG rfl hS hsub [.ref l] (lw_V q600 q602 qs14 q129 q603) hv_k_ask (Nat.le_refl _) (by show 8 + (3 + 11) + L ≤ L + 40; omega) rfl dX3_both_10 rfl ⟨by show 0 + 1 + a ≤ 1 + a; omega, by show 0 + 3 + b ≤ 3 + b; omega⟩
  have hup := K_bnl_up h
  have h600 : gA Γ 600 < (kS K).heap.size := by
    obtain ⟨cell, h4, -⟩ := (hΓ.2 _ _ _ (hG.ge hK.2.2.2)).1.2
    exact (Array.getElem?_eq_some_iff.mp h4).1
  refine py_subR (pc := 10) hk hK htr hG (fun H H1 hE hFr => ⟨trivial, hE.2.1.kept (hFr.2 _ hE.2.1.lt.1 (by have := hE.2.2; omega)) (fun e => absurd rfl e), hE.2.2⟩) hS hsub [.ref l] (lw_V q600 q602 qs14 q129 q603) hv_k_ask (Nat.le_refl _) (by show 8 + (3 + 11) + L ≤ L + 40; omega) rfl dX3_both_10 rfl ⟨by show 0 + 1 + a ≤ r.2.1; omega, by show 0 + 3 + b ≤ r.2.2; omega⟩ (fun q => ?_)
  refine py_ladd (pc := 13) (l := l) (a := gA Γ 600) (q := q) (es := []) (E' := fun a' => LSE Γ (kS K).heap.size k l a' d q []) hΓ hk hK hG ht9 (by decide) (by show 10 ≤ F + 1; omega) (by show 600 ≤ L + 40; omega) rfl dX3_both_13 ⟨by show 0 + 1 + a + 1 ≤ r.2.1; omega, by show 0 + 3 + b + 10 ≤ r.2.2; omega⟩ (fun H hE => ?_) (fun H H1 a' hE hz ho r1 r2 r4 => ?_) (fun a' => ?_)
  · obtain ⟨⟨-, e1, e2⟩, H', ⟨-, e5, -⟩, e7, e8, e9⟩ := hE
    have hq1 : H'.size ≤ q := e9.rg.1
    have hl5 := e5.lt.1
    exact ⟨e1, e2, fun e => absurd rfl e, fun e he => (by rw [List.mem_singleton.mp he]; exact e9.el hK), by omega, by simp⟩
  · obtain ⟨⟨-, e1, e2⟩, H', ⟨-, e5, -⟩, e7, e8, e9⟩ := hE
    have hl5 := e5.lt.1
    have hs0 := e7.1
    have ha' := r2 rfl
    exact ⟨r4, ⟨e2, by omega⟩, e9.kept (fun x hx h2 => by
      have h3 : H'.size ≤ x := h2
      exact ⟨⟨by omega, by omega, by omega⟩, ho x hx (by omega) (fun e => absurd rfl e)⟩), fun i hi => by cases hi⟩
  · refine g_pop (pc := 16) hk dX3_both_16 rfl ?_
    refine g_widen (cs' := 1 + a + adC 0) (sl' := 3 + b + adS 0) (by show 0 + 1 + a + 1 ≤ _; omega) (by show 0 + 3 + b + 10 ≤ _; omega) ?_
    exact g_ls (ls' := [(0, .ref π.1), (1, .ref l)]) ⟨rfl, rfl, trivial⟩ (bi_both_l hΓ hk hK htab htr hG ht9 hS ⟨hF, Nat.le_refl _⟩ ⟨hL, Nat.le_refl _⟩ l 400 τ2 d q [] a' _ _ r h (Nat.le_refl _) (Nat.le_refl _))
end BI_both
section BI_either
variable {Γ : CG} {tx : TXs Tx} {π : PPar}
theorem bi_either_l (hΓ : DLX Γ) {K : KT} {F L k : Nat} {sub : TKS → Option (KRs ADen)} {rm : Room} (hk : KOK K cX3_either 2 RX3 rm (some (.object "ShaveOfAnother$Asked"))) (hK : CK Γ (kS K)) (htab : noTab K) (htr : K.2.1.stackTraces = false) (hG : PG Γ tx π (kS K) (kS K).heap) (ht9 : π.1 < (kS K).heap.size) (hS : subOK Γ tx π .inr yX3_both cX3_both 2 (.object "ShaveOfAnother$Asked") F L k sub) (hF : 24 ≤ F ∧ F + 1 ≤ rm.frames) (hL : 1200 ≤ L ∧ L + 40 ≤ rm.locals) (l : Nat) : ∀ (m : Nat) (τ : TKS) (x0 : ADen) (q0 : Nat) (items : List (ADen × Nat)) (a cs sl : Nat) (r : KRs ADen), K_bnl π 216 false sub m τ (asS false x0 items) (items.length + 1) cs sl = some r → r.2.1 ≤ rm.cells → r.2.2 ≤ rm.slots → GGo K (xQ K Γ π rm (fun r : KRs ADen => vwS Γ π .inr (kS K).heap (k + 1) r.1)) (some r) 2 (PX K Γ π τ (LSE Γ (kS K).heap.size k l a x0 q0 items)) cs sl 17 [(0, .ref π.1), (1, .ref l)] [] := by
  intro m
  induction m with
  | zero => intro τ x0 q0 items a cs sl r h; cases h
  | succ m ih =>
    intro τ x0 q0 items a cs sl r h hc hs
    have hX := hΓ.1.1.1.1.x hK
    have hup := K_bnl_up h
    have hst := LSE.st (Γ := Γ) (π := π) (s := (kS K).heap.size) (k := k) (l := l) (a := a) (x0 := x0) (q0 := q0) (items := items) ht9
    have hlen : (q0 :: items.map (fun i => i.2)).length = items.length + 1 := by rw [List.length_cons, List.length_map]
    unfold K_bnl at h
    refine g_aload_n (pc := 17) hk dX3_either_17 rfl ?_
    refine kg_25 (pc := 18) hk hK (fun _ _ e => e.1) dX3_either_18 ?_
    refine g_sipush (pc := 21) (v := 216) hk dX3_either_21 rfl ?_
    by_cases h1 : τ.2.2.1 = nI 216
    · rw [if_pos h1] at h
      refine g_yes (c := τ.2.2.1 = 216) h1 ?_
      refine g_icmp_ne (pc := 24) (tgt := 43) hk dX3_either_24 rfl g_none ?_
      obtain ⟨τ1, hn1, h⟩ := ob1_some h
      refine g_aload_n (pc := 27) hk dX3_either_27 rfl ?_
      refine px_next (pc := 28) hΓ.1 hk hK htr hG hst hn1 (rmFit_i (by show 6 + 1 ≤ _; omega) (by show 8 + (3 + 11) + 400 ≤ _; omega)) rfl dX3_either_28 ⟨by omega, by omega⟩ ?_
      refine g_aload_n (pc := 31) hk dX3_either_31 rfl ?_
      refine g_aload_n (pc := 32) hk dX3_either_32 rfl ?_
      rcases obK_some h with ⟨e, a1, b1, hsub, h⟩ | ⟨d, τ2, a1, b1, hsub, h⟩
      · cases h
        exact py_subE (pc := 33) hk hK htab htr hG rfl hS hsub [.ref l] (lw_V q596 q598 qs13 q129 q599) hv_k_both hF.2 (by omega) rfl dX3_either_33 rfl ⟨hc, hs⟩
      · have hlt9 : items.length + 1 < 900 := by
          by_cases z : items.length + 1 < 900
          · exact z
          · rw [if_neg z] at h; cases h
        rw [if_pos hlt9] at h
        have hup2 := K_bnl_up h
        refine py_subR (pc := 33) hk hK htr hG hst hS hsub [.ref l] (lw_V q596 q598 qs13 q129 q599) hv_k_both hF.2 (by omega) rfl dX3_either_33 rfl ⟨by omega, by omega⟩ (fun q => ?_)
        refine py_ladd (pc := 36) (l := l) (a := a) (q := q) (es := q0 :: items.map (fun i => i.2)) (E' := fun a' => LSE Γ (kS K).heap.size k l a' x0 q0 (items ++ [(d, q)])) hΓ hk hK hG ht9 (by rw [hlen]; omega) (by omega) (by omega) rfl dX3_either_36 (by rw [hlen]; exact ⟨by omega, by omega⟩) (fun H hE => ?_) (fun H H1 a' hE hz ho r1 r2 r4 => ?_) (fun a' => ?_)
        · obtain ⟨⟨e1, e2, e3, e4⟩, H', ⟨e5, e6, -⟩, e7, e8, e9⟩ := hE
          have hq := e9.rg
          have hq1 : H'.size ≤ q := hq.1
          have hl5 := e5.lt
          refine ⟨e1, e2.1, fun _ => e2.2, fun e he => ?_, by omega, fun hm => ?_⟩
          · rcases List.mem_cons.mp he with h | h
            · rw [h]; exact e9.el hK
            · rcases List.mem_cons.mp h with h | h
              · rw [h]; exact e3.el hK
              · obtain ⟨i, hi, rfl⟩ := List.mem_map.mp h
                exact (e4 i hi).el hK
          · rcases List.mem_cons.mp hm with h | h
            · have := e3.rg.1.2.1; exact this h.symm
            · obtain ⟨i, hi, he⟩ := List.mem_map.mp h
              exact (e4 i hi).rg.1.2.1 he
        · obtain ⟨⟨e1, e2, e3, e4⟩, H', ⟨e5, e6, -⟩, e7, e8, e9⟩ := hE
          have hl5 := e5.lt
          have ha5 := hl5.2 (by simp)
          have mv : ∀ {e : Den ⊕ ADen} {p : Nat}, DAt Γ (fun x => (kS K).heap.size ≤ x ∧ x ≠ l ∧ x ≠ a) H k e p → DAt Γ (fun x => (kS K).heap.size ≤ x ∧ x ≠ l ∧ x ≠ a') H1 k e p := fun hd => hd.kept (fun x hx h2 => ⟨⟨h2.1, h2.2.1, fun z => r1.elim (fun w => h2.2.2 (by omega)) (fun w => by omega)⟩, ho x hx h2.2.1 (fun _ => h2.2.2)⟩)
          have ha' : (kS K).heap.size ≤ a' := r1.elim (fun w => by rw [w]; exact e2.2) (fun w => by have := e7.1; omega)
          refine ⟨?_, ⟨e2.1, ha'⟩, mv e3, fun i hi => ?_⟩
          · rw [List.map_append]
            exact r4
          · rcases List.mem_append.mp hi with h | h
            · exact mv (e4 i h)
            · rw [List.mem_singleton.mp h]
              exact e9.kept (fun x hx h2 => by
                have h3 : H'.size ≤ x := h2
                exact ⟨⟨by have := e7.1; omega, by omega, fun z => r1.elim (fun w => by omega) (fun w => by omega)⟩, ho x hx (by omega) (fun _ => by omega)⟩)
        · refine g_pop (pc := 39) hk dX3_either_39 rfl ?_
          refine g_goto (pc := 40) (tgt := 17) hk dX3_either_40 rfl ?_
          rw [hlen]
          refine ih τ2 x0 q0 (items ++ [(d, q)]) a' _ _ r ?_ hc hs
          rw [List.length_append, List.length_singleton, asS, List.foldl_append]
          exact h
    · rw [if_neg h1] at h
      refine g_no (c := τ.2.2.1 = 216) h1 ?_
      refine g_icmp_ne (pc := 24) (tgt := 43) hk dX3_either_24 rfl ?_ g_none
      refine g_aload_n (pc := 43) hk dX3_either_43 rfl ?_
      refine x_callV (pc := 44) (tx := tx) (v := some (.int (nI (q0 :: items.map (fun i => i.2)).length))) (rmY := rmK 1) hk hK (fun H locs hI => (hG.fr hI.2.1).ge hK.2.2.2) (fun H locs hI => x_rec (I := fun H9 _ => H9 = H) hK (ci := 15) rfl (fun _ _ e => by rw [e]; exact hI.2.2.2.1.1.choose_spec) H [] rfl) [] _ (fun H locs hI => l_size (hI.2.2.2.1.list (Rg := fun _ => True) trivial (fun _ => trivial))) (lw_V q691 q692 q693 q133 q694) hv_jsize (rmFit_i (by show 1 + 1 ≤ _; omega) (by show 8 + (1 + 11) + 60 ≤ _; omega)) ⟨rfl, rfl⟩ rfl rfl dX3_either_44 rfl rfl ⟨by omega, by omega⟩ ?_
      rw [hlen]
      refine g_iconst (pc := 47) (v := 1) hk dX3_either_47 rfl ?_
      cases items with
      | nil =>
        rw [if_pos (show ([] : List (ADen × Nat)).length + 1 = 1 from rfl)] at h
        cases h
        refine g_yes (c := nI ([] : List (ADen × Nat)).length.succ = 1) rfl ?_
        refine g_icmp_ne (pc := 48) (tgt := 62) hk dX3_either_48 rfl g_none ?_
        refine g_aload_n (pc := 51) hk dX3_either_51 rfl ?_
        refine g_iconst (pc := 52) (v := 0) hk dX3_either_52 rfl ?_
        refine x_callV (pc := 53) (tx := tx) (v := some (.ref q0)) (rmY := rmK 3) hk hK (fun H locs hI => (hG.fr hI.2.1).ge hK.2.2.2) (fun H locs hI => x_rec (I := fun H9 _ => H9 = H) hK (ci := 15) rfl (fun _ _ e => by rw [e]; exact hI.2.2.2.1.1.choose_spec) H [] rfl) [.int (nI 0)] _ (fun H locs hI => l_get (hI.2.2.2.1.list (Rg := fun _ => True) trivial (fun _ => trivial)) rfl) (lw_V q695 q696 q697 q133 q698) hv_jget (rmFit_i (by show 3 + 1 ≤ _; omega) (by show 8 + (2 + 11) + 180 ≤ _; omega)) ⟨rfl, rfl⟩ rfl rfl dX3_either_53 rfl rfl ⟨hc, hs⟩ ?_
        refine g_at (fun H locs hI => ?_)
        obtain ⟨C, hC, hcell⟩ := hI.2.2.2.2.2.1.as hK
        refine x_checkcast (pc := 56) hk hX q707 hC (fun H9 l9 e => by rw [e.1]; exact hcell) dX3_either_56 ?_
        refine g_I (I' := PX K Γ π τ (LSE Γ (kS K).heap.size k l a x0 q0 [])) (fun H9 l9 e => by rw [e.1, e.2]; exact hI) ?_
        refine g_goto (pc := 59) (tgt := 71) hk dX3_either_59 rfl ?_
        exact x_aretX (pc := 71) hk (Or.inl ⟨_, rfl⟩) rfl (fun H locs hI => ⟨⟨q0, rfl, hI.1, Or.inl (hI.2.2.2.2.2.1.kept (fun x _ h2 => ⟨h2.1, rfl⟩))⟩, hI.2.1, hI.2.2.1⟩) dX3_either_71 hc hs
      | cons it items =>
        have hl9 : (it :: items).length = items.length + 1 := rfl
        rw [if_neg (by omega)] at h
        cases h
        have hnn : items.length + 2 < 2 ^ 31 ∨ True := Or.inr trivial
        refine g_at (fun H locs hI => ?_)
        have hbig := hI.2.2.2.1.2.1
        rw [hlen] at hbig
        refine g_I (I' := PX K Γ π τ (LSE Γ (kS K).heap.size k l a x0 q0 (it :: items))) (fun H9 l9 e => by rw [e.1, e.2]; exact hI) ?_
        refine g_no (c := nI ((it :: items).length + 1) = 1) (pe_ne (b := 1) (by omega) (by omega) (by omega)) ?_
        refine g_icmp_ne (pc := 48) (tgt := 62) hk dX3_either_48 rfl ?_ g_none
        refine py_new (pc := 62) (ci := 9) (N := 2) (fs := [.int 0, .null]) (E2 := fun c H => LHt Γ H l a (q0 :: (it :: items).map (fun i => i.2)) ∧ ((kS K).heap.size ≤ l ∧ (kS K).heap.size ≤ a) ∧ (l ≠ c ∧ a ≠ c) ∧ DNX Γ (kS K).heap.size k c (.inr x0) q0 H ∧ ∀ i ∈ it :: items, DNX Γ (kS K).heap.size k c (.inr i.1) i.2 H) hk hK rfl in_X10 tyX10 tyX10_ok q708 q709 q149 (fun j hj => by
          rcases (show j = 0 ∨ j = 1 by omega) with rfl | rfl <;> rfl) hc hs dX3_either_62 ht9 (fun H H1 hE hz ho _ => ?_) (fun c => ?_)
        · obtain ⟨e1, e2, e3, e4⟩ := hE
          have wk : ∀ {e : Den ⊕ ADen} {p : Nat}, DAt Γ (fun x => (kS K).heap.size ≤ x ∧ x ≠ l ∧ x ≠ a) H k e p → DNE Γ (kS K).heap.size k e p H := fun hd => hd.kept (fun x _ h2 => ⟨h2.1, rfl⟩)
          have hl5 := e1.lt
          have ha5 := hl5.2 (by simp)
          exact ⟨e1.kept (ho _ hl5.1) (fun _ => ho _ ha5), e2, ⟨by omega, by omega⟩, (wk e3).x ho, fun i hi => (wk (e4 i hi)).x ho⟩
        refine g_dup (pc := 65) hk dX3_either_65 rfl ?_
        refine g_iconst (pc := 66) (v := 0) hk dX3_either_66 rfl ?_
        refine g_aload_n (pc := 67) hk dX3_either_67 rfl ?_
        refine py_rec (pc := 68) (ci := 9) (gs := [.int 0, .ref l]) hk hK htr hG [.int 0, .ref l] [.ref c] (fun H hf => n_X10 0 l rfl hf) cn_710 q711 q149 q712 rfl hi_X10 (by omega) (by show 8 + (3 + 11) + 160 ≤ _; omega) rfl rfl dX3_either_68 rfl ⟨hc, hs⟩ ht9 (fun H H1 hE _ ho => ⟨hE.1.kept (ho _ hE.2.2.1.1) (fun _ => ho _ hE.2.2.1.2), hE.2.1, hE.2.2.1, hE.2.2.2.1.put ho, fun i hi => (hE.2.2.2.2 i hi).put ho⟩) ?_
        exact x_aretX (pc := 71) hk (Or.inl ⟨_, rfl⟩) rfl (fun H locs hI => ⟨⟨c, rfl, hI.1, Or.inr ⟨hI.2.2.2.2.2, Or.inr (Or.inr (Or.inr (Or.inr (Or.inr (Or.inr ⟨false, x0, l, q0, it :: items, rfl, hI.2.2.2.2.1, hI.2.2.2.1.2.2.2.1.e (Nat.le_refl _), hI.2.2.2.1.1.list hI.2.2.2.1.2.1.1 (fun _ => hI.2.2.2.1.2.1.2), fun i hi => (hI.2.2.2.1.2.2.2.2 i hi).e (Nat.le_refl _), (by simp), by omega⟩)))))⟩⟩, hI.2.1, hI.2.2.1⟩) dX3_either_71 hc hs
theorem k_either (hΓ : DLX Γ) {F L k : Nat} {sub : TKS → Option (KRs ADen)} (hS : subOK Γ tx π .inr yX3_both cX3_both 2 (.object "ShaveOfAnother$Asked") F L k sub) (hF : 24 ≤ F) (hL : 1200 ≤ L) : subOK Γ tx π .inr yX3_either cX3_either 2 (.object "ShaveOfAnother$Asked") (F + 1) (L + 40) (k + 1) (K_bin π 216 false sub) := by
  intro H0 τ r ht hr
  refine x_met (view := fun r : KRs ADen => vwS Γ π .inr H0 (k + 1) r.1) (comp := some r) (own := RX3) rfl (by decide) rfl (ls0 := [(0, .ref π.1)]) rfl (fun K hk hK htab htr hH hG => ?_) r rfl
  subst hH
  have ht9 := ht.lt
  refine px_in ?_ ht
  unfold K_bin at hr
  have z1 : adC 0 = 1 := rfl
  have z2 : adS 0 = 10 := rfl
  have hlow : 1 ≤ r.2.1 ∧ 3 ≤ r.2.2 := by
    rcases obK_some hr with ⟨e, a, b, hsub, h⟩ | ⟨d, τ2, a, b, hsub, h⟩
    · cases h
      exact ⟨by show 1 ≤ 1 + a; omega, by show 3 ≤ 3 + b; omega⟩
    · have := K_bnl_up h
      omega
  refine py_list (pc := 0) hΓ hk hK htr hG ht9 (fun _ _ _ _ _ => trivial) (by show 4 ≤ F + 1; omega) (by show 200 ≤ L + 40; omega) rfl (by show 0 + 1 ≤ r.2.1; omega) (by show 0 + 3 ≤ r.2.2; omega) dX3_either_0 dX3_either_3 dX3_either_4 (fun l => ?_)
  refine g_astore_n (pc := 7) (i := 1) hk dX3_either_7 rfl (by decide) rfl ?_
  refine g_aload_n (pc := 8) hk dX3_either_8 rfl ?_
  refine g_aload_n (pc := 9) hk dX3_either_9 rfl ?_
  rcases obK_some hr with ⟨e, a, b, hsub, h⟩ | ⟨d, τ2, a, b, hsub, h⟩
  · cases h
    exact py_subE (pc := 10) hk hK htab htr hG rfl hS hsub [.ref l] (lw_V q596 q598 qs13 q129 q599) hv_k_both (Nat.le_refl _) (by show 8 + (2 + 11) + L ≤ L + 40; omega) rfl dX3_either_10 rfl ⟨by show 0 + 1 + a ≤ 1 + a; omega, by show 0 + 3 + b ≤ 3 + b; omega⟩
  have hup := K_bnl_up h
  have h600 : gA Γ 600 < (kS K).heap.size := by
    obtain ⟨cell, h4, -⟩ := (hΓ.2 _ _ _ (hG.ge hK.2.2.2)).1.2
    exact (Array.getElem?_eq_some_iff.mp h4).1
  refine py_subR (pc := 10) hk hK htr hG (fun H H1 hE hFr => ⟨trivial, hE.2.1.kept (hFr.2 _ hE.2.1.lt.1 (by have := hE.2.2; omega)) (fun e => absurd rfl e), hE.2.2⟩) hS hsub [.ref l] (lw_V q596 q598 qs13 q129 q599) hv_k_both (Nat.le_refl _) (by show 8 + (2 + 11) + L ≤ L + 40; omega) rfl dX3_either_10 rfl ⟨by show 0 + 1 + a ≤ r.2.1; omega, by show 0 + 3 + b ≤ r.2.2; omega⟩ (fun q => ?_)
  refine py_ladd (pc := 13) (l := l) (a := gA Γ 600) (q := q) (es := []) (E' := fun a' => LSE Γ (kS K).heap.size k l a' d q []) hΓ hk hK hG ht9 (by decide) (by show 10 ≤ F + 1; omega) (by show 600 ≤ L + 40; omega) rfl dX3_either_13 ⟨by show 0 + 1 + a + 1 ≤ r.2.1; omega, by show 0 + 3 + b + 10 ≤ r.2.2; omega⟩ (fun H hE => ?_) (fun H H1 a' hE hz ho r1 r2 r4 => ?_) (fun a' => ?_)
  · obtain ⟨⟨-, e1, e2⟩, H', ⟨-, e5, -⟩, e7, e8, e9⟩ := hE
    have hq1 : H'.size ≤ q := e9.rg.1
    have hl5 := e5.lt.1
    exact ⟨e1, e2, fun e => absurd rfl e, fun e he => (by rw [List.mem_singleton.mp he]; exact e9.el hK), by omega, by simp⟩
  · obtain ⟨⟨-, e1, e2⟩, H', ⟨-, e5, -⟩, e7, e8, e9⟩ := hE
    have hl5 := e5.lt.1
    have hs0 := e7.1
    have ha' := r2 rfl
    exact ⟨r4, ⟨e2, by omega⟩, e9.kept (fun x hx h2 => by
      have h3 : H'.size ≤ x := h2
      exact ⟨⟨by omega, by omega, by omega⟩, ho x hx (by omega) (fun e => absurd rfl e)⟩), fun i hi => by cases hi⟩
  · refine g_pop (pc := 16) hk dX3_either_16 rfl ?_
    refine g_widen (cs' := 1 + a + adC 0) (sl' := 3 + b + adS 0) (by show 0 + 1 + a + 1 ≤ _; omega) (by show 0 + 3 + b + 10 ≤ _; omega) ?_
    exact g_ls (ls' := [(0, .ref π.1), (1, .ref l)]) ⟨rfl, rfl, trivial⟩ (bi_either_l hΓ hk hK htab htr hG ht9 hS ⟨hF, Nat.le_refl _⟩ ⟨hL, Nat.le_refl _⟩ l 400 τ2 d q [] a' _ _ r h (Nat.le_refl _) (Nat.le_refl _))
end BI_either
