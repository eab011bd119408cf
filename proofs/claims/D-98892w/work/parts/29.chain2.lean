/-! Chain: its constructor, add, itself; Text's constructor -/
set_option maxRecDepth 100000
/-- a chain whose parts lie from s on, apart -/
def ChH (Γ : CG) (H : Heap) (s c qf lm lg am ag : Nat) (ms gs : List Nat) : Prop := va_at (gD Γ) ccl (c, .inr (5, [.ref qf, .ref lm, .ref lg])) H ∧ LHt Γ H lm am ms ∧ LHt Γ H lg ag gs ∧ ms.length = gs.length ∧ (s ≤ c ∧ s ≤ lm ∧ s ≤ lg) ∧ (c ≠ lm ∧ c ≠ lg ∧ lm ≠ lg) ∧ (ms ≠ [] → (s ≤ am ∧ s ≤ ag) ∧ am ≠ ag ∧ (am ≠ c ∧ am ≠ lg) ∧ ag ≠ c ∧ ag ≠ lm)
/-- the cells that a chain's growing writes -/
def chF (lm lg am ag : Nat) (ms : List Nat) (q : Nat) : Prop := q = lm ∨ q = lg ∨ (ms ≠ [] ∧ (q = am ∨ q = ag))
theorem hv_ch_add : yX6_add.cls = RX6 ∧ yX6_add.cls ≠ "java/lang/invoke/MethodHandle" ∧ yX6_add.cls ≠ "java/lang/invoke/VarHandle" ∧ (parseMethodDescriptor yX6_add.desc).map (fun d => d.parameters.length) = some 2 := by decide +kernel
theorem hv_ch_its : yX6_itself.cls = RX6 ∧ yX6_itself.cls ≠ "java/lang/invoke/MethodHandle" ∧ yX6_itself.cls ≠ "java/lang/invoke/VarHandle" ∧ (parseMethodDescriptor yX6_itself.desc).map (fun d => d.parameters.length) = some 0 := by decide +kernel
theorem hv_isEmpty : yJ3_isEmpty.cls = RJ3 ∧ yJ3_isEmpty.cls ≠ "java/lang/invoke/MethodHandle" ∧ yJ3_isEmpty.cls ≠ "java/lang/invoke/VarHandle" ∧ (parseMethodDescriptor yJ3_isEmpty.desc).map (fun d => d.parameters.length) = some 0 := by decide +kernel
def rm_x_ch : Room := { frames := 5, cells := 2, slots := 6, locals := 260 }
section CHN
variable {Γ : CG} {tx : TXs Tx}
/-- a new chain -/
theorem n_X6 (hΓ : DLX Γ) {H0 : Heap} {a b qf : Nat} (hb : b ≤ a) (hf : va_at (gD Γ) ccl (a, .inr (5, [.null, .null, .null])) H0) : NMetB Γ tx yX6_init cX6_init 2 rm_x_ch [.ref a, .ref qf] H0 a b (fun H1 => ∃ lm lg, ChH Γ H1 a a qf lm lg (gA Γ 600) (gA Γ 600) [] [] ∧ H0.size ≤ lm ∧ H0.size ≤ lg) := by
  refine nb_met (own := RX6) rfl (by decide) rfl (ls0 := [(0, .ref a), (1, .ref qf)]) rfl (fun K hk hK htr hnm hH hE => ?_)
  have hlt := hf.lt
  have hbK : ∀ (E : Heap → Prop) H locs, NW K a E H locs → gEb Γ tx b (kS K) H := fun E H locs hI => hE.put (by rw [← hH]; exact hI.1.1) (fun q hq hqb => by rw [← hH] at hq ⊢; exact hI.1.2 q hq (by omega))
  refine g_aload_n (pc := 0) hk dX6_init_0 rfl ?_
  refine x_objI (pc := 1) hk q791 q164 q165 rfl rfl rfl dX6_init_1 ?_
  have keepL : ∀ (q : Nat) (H H1 : Heap), H0.size ≤ q → LHt Γ H q (gA Γ 600) [] → (∀ x : Nat, x < H.size → x ≠ a → H1[x]? = H[x]?) → LHt Γ H1 q (gA Γ 600) [] := fun q H H1 hq h ho => h.kept (ho q h.lt.1 (by omega)) (fun e => absurd rfl e)
  refine g_I (I' := NW K a (fun H => va_at (gD Γ) ccl (a, .inr (5, [.null, .null, .null])) H)) (fun H locs hI => ⟨hI.1, hI.2.1, by rw [hI.2.2]; exact hf⟩) ?_
  refine g_aload_n (pc := 4) hk dX6_init_4 rfl ?_
  refine nw_list (pc := 5) (cs := 0) (sl := 0) (st := [.ref a]) (ix := 9) (iy := 11) hΓ hk hK htr (a := a) (E := fun H => va_at (gD Γ) ccl (a, .inr (5, [.null, .null, .null])) H) (hbK _) (fun H H1 h _ ho => h.kept (ho _ h.lt)) q792 q793 rfl rfl (by decide) (by decide) dX6_init_5 dX6_init_8 dX6_init_9 (fun lm => ?_)
  refine g_I (I' := NW K a (fun H => va_at (gD Γ) ccl (a, .inr (5, [.null, .null, .null])) H ∧ (LHt Γ H lm (gA Γ 600) [] ∧ H0.size ≤ lm ∧ H.size = lm + 1))) (fun H locs hI => ⟨hI.1, hI.2.1, hI.2.2.1, hI.2.2.2.1, by rw [← hH]; exact hI.2.2.2.2.1, hI.2.2.2.2.2.1⟩) ?_
  refine nw_putF (pc := 12) (ci := 5) (fs := [.null, .null, .null]) (ref := RX6) hk hK rfl in_X6 tyX6 tyX6_ok nmX6 1 (by decide) q795 rfl rfl hnm rfl rfl rfl (show 1 < 3 by decide) (fun H H1 h e ho => ⟨keepL lm H H1 h.2.1 h.1 (fun x _ hx => ho x hx), h.2.1, by omega⟩) dX6_init_12 ?_
  refine g_I (I' := NW K a (fun H => va_at (gD Γ) ccl (a, .inr (5, [.null, .ref lm, .null])) H ∧ (LHt Γ H lm (gA Γ 600) [] ∧ H0.size ≤ lm ∧ lm < H.size))) (fun H locs hI => ⟨hI.1, hI.2.1, hI.2.2.1, hI.2.2.2.1, hI.2.2.2.2.1, by have := hI.2.2.2.2.2; omega⟩) ?_
  refine g_aload_n (pc := 15) hk dX6_init_15 rfl ?_
  refine nw_list (pc := 16) (cs := 1) (sl := 3) (st := [.ref a]) (ix := 9) (iy := 11) hΓ hk hK htr (a := a) (E := fun H => va_at (gD Γ) ccl (a, .inr (5, [.null, .ref lm, .null])) H ∧ (LHt Γ H lm (gA Γ 600) [] ∧ H0.size ≤ lm ∧ lm < H.size)) (hbK _) (fun H H1 h hz ho => ⟨h.1.kept (ho _ h.1.lt), keepL lm H H1 h.2.2.1 h.2.1 (fun x hx _ => ho x hx), h.2.2.1, by omega⟩) q792 q793 rfl rfl (by decide) (by decide) dX6_init_16 dX6_init_19 dX6_init_20 (fun lg => ?_)
  refine g_I (I' := NW K a (fun H => va_at (gD Γ) ccl (a, .inr (5, [.null, .ref lm, .null])) H ∧ ((LHt Γ H lm (gA Γ 600) [] ∧ H0.size ≤ lm ∧ lm < lg) ∧ LHt Γ H lg (gA Γ 600) [] ∧ H0.size ≤ lg ∧ H.size = lg + 1))) (fun H locs hI => ?_) ?_
  · obtain ⟨h1, h2, ⟨h3, h4, h5, h6⟩, h7, h8, h9, H', h10, h11⟩ := hI
    exact ⟨h1, h2, h3, ⟨h4, h5, by have := h10.2.2.2; omega⟩, h7, by rw [← hH]; exact h8, h9⟩
  refine nw_putF (pc := 23) (ci := 5) (fs := [.null, .ref lm, .null]) (ref := RX6) hk hK rfl in_X6 tyX6 tyX6_ok nmX6 2 (by decide) q796 rfl rfl hnm rfl rfl rfl (show 2 < 3 by decide) (fun H H1 h e ho => ⟨⟨keepL lm H H1 h.1.2.1 h.1.1 (fun x _ hx => ho x hx), h.1.2⟩, keepL lg H H1 h.2.2.1 h.2.1 (fun x _ hx => ho x hx), h.2.2.1, by omega⟩) dX6_init_23 ?_
  refine g_aload_n (pc := 26) hk dX6_init_26 rfl ?_
  refine g_aload_n (pc := 27) hk dX6_init_27 rfl ?_
  refine nw_putF (pc := 28) (ci := 5) (fs := [.null, .ref lm, .ref lg]) (ref := RX6) hk hK rfl in_X6 tyX6 tyX6_ok nmX6 0 (by decide) q794 rfl rfl hnm rfl rfl rfl (show 0 < 3 by decide) (fun H H1 h e ho => ⟨⟨keepL lm H H1 h.1.2.1 h.1.1 (fun x _ hx => ho x hx), h.1.2⟩, keepL lg H H1 h.2.2.1 h.2.1 (fun x _ hx => ho x hx), h.2.2.1, by omega⟩) dX6_init_28 ?_
  refine nw_ret (pc := 31) hk (fun H e => ?_) dX6_init_31 (by decide) (by decide)
  obtain ⟨e1, ⟨e2, e3, e4⟩, e5, e6, e7⟩ := e
  refine ⟨lm, lg, ⟨e1, e2, e5, rfl, ⟨Nat.le_refl _, by omega, by omega⟩, ⟨by omega, by omega, by omega⟩, fun h => absurd rfl h⟩, e3, e6⟩
/-- e is none of the chain's own cells -/
def chO (c lm lg am ag e : Nat) : Prop := e ≠ c ∧ e ≠ lm ∧ e ≠ lg ∧ e ≠ am ∧ e ≠ ag
theorem box_lt (hΓ : DLX Γ) {U : State} {b : Nat} {H : Heap} (h : gEb Γ tx b U H) {k : Nat} (hk : k < 256) : gA Γ (1000 + k) < b := by
  obtain ⟨Hb, h1, h2, h3⟩ := h
  obtain ⟨cell, h4, -⟩ := (hΓ.1.1.1.1.2 _ _ _ h1).1 k hk
  have h9 : gA Γ (1000 + k) < Hb.size := (Array.getElem?_eq_some_iff.mp h4).1
  omega
theorem box_el (hΓ : DLX Γ) {U : State} {H : Heap} (h : gE Γ tx U H) {k : Nat} (hk : k < 256) : elO U H (gA Γ (1000 + k)) := by
  obtain ⟨cell, h4, h5, h6, -⟩ := (hΓ.1.1.1.1.2 _ _ _ h).1 k hk
  exact ⟨_, cx_2063, cell, h4, h5, h6⟩
/-- one more of a sign and a sum -/
theorem o_chadd (hΓ : DLX Γ) {H0 : Heap} {s c qf lm lg am ag k x b : Nat} {ms gs : List Nat} (hC : ChH Γ H0 s c qf lm lg am ag ms gs) (hk8 : k < 128) (hb : b ≤ s) (hx : x ≠ lm ∧ x ≠ lg ∧ (ms ≠ [] → x ≠ am ∧ x ≠ ag)) (hm : ∀ e ∈ ms, e ≠ lm ∧ e ≠ lg ∧ e ≠ ag) (hg : ∀ e ∈ gs, e < s) (hsz : ms.length + 1 < 1000) : OMet Γ tx yX6_add cX6_add 3 none { frames := 9, cells := 2 * adC ms.length, slots := 2 * adS ms.length, locals := 520 } [.ref c, .int (nI k), .ref x] H0 (fun U => LEl U H0 (x :: ms) ∧ LEl U H0 gs ∧ gEb Γ tx b U H0) (chF lm lg am ag ms) none (fun H1 => ∃ am' ag', ChH Γ H1 s c qf lm lg am' ag' (ms ++ [x]) (gs ++ [gA Γ (1000 + (k + 128))]) ∧ (am' = am ∨ H0.size ≤ am') ∧ (ag' = ag ∨ H0.size ≤ ag') ∧ (ms = [] → H0.size ≤ am' ∧ H0.size ≤ ag')) := by
  obtain ⟨c1, c2, c3, c4, ⟨c5, c6, c7⟩, ⟨c8, c9, c10⟩, c11⟩ := hC
  have hl1 := c1.lt
  have hl2 := c2.lt
  have hl3 := c3.lt
  have hmg : ms = [] ↔ gs = [] := by
    constructor
    · intro e
      rw [e] at c4
      exact List.length_eq_zero_iff.mp c4.symm
    · intro e
      rw [e] at c4
      exact List.length_eq_zero_iff.mp c4
  refine o_met (own := RX6) rfl (by decide) rfl (ls0 := [(0, .ref c), (1, .int (nI k)), (2, .ref x)]) rfl (fun K hk hK hH hE hPre => ?_)
  obtain ⟨p1, p2, p3⟩ := hPre
  have hy := box_lt hΓ p3 (k := k + 128) (by omega)
  refine g_aload_n (pc := 0) hk dX6_add_0 rfl ?_
  refine x_get (pc := 1) hk hK (ci := 5) rfl in_X6 (fun H locs hI => by rw [hI.2.2]; exact c1) 2 (by decide) q796 (Or.inl rfl) rfl dX6_add_1 ?_
  refine g_iload_n (pc := 4) hk dX6_add_4 rfl ?_
  refine x_callS (pc := 5) (tx := tx) (v := some (.ref (gA Γ (1000 + (k + 128))))) (rmY := rmK 1) hk hK (fun H locs hI => by rw [hI.2.2]; exact hE) [.int (nI k)] _ (fun H locs hI => r_valueOf hΓ hk8) (lw_S q808 q809 q155 q810) hs_valueOf rfl ⟨rfl, rfl⟩ rfl rfl dX6_add_5 rfl rfl ⟨Nat.zero_le _, Nat.zero_le _⟩ ?_
  refine o_callV (pc := 8) (tx := tx) (C := RJ3) (rmY := { frames := 8, cells := adC gs.length, slots := adS gs.length, locals := 440 }) (v := fun H => some (.int 1)) (R := fun H H1 => ∃ a', (a' = ag ∨ a' = H.size) ∧ (gs = [] → a' = H.size) ∧ H1.size = H.size + adC gs.length ∧ LHt Γ H1 lg a' (gs ++ [gA Γ (1000 + (k + 128))])) (Pre := fun H U => LEl U H (gA Γ (1000 + (k + 128)) :: gs) ∧ gEb Γ tx b U H) (fr := fun q => q = lg ∨ (gs ≠ [] ∧ q = ag)) hk hK (fun H locs hI => by rw [hI.2.2]; exact hE) (fun H s U hvm h => ⟨h.1.moved hvm, h.2.moved hK.2.2.2 hvm⟩) (fun H locs hI => by
      rw [hI.2.2]
      exact ⟨fun e he => (List.mem_cons.mp he).elim (fun z => by rw [z]; exact box_el hΓ hE (by omega)) (p2 e), p3⟩) (x_rec hK (ci := 15) rfl (fun H locs hI => by rw [hI.2.2]; exact c3.1.choose_spec)) [.ref (gA Γ (1000 + (k + 128)))] [] (fun H locs hI => by
      rw [hI.2.2]
      exact o_add hΓ (by omega) (by omega) (fun h => by have := hg _ h; have := hy; omega) c3 (by omega)) (lw_V q828 q631 q632 q133 q633) hv_add rfl rfl rfl dX6_add_8 rfl ⟨by show 0 + adC gs.length ≤ 2 * adC ms.length; rw [← c4]; omega, by show 0 + adS gs.length ≤ 2 * adS ms.length; rw [← c4]; omega⟩ (fun H locs hI => ?_)
  obtain ⟨h1, h2, rfl⟩ := hI
  refine g_at (fun H1 locs1 hI => ?_)
  obtain ⟨⟨ag', r1, r2, r3, r4⟩, ⟨f1, f2⟩, f3⟩ := hI
  have old : ∀ q : Nat, q < H.size → q ≠ lg → (ms ≠ [] → q ≠ ag) → H1[q]? = H[q]? := fun q hq a1 a2 => f2 q hq (fun z => z.elim a1 (fun w => a2 (fun e => w.1 (hmg.mp e)) w.2))
  have l2 := r4.lt
  have d1 : c ≠ ag' := fun e => r1.elim (fun z => by
    by_cases h0 : ms = []
    · have := r2 (hmg.mp h0); omega
    · exact (c11 h0).2.2.2.1 (by omega)) (fun z => by omega)
  have hc1 : va_at (gD Γ) ccl (c, .inr (5, [.ref qf, .ref lm, .ref lg])) H1 := c1.kept (old c hl1 c9 (fun h => Ne.symm (c11 h).2.2.2.1))
  have hLm : LHt Γ H1 lm am ms := c2.kept (old lm hl2.1 c10 (fun h => Ne.symm (c11 h).2.2.2.2)) (fun h => old am (hl2.2 h) (c11 h).2.2.1.2 (fun _ => (c11 h).2.1))
  have hxs : LEl (kS K) H1 (x :: ms) := p1.kept (fun e he hm9 => by
    rcases List.mem_cons.mp hm9 with h | h
    · rw [h] at he ⊢
      exact old x he hx.2.1 (fun h => (hx.2.2 h).2)
    · exact old e he (hm e h).2.1 (fun _ => (hm e h).2.2))
  have hgb : gEb Γ tx b (kS K) H1 := p3.put f1 (fun q hq hqb => old q hq (by omega) (fun h => by have := (c11 h).1.2; omega))
  refine g_I (I' := OW K (chF lm lg am ag ms) (fun H2 => H2 = H1)) (fun H2 l e => ?_) ?_
  · obtain ⟨rfl, rfl⟩ := e
    refine ⟨⟨by rw [hH]; exact f1, fun q hq hn => ?_⟩, fun z hz => ?_, rfl⟩
    · rw [hH] at hq ⊢
      exact old q hq (fun e => hn (Or.inr (Or.inl e))) (fun h e => hn (Or.inr (Or.inr ⟨h, Or.inr e⟩)))
    · rcases f3 z hz with h | h | h
      · exact h2 z h
      · rcases h with h | ⟨h, h'⟩
        · exact Or.inl (Or.inr (Or.inl h))
        · exact Or.inl (Or.inr (Or.inr ⟨fun e => h (hmg.mp e), Or.inr h'⟩))
      · exact Or.inr (by rw [hH]; exact h)
  refine g_pop (pc := 11) hk dX6_add_11 rfl ?_
  refine g_aload_n (pc := 12) hk dX6_add_12 rfl ?_
  refine x_get (pc := 13) hk hK (ci := 5) rfl in_X6 (fun H locs hI => by rw [hI.2.2]; exact hc1) 1 (by decide) q795 (Or.inl rfl) rfl dX6_add_13 ?_
  refine g_aload_n (pc := 16) hk dX6_add_16 rfl ?_
  refine o_callV (pc := 17) (tx := tx) (C := RJ3) (rmY := { frames := 8, cells := adC ms.length, slots := adS ms.length, locals := 440 }) (v := fun H => some (.int 1)) (R := fun H H1 => ∃ a', (a' = am ∨ a' = H.size) ∧ (ms = [] → a' = H.size) ∧ H1.size = H.size + adC ms.length ∧ LHt Γ H1 lm a' (ms ++ [x])) (Pre := fun H U => LEl U H (x :: ms) ∧ gEb Γ tx b U H) (fr := fun q => q = lm ∨ (ms ≠ [] ∧ q = am)) hk hK (fun H locs hI => by rw [hI.2.2]; exact hgb.ge hK.2.2.2) (fun H s U hvm h => ⟨h.1.moved hvm, h.2.moved hK.2.2.2 hvm⟩) (fun H locs hI => by rw [hI.2.2]; exact ⟨hxs, hgb⟩) (x_rec hK (ci := 15) rfl (fun H locs hI => by rw [hI.2.2]; exact hLm.1.choose_spec)) [.ref x] [] (fun H locs hI => by
      rw [hI.2.2]
      exact o_add hΓ (by omega) hx.1 (fun h => (hm _ h).1 rfl) hLm hsz) (lw_V q828 q631 q632 q133 q633) hv_add rfl rfl rfl dX6_add_17 rfl ⟨by show 0 + adC gs.length + adC ms.length ≤ 2 * adC ms.length; rw [← c4]; omega, by show 0 + adS gs.length + adS ms.length ≤ 2 * adS ms.length; rw [← c4]; omega⟩ (fun H3 locs3 hI => ?_)
  obtain ⟨k1, k2, rfl⟩ := hI
  refine g_I (I' := OW K (chF lm lg am ag ms) (fun H2 => ∃ am' ag', ChH Γ H2 s c qf lm lg am' ag' (ms ++ [x]) (gs ++ [gA Γ (1000 + (k + 128))]) ∧ (am' = am ∨ H.size ≤ am') ∧ (ag' = ag ∨ H.size ≤ ag') ∧ (ms = [] → H.size ≤ am' ∧ H.size ≤ ag'))) (fun H2 locs2 hI => ?_) ?_
  · obtain ⟨⟨am', s1, s2, s3, s4⟩, ⟨g1, g2⟩, g3⟩ := hI
    have hne : ∀ q, (q ≠ lm ∧ (ms ≠ [] → q ≠ am)) → ¬ (q = lm ∨ (ms ≠ [] ∧ q = am)) := fun q h z => z.elim h.1 (fun w => h.2 w.1 w.2)
    have hag : s ≤ ag' ∧ ag' ≠ lm ∧ (ms ≠ [] → ag' ≠ am) := by
      rcases r1 with z | z
      · by_cases h0 : ms = []
        · have := r2 (hmg.mp h0)
          exact ⟨by omega, by omega, fun h => absurd h0 h⟩
        · rw [z]
          exact ⟨(c11 h0).1.2, (c11 h0).2.2.2.2, fun _ e => (c11 h0).2.1 e.symm⟩
      · exact ⟨by omega, by omega, fun h e => by have := hl2.2 h; omega⟩
    have lgs := r4.lt
    have hag3 := lgs.2 (by simp)
    have ham : s ≤ am' ∧ am' ≠ ag' ∧ am' ≠ c ∧ am' ≠ lg := by
      rcases s1 with z | z
      · by_cases h0 : ms = []
        · have := s2 h0
          exact ⟨by omega, by omega, by omega, by omega⟩
        · rw [z]
          exact ⟨(c11 h0).1.1, Ne.symm (hag.2.2 h0), (c11 h0).2.2.1.1, (c11 h0).2.2.1.2⟩
      · exact ⟨by omega, by omega, by omega, by omega⟩
    refine ⟨⟨Nat.le_trans k1.1 g1, fun q hq hn => ?_⟩, fun z hz => ?_, am', ag', ⟨?_, s4, ?_, ?_, ⟨c5, c6, c7⟩, ⟨c8, c9, c10⟩, fun _ => ⟨⟨ham.1, hag.1⟩, ham.2.1, ⟨ham.2.2.1, ham.2.2.2⟩, Ne.symm d1, hag.2.1⟩⟩, s1.imp id (fun z => by omega), r1.imp id (fun z => by omega), fun h0 => ⟨by have := s2 h0; omega, by have := r2 (hmg.mp h0); omega⟩⟩
    · rw [g2 q (Nat.lt_of_lt_of_le hq k1.1) (hne q ⟨fun e => hn (Or.inl e), fun h e => hn (Or.inr (Or.inr ⟨h, Or.inl e⟩))⟩)]
      exact k1.2 q hq hn
    · rcases g3 z hz with h | h | h
      · exact k2 z h
      · rcases h with h | ⟨h, h'⟩
        · exact Or.inl (Or.inl h)
        · exact Or.inl (Or.inr (Or.inr ⟨h, Or.inl h'⟩))
      · exact Or.inr (Nat.le_trans k1.1 h)
    · exact hc1.kept (g2 c (by omega) (hne c ⟨c8, fun h => Ne.symm (c11 h).2.2.1.1⟩))
    · exact r4.kept (g2 lg lgs.1 (hne lg ⟨Ne.symm c10, fun h => Ne.symm (c11 h).2.2.1.2⟩)) (fun _ => g2 ag' hag3 (hne ag' ⟨hag.2.1, hag.2.2⟩))
    · rw [List.length_append, List.length_append, c4]
      rfl
  refine g_pop (pc := 20) hk dX6_add_20 rfl ?_
  exact o_vret (pc := 21) hk (fun H e => e) dX6_add_21 (by show 0 + adC gs.length + adC ms.length ≤ 2 * adC ms.length; rw [← c4]; omega) (by show 0 + adS gs.length + adS ms.length ≤ 2 * adS ms.length; rw [← c4]; omega)
/-- what a chain is taken for: its first alone, or itself -/
theorem r_itself {H0 : Heap} {s c qf lm lg am ag : Nat} {ms gs : List Nat} (hC : ChH Γ H0 s c qf lm lg am ag ms gs) : RMet Γ tx yX6_itself cX6_itself 1 (some (.object "ShaveOfAnother$Sum")) (rmK 2) [.ref c] H0 (some (.ref (if ms = [] then qf else c))) := by
  obtain ⟨c1, c2, -⟩ := hC
  refine r_met (view := fun r : Nat => some (.ref r)) (comp := some (if ms = [] then qf else c)) (own := RX6) rfl (by decide) rfl (ls0 := [(0, .ref c)]) rfl (fun K hk hK hH hE => ?_) _ rfl
  have hcl := c2.2.1
  refine g_aload_n (pc := 0) hk dX6_itself_0 rfl ?_
  refine x_get (pc := 1) hk hK (ci := 5) rfl in_X6 (rd hH c1) 1 (by decide) q795 (Or.inl rfl) rfl dX6_itself_1 ?_
  refine x_callV (pc := 4) (tx := tx) (v := some (.int (if ms.length = 0 then 1 else 0))) (rmY := rmK 1) hk hK (rd hH hE) (x_rec hK (ci := 15) rfl (rd hH c2.1.choose_spec)) [] _ (rd hH (l_isEmpty (c2.list (Rg := fun _ => True) trivial (fun _ => trivial)))) (lw_V q833 q834 q835 q133 q836) hv_isEmpty rfl ⟨rfl, rfl⟩ rfl rfl dX6_itself_4 rfl rfl ⟨Nat.zero_le _, Nat.zero_le _⟩ ?_
  by_cases h0 : ms = []
  · rw [if_pos h0, if_pos (by rw [h0]; rfl)]
    refine g_no (c := (1 : Int32) = 0) (by decide) ?_
    refine g_if_eq (pc := 7) (tgt := 17) hk dX6_itself_7 rfl g_none ?_
    refine g_aload_n (pc := 10) hk dX6_itself_10 rfl ?_
    refine x_get (pc := 11) hk hK (ci := 5) rfl in_X6 (rd hH c1) 0 (by decide) q794 (Or.inl rfl) rfl dX6_itself_11 ?_
    refine g_goto (pc := 14) (tgt := 18) hk dX6_itself_14 rfl ?_
    exact p_aret (pc := 18) hk (Or.inl ⟨_, rfl⟩) rfl dX6_itself_18
  · rw [if_neg h0, if_neg (fun z => h0 (List.length_eq_zero_iff.mp z))]
    refine g_yes (c := (0 : Int32) = 0) rfl ?_
    refine g_if_eq (pc := 7) (tgt := 17) hk dX6_itself_7 rfl ?_ g_none
    refine g_aload_n (pc := 17) hk dX6_itself_17 rfl ?_
    exact p_aret (pc := 18) hk (Or.inl ⟨_, rfl⟩) rfl dX6_itself_18
end CHN
