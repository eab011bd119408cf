/-! TEXTS in the world; rules, says (its end), writes (its end) -/
set_option maxRecDepth 100000
section G8
variable {ρ : Type} {K : KT} {Q : ρ → State → Prop} {comp A B : Option ρ} {nL : Nat} {I : Heap → List Loc → Prop} {cs sl pc : Nat} {ls : List (Nat × Value)} {st : List Value} {cc : ByteArray} {rm : Room} {ret : Option FieldType} {Γ : CG} {own : String}
theorem g_ifnn (hk : KOK K cc nL own rm ret) {x : Nat} {off : Int} {tgt : Nat} (hd : decode cc pc = .ok (.ifnonnull off, 3)) (ht : (pc : Int) + off = (tgt : Int)) (k : GGo K Q comp nL I cs sl tgt ls st) : GGo K Q comp nL I cs sl pc ls (.ref x :: st) := fun r hr H locs lsA hI hh => lv_ifnonnull hk.1 hk.2.1 hd ht (k r hr H locs lsA hI hh)
theorem g_ifnnN (hk : KOK K cc nL own rm ret) {off : Int} (hd : decode cc pc = .ok (.ifnonnull off, 3)) (k : GGo K Q comp nL I cs sl (pc + 3) ls st) : GGo K Q comp nL I cs sl pc ls (.null :: st) := fun r hr H locs lsA hI hh => lv_ifnonnullN hk.1 hk.2.1 hd (k r hr H locs lsA hI hh)
/-- a static field whose value is known at every heap of the world -/
theorem x_gets (hk : KOK K cc nL own rm ret) {C n d : String} {v : Value} {idx : Nat} {P : Nat → Prop} (hZ : ∀ H locs, I H locs → va_Z C n d v P (kS K) H) (hl : Cond.fieldLink own idx C n d ∈ lw_all) (hd : decode cc pc = .ok (.getstatic idx, 3)) (kk : GGo K Q comp nL I cs sl (pc + 3) ls (v :: st)) : GGo K Q comp nL I cs sl pc ls st := by
  intro r hr H locs lsA hI hh
  obtain ⟨cf, kf, fi, f, a, cell, h1, h2, h3, h4, h5, h6, h7, h8⟩ := hZ H locs hI
  exact W.gets hk.1 hk.2.1 hk.2.2.2.1 (hk.2.2.2.2.1 _ hl) h1 h2 h3 h4 h5 (fun e => by rw [e] at h6; cases h6) h7 rfl hd (kk r hr H locs lsA hI hh)
end G8
/-- how deep a text's sums may go -/
def TD : Nat := 320
/-- a text lies at q -/
def TextAt (Γ : CG) (H : Heap) (q : Nat) (T : Tx) : Prop :=
  ¬ cSt Γ q ∧ ∃ (la dl : Nat) (n : Int32) (lq : Nat → Option Nat) (es : List Nat), va_at (gD Γ) ccl (q, .inr (3, [.ref la, .int n, .ref dl])) H ∧ ¬ cSt Γ la ∧ H[la]? = some (arrV (gC Γ 4) 3 (fun i => va_rf (lq i))) ∧ (∀ i, i < 3 → (T.1 i = none ∧ lq i = none) ∨ ∃ x y, T.1 i = some x ∧ lq i = some y ∧ DAt Γ (fun a => ¬ cSt Γ a) H TD (.inl x) y) ∧ ListAt Γ (fun a => ¬ cSt Γ a) H dl es ∧ es.length = T.2.length ∧ ∀ (k y : Nat) (t : Int32 × Int32 × Int32 × Int32), es[k]? = some y → T.2[k]? = some t → ¬ cSt Γ y ∧ va_at (gD Γ) ccl (y, .inr (14, [.int t.1, .int t.2.1, .int t.2.2.1, .int t.2.2.2])) H
/-- the texts of the world: those of the two states; the one of no rules -/
def TXT (Γ : CG) (tx : TXs Tx) (U : State) (H : Heap) : Prop :=
  tx.1 2 0 = some (gA Γ 400) ∧ va_Z RX0 "NOTHING" "LShaveOfAnother$Text;" (.ref (gA Γ 400)) (cSt Γ) U H ∧ ∀ w i q, w < 3 → i < 4 → tx.1 w i = some q → TextAt Γ H q (tx.2 q)
def DTX (Γ : CG) : Prop := DOK Γ ∧ ∀ tx U H, gE Γ tx U H → TXT Γ tx U H
def isTx (σ : CS) (q : Nat) : Bool := [0, 1, 2].any (fun w => [0, 1, 2, 3].any (fun i => cT σ w i == some q))
theorem isTx_of {σ : CS} {q w i : Nat} (hw : w < 3) (hi : i < 4) (h : cT σ w i = some q) : isTx σ q = true := by
  unfold isTx
  refine List.any_eq_true.mpr ⟨w, ?_, List.any_eq_true.mpr ⟨i, ?_, by rw [h]; simp⟩⟩
  · rcases (show w = 0 ∨ w = 1 ∨ w = 2 by omega) with rfl | rfl | rfl <;> simp
  · rcases (show i = 0 ∨ i = 1 ∨ i = 2 ∨ i = 3 by omega) with rfl | rfl | rfl | rfl <;> simp
theorem isTx_to {σ : CS} {q : Nat} (h : isTx σ q = true) : ∃ w i, w < 3 ∧ i < 4 ∧ cT σ w i = some q := by
  unfold isTx at h
  obtain ⟨w, hw, h⟩ := List.any_eq_true.mp h
  obtain ⟨i, hi, h⟩ := List.any_eq_true.mp h
  refine ⟨w, i, ?_, ?_, by simpa using h⟩
  · simp at hw; omega
  · simp at hi; omega
def C_rules (σ : CS) : Option Nat := if cA σ 0 2 = -1 then cT σ 2 0 else (if inb (cA σ 0 2) 4 = true then cT σ 0 (cA σ 0 2).toNatClampNeg else none)
def rm_c_rules : Room := { frames := 1, cells := 0, slots := 0, locals := 40 }
theorem hv_c_rules : yX0_rules.cls = RX0 ∧ yX0_rules.cls ≠ "java/lang/invoke/MethodHandle" ∧ yX0_rules.cls ≠ "java/lang/invoke/VarHandle" ∧ (parseMethodDescriptor yX0_rules.desc).map (fun d => d.parameters.length) = some 0 := by decide +kernel
theorem c_aret {ρ : Type} {K : KT} {nL cs sl pc : Nat} {ls : List (Nat × Value)} {cc : ByteArray} {rm : Room} {Γ : CG} {σ : CS} {own : String} {view : ρ → Option Value × CS} {x : Nat} {r0 : ρ} {rt : FieldType} (hk : KOK K cc nL own rm (some rt)) (hK : CK Γ (kS K)) (hrt : (∃ n, rt = .object n) ∨ ∃ t, rt = .array t) (hv : view r0 = (some (.ref x), σ)) (hd : decode cc pc = .ok (.areturn, 1)) (h1 : Nat.ble cs rm.cells = true) (h2 : Nat.ble sl rm.slots = true) : GGo K (cQ K Γ rm view) (some r0) nL (CI Γ (kS K) σ) cs sl pc ls [.ref x] := by
  intro r hr H locs lsA hI hh
  cases hr
  refine W.widen (Nat.le_of_ble_eq_true h1) (Nat.le_of_ble_eq_true h2) ?_
  refine W.aret hk.1 hk.2.1 hk.2.2.2.2.2.2.1 hrt (Or.inr ⟨x, rfl⟩) (fun t ht hW => ?_) hI.2.2.2 hd hk.2.2.2.2.2.1
  rw [hv]
  exact cI_end hK.2.2.2 hI ht hW
theorem cm_rules (Γ : CG) (hΓ : DTX Γ) (σ : CS) (r : Nat) (h : C_rules σ = some r) : CMet Γ yX0_rules cX0_rules 1 (some (.object "ShaveOfAnother$Text")) rm_c_rules [.ref (gA Γ 300)] σ (some (.ref r)) σ := by
  refine c_met (view := fun r : Nat => (some (Value.ref r), σ)) (own := RX0) rfl (by decide) rfl (ls0 := [(0, .ref (gA Γ 300))]) rfl (fun K hk hK => ?_) r h
  unfold C_rules
  refine g_aload_n (pc := 0) hk dX0_rules_0 rfl ?_
  refine c_getR (pc := 1) hk hK cr_0 cf_0 dX0_rules_1 ?_
  refine c_getS (pc := 4) (w := 0) hk hK (by decide) sr_0 sn_0 dX0_rules_4 ?_
  refine g_iconst (pc := 7) (v := 2) hk dX0_rules_7 rfl ?_
  refine c_ialdC (pc := 8) (k := 0) (j := 2) hk hK cav_0 rfl rfl dX0_rules_8 ?_
  refine g_iconst (pc := 9) (v := (-1)) hk dX0_rules_9 rfl ?_
  refine g_icmp_ne (pc := 10) (tgt := 19) hk dX0_rules_10 rfl ?_ ?_
  · refine g_gd (fun hin => g_tl (fun q hq => ?_))
    refine g_aload_n (pc := 19) hk dX0_rules_19 rfl ?_
    refine c_getR (pc := 20) hk hK cr_0 cf_0 dX0_rules_20 ?_
    refine c_getS (pc := 23) (w := 0) hk hK (by decide) sr_10 sn_10 dX0_rules_23 ?_
    refine g_aload_n (pc := 26) hk dX0_rules_26 rfl ?_
    refine c_getR (pc := 27) hk hK cr_0 cf_0 dX0_rules_27 ?_
    refine c_getS (pc := 30) (w := 0) hk hK (by decide) sr_0 sn_0 dX0_rules_30 ?_
    refine g_iconst (pc := 33) (v := 2) hk dX0_rules_33 rfl ?_
    refine c_ialdC (pc := 34) (k := 0) (j := 2) hk hK cav_0 rfl rfl dX0_rules_34 ?_
    have e : (some q : Option Nat) = if inb (cA σ 0 2) 4 = true then ob1 (cT σ 0 (cA σ 0 2).toNatClampNeg) (fun q => some q) else none := by rw [if_pos hin, hq]; rfl
    rw [e]
    refine c_aaldT (pc := 35) (w := 0) hk hK (by decide) dX0_rules_35 (fun q _ _ => ?_)
    exact c_aret (pc := 36) hk hK (Or.inl ⟨_, rfl⟩) rfl dX0_rules_36 rfl rfl
  · refine g_tl (fun q hq => ?_)
    refine x_gets (pc := 13) (C := RX0) (v := .ref (gA Γ 400)) hk (fun H locs hI => (hΓ.2 _ _ _ hI.2.1).2.1) q896 dX0_rules_13 ?_
    refine g_goto (pc := 16) (tgt := 36) hk dX0_rules_16 rfl ?_
    refine g_at (fun H locs hI => ?_)
    have hq2 : q = gA Γ 400 := Option.some.inj (hq.symm.trans (hΓ.2 _ _ _ hI.2.1).1)
    subst hq2
    refine g_I (I' := CI Γ (kS K) σ) (fun _ _ e => by rw [e.1, e.2]; exact hI) ?_
    exact c_aret (pc := 36) hk hK (Or.inl ⟨_, rfl⟩) rfl dX0_rules_36 rfl rfl
def sayV (σ : CS) (q : Nat) (i : Nat) (w : Int32) : Option Int64 := match (σ.2.2.2 q).1 i with
  | none => some w.toInt64
  | some d => d (cA σ 201)
def C_says_j148 (σ : CS) (k2 q1 : Nat) (v4 s0 : Int32) : Option (Int32 × CS) :=
  if isTx σ q1 = true then (if inb v4 3 = true then ob1 (sayV σ q1 v4.toNatClampNeg s0) (fun x => if v4 = 1 then ob1 (C_held x 0 10) (fun r => some (r, σ)) else ob1 (C_held x 0 99) (fun r => some (r, σ))) else none) else none
def rm_c_says : Room := { frames := 330, cells := 0, slots := 0, locals := 20000 }
theorem cm_says_j148 {K : KT} {Γ : CG} (hk : KOK K cX0_says 7 RX0 rm_c_says (some .int)) (hK : CK Γ (kS K)) (hΓ : DTX Γ) (σ : CS) (k2 q1 : Nat) (v4 s0 : Int32) (hk2 : cAv k2 148) : GGo K (cQ K Γ rm_c_says (fun r : Int32 × CS => (some (Value.int r.1), r.2))) (C_says_j148 σ k2 q1 v4 s0) 7 (CI Γ (kS K) σ) 0 0 148 [(0, .ref (gA Γ 300)), (1, .ref q1), (4, .int v4)] [.int s0] := by
  unfold C_says_j148
  refine g_gd (fun htx => g_gd (fun hin => ?_))
  obtain ⟨w, i, hw, hi, hq⟩ := isTx_to htx
  have hlt := inb_lt hin
  refine g_ob1 (fun x hx => ?_)
  have tail : ∀ ls : List (Nat × Value), lsub ls [(4, .int v4)] → GGo K (cQ K Γ rm_c_says (fun r : Int32 × CS => (some (Value.int r.1), r.2))) (if v4 = 1 then ob1 (C_held x 0 10) (fun r => some (r, σ)) else ob1 (C_held x 0 99) (fun r => some (r, σ))) 7 (CI Γ (kS K) σ) 0 0 182 ls [.long x] := by
    intro ls hls
    refine g_ls hls ?_
    refine g_iconst (pc := 182) (v := 0) hk dX0_says_182 rfl ?_
    refine g_iload (pc := 183) hk dX0_says_183 rfl ?_
    refine g_iconst (pc := 185) (v := 1) hk dX0_says_185 rfl ?_
    refine g_icmp_ne (pc := 186) (tgt := 194) hk dX0_says_186 rfl ?_ ?_
    · refine g_ob1 (fun r hr => ?_)
      refine g_bipush (pc := 194) (v := 99) hk dX0_says_194 rfl ?_
      refine g_callP (pc := 196) hk [.long x, .int 0, .int 99] [] (cm_held x 0 99 r hr) (lw_S q1013 q1014 q124 q1015) hs_c_held rfl ⟨rfl, rfl⟩ rfl rfl dX0_says_196 rfl rfl ⟨rfl, rfl⟩ ?_
      exact c_iret (pc := 199) hk hK rfl dX0_says_199 rfl rfl
    · refine g_ob1 (fun r hr => ?_)
      refine g_bipush (pc := 189) (v := 10) hk dX0_says_189 rfl ?_
      refine g_goto (pc := 191) (tgt := 196) hk dX0_says_191 rfl ?_
      refine g_callP (pc := 196) hk [.long x, .int 0, .int 10] [] (cm_held x 0 10 r hr) (lw_S q1013 q1014 q124 q1015) hs_c_held rfl ⟨rfl, rfl⟩ rfl rfl dX0_says_196 rfl rfl ⟨rfl, rfl⟩ ?_
      exact c_iret (pc := 199) hk hK rfl dX0_says_199 rfl rfl
  refine g_at (fun H locs hI => ?_)
  obtain ⟨hn, la, dl, n, lq, es, h1, h2, h3, h4, -⟩ := (hΓ.2 _ _ _ hI.2.1).2.2 w i q1 hw hi hq
  have bk : ∀ H' l', H' = H ∧ l' = locs → CI Γ (kS K) σ H' l' := fun _ _ e => by rw [e.1, e.2]; exact hI
  have hla : ∀ H' l', H' = H ∧ l' = locs → va_at (gD Γ) ccl (q1, .inr (3, [.ref la, .int n, .ref dl])) H' := fun _ _ e => by rw [e.1]; exact h1
  have hlb : ∀ H' l', H' = H ∧ l' = locs → H'[la]? = some (arrV (gC Γ 4) 3 (fun i => va_rf (lq i))) := fun _ _ e => by rw [e.1]; exact h3
  refine g_istore (pc := 148) (i := 6) hk dX0_says_148 (by decide) rfl ?_
  refine g_aload_n (pc := 150) hk dX0_says_150 rfl ?_
  refine x_getN (pc := 151) hk hK (ci := 3) (host := RX0) rfl in_X4 hla 0 (by decide) cn_398 rfl rfl dX0_says_151 ?_
  refine g_iload (pc := 154) hk dX0_says_154 rfl ?_
  refine x_aald (pc := 156) hk hlb ((hK.1.2 4 _ rfl).1) rfl hin dX0_says_156 ?_
  have hx2 := hx
  unfold sayV at hx2
  rcases h4 _ hlt with ⟨e1, e2⟩ | ⟨d, y, e1, e2, hd⟩
  · rw [e1] at hx2
    have hx2 : some s0.toInt64 = some x := hx2
    cases hx2
    rw [e2]
    refine g_ifnnN (pc := 157) hk dX0_says_157 ?_
    refine g_iload (pc := 160) hk dX0_says_160 rfl ?_
    refine g_i2l (pc := 162) hk dX0_says_162 ?_
    refine g_goto (pc := 163) (tgt := 182) hk dX0_says_163 rfl ?_
    exact g_I bk (tail _ ⟨rfl, trivial⟩)
  · rw [e1] at hx2
    have hx2 : d (cA σ 201) = some x := hx2
    rw [e2]
    refine g_ifnn (pc := 157) (tgt := 166) hk dX0_says_157 rfl ?_
    refine g_aload_n (pc := 166) hk dX0_says_166 rfl ?_
    refine x_getN (pc := 167) hk hK (ci := 3) (host := RX0) rfl in_X4 hla 0 (by decide) cn_398 rfl rfl dX0_says_167 ?_
    refine g_iload (pc := 170) hk dX0_says_170 rfl ?_
    refine x_aald (pc := 172) hk hlb ((hK.1.2 4 _ rfl).1) rfl hin dX0_says_172 ?_
    rw [e2]
    refine g_aload_n (pc := 173) hk dX0_says_173 rfl ?_
    refine x_get (pc := 174) hk hK (ci := 0) (C := RX0) (T := TX0) (N := 17) (fs := cfx Γ σ) (v := .ref (gA Γ 201)) rfl in_X0 (fun _ _ e => by rw [e.1]; exact hI.1.2.2.2.2.1) 6 (by decide) q245 (Or.inl rfl) rfl dX0_says_174 ?_
    refine scall_X0 (pc := 177) (k := TD + 4) (tx := σ.2.2) hΓ.1 hk hK (fun _ _ e => by rw [e.1]; exact hI.2.1) (fun _ _ e => by rw [e.1]; exact (ev_ok (tx := σ.2.2) hΓ.1 (hI.1.1 201 15 cav_201) TD TD (Nat.le_refl _)).1 hd x hx2) ⟨by decide, by decide⟩ rfl dX0_says_177 ⟨Nat.zero_le _, Nat.zero_le _⟩ ?_
    exact g_I bk (tail _ ⟨rfl, trivial⟩)
/-! a new array of four ints beside the world -/
def pgF (x0 x1 x2 x3 : Int32) : Nat → Int32 := upd (upd (upd (upd (fun _ => 0) 0 x0) 1 x1) 2 x2) 3 x3
def LW (Γ : CG) (s : State) (σ : CS) (a : Nat) (cT0 : ClassId) (f : Nat → Int32) : Heap → List Loc → Prop := fun H locs =>
  CW Γ σ H ∧ (∃ Hb : Heap, gE Γ σ.2.2 s Hb ∧ cFr Γ Hb H ∧ Hb.size ≤ a) ∧ (cFr Γ s.heap H ∧ s.heap.size ≤ a) ∧ (∀ l ∈ locs, cAc Γ s.heap.size l.base) ∧ ¬ cSt Γ a ∧ H[a]? = some (arrV cT0 4 (fun j => .int (f j)))
section LWS
variable {ρ : Type} {K : KT} {Q : ρ → State → Prop} {comp A B : Option ρ} {nL : Nat} {cs sl pc : Nat} {ls : List (Nat × Value)} {st : List Value} {cc : ByteArray} {rm : Room} {ret : Option FieldType} {Γ : CG} {σ : CS} {own : String}
theorem c_newa4 (hk : KOK K cc nL own rm ret) (hK : CK Γ (kS K)) (hc : cs + 1 ≤ rm.cells) (hs : sl + 4 ≤ rm.slots) (hd : decode cc pc = .ok (.newarray .int, 2)) (kk : ∀ a cT0, ArrOfT (kS K) cT0 .int → GGo K Q comp nL (LW Γ (kS K) σ a cT0 (fun _ => 0)) (cs + 1) (sl + 4) (pc + 2) ls (.ref a :: st)) : GGo K Q comp nL (CI Γ (kS K) σ) cs sl pc ls (.int 4 :: st) := by
  intro r hr H locs lsA hI hh
  refine va_newaK (atype := .int) (N := 4) hk.1 hk.2.1 (hk.2.2.2.2.1 _ q224) rfl hd rfl (by decide) rfl (by decide) (by show _ ≤ (kR K).cells; rw [hk.2.2.2.2.2.2.2]; exact hc) (by show _ ≤ (kR K).slots; rw [hk.2.2.2.2.2.2.2]; exact hs) rfl (fun H1 cA e z oq hA _ => ?_)
  have hns : ¬ cSt Γ H.size := fun h => Nat.lt_irrefl _ (hI.1.lt h)
  have hF : cFr Γ H H1 := ⟨by omega, fun q hq _ => oq q hq⟩
  exact kk H.size cA hA r hr H1 locs lsA ⟨hI.1.fr (fun q hq => oq q (hI.1.lt hq)), ⟨H, hI.2.1, hF, Nat.le_refl _⟩, ⟨hI.2.2.1.trans hF, hI.2.2.1.1⟩, hI.2.2.2, hns, e⟩ hh
theorem LW.put {s : State} {a : Nat} {cT0 : ClassId} {f g : Nat → Int32} {H H1 : Heap} {locs locs1 : List Loc} (h : LW Γ s σ a cT0 f H locs) (e : H1[a]? = some (arrV cT0 4 (fun j => .int (g j)))) (z : H1.size = H.size) (oq : ∀ q, q ≠ a → H1[q]? = H[q]?) (hl : ∀ l ∈ locs1, l ∈ locs ∨ l.base = a) : LW Γ s σ a cT0 g H1 locs1 := by
  obtain ⟨h1, ⟨Hb, h2, h3, h4⟩, ⟨h5, h6⟩, h7, h8, h9⟩ := h
  refine ⟨h1.fr (fun q hq => oq q (fun e => h8 (e ▸ hq))), ⟨Hb, h2, ⟨by rw [z]; exact h3.1, fun q hq hn => (oq q (by omega)).trans (h3.2 q hq hn)⟩, h4⟩, ⟨⟨by rw [z]; exact h5.1, fun q hq hn => (oq q (by omega)).trans (h5.2 q hq hn)⟩, h6⟩, fun l hll => (hl l hll).elim (h7 l) (fun e => Or.inr (by rw [e]; exact h6)), h8, e⟩
theorem l_iast (hk : KOK K cc nL own rm ret) {a : Nat} {cT0 : ClassId} {f : Nat → Int32} {i v : Int32} {j : Nat} (hA : ArrOfT (kS K) cT0 .int) (hin : inb i 4 = true) (hj : i.toNatClampNeg = j) (hd : decode cc pc = .ok (.iastore, 1)) (kk : GGo K Q comp nL (LW Γ (kS K) σ a cT0 (upd f j v)) cs sl (pc + 1) ls st) : GGo K Q comp nL (LW Γ (kS K) σ a cT0 f) cs sl pc ls (.int v :: .int i :: .ref a :: st) := by
  subst hj
  intro r hr H locs lsA hI hh
  have hv := inb_vp hin
  refine W.iast hk.1 hk.2.1 hI.2.2.2.2.2 (hA 4 _) (fun q => by cases q) (by rw [arrV_size]; exact hv) rfl rfl hd fun H1 e z oq => ?_
  refine kk r hr H1 _ lsA (hI.put (g := upd f i.toNatClampNeg v) ?_ z oq (fun l h => (List.mem_append.mp h).elim Or.inl (fun e => Or.inr (by rw [List.mem_singleton.mp e])))) hh
  rw [e, arrV_store, ← updV_upd]
  try rfl
theorem l_ialdW (hk : KOK K cc nL own rm ret) (hK : CK Γ (kS K)) {a : Nat} {cT0 : ClassId} {f : Nat → Int32} {k n : Nat} {i : Int32} {j : Nat} (ha : cAv k n) (hin : inb i n = true) (hj : i.toNatClampNeg = j) (hd : decode cc pc = .ok (.iaload, 1)) (kk : GGo K Q comp nL (LW Γ (kS K) σ a cT0 f) cs sl (pc + 1) ls (.int (cA σ k j) :: st)) : GGo K Q comp nL (LW Γ (kS K) σ a cT0 f) cs sl pc ls (.int i :: .ref (gA Γ k) :: st) := by
  subst hj
  exact x_iald hk (fun H locs hI => hI.1.1 k n ha) ((hK.1.2 0 _ rfl).1) hin hd kk
/-- the four ints into a row of the world: the array is left behind -/
theorem l_copy (hk : KOK K cc nL own rm ret) (hK : CK Γ (kS K)) {a : Nat} {cT0 : ClassId} {f : Nat → Int32} {k1 n1 idx : Nat} {sp dp n : Int32} {g : CS → Option ρ} (hA : ArrOfT (kS K) cT0 .int) (h1 : cAv k1 n1) (hl : Cond.methodLink own idx arraycopyName ∈ lw_all) (hs : Nat.ble ((st.map fun v => v.category).sum) 8 = true) (hr1 : Nat.ble 1 rm.frames = true) (hr2 : Nat.ble (8 + (nativeFrameWords "java/lang/System" "arraycopy" 5 + 11)) rm.locals = true) (hd : decode cc pc = .ok (.invokestatic idx, 3)) (kk : ∀ σ', GGo K Q (g σ') nL (CI Γ (kS K) σ') cs sl (pc + 3) ls st) : GGo K Q (if cpOK sp dp n 4 n1 = true then nm (dA σ k1 (va_cpy f (cA σ k1) sp.toNatClampNeg dp.toNatClampNeg n.toNatClampNeg)) g else none) nL (LW Γ (kS K) σ a cT0 f) cs sl pc ls (.int n :: .int dp :: .ref (gA Γ k1) :: .int sp :: .ref a :: st) := by
  refine g_gd (fun hc => ?_)
  intro r hr H locs lsA hI hh
  obtain ⟨g1, g2, g3, g4, g5⟩ := cpOK_u hc
  have hB := (hK.1.2 0 _ rfl).1
  have hO := hK.2.2.2
  refine w_copyi hk.1 hk.2.1 (by rw [hh.1]; exact hk.2.2.1) hk.2.2.2.1 (hk.2.2.2.2.1 _ hl) (hk.2.2.2.2.1 _ q235) (hk.2.2.2.2.1 _ q234) (hk.2.2.2.2.1 _ q127) hI.2.2.2.2.2 (hI.1.1 k1 n1 h1) hA hB g1 g2 g3 g4 g5 (by show 1 ≤ (kR K).frames; rw [hk.2.2.2.2.2.2.2]; exact Nat.le_of_ble_eq_true hr1) (by show _ ≤ (kR K).locals; rw [hk.2.2.2.2.2.2.2]; exact Nat.le_trans (Nat.add_le_add_right (Nat.le_of_ble_eq_true hs) _) (Nat.le_of_ble_eq_true hr2)) hd (fun H1 locs1 e z oq hlo => ?_)
  obtain ⟨c1, ⟨Hb, c2, c3, c4⟩, ⟨c5, c6⟩, c7, c8, c9⟩ := hI
  have hF := cFr.put (Γ := Γ) (cAv_val h1) z oq
  exact kk _ r hr H1 locs1 lsA ⟨CW.arr hO c1 h1 e oq, hO.2.1 _ _ _ _ (c3.trans hF) c2, c5.trans hF, fun l h => (hlo l h).elim (c7 l) (fun e => Or.inl ⟨k1, cAv_val h1, e⟩)⟩ hh
end LWS
def C_writes_j28 (σ : CS) (k0 : Nat) (v1 v2 v3 : Int32) : Option CS :=
  if cpOK 0 (28 + 4 * cA σ k0 27) 4 4 148 = true then nm (dA σ k0 (va_cpy (pgF (cA σ k0 0) v1 v2 v3) (cA σ k0) (0 : Int32).toNatClampNeg (28 + 4 * cA σ k0 27).toNatClampNeg (4 : Int32).toNatClampNeg)) (fun σ1 => nm (eA σ1 k0 27 (cA σ1 k0 27 + 1)) (fun σ2 => some σ2)) else none
def rm_c_writes : Room := { frames := 1, cells := 1, slots := 4, locals := 40 }
theorem cm_writes_j28 {K : KT} {Γ : CG} (hk : KOK K cX0_writes 5 RX0 rm_c_writes none) (hK : CK Γ (kS K)) (σ : CS) (k0 : Nat) (v1 v2 v3 : Int32) (hk0 : cAv k0 148) : GGo K (cQ K Γ rm_c_writes (fun r : CS => ((none : Option Value), r))) (C_writes_j28 σ k0 v1 v2 v3) 5 (CI Γ (kS K) σ) 0 0 28 [(0, .ref (gA Γ k0)), (1, .int v1), (2, .int v2), (3, .int v3)] [] := by
  unfold C_writes_j28 pgF
  refine g_iconst (pc := 28) (v := 4) hk dX0_writes_28 rfl ?_
  refine c_newa4 (pc := 29) hk hK (by decide) (by decide) dX0_writes_29 (fun a cA hA => ?_)
  refine g_dup (pc := 31) hk dX0_writes_31 rfl ?_
  refine g_iconst (pc := 32) (v := 0) hk dX0_writes_32 rfl ?_
  refine g_aload_n (pc := 33) hk dX0_writes_33 rfl ?_
  refine g_iconst (pc := 34) (v := 0) hk dX0_writes_34 rfl ?_
  refine l_ialdW (pc := 35) (k := k0) (j := 0) hk hK hk0 rfl rfl dX0_writes_35 ?_
  refine l_iast (pc := 36) (j := 0) hk hA rfl rfl dX0_writes_36 ?_
  refine g_dup (pc := 37) hk dX0_writes_37 rfl ?_
  refine g_iconst (pc := 38) (v := 1) hk dX0_writes_38 rfl ?_
  refine g_iload_n (pc := 39) hk dX0_writes_39 rfl ?_
  refine l_iast (pc := 40) (j := 1) hk hA rfl rfl dX0_writes_40 ?_
  refine g_dup (pc := 41) hk dX0_writes_41 rfl ?_
  refine g_iconst (pc := 42) (v := 2) hk dX0_writes_42 rfl ?_
  refine g_iload_n (pc := 43) hk dX0_writes_43 rfl ?_
  refine l_iast (pc := 44) (j := 2) hk hA rfl rfl dX0_writes_44 ?_
  refine g_dup (pc := 45) hk dX0_writes_45 rfl ?_
  refine g_iconst (pc := 46) (v := 3) hk dX0_writes_46 rfl ?_
  refine g_iload_n (pc := 47) hk dX0_writes_47 rfl ?_
  refine l_iast (pc := 48) (j := 3) hk hA rfl rfl dX0_writes_48 ?_
  refine g_astore (pc := 49) (i := 4) hk dX0_writes_49 (by decide) rfl ?_
  refine g_aload (pc := 51) hk dX0_writes_51 rfl ?_
  refine g_iconst (pc := 53) (v := 0) hk dX0_writes_53 rfl ?_
  refine g_aload_n (pc := 54) hk dX0_writes_54 rfl ?_
  refine g_bipush (pc := 55) (v := 28) hk dX0_writes_55 rfl ?_
  refine g_iconst (pc := 57) (v := 4) hk dX0_writes_57 rfl ?_
  refine g_aload_n (pc := 58) hk dX0_writes_58 rfl ?_
  refine g_bipush (pc := 59) (v := 27) hk dX0_writes_59 rfl ?_
  refine l_ialdW (pc := 61) (k := k0) (j := 27) hk hK hk0 rfl rfl dX0_writes_61 ?_
  refine g_imul (pc := 62) hk dX0_writes_62 ?_
  refine g_iadd (pc := 63) hk dX0_writes_63 ?_
  refine g_iconst (pc := 64) (v := 4) hk dX0_writes_64 rfl ?_
  refine l_copy (pc := 65) (k1 := k0) hk hK hA hk0 q902 rfl rfl rfl dX0_writes_65 (fun σ1 => ?_)
  refine g_aload_n (pc := 68) hk dX0_writes_68 rfl ?_
  refine g_bipush (pc := 69) (v := 27) hk dX0_writes_69 rfl ?_
  refine g_dup2 (pc := 71) hk dX0_writes_71 rfl rfl ?_
  refine c_ialdC (pc := 72) (k := k0) (j := 27) hk hK hk0 rfl rfl dX0_writes_72 ?_
  refine g_iconst (pc := 73) (v := 1) hk dX0_writes_73 rfl ?_
  refine g_iadd (pc := 74) hk dX0_writes_74 ?_
  refine c_iastC (pc := 75) (k := k0) (j := 27) hk hK hk0 rfl rfl dX0_writes_75 (fun σ2 => ?_)
  exact c_vret (pc := 76) hk hK rfl dX0_writes_76 rfl rfl
