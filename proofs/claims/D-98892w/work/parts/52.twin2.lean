/-! THE TWIN's constructor, walked (made by mkdx39.py) -/
set_option maxRecDepth 100000
def tI0 (k : Nat) : Int32 := if k = 5 then -1 else if k = 6 then -1 else if k = 23 then 1 else 0
def t00 : TS := (tI0, 0, fun _ _ => 0, fun _ _ => 0)
def T_i2 : Nat → TS → Int32 → Option TS
  | 0, _, _ => none
  | n + 1, τ, v => if v < 64 then (if inb (78 + v) 2030 = true then nm (wA τ 0 (78 + v).toNatClampNeg 10) (fun τ1 => nm (v + 1) (fun x => T_i2 n τ1 x)) else none) else T_copy τ 0 1
def T_i1 : Nat → TS → Int32 → Option TS
  | 0, _, _ => none
  | n + 1, τ, v => if v < 8 then (if inb (50 + v) 2030 = true then nm (wA τ 0 (50 + v).toNatClampNeg (v ^^^ 1)) (fun τ1 => if inb (206 + v) 2030 = true then nm (wA τ1 0 (206 + v).toNatClampNeg 1) (fun τ2 => nm (v + 1) (fun x => T_i1 n τ2 x)) else none) else none) else T_i2 65 τ 0
def T_made : Option TS := nm (wA t00 0 8 223) (fun τ1 => nm (wA τ1 0 2 (-1)) (fun τ2 => T_i1 9 τ2 0))
def fsT0 : List Value := [.null, .null, .null, .null, .int 0, .int 0, .int 0, .int 0, .int 0, .int 0, .int 0, .long 0, .int 0, .int 0, .int 0, .null, .int 0, .int 0, .int 0, .int 0, .null, .null, .null, .int 0, .null, .null, .null, .int 0, .null, .null, .null, .null]
def rm_x_tw : Room := { frames := 3, cells := 15, slots := 73817, locals := 140 }
theorem hi_X2 : yX2_init.cls ≠ "java/lang/invoke/MethodHandle" ∧ yX2_init.cls ≠ "java/lang/invoke/VarHandle" ∧ (parseMethodDescriptor yX2_init.desc).map (fun d => d.parameters.length) = some 0 := by decide +kernel

section TWR2
variable {ρ : Type} {K : KT} {Q : ρ → State → Prop} {comp A B : Option ρ} {nL : Nat} {cs sl pc : Nat} {ls : List (Nat × Value)} {st : List Value} {cc : ByteArray} {rm : Room} {ret : Option FieldType} {Γ : TG} {τ : TS}
theorem t_callSG (hk : KOK K cc nL RX2 rm ret) (hK : va_K Γ.1 tcl (ttys Γ) (kS K)) {y : MethodName} {bytes : ByteArray} {maxL n idx : Nat} {retY : Option FieldType} {rmY : Room} {v : Option Value} {τ' : TS} {stk st2 : List Value} (As : List Value) (st : List Value) (hM : TMet Γ y bytes maxL retY rmY As τ v τ') (hG : GoodIn lw_all (va_wsS RX2 idx y (ws_ y bytes maxL retY))) (hy : y.cls ≠ "java/lang/invoke/MethodHandle" ∧ y.cls ≠ "java/lang/invoke/VarHandle" ∧ (parseMethodDescriptor y.desc).map (fun d => d.parameters.length) = some n) (hrm : rmFits maxL rmY rm = true) (hn : As.length = n) (hs : Nat.ble ((st.map fun v => v.category).sum) 8 = true) (hcs9 : cs ≤ rm.cells ∧ sl ≤ rm.slots) (hd : decode cc pc = .ok (.invokestatic idx, 3)) (hstk : stk = As.reverse ++ st) (hst2 : v.toList ++ st = st2) (kk : GGo K Q comp nL (TI Γ (kS K) τ') cs sl (pc + 3) ls st2) : GGo K Q comp nL (TI Γ (kS K) τ) cs sl pc ls stk := by
  subst hst2
  intro r hr H locs lsA hI hh T hT X
  obtain ⟨v', st₀, t, T', L, h0, X', hL, e1, e2, ⟨⟨hv, hP', hD'⟩, hz, hkk⟩, stp⟩ := va_runS (g := F0 (kM K) pc lsA stk) (As := As) (rest := st) (cc := cc) (nL := nL) (own := RX2) (Ts := lw_all) ⟨hk.1, hk.2.1, hk.2.2.1, hk.2.2.2.1, hk.2.2.2.2.1⟩ (hM K.2.1) (va_cwS n hk.2.2.2.2.1 hG rfl (rmFits_0 hrm).1 (rmFits_0 hrm).2 hy (rmFits_ok hrm hk.2.2.2.2.2.2.2)) ⟨tPc_blind _ _ _, fun U hU hW => ⟨rfl, by rw [hU]; exact hI.1, va_K.moved hW.alike hK, hI.2.1⟩⟩ rfl hn hh.1 hstk (lv_room (Nat.le_of_ble_eq_true hs)) hd ⟨(by show cs + 0 ≤ (kR K).cells; rw [hk.2.2.2.2.2.2.2]; exact hcs9.1), (by show sl + 0 ≤ (kR K).slots; rw [hk.2.2.2.2.2.2.2]; exact hcs9.2)⟩ T hT X
  cases hv
  rw [h0] at hz hkk
  have hS := hI.2.2
  obtain ⟨t2, a1, b1⟩ := kk r hr T'.heap (locs ++ L) lsA ⟨by rw [e1]; exact hP', hD', Nat.le_trans hS.1 (by rw [e1]; exact hz), fun q h1 h2 => by
      rw [e1, hkk q (Nat.lt_of_lt_of_le h1 hS.1) h2]
      exact hS.2.1 q h1 h2, fun q hq => (List.mem_append.mp hq).elim (hS.2.2 q) (fun h => hL q h)⟩ hh T' rfl X'
  exact ⟨t2, stp t2 a1, b1⟩
end TWR2
theorem g_cmp {ρ ρ' : Type} {K : KT} {Q : ρ → State → Prop} {Q' : ρ' → State → Prop} {comp : Option ρ} {r1 : ρ} {r0 : ρ'} {nL : Nat} {I : Heap → List Loc → Prop} {cs sl pc : Nat} {ls : List (Nat × Value)} {st : List Value} (h : comp = some r1) (hQ : Q r1 = Q' r0) (k : GGo K Q comp nL I cs sl pc ls st) : GGo K Q' (some r0) nL I cs sl pc ls st := fun r hr H locs lsA hI hh => by
  cases hr
  rw [← hQ]
  exact k r1 h H locs lsA hI hh
section TWI

variable {K : KT} {Γ : TG} {a : Nat} {cs sl : Nat} {rm : Room}
def tnQ (K : KT) (Γ : TG) (a : Nat) (rm : Room) : TS → State → Prop := nQ K a rm (fun τ H => va_P Γ.1 tcl (tws Γ τ) H ∧ va_D (tAd Γ) (tws Γ τ))
theorem ti_ret (hk : KOK K cX2_init 2 RX2 rm none) (hc : ∀ q, tAd Γ q → q = a ∨ (kS K).heap.size ≤ q) {τ : TS} {ls : List (Nat × Value)} (h1 : cs ≤ rm.cells) (h2 : sl ≤ rm.slots) : GGo K (tnQ K Γ a rm) (some τ) 2 (TI Γ (kS K) τ) cs sl 236 ls [] :=
  n_vret (pc := 236) hk (fun H locs hI => ⟨⟨hI.1, hI.2.1⟩, ⟨hI.2.2.1, fun q hq hn => hI.2.2.2.1 q hq (fun h => (hc q h).elim hn (fun z => by omega))⟩, fun l hl => hc _ (hI.2.2.2.2 l hl)⟩) dX2_init_236 h1 h2
theorem ti_i2 (hk : KOK K cX2_init 2 RX2 rm_x_tw none) (hK : va_K Γ.1 tcl (ttys Γ) (kS K)) (hc : ∀ q, tAd Γ q → q = a ∨ (kS K).heap.size ≤ q) (h0 : Γ.2.1 = a) : ∀ (n : Nat) (τ : TS) (v : Int32), GGo K (tnQ K Γ a rm_x_tw) (T_i2 n τ v) 2 (TI Γ (kS K) τ) 15 73817 202 [(0, .ref Γ.2.1), (1, .int v)] [] := by
  subst h0
  intro n
  induction n with
  | zero => intro τ v; exact g_none
  | succ n ih =>
    intro τ v
    unfold T_i2
    refine g_iload_n (pc := 202) hk dX2_init_202 rfl ?_
    refine g_bipush (pc := 203) (v := 64) hk dX2_init_203 rfl ?_
    refine g_icmp_ge (pc := 205) (tgt := 225) hk dX2_init_205 rfl ?_ ?_
    · refine g_res (fun τ2 h1 => ?_)
      refine g_aload_n (pc := 225) hk dX2_init_225 rfl ?_
      refine t_getR (pc := 226) hk hK tr_0 tf_0 dX2_init_226 ?_
      refine g_aload_n (pc := 229) hk dX2_init_229 rfl ?_
      refine t_getR (pc := 230) hk hK tr_1 tf_1 dX2_init_230 ?_
      refine t_callSG (pc := 233) hk hK [.ref (Γ.2.2.1 0), .ref (Γ.2.2.1 1)] [] (tm_copy Γ τ 0 1 ta_0 ta_1 τ2 h1) (lw_S q1371 q1372 q128 q1373) hs_copy (by decide) rfl rfl ⟨by decide, by decide⟩ dX2_init_233 rfl rfl ?_
      exact ti_ret (cs := 15) (sl := 73817) hk hc (by decide) (by decide)
    · refine g_aload_n (pc := 208) hk dX2_init_208 rfl ?_
      refine t_getR (pc := 209) hk hK tr_0 tf_0 dX2_init_209 ?_
      refine g_bipush (pc := 212) (v := 78) hk dX2_init_212 rfl ?_
      refine g_iload_n (pc := 214) hk dX2_init_214 rfl ?_
      refine g_iadd (pc := 215) hk dX2_init_215 ?_
      refine g_bipush (pc := 216) (v := 10) hk dX2_init_216 rfl ?_
      refine t_iast (pc := 218) hk hK ta_0 dX2_init_218 (fun τ1 => ?_)
      refine g_iincN (pc := 219) (v := 1) (ls' := fun x => [(1, .int x), (0, .ref Γ.2.1)]) hk dX2_init_219 rfl rfl (by decide) (fun _ => rfl) (fun x => ?_)
      refine g_goto (pc := 222) (tgt := 202) hk dX2_init_222 rfl ?_
      exact g_ls (ls' := [(0, .ref Γ.2.1), (1, .int x)]) ⟨rfl, rfl, trivial⟩ (ih τ1 x)
theorem ti_i1 (hk : KOK K cX2_init 2 RX2 rm_x_tw none) (hK : va_K Γ.1 tcl (ttys Γ) (kS K)) (hc : ∀ q, tAd Γ q → q = a ∨ (kS K).heap.size ≤ q) (h0 : Γ.2.1 = a) : ∀ (n : Nat) (τ : TS) (v : Int32), GGo K (tnQ K Γ a rm_x_tw) (T_i1 n τ v) 2 (TI Γ (kS K) τ) 15 73817 165 [(0, .ref Γ.2.1), (1, .int v)] [] := by
  subst h0
  intro n
  induction n with
  | zero => intro τ v; exact g_none
  | succ n ih =>
    intro τ v
    unfold T_i1
    refine g_iload_n (pc := 165) hk dX2_init_165 rfl ?_
    refine g_bipush (pc := 166) (v := 8) hk dX2_init_166 rfl ?_
    refine g_icmp_ge (pc := 168) (tgt := 200) hk dX2_init_168 rfl ?_ ?_
    · refine g_iconst (pc := 200) (v := 0) hk dX2_init_200 rfl ?_
      refine g_istore_n (pc := 201) (i := 1) hk dX2_init_201 rfl (by decide) rfl ?_
      exact g_ls (ls' := [(0, .ref Γ.2.1), (1, .int 0)]) ⟨rfl, rfl, trivial⟩ (ti_i2 hk hK hc rfl 65 τ 0)
    · refine g_aload_n (pc := 171) hk dX2_init_171 rfl ?_
      refine t_getR (pc := 172) hk hK tr_0 tf_0 dX2_init_172 ?_
      refine g_bipush (pc := 175) (v := 50) hk dX2_init_175 rfl ?_
      refine g_iload_n (pc := 177) hk dX2_init_177 rfl ?_
      refine g_iadd (pc := 178) hk dX2_init_178 ?_
      refine g_iload_n (pc := 179) hk dX2_init_179 rfl ?_
      refine g_iconst (pc := 180) (v := 1) hk dX2_init_180 rfl ?_
      refine g_ixor (pc := 181) hk dX2_init_181 ?_
      refine t_iast (pc := 182) hk hK ta_0 dX2_init_182 (fun τ1 => ?_)
      refine g_aload_n (pc := 183) hk dX2_init_183 rfl ?_
      refine t_getR (pc := 184) hk hK tr_0 tf_0 dX2_init_184 ?_
      refine g_sipush (pc := 187) (v := 206) hk dX2_init_187 rfl ?_
      refine g_iload_n (pc := 190) hk dX2_init_190 rfl ?_
      refine g_iadd (pc := 191) hk dX2_init_191 ?_
      refine g_iconst (pc := 192) (v := 1) hk dX2_init_192 rfl ?_
      refine t_iast (pc := 193) hk hK ta_0 dX2_init_193 (fun τ2 => ?_)
      refine g_iincN (pc := 194) (v := 1) (ls' := fun x => [(1, .int x), (0, .ref Γ.2.1)]) hk dX2_init_194 rfl rfl (by decide) (fun _ => rfl) (fun x => ?_)
      refine g_goto (pc := 197) (tgt := 165) hk dX2_init_197 rfl ?_
      exact g_ls (ls' := [(0, .ref Γ.2.1), (1, .int x)]) ⟨rfl, rfl, trivial⟩ (ih τ2 x)
end TWI
theorem tfs_0 {Γ : TG} {b : Nat} (hg : ∀ i, i < 15 → Γ.2.2.1 (tkey i) = b + i) : tfs Γ t00 = [.ref (b + 0), .ref (b + 1), .ref (b + 2), .ref (b + 3), .int 0, .int (-1), .int (-1), .int 0, .int 0, .int 0, .int 0, .long 0, .int 0, .int 0, .int 0, .ref (b + 4), .int 0, .int 0, .int 0, .int 0, .ref (b + 5), .ref (b + 6), .ref (b + 7), .int 1, .ref (b + 8), .ref (b + 9), .ref (b + 10), .int 0, .ref (b + 11), .ref (b + 12), .ref (b + 13), .ref (b + 14)] := by
  unfold tfs
  rw [show Γ.2.2.1 0 = b + 0 from hg 0 (by decide), show Γ.2.2.1 1 = b + 1 from hg 1 (by decide), show Γ.2.2.1 2 = b + 2 from hg 2 (by decide), show Γ.2.2.1 3 = b + 3 from hg 3 (by decide), show Γ.2.2.1 15 = b + 4 from hg 4 (by decide), show Γ.2.2.1 20 = b + 5 from hg 5 (by decide), show Γ.2.2.1 21 = b + 6 from hg 6 (by decide), show Γ.2.2.1 22 = b + 7 from hg 7 (by decide), show Γ.2.2.1 24 = b + 8 from hg 8 (by decide), show Γ.2.2.1 25 = b + 9 from hg 9 (by decide), show Γ.2.2.1 26 = b + 10 from hg 10 (by decide), show Γ.2.2.1 28 = b + 11 from hg 11 (by decide), show Γ.2.2.1 29 = b + 12 from hg 12 (by decide), show Γ.2.2.1 30 = b + 13 from hg 13 (by decide), show Γ.2.2.1 31 = b + 14 from hg 14 (by decide)]
  rfl
theorem ti_in {K : KT} {Γ : TG} {a b : Nat} {H : Heap} {locs : List Loc} (h0 : Γ.2.1 = a) (hg : ∀ i, i < 15 → Γ.2.2.1 (tkey i) = b + i) (hta : tAd Γ a) (ha : a < b) (hI : TNW Γ K a b [.ref (b + 0), .ref (b + 1), .ref (b + 2), .ref (b + 3), .int 0, .int (-1), .int (-1), .int 0, .int 0, .int 0, .int 0, .long 0, .int 0, .int 0, .int 0, .ref (b + 4), .int 0, .int 0, .int 0, .int 0, .ref (b + 5), .ref (b + 6), .ref (b + 7), .int 1, .ref (b + 8), .ref (b + 9), .ref (b + 10), .int 0, .ref (b + 11), .ref (b + 12), .ref (b + 13), .ref (b + 14)] 15 t00 H locs) : TI Γ (kS K) t00 H locs := by
  rw [← tfs_0 hg] at hI
  obtain ⟨h1, h2, h3, h4, h5⟩ := hI
  have hadr : ∀ i q, (tws Γ t00)[i]? = some q → (i = 0 ∧ q.1 = a) ∨ (0 < i ∧ i < 16 ∧ q.1 = b + (i - 1)) := fun i q hq => by
    rcases i with _ | i
    · cases hq; exact Or.inl ⟨rfl, h0⟩
    · obtain ⟨z1, z2⟩ := tws_adr hg i q hq
      exact Or.inr ⟨by omega, by omega, z2⟩
  refine ⟨fun i q hq => ?_, ⟨fun i j p q hp hq he => ?_, fun i q hq => ?_⟩, h1.1, fun q hq hn => h1.2 q hq (fun e9 => hn (by rw [e9]; exact hta)), h2⟩
  · rcases i with _ | i
    · cases hq
      rw [h0]
      exact h3
    · exact h5 i (tws_adr hg i q hq).1 q hq
  · rcases hadr i p hp with ⟨z1, z2⟩ | ⟨z1, z2, z3⟩ <;> rcases hadr j q hq with ⟨w1, w2⟩ | ⟨w1, w2, w3⟩ <;> omega
  · exact List.mem_map.mpr ⟨q, List.mem_of_getElem? hq, rfl⟩
theorem n_X2 {Γ : TG} {H0 : Heap} {a : Nat} {τ1 : TS} (h0 : Γ.2.1 = a) (hg : ∀ i, i < 15 → Γ.2.2.1 (tkey i) = H0.size + i) (hf : va_at Γ.1 tcl (a, .inr (0, fsT0)) H0) (hm : T_made = some τ1) : TNMet Γ yX2_init cX2_init 2 rm_x_tw [.ref a] H0 a (fun H1 => va_P Γ.1 tcl (tws Γ τ1) H1 ∧ va_D (tAd Γ) (tws Γ τ1)) := by
  refine tn_met (own := RX2) rfl (by decide) rfl (ls0 := [(0, .ref a)]) rfl (fun K hk hK hnm hH => ?_)
  subst h0
  generalize hb : H0.size = b at hg
  have ha : Γ.2.1 < b := by rw [← hb]; exact hf.lt
  have hb2 : b = (kS K).heap.size := by rw [hH, hb]
  have ci : (kS K).vm.findClass ("[" ++ (newarray.typeOf .int).toString) = some Γ.2.2.2.1 := (hK.2 0 _ rfl).2
  have cj : (kS K).vm.findClass ("[" ++ (newarray.typeOf .long).toString) = some Γ.2.2.2.2.1 := (hK.2 1 _ rfl).2
  have cz : (kS K).vm.findClass ("[" ++ (newarray.typeOf .boolean).toString) = some Γ.2.2.2.2.2 := (hK.2 2 _ rfl).2
  have hta : tAd Γ Γ.2.1 := by unfold tAd tadr; exact List.mem_cons_self
  have hkey : ∀ k, k ∈ [0, 1, 2, 3, 15, 20, 21, 22, 24, 25, 26, 28, 29, 30, 31] → ∃ i, i < 15 ∧ tkey i = k := by decide
  have hc : ∀ q, tAd Γ q → q = Γ.2.1 ∨ (kS K).heap.size ≤ q := fun q hq => by
    unfold tAd tadr at hq
    rcases List.mem_cons.mp hq with h | h
    · exact Or.inl h
    · refine Or.inr ?_
      have : ∃ k, k ∈ [0, 1, 2, 3, 15, 20, 21, 22, 24, 25, 26, 28, 29, 30, 31] ∧ q = Γ.2.2.1 k := by
        simp only [List.mem_cons, List.not_mem_nil, or_false] at h
        rcases h with h | h | h | h | h | h | h | h | h | h | h | h | h | h | h <;> exact ⟨_, by decide, h⟩
      obtain ⟨k, hk9, rfl⟩ := this
      obtain ⟨i, hi, rfl⟩ := hkey k hk9
      rw [hg i hi]; omega
  refine g_cmp (Q := tnQ K Γ Γ.2.1 rm_x_tw) (comp := T_made) hm rfl ?_
  refine g_I (I' := TNW Γ K Γ.2.1 b fsT0 0 t00) (fun H locs hI => ?_) ?_
  · obtain ⟨rfl, rfl⟩ := hI
    exact ⟨pFr.rf, (fun _ h => by cases h), by rw [hH]; exact hf, by rw [hH, hb]; rfl, fun i hi => absurd hi (Nat.not_lt_zero _)⟩
  refine g_aload_n (pc := 0) hk dX2_init_0 rfl ?_
  refine x_objI (pc := 1) hk q1369 q164 q165 rfl rfl rfl dX2_init_1 ?_
  refine g_aload_n (pc := 4) hk dX2_init_4 rfl ?_
  refine g_sipush (pc := 5) (v := 2030) hk dX2_init_5 rfl ?_
  refine tn_newa (pc := 8) (atype := .int) (N := 2030) (k := 0) hk hg q224 ci rfl (by decide) (by decide) rfl (by decide) (fun H h => h) (by decide) (by decide) dX2_init_8 ?_
  refine tn_putF (pc := 10) (fs' := [.ref (b + 0), .null, .null, .null, .int 0, .int 0, .int 0, .int 0, .int 0, .int 0, .int 0, .long 0, .int 0, .int 0, .int 0, .null, .int 0, .int 0, .int 0, .int 0, .null, .null, .null, .int 0, .null, .null, .null, .int 0, .null, .null, .null, .null]) hk hK hg hta ha 0 7 (by decide) q1374 rfl rfl hnm rfl rfl rfl rfl dX2_init_10 ?_
  refine g_aload_n (pc := 13) hk dX2_init_13 rfl ?_
  refine g_sipush (pc := 14) (v := 2030) hk dX2_init_14 rfl ?_
  refine tn_newa (pc := 17) (atype := .int) (N := 2030) (k := 1) hk hg q224 ci rfl (by decide) (by decide) rfl (by decide) (fun H h => h) (by decide) (by decide) dX2_init_17 ?_
  refine tn_putF (pc := 19) (fs' := [.ref (b + 0), .ref (b + 1), .null, .null, .int 0, .int 0, .int 0, .int 0, .int 0, .int 0, .int 0, .long 0, .int 0, .int 0, .int 0, .null, .int 0, .int 0, .int 0, .int 0, .null, .null, .null, .int 0, .null, .null, .null, .int 0, .null, .null, .null, .null]) hk hK hg hta ha 1 13 (by decide) q1375 rfl rfl hnm rfl rfl rfl rfl dX2_init_19 ?_
  refine g_aload_n (pc := 22) hk dX2_init_22 rfl ?_
  refine g_sipush (pc := 23) (v := 2724) hk dX2_init_23 rfl ?_
  refine tn_newa (pc := 26) (atype := .int) (N := 2724) (k := 2) hk hg q224 ci rfl (by decide) (by decide) rfl (by decide) (fun H h => h) (by decide) (by decide) dX2_init_26 ?_
  refine tn_putF (pc := 28) (fs' := [.ref (b + 0), .ref (b + 1), .ref (b + 2), .null, .int 0, .int 0, .int 0, .int 0, .int 0, .int 0, .int 0, .long 0, .int 0, .int 0, .int 0, .null, .int 0, .int 0, .int 0, .int 0, .null, .null, .null, .int 0, .null, .null, .null, .int 0, .null, .null, .null, .null]) hk hK hg hta ha 2 16 (by decide) q1376 rfl rfl hnm rfl rfl rfl rfl dX2_init_28 ?_
  refine g_aload_n (pc := 31) hk dX2_init_31 rfl ?_
  refine g_sipush (pc := 32) (v := 300) hk dX2_init_32 rfl ?_
  refine tn_newa (pc := 35) (atype := .int) (N := 300) (k := 3) hk hg q224 ci rfl (by decide) (by decide) rfl (by decide) (fun H h => h) (by decide) (by decide) dX2_init_35 ?_
  refine tn_putF (pc := 37) (fs' := [.ref (b + 0), .ref (b + 1), .ref (b + 2), .ref (b + 3), .int 0, .int 0, .int 0, .int 0, .int 0, .int 0, .int 0, .long 0, .int 0, .int 0, .int 0, .null, .int 0, .int 0, .int 0, .int 0, .null, .null, .null, .int 0, .null, .null, .null, .int 0, .null, .null, .null, .null]) hk hK hg hta ha 3 19 (by decide) q1377 rfl rfl hnm rfl rfl rfl rfl dX2_init_37 ?_
  refine g_aload_n (pc := 40) hk dX2_init_40 rfl ?_
  refine g_iconst (pc := 41) (v := (-1)) hk dX2_init_41 rfl ?_
  refine tn_put (pc := 42) (fs' := [.ref (b + 0), .ref (b + 1), .ref (b + 2), .ref (b + 3), .int 0, .int (-1), .int 0, .int 0, .int 0, .int 0, .int 0, .long 0, .int 0, .int 0, .int 0, .null, .int 0, .int 0, .int 0, .int 0, .null, .null, .null, .int 0, .null, .null, .null, .int 0, .null, .null, .null, .null]) hk hK hg hta ha 5 22 (by decide) q1379 rfl rfl rfl rfl rfl rfl dX2_init_42 ?_
  refine g_aload_n (pc := 45) hk dX2_init_45 rfl ?_
  refine g_iconst (pc := 46) (v := (-1)) hk dX2_init_46 rfl ?_
  refine tn_put (pc := 47) (fs' := [.ref (b + 0), .ref (b + 1), .ref (b + 2), .ref (b + 3), .int 0, .int (-1), .int (-1), .int 0, .int 0, .int 0, .int 0, .long 0, .int 0, .int 0, .int 0, .null, .int 0, .int 0, .int 0, .int 0, .null, .null, .null, .int 0, .null, .null, .null, .int 0, .null, .null, .null, .null]) hk hK hg hta ha 6 26 (by decide) q1380 rfl rfl rfl rfl rfl rfl dX2_init_47 ?_
  refine g_aload_n (pc := 50) hk dX2_init_50 rfl ?_
  refine g_sipush (pc := 51) (v := 160) hk dX2_init_51 rfl ?_
  refine tn_newa (pc := 54) (atype := .int) (N := 160) (k := 4) hk hg q224 ci rfl (by decide) (by decide) rfl (by decide) (fun H h => h) (by decide) (by decide) dX2_init_54 ?_
  refine tn_putF (pc := 56) (fs' := [.ref (b + 0), .ref (b + 1), .ref (b + 2), .ref (b + 3), .int 0, .int (-1), .int (-1), .int 0, .int 0, .int 0, .int 0, .long 0, .int 0, .int 0, .int 0, .ref (b + 4), .int 0, .int 0, .int 0, .int 0, .null, .null, .null, .int 0, .null, .null, .null, .int 0, .null, .null, .null, .null]) hk hK hg hta ha 15 29 (by decide) q1389 rfl rfl hnm rfl rfl rfl rfl dX2_init_56 ?_
  refine g_aload_n (pc := 59) hk dX2_init_59 rfl ?_
  refine g_bipush (pc := 60) (v := 7) hk dX2_init_60 rfl ?_
  refine tn_newa (pc := 62) (atype := .int) (N := 7) (k := 5) hk hg q224 ci rfl (by decide) (by decide) rfl (by decide) (fun H h => h) (by decide) (by decide) dX2_init_62 ?_
  refine tn_putF (pc := 64) (fs' := [.ref (b + 0), .ref (b + 1), .ref (b + 2), .ref (b + 3), .int 0, .int (-1), .int (-1), .int 0, .int 0, .int 0, .int 0, .long 0, .int 0, .int 0, .int 0, .ref (b + 4), .int 0, .int 0, .int 0, .int 0, .ref (b + 5), .null, .null, .int 0, .null, .null, .null, .int 0, .null, .null, .null, .null]) hk hK hg hta ha 20 32 (by decide) q1394 rfl rfl hnm rfl rfl rfl rfl dX2_init_64 ?_
  refine g_aload_n (pc := 67) hk dX2_init_67 rfl ?_
  refine g_sipush (pc := 68) (v := 330) hk dX2_init_68 rfl ?_
  refine tn_newa (pc := 71) (atype := .long) (N := 330) (k := 6) hk hg q1471 cj rfl (by decide) (by decide) rfl (by decide) (fun H h => h) (by decide) (by decide) dX2_init_71 ?_
  refine tn_putF (pc := 73) (fs' := [.ref (b + 0), .ref (b + 1), .ref (b + 2), .ref (b + 3), .int 0, .int (-1), .int (-1), .int 0, .int 0, .int 0, .int 0, .long 0, .int 0, .int 0, .int 0, .ref (b + 4), .int 0, .int 0, .int 0, .int 0, .ref (b + 5), .ref (b + 6), .null, .int 0, .null, .null, .null, .int 0, .null, .null, .null, .null]) hk hK hg hta ha 21 35 (by decide) q1395 rfl rfl hnm rfl rfl rfl rfl dX2_init_73 ?_
  refine g_aload_n (pc := 76) hk dX2_init_76 rfl ?_
  refine g_sipush (pc := 77) (v := 330) hk dX2_init_77 rfl ?_
  refine tn_newa (pc := 80) (atype := .boolean) (N := 330) (k := 7) hk hg q1472 cz rfl (by decide) (by decide) rfl (by decide) (fun H h => h) (by decide) (by decide) dX2_init_80 ?_
  refine tn_putF (pc := 82) (fs' := [.ref (b + 0), .ref (b + 1), .ref (b + 2), .ref (b + 3), .int 0, .int (-1), .int (-1), .int 0, .int 0, .int 0, .int 0, .long 0, .int 0, .int 0, .int 0, .ref (b + 4), .int 0, .int 0, .int 0, .int 0, .ref (b + 5), .ref (b + 6), .ref (b + 7), .int 0, .null, .null, .null, .int 0, .null, .null, .null, .null]) hk hK hg hta ha 22 39 (by decide) q1396 rfl rfl hnm rfl rfl rfl rfl dX2_init_82 ?_
  refine g_aload_n (pc := 85) hk dX2_init_85 rfl ?_
  refine g_iconst (pc := 86) (v := 1) hk dX2_init_86 rfl ?_
  refine tn_put (pc := 87) (fs' := [.ref (b + 0), .ref (b + 1), .ref (b + 2), .ref (b + 3), .int 0, .int (-1), .int (-1), .int 0, .int 0, .int 0, .int 0, .long 0, .int 0, .int 0, .int 0, .ref (b + 4), .int 0, .int 0, .int 0, .int 0, .ref (b + 5), .ref (b + 6), .ref (b + 7), .int 1, .null, .null, .null, .int 0, .null, .null, .null, .null]) hk hK hg hta ha 23 43 (by decide) q1397 rfl rfl rfl rfl rfl rfl dX2_init_87 ?_
  refine g_aload_n (pc := 90) hk dX2_init_90 rfl ?_
  refine g_bipush (pc := 91) (v := 50) hk dX2_init_91 rfl ?_
  refine tn_newa (pc := 93) (atype := .int) (N := 50) (k := 8) hk hg q224 ci rfl (by decide) (by decide) rfl (by decide) (fun H h => h) (by decide) (by decide) dX2_init_93 ?_
  refine tn_putF (pc := 95) (fs' := [.ref (b + 0), .ref (b + 1), .ref (b + 2), .ref (b + 3), .int 0, .int (-1), .int (-1), .int 0, .int 0, .int 0, .int 0, .long 0, .int 0, .int 0, .int 0, .ref (b + 4), .int 0, .int 0, .int 0, .int 0, .ref (b + 5), .ref (b + 6), .ref (b + 7), .int 1, .ref (b + 8), .null, .null, .int 0, .null, .null, .null, .null]) hk hK hg hta ha 24 47 (by decide) q1398 rfl rfl hnm rfl rfl rfl rfl dX2_init_95 ?_
  refine g_aload_n (pc := 98) hk dX2_init_98 rfl ?_
  refine g_bipush (pc := 99) (v := 8) hk dX2_init_99 rfl ?_
  refine tn_newa (pc := 101) (atype := .int) (N := 8) (k := 9) hk hg q224 ci rfl (by decide) (by decide) rfl (by decide) (fun H h => h) (by decide) (by decide) dX2_init_101 ?_
  refine tn_putF (pc := 103) (fs' := [.ref (b + 0), .ref (b + 1), .ref (b + 2), .ref (b + 3), .int 0, .int (-1), .int (-1), .int 0, .int 0, .int 0, .int 0, .long 0, .int 0, .int 0, .int 0, .ref (b + 4), .int 0, .int 0, .int 0, .int 0, .ref (b + 5), .ref (b + 6), .ref (b + 7), .int 1, .ref (b + 8), .ref (b + 9), .null, .int 0, .null, .null, .null, .null]) hk hK hg hta ha 25 50 (by decide) q1399 rfl rfl hnm rfl rfl rfl rfl dX2_init_103 ?_
  refine g_aload_n (pc := 106) hk dX2_init_106 rfl ?_
  refine g_ldc (pc := 107) (v := 65536) hk q1370 dX2_init_107 ?_
  refine tn_newa (pc := 109) (atype := .int) (N := 65536) (k := 10) hk hg q224 ci rfl (by decide) (by decide) rfl (by decide) (fun H h => h) (by decide) (by decide) dX2_init_109 ?_
  refine tn_putF (pc := 111) (fs' := [.ref (b + 0), .ref (b + 1), .ref (b + 2), .ref (b + 3), .int 0, .int (-1), .int (-1), .int 0, .int 0, .int 0, .int 0, .long 0, .int 0, .int 0, .int 0, .ref (b + 4), .int 0, .int 0, .int 0, .int 0, .ref (b + 5), .ref (b + 6), .ref (b + 7), .int 1, .ref (b + 8), .ref (b + 9), .ref (b + 10), .int 0, .null, .null, .null, .null]) hk hK hg hta ha 26 54 (by decide) q1400 rfl rfl hnm rfl rfl rfl rfl dX2_init_111 ?_
  refine g_aload_n (pc := 114) hk dX2_init_114 rfl ?_
  refine g_iconst (pc := 115) (v := 5) hk dX2_init_115 rfl ?_
  refine tn_newa (pc := 116) (atype := .int) (N := 5) (k := 11) hk hg q224 ci rfl (by decide) (by decide) rfl (by decide) (fun H h => h) (by decide) (by decide) dX2_init_116 ?_
  refine tn_putF (pc := 118) (fs' := [.ref (b + 0), .ref (b + 1), .ref (b + 2), .ref (b + 3), .int 0, .int (-1), .int (-1), .int 0, .int 0, .int 0, .int 0, .long 0, .int 0, .int 0, .int 0, .ref (b + 4), .int 0, .int 0, .int 0, .int 0, .ref (b + 5), .ref (b + 6), .ref (b + 7), .int 1, .ref (b + 8), .ref (b + 9), .ref (b + 10), .int 0, .ref (b + 11), .null, .null, .null]) hk hK hg hta ha 28 57 (by decide) q1402 rfl rfl hnm rfl rfl rfl rfl dX2_init_118 ?_
  refine g_aload_n (pc := 121) hk dX2_init_121 rfl ?_
  refine g_sipush (pc := 122) (v := 256) hk dX2_init_122 rfl ?_
  refine tn_newa (pc := 125) (atype := .int) (N := 256) (k := 12) hk hg q224 ci rfl (by decide) (by decide) rfl (by decide) (fun H h => h) (by decide) (by decide) dX2_init_125 ?_
  refine tn_putF (pc := 127) (fs' := [.ref (b + 0), .ref (b + 1), .ref (b + 2), .ref (b + 3), .int 0, .int (-1), .int (-1), .int 0, .int 0, .int 0, .int 0, .long 0, .int 0, .int 0, .int 0, .ref (b + 4), .int 0, .int 0, .int 0, .int 0, .ref (b + 5), .ref (b + 6), .ref (b + 7), .int 1, .ref (b + 8), .ref (b + 9), .ref (b + 10), .int 0, .ref (b + 11), .ref (b + 12), .null, .null]) hk hK hg hta ha 29 60 (by decide) q1403 rfl rfl hnm rfl rfl rfl rfl dX2_init_127 ?_
  refine g_aload_n (pc := 130) hk dX2_init_130 rfl ?_
  refine g_bipush (pc := 131) (v := 8) hk dX2_init_131 rfl ?_
  refine tn_newa (pc := 133) (atype := .int) (N := 8) (k := 13) hk hg q224 ci rfl (by decide) (by decide) rfl (by decide) (fun H h => h) (by decide) (by decide) dX2_init_133 ?_
  refine tn_putF (pc := 135) (fs' := [.ref (b + 0), .ref (b + 1), .ref (b + 2), .ref (b + 3), .int 0, .int (-1), .int (-1), .int 0, .int 0, .int 0, .int 0, .long 0, .int 0, .int 0, .int 0, .ref (b + 4), .int 0, .int 0, .int 0, .int 0, .ref (b + 5), .ref (b + 6), .ref (b + 7), .int 1, .ref (b + 8), .ref (b + 9), .ref (b + 10), .int 0, .ref (b + 11), .ref (b + 12), .ref (b + 13), .null]) hk hK hg hta ha 30 63 (by decide) q1404 rfl rfl hnm rfl rfl rfl rfl dX2_init_135 ?_
  refine g_aload_n (pc := 138) hk dX2_init_138 rfl ?_
  refine g_bipush (pc := 139) (v := 9) hk dX2_init_139 rfl ?_
  refine tn_newa (pc := 141) (atype := .long) (N := 9) (k := 14) hk hg q1471 cj rfl (by decide) (by decide) rfl (by decide) (fun H h => h) (by decide) (by decide) dX2_init_141 ?_
  refine tn_putF (pc := 143) (fs' := [.ref (b + 0), .ref (b + 1), .ref (b + 2), .ref (b + 3), .int 0, .int (-1), .int (-1), .int 0, .int 0, .int 0, .int 0, .long 0, .int 0, .int 0, .int 0, .ref (b + 4), .int 0, .int 0, .int 0, .int 0, .ref (b + 5), .ref (b + 6), .ref (b + 7), .int 1, .ref (b + 8), .ref (b + 9), .ref (b + 10), .int 0, .ref (b + 11), .ref (b + 12), .ref (b + 13), .ref (b + 14)]) hk hK hg hta ha 31 66 (by decide) q1405 rfl rfl hnm rfl rfl rfl rfl dX2_init_143 ?_
  refine g_widen (cs' := 15) (sl' := 73817) (by decide) (by decide) ?_
  refine g_I (I' := TI Γ (kS K) t00) (fun H locs hI => ti_in rfl hg hta ha hI) ?_
  refine g_aload_n (pc := 146) hk dX2_init_146 rfl ?_
  refine t_getR (pc := 147) hk hK tr_0 tf_0 dX2_init_147 ?_
  refine g_bipush (pc := 150) (v := 8) hk dX2_init_150 rfl ?_
  refine g_sipush (pc := 152) (v := 223) hk dX2_init_152 rfl ?_
  unfold T_made
  refine t_iastC (pc := 155) (j := 8) hk hK ta_0 rfl rfl dX2_init_155 (fun τa => ?_)
  refine g_aload_n (pc := 156) hk dX2_init_156 rfl ?_
  refine t_getR (pc := 157) hk hK tr_0 tf_0 dX2_init_157 ?_
  refine g_iconst (pc := 160) (v := 2) hk dX2_init_160 rfl ?_
  refine g_iconst (pc := 161) (v := (-1)) hk dX2_init_161 rfl ?_
  refine t_iastC (pc := 162) (j := 2) hk hK ta_0 rfl rfl dX2_init_162 (fun τb => ?_)
  refine g_iconst (pc := 163) (v := 0) hk dX2_init_163 rfl ?_
  refine g_istore_n (pc := 164) (i := 1) hk dX2_init_164 rfl (by decide) rfl ?_
  refine g_ls (ls' := [(0, .ref Γ.2.1), (1, .int 0)]) ⟨rfl, rfl, trivial⟩ ?_
  exact ti_i1 hk hK hc rfl 9 τb 0
