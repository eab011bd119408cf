/-! THE TWIN's constructor (made by mkdx38.py) -/
set_option maxRecDepth 100000
section VPT
variable {ρ : Type} {K : KT} {Q : ρ → State → Prop} {comp A B : Option ρ} {nL : Nat} {I : Heap → List Loc → Prop} {cs sl pc : Nat} {ls : List (Nat × Value)} {st : List Value} {cc : ByteArray} {rm : Room} {ret : Option FieldType} {own : String} {D : va_G} {cl : List vw_C} {tys : List (ClassId × FieldType)}
theorem v_put (hk : KOK K cc nL own rm ret) (hK : va_K D cl tys (kS K)) {ci N idx : Nat} {C ref : String} {T : u_T} {fs : List Value} {a : Nat} {v : Value} (hc : cl[ci]? = some (C, T, N)) (hin : ∀ w ∈ u_ws C T N, w ∈ lw_all) (ty0 : Nat → FieldType) (hty : ∀ k, k < N → parseFieldDescriptor (T k).2.2.1 = some (ty0 k)) (hnm : ∀ a, a < N → ∀ b, b < N → a ≠ b → (T a).2.1 ≠ (T b).2.1) (ha : ∀ H locs, I H locs → va_at (D) cl (a, .inr (ci, fs)) H) (k : Nat) (hkN : k < N) (hl : Cond.fieldLink own idx ref (T k).2.1 (T k).2.2.1 ∈ lw_all) (hs : (T k).1 = ref) (hfin : (T k).2.2.2 = false) (hn : narrow (ty0 k) v = v) (hfit : fits (ty0 k) v = true) (hkl : k < fs.length) (hd : decode cc pc = .ok (.putfield idx, 3))
    (kk : GGo K Q comp nL (fun H1 locs1 => ∃ H locs, I H locs ∧ va_at (D) cl (a, .inr (ci, fs.set k v)) H1 ∧ H1.size = H.size ∧ (∀ q : Nat, q ≠ a → H1[q]? = H[q]?) ∧ ∀ l ∈ locs1, l ∈ locs ∨ l.base = a) cs sl (pc + 3) ls st) : GGo K Q comp nL I cs sl pc ls (v :: .ref a :: st) := by
  intro r hr H locs lsA hI hh
  refine c_put0 (D := D) (ci := ci) (v := v) (ty := ty0 k) (C := C) (T := T) (N := N) hk.1 hk.2.1 hk.2.2.2.2.1 hin ty0 hty hnm hk.2.2.2.1 hK (ha H locs hI) hc k hkN (hk.2.2.2.2.1 _ hl) (fun _ h9 => by rw [← hs]; exact h9) hfin (hty k hkN) hn hfit hkl hd (fun H1 locs1 hP hz oq hlo => ?_)
  exact kk r hr H1 locs1 lsA ⟨H, locs, hI, hP, hz, oq, hlo⟩ hh
theorem v_putF (hk : KOK K cc nL own rm ret) (hK : va_K D cl tys (kS K)) {ci N idx : Nat} {C ref : String} {T : u_T} {fs : List Value} {a : Nat} {v : Value} (hc : cl[ci]? = some (C, T, N)) (hin : ∀ w ∈ u_ws C T N, w ∈ lw_all) (ty0 : Nat → FieldType) (hty : ∀ k, k < N → parseFieldDescriptor (T k).2.2.1 = some (ty0 k)) (hnm : ∀ a, a < N → ∀ b, b < N → a ≠ b → (T a).2.1 ≠ (T b).2.1) (ha : ∀ H locs, I H locs → va_at (D) cl (a, .inr (ci, fs)) H) (k : Nat) (hkN : k < N) (hl : Cond.fieldLink own idx ref (T k).2.1 (T k).2.2.1 ∈ lw_all) (hs : (T k).1 = ref) (hfin : (T k).2.2.2 = true) (hin2 : (kMe K).name = "<init>") (hdecl : (T k).1 = own) (hn : narrow (ty0 k) v = v) (hfit : fits (ty0 k) v = true) (hkl : k < fs.length) (hd : decode cc pc = .ok (.putfield idx, 3))
    (kk : GGo K Q comp nL (fun H1 locs1 => ∃ H locs, I H locs ∧ va_at (D) cl (a, .inr (ci, fs.set k v)) H1 ∧ H1.size = H.size ∧ (∀ q : Nat, q ≠ a → H1[q]? = H[q]?) ∧ ∀ l ∈ locs1, l ∈ locs ∨ l.base = a) cs sl (pc + 3) ls st) : GGo K Q comp nL I cs sl pc ls (v :: .ref a :: st) := by
  intro r hr H locs lsA hI hh
  have hts := hk.2.2.2.2.1
  have hown := hk.2.2.2.1
  have hap := va_apart (own := own) hts hin ty0 hty hnm hK hc
  obtain ⟨r0, h1, cell, q1, q2, q3, q4⟩ := ha H locs hI
  have hr0 : r0 = (C, T, N) := Option.some.inj (h1.symm.trans hc)
  subst hr0
  obtain ⟨hS, hfc, kC, hkC, hkind⟩ := hK.1 ci _ hc
  obtain ⟨cf, kf, fi, f, hi, hsl⟩ := hS k hkN
  have hlay := hts _ (hin _ (u_in_lay hkN))
  unfold u_lay at hlay
  rw [if_pos hfin] at hlay
  have hst := (u_facts hfc hkC (u_lays hts hin hkN) hi).1
  have hcf : (kM K).cls = cf := by
    obtain ⟨_, _, c', _, _, _, -, -, hf', -, -, -, hown2, -⟩ := Cond.laysFinal_spec hlay
    have e1 : c' = cf := by have := hi.symm.trans hf'; simp at this; exact this.1.symm
    rw [hdecl] at hown2
    rw [← e1]; exact Option.some.inj (hown.symm.trans hown2)
  have h6 := u_fits hfc hkC hkind (Or.inr hlay) hi (hty k hkN) hn hfit
  refine W.putFinK hk.1 hk.2.1 hown (hts _ hl) (by rw [← hs]; exact hi) hst hcf hin2 (by rw [q2]; exact h6) q1 q3 (by rw [hsl]; exact k2_hasslot (q4 k hkN)) rfl rfl hd fun H' e1 e2 e3 => ?_
  rw [hsl] at e1
  exact kk r hr H' _ lsA ⟨H, locs, hI, ⟨_, hc, t_OB.to (V := updV (vp_V fs) k v) ⟨_, e1, q2, q3, t_set q4 hap hkN v⟩ (fun j _ => vp_updV_set hkl v j)⟩, e2, e3, fun l hl => (List.mem_append.mp hl).elim Or.inl (fun h => Or.inr (by rw [List.mem_singleton.mp h]))⟩ hh
end VPT
def TNMet (Γ : TG) (y : MethodName) (bytes : ByteArray) (maxL : Nat) (rm : Room) (av : List Value) (H0 : Heap) (a : Nat) (R : Heap → Prop) : Prop :=
  ∀ l : Launch, Met l y (ws_ y bytes maxL none) rm (va_Pc av (fun U => U.heap = H0 ∧ va_K Γ.1 tcl (ttys Γ) U)) (fun _ _ o t => o = .returned none ∧ R t.heap ∧ pFr a H0 t.heap) rm.cells rm.slots (xFr a H0.size)
theorem tn_met {Γ : TG} {y : MethodName} {bytes : ByteArray} {maxL : Nat} {rm : Room} {av : List Value} {H0 : Heap} {a : Nat} {R : Heap → Prop} {ls0 : List (Nat × Value)} {own : String} (hc : y.cls = own) (hpl : plainName own = true) (hl : Nat.ble (lg_sl av).length maxL = true) (hls : lv_args 0 av = ls0)
    (body : ∀ K : KT, KOK K bytes maxL own rm none → va_K Γ.1 tcl (ttys Γ) (kS K) → (kMe K).name = y.name → (kS K).heap = H0 → GGo K (nQ K a rm (fun _ : Unit => R)) (some ()) maxL (pI K) 0 0 0 ls0 []) : TNMet Γ y bytes maxL rm av H0 a R := by
  intro l
  subst hls
  refine Met.ofW (cc := bytes) (maxL := maxL) (ret := none) (by rw [hc]; exact hpl) rfl ?_
  intro p e s m args below meth c s₁ B hml hv
  obtain ⟨rfl, hH, hKK⟩ := hv
  subst hH
  have hts := atoms_spec (ws := ws_ y bytes maxL none) B.pre
  have hown : s.vm.findClass y.cls = some m.cls := findClass_of_methodNamed B.named
  rw [hc] at hown
  rw [lg_entry_eq]
  exact body (p, l, e, (headSpec (ws_ y bytes maxL none) rm).room, s, m, av.toArray, below, meth, c) ⟨B.exec, B.bytes, hml, hown, fun w h => hts w (List.mem_cons_of_mem _ h), B.notSynchronized, B.returns, rfl⟩ hKK (name_of_methodNamed B.named B.method).1 rfl () rfl s.heap [] _ ⟨rfl, rfl⟩ (lv_entry av (Nat.le_of_ble_eq_true hl))
def tkey (i : Nat) : Nat := [0, 1, 2, 3, 15, 20, 21, 22, 24, 25, 26, 28, 29, 30, 31].getD i 0
def TNW (Γ : TG) (K : KT) (a b : Nat) (fs : List Value) (k : Nat) (τ : TS) : Heap → List Loc → Prop := fun H locs => pFr a (kS K).heap H ∧ (∀ l ∈ locs, tAd Γ l.base) ∧ va_at Γ.1 tcl (a, .inr (0, fs)) H ∧ H.size = b + k ∧ ∀ i, i < k → ∀ q, (tws Γ τ)[i + 1]? = some q → va_at Γ.1 tcl q H
theorem tws_adr {Γ : TG} {τ : TS} {b : Nat} (hg : ∀ i, i < 15 → Γ.2.2.1 (tkey i) = b + i) : ∀ i q, (tws Γ τ)[i + 1]? = some q → i < 15 ∧ q.1 = b + i := by
  intro i q h
  have hi : i < 15 := by
    have := (List.getElem?_eq_some_iff.mp h).1
    have e : (tws Γ τ).length = 16 := rfl
    omega
  refine ⟨hi, ?_⟩
  rw [← hg i hi]
  rcases (show i = 0 ∨ i = 1 ∨ i = 2 ∨ i = 3 ∨ i = 4 ∨ i = 5 ∨ i = 6 ∨ i = 7 ∨ i = 8 ∨ i = 9 ∨ i = 10 ∨ i = 11 ∨ i = 12 ∨ i = 13 ∨ i = 14 by omega) with rfl | rfl | rfl | rfl | rfl | rfl | rfl | rfl | rfl | rfl | rfl | rfl | rfl | rfl | rfl <;> (cases h; rfl)
section TNR
variable {ρ : Type} {K : KT} {Q : ρ → State → Prop} {comp A B : Option ρ} {nL : Nat} {cs sl pc : Nat} {ls : List (Nat × Value)} {st : List Value} {cc : ByteArray} {rm : Room} {ret : Option FieldType} {Γ : TG} {own : String} {a b k : Nat} {fs : List Value} {τ : TS}
theorem tn_newa (hk : KOK K cc nL own rm ret) (hg : ∀ i, i < 15 → Γ.2.2.1 (tkey i) = b + i) {atype : ArrayType} (harr : Cond.arrayClass (newarray.typeOf atype) ∈ lw_all) {ct : ClassId} (hct : (kS K).vm.findClass ("[" ++ (newarray.typeOf atype).toString) = some ct) {N : Nat} {n : Int32} (hn : n = nI N) (hN : N < 100000) (hbt : N * componentBytes (newarray.typeOf atype) ≤ 536870912) {e0 : va_E} (hq : (tws Γ τ)[k + 1]? = some (Γ.2.2.1 (tkey k), e0)) (hk15 : k < 15) (he0 : ∀ H : Heap, H[b + k]? = some (arrV ct N (fun _ => defaultValue (newarray.typeOf atype))) → va_at Γ.1 tcl (b + k, e0) H) (hc : cs + 1 ≤ rm.cells) (hs : sl + N ≤ rm.slots) (hd : decode cc pc = .ok (.newarray atype, 2)) (kk : GGo K Q comp nL (TNW Γ K a b fs (k + 1) τ) (cs + 1) (sl + N) (pc + 2) ls (.ref (b + k) :: st)) : GGo K Q comp nL (TNW Γ K a b fs k τ) cs sl pc ls (.int n :: st) := by
  subst hn
  intro r hr H locs lsA hI hh
  refine va_newaK (N := N) hk.1 hk.2.1 (hk.2.2.2.2.1 _ harr) rfl hd rfl (nI_pos (by omega)) (nI_clamp (by omega)) hbt (by show _ ≤ (kR K).cells; rw [hk.2.2.2.2.2.2.2]; exact hc) (by show _ ≤ (kR K).slots; rw [hk.2.2.2.2.2.2.2]; exact hs) rfl (fun H1 cA e z oq hA hf => ?_)
  cases Option.some.inj (hf.symm.trans hct)
  obtain ⟨h1, h2, h3, h4, h5⟩ := hI
  rw [h4] at e ⊢
  refine kk r hr H1 locs lsA ⟨h1.trans ⟨by omega, fun q hq9 _ => oq q hq9⟩, h2, h3.kept (oq _ h3.lt), by omega, fun i hi q hq9 => ?_⟩ hh
  rcases Nat.lt_or_ge i k with h | h
  · have hx := (tws_adr hg i q hq9).2
    have hy := h5 i h q hq9
    obtain ⟨qa, qe⟩ := q
    dsimp only at hx
    subst hx
    exact hy.kept (oq _ (by omega))
  · obtain rfl : i = k := by omega
    rw [hq] at hq9
    cases hq9
    rw [hg i hk15]
    exact he0 H1 e
theorem tn_keep (hg : ∀ i, i < 15 → Γ.2.2.1 (tkey i) = b + i) (ha : a < b) {H H1 : Heap} (h : ∀ i, i < k → ∀ q, (tws Γ τ)[i + 1]? = some q → va_at Γ.1 tcl q H) (ho : ∀ q : Nat, q ≠ a → H1[q]? = H[q]?) : ∀ i, i < k → ∀ q, (tws Γ τ)[i + 1]? = some q → va_at Γ.1 tcl q H1 := fun i hi q hq => by
  have hx := (tws_adr hg i q hq).2
  have hy := h i hi q hq
  obtain ⟨qa, qe⟩ := q
  dsimp only at hx
  subst hx
  exact hy.kept (ho _ (by omega))
theorem tn_putF {fs' : List Value} (hk : KOK K cc nL RX2 rm ret) (hK : va_K Γ.1 tcl (ttys Γ) (kS K)) (hg : ∀ i, i < 15 → Γ.2.2.1 (tkey i) = b + i) (hta : tAd Γ a) (ha : a < b) {v : Value} (j idx : Nat) (hj : j < 32) (hl : Cond.fieldLink RX2 idx RX2 (TX2 j).2.1 (TX2 j).2.2.1 ∈ lw_all) (hs : (TX2 j).1 = RX2) (hfin : (TX2 j).2.2.2 = true) (hnm : (kMe K).name = "<init>") (hn : narrow (tyX2 j) v = v) (hfit : fits (tyX2 j) v = true) (hkl : fs.length = 32) (hfs : fs.set j v = fs') (hd : decode cc pc = .ok (.putfield idx, 3)) (kk : GGo K Q comp nL (TNW Γ K a b fs' k τ) cs sl (pc + 3) ls st) : GGo K Q comp nL (TNW Γ K a b fs k τ) cs sl pc ls (v :: .ref a :: st) := by
  subst hfs
  refine v_putF (D := Γ.1) (cl := tcl) (ci := 0) (fs := fs) (ref := RX2) hk hK rfl in_X2 tyX2 tyX2_ok nmX2 (fun H locs h => h.2.2.1) j hj hl hs hfin hnm hs hn hfit (by omega) hd ?_
  refine g_I (fun H1 locs1 hI => ?_) kk
  obtain ⟨H, locs, ⟨h1, h2, -, h4, h5⟩, h6, h7, h8, h9⟩ := hI
  exact ⟨h1.trans ⟨by omega, fun q _ hq => h8 q hq⟩, fun l hl => (h9 l hl).elim (h2 l) (fun e => by rw [e]; exact hta), h6, by omega, tn_keep hg ha h5 h8⟩
theorem tn_put {fs' : List Value} (hk : KOK K cc nL RX2 rm ret) (hK : va_K Γ.1 tcl (ttys Γ) (kS K)) (hg : ∀ i, i < 15 → Γ.2.2.1 (tkey i) = b + i) (hta : tAd Γ a) (ha : a < b) {v : Value} (j idx : Nat) (hj : j < 32) (hl : Cond.fieldLink RX2 idx RX2 (TX2 j).2.1 (TX2 j).2.2.1 ∈ lw_all) (hs : (TX2 j).1 = RX2) (hfin : (TX2 j).2.2.2 = false) (hn : narrow (tyX2 j) v = v) (hfit : fits (tyX2 j) v = true) (hkl : fs.length = 32) (hfs : fs.set j v = fs') (hd : decode cc pc = .ok (.putfield idx, 3)) (kk : GGo K Q comp nL (TNW Γ K a b fs' k τ) cs sl (pc + 3) ls st) : GGo K Q comp nL (TNW Γ K a b fs k τ) cs sl pc ls (v :: .ref a :: st) := by
  subst hfs
  refine v_put (D := Γ.1) (cl := tcl) (ci := 0) (fs := fs) (ref := RX2) hk hK rfl in_X2 tyX2 tyX2_ok nmX2 (fun H locs h => h.2.2.1) j hj hl hs hfin hn hfit (by omega) hd ?_
  refine g_I (fun H1 locs1 hI => ?_) kk
  obtain ⟨H, locs, ⟨h1, h2, -, h4, h5⟩, h6, h7, h8, h9⟩ := hI
  exact ⟨h1.trans ⟨by omega, fun q _ hq => h8 q hq⟩, fun l hl => (h9 l hl).elim (h2 l) (fun e => by rw [e]; exact hta), h6, by omega, tn_keep hg ha h5 h8⟩
end TNR
