/-! LISTS that grow: copies, new arrays, grow, add, the constructor -/
set_option maxRecDepth 100000
section CPO
variable {p : Program} {l : Launch} {e : Env} {R : Room} {s : State} {m : MethodId} {args : Array Value} {below : List Frame} {meth : Method} {c : Code} {H : Heap} {locs : List Loc} {cells slots : Nat} {Q : State → Prop} {pc : Nat} {ls : Array Slot} {rest : List Value} {a : Nat}
/-- System.arraycopy of references, with all that it leaves alone -/
theorem w_copyO {cc : ByteArray} (hexec : p.tables.exec = Jvm.exec) (hb : c.code = cc) (hml : c.maxLocals = ls.size) {own : String} {index : Nat} (hown : s.vm.findClass own = some m.cls) (hlink : (Cond.methodLink own index arraycopyName).before args s = true) (hnat : (Cond.native arraycopyName).before args s = true) (hstat : (Cond.static arraycopyName).before args s = true) (hini : (Cond.initialized "java/lang/System").before args s = true)
    {a0 : Nat} {c0 c1 : ClassId} {n0 n1 : Nat} {f g : Nat → Option Nat} {E0 : String} (hc0 : H[a0]? = some (arrV c0 n0 (fun j => va_rf (f j)))) (hc1 : H[a]? = some (arrV c1 n1 (fun j => va_rf (g j)))) (ht0 : ArrOfT s c0 (.object E0)) (ht1 : ArrOfT s c1 (.object "java/lang/Object")) (hra : va_RA s c1 (.object "java/lang/Object"))
    {sp dp n : Int32} (h1 : ¬ sp < 0) (h2 : ¬ dp < 0) (h3 : ¬ n < 0) (h4 : sp.toNatClampNeg + n.toNatClampNeg ≤ n0) (h5 : dp.toNatClampNeg + n.toNatClampNeg ≤ n1) (hXc : ∀ w ∈ cxw, va_Nw w s) (hel : ∀ i : Nat, i < n.toNatClampNeg → ∀ y : Nat, f (sp.toNatClampNeg + i) = some y → elO s H y)
    (hframes : 1 ≤ R.frames) (hlocals : (rest.map fun v => v.category).sum + (nativeFrameWords "java/lang/System" "arraycopy" 5 + 11) ≤ R.locals) (hdg : decode cc pc = .ok (.invokestatic index, 3))
    (kk : ∀ (H1 : Heap) (locs1 : List Loc), H1[a]? = some (arrV c1 n1 (fun j => va_rf (va_cpy f g sp.toNatClampNeg dp.toNatClampNeg n.toNatClampNeg j))) → H1.size = H.size → (∀ q : Nat, q ≠ a → H1[q]? = H[q]?) → (∀ l ∈ locs1, l ∈ locs ∨ l.base = a) → W p l e R s m args below meth c H1 locs1 cells slots Q (F0 m (pc + 3) ls rest)) : W p l e R s m args below meth c H locs cells slots Q (F0 m pc ls (.int n :: .int dp :: .ref a :: .int sp :: .ref a0 :: rest)) := by
  have nn : ∀ z : Int32, ¬ z < 0 → z.toInt = (z.toNatClampNeg : Int) := by
    intro z hz
    have hz0 : (0 : Int) ≤ z.toInt := by
      have := Int32.not_lt.mp hz
      simpa using Int32.le_iff_toInt_le.mp this
    show z.toInt = ((z.toInt.toNat : Nat) : Int)
    omega
  intro T hT X
  obtain ⟨-, k0, hk0, cm0, hkk0⟩ := ht0 n0 (fun j => va_rf (f j))
  obtain ⟨-, k1, hk1, cm1, hkk1⟩ := ht1 n1 (fun j => va_rf (g j))
  obtain ⟨vm', X', step⟩ := X.arraycopy hexec hown hlink hnat hstat hini (src := a0) (dst := a) (cs := arrV c0 n0 (fun j => va_rf (f j))) (cd := arrV c1 n1 (fun j => va_rf (g j))) (srcPos := sp) (destPos := dp) (n := n) (by rw [hT]; exact hc0) (by rw [hT]; exact hc1)
    (fun _ h => by cases h) (fun _ h => by cases h) (fun h => by cases h) (fun h => by cases h) hk0 hk1 hkk0 hkk1 rfl h1 h2 h3
    (by rw [nn sp h1, nn n h3, arrV_size]; omega)
    (by rw [nn dp h2, nn n h3, arrV_size]; omega)
    (fun vm₁ hal i hi => by
      have e : (arrV c0 n0 (fun j => va_rf (f j))).slots.getD (sp.toNatClampNeg + i) .null = va_rf (f (sp.toNatClampNeg + i)) := by
        rw [Array.getD_eq_getD_getElem?, arrV_read _ _ (by omega)]
        rfl
      rw [e]
      cases hy : f (sp.toNatClampNeg + i) with
      | none => exact ⟨rfl, trivial⟩
      | some y =>
        obtain ⟨C, hC, cellV, g1, g2, g3⟩ := hel i hi y hy
        obtain ⟨kA, comp, r1, r2, r3, -⟩ := hra
        cases hk1.symm.trans r1
        cases hkk1.symm.trans r2
        obtain ⟨kC, hkC, -⟩ := Vm.findClass_spec g3
        obtain ⟨kE, hkE, -⟩ := Vm.findClass_spec r3
        obtain ⟨kC', hkC', -⟩ := hal.2.2 _ _ hkC
        obtain ⟨kE', hkE', -⟩ := hal.2.2 _ _ hkE
        refine ⟨rfl, cellV, (show T.heap[y]? = some cellV by rw [hT]; exact g1), (fun q h => by rw [h] at g2; cases g2), ⟨kC', hkC'⟩, ?_, ?_⟩
        · exact ⟨kE', hkE'⟩
        · show vm₁.assignable _ _ = true
          rw [hal.assignable]
          exact vb_asgC (hXc _ hC) _ _ r3 g3)
    (g := F0 m pc ls (.int n :: .int dp :: .ref a :: .int sp :: .ref a0 :: rest)) rfl (by rw [hml]) (rest := rest) rfl (by rw [hb]; exact hdg) hframes (by show 2 * 0 + _ + _ ≤ _; omega)
  have e1 : copied (arrV c0 n0 (fun j => va_rf (f j))) (arrV c1 n1 (fun j => va_rf (g j))) sp dp n = arrV c1 n1 (fun j => va_rf (va_cpy f g sp.toNatClampNeg dp.toNatClampNeg n.toNatClampNeg j)) := va_copied (fun z => va_rf z) c0 c1 f g h4
  rw [e1] at X' step
  have hl : a < H.size := (Array.getElem?_eq_some_iff.mp hc1).1
  have hheap : ((T.setVm vm').setCell a (arrV c1 n1 (fun j => va_rf (va_cpy f g sp.toNatClampNeg dp.toNatClampNeg n.toNatClampNeg j)))).heap = H.setIfInBounds a (arrV c1 n1 (fun j => va_rf (va_cpy f g sp.toNatClampNeg dp.toNatClampNeg n.toNatClampNeg j))) := by rw [← hT]; rfl
  obtain ⟨t, a1, b1⟩ := kk _ _ (show (H.setIfInBounds a _)[a]? = some _ by simp [Array.getElem?_setIfInBounds, hl]) (by simp) (fun q hq => by simp [Array.getElem?_setIfInBounds, Ne.symm hq]) (fun q hq => (List.mem_append.mp hq).elim Or.inl (fun h => by
      obtain ⟨z, -, hz⟩ := List.mem_map.mp h
      exact Or.inr (by rw [← hz]))) _ hheap X'
  exact ⟨t, step t a1, b1⟩
end CPO
section XCO
variable {ρ : Type} {K : KT} {Q : ρ → State → Prop} {comp : Option ρ} {nL : Nat} {I : Heap → List Loc → Prop} {cs sl pc : Nat} {ls : List (Nat × Value)} {st : List Value} {cc : ByteArray} {rm : Room} {ret : Option FieldType} {own : String} {Γ : CG}
theorem x_copyO (hk : KOK K cc nL own rm ret) (hK : CK Γ (kS K)) (hX : XK (kS K)) {a0 a n0 n1 N idx : Nat} {n : Int32} {f g : Nat → Option Nat} (hc0 : ∀ H locs, I H locs → H[a0]? = some (arrV (gC Γ 5) n0 (fun j => va_rf (f j)))) (hc1 : ∀ H locs, I H locs → H[a]? = some (arrV (gC Γ 5) n1 (fun j => va_rf (g j)))) (hel : ∀ H locs, I H locs → ∀ i y, f i = some y → elO (kS K) H y) (hn : n = nI N) (h0 : N ≤ n0) (h1 : N ≤ n1) (hN : N < 100000) (hl : Cond.methodLink own idx arraycopyName ∈ lw_all) (hr1 : Nat.ble 1 rm.frames = true) (hr2 : Nat.ble 60 rm.locals = true) (hs : Nat.ble ((st.map fun v => v.category).sum) 8 = true) (hd : decode cc pc = .ok (.invokestatic idx, 3))
    (kk : GGo K Q comp nL (fun H1 locs1 => ∃ H locs, I H locs ∧ H1[a]? = some (arrV (gC Γ 5) n1 (fun j => va_rf (va_cpy f g 0 0 N j))) ∧ H1.size = H.size ∧ (∀ q : Nat, q ≠ a → H1[q]? = H[q]?) ∧ ∀ l ∈ locs1, l ∈ locs ∨ l.base = a) cs sl (pc + 3) ls st) : GGo K Q comp nL I cs sl pc ls (.int n :: .int 0 :: .ref a :: .int 0 :: .ref a0 :: st) := by
  subst hn
  intro r hr H locs lsA hI hh
  have z0 : (0 : Int32).toNatClampNeg = 0 := rfl
  have zN : (nI N).toNatClampNeg = N := nI_clamp (by omega)
  have hl9 : nativeFrameWords "java/lang/System" "arraycopy" 5 + 11 ≤ 40 := by decide
  refine w_copyO hk.1 hk.2.1 (by rw [hh.1]; exact hk.2.2.1) hk.2.2.2.1 (hk.2.2.2.2.1 _ hl) (hk.2.2.2.2.1 _ q235) (hk.2.2.2.2.1 _ q234) (hk.2.2.2.2.1 _ q127) (hc0 H locs hI) (hc1 H locs hI) (hK.1.2 5 _ rfl).1 (hK.1.2 5 _ rfl).1 (hK.1.2 5 _ rfl).2 (by decide) (by decide) (nI_pos (by omega)) (by rw [z0, zN]; omega) (by rw [z0, zN]; omega) hX.1 (fun i hi y hy => hel H locs hI _ y hy) (by show 1 ≤ (kR K).frames; rw [hk.2.2.2.2.2.2.2]; exact Nat.le_of_ble_eq_true hr1) (by have e1 := Nat.le_of_ble_eq_true hs; have e2 := Nat.le_of_ble_eq_true hr2; show _ ≤ (kR K).locals; rw [hk.2.2.2.2.2.2.2]; omega) hd (fun H1 locs1 e z oq hlo => ?_)
  rw [z0, zN] at e
  exact kk r hr H1 locs1 lsA ⟨H, locs, hI, e, z, oq, hlo⟩ hh
end XCO
/-- what is known of the array that all empty lists share -/
def LST (Γ : CG) (U : State) (H : Heap) : Prop := va_Z RJ3 "DEFAULTCAPACITY_EMPTY_ELEMENTDATA" "[Ljava/lang/Object;" (.ref (gA Γ 600)) (cSt Γ) U H ∧ va_T (.object "java/lang/Object") (gA Γ 600) 0 (fun _ => .null) (cSt Γ) U H
/-- .. and of the cache of small Integers -/
def VST (Γ : CG) (U : State) (H : Heap) : Prop := va_Z "java/lang/Integer$IntegerCache" "high" "I" (.int 127) (cSt Γ) U H ∧ va_Z "java/lang/Integer$IntegerCache" "cache" "[Ljava/lang/Integer;" (.ref (gA Γ 900)) (cSt Γ) U H ∧ va_T (.object "java/lang/Integer") (gA Γ 900) 256 (fun j => .ref (gA Γ (1000 + j))) (cSt Γ) U H
def DLX (Γ : CG) : Prop := DKX Γ ∧ ∀ tx U H, gE Γ tx U H → LST Γ U H ∧ VST Γ U H
/-- a list's capacity by how many are in it -/
def nwN (c : Nat) : Nat := c + (if c / 2 < 1 then 1 else c / 2)
def capN : Nat → Nat
  | 0 => 0
  | n + 1 => if n < capN n then capN n else (if n = 0 then 10 else nwN (capN n))
theorem capN_le : ∀ n, n ≤ capN n ∧ capN n ≤ 2 * n + 10
  | 0 => by unfold capN; omega
  | n + 1 => by
    have ih := capN_le n
    unfold capN
    split
    · omega
    · split
      · omega
      · unfold nwN
        split <;> omega
def adC (n : Nat) : Nat := if n < capN n then 0 else 1
def adS (n : Nat) : Nat := if n < capN n then 0 else capN (n + 1)
/-- a list at l, its elements in the array at a (if there are any) -/
def LHt (Γ : CG) (H : Heap) (l a : Nat) (es : List Nat) : Prop := (∃ m : Int32, va_at (gD Γ) ccl (l, .inr (15, [.int m, .ref a, .int (nI es.length)])) H) ∧ es.length < 1000 ∧ (es = [] → a = gA Γ 600) ∧ (es ≠ [] → a ≠ l ∧ H[a]? = some (arrV (gC Γ 5) (capN es.length) (fun i => va_rf es[i]?)))
def LEl (U : State) (H : Heap) (es : List Nat) : Prop := ∀ e ∈ es, elO U H e
theorem LHt.lt {Γ : CG} {H : Heap} {l a : Nat} {es : List Nat} (h : LHt Γ H l a es) : l < H.size ∧ (es ≠ [] → a < H.size) := by
  obtain ⟨⟨m, h1⟩, -, -, h4⟩ := h
  exact ⟨h1.lt, fun hne => (Array.getElem?_eq_some_iff.mp (h4 hne).2).1⟩
theorem LHt.kept {Γ : CG} {H H1 : Heap} {l a : Nat} {es : List Nat} (h : LHt Γ H l a es) (hl : H1[l]? = H[l]?) (ha : es ≠ [] → H1[a]? = H[a]?) : LHt Γ H1 l a es := by
  obtain ⟨⟨m, h1⟩, h2, h3, h4⟩ := h
  exact ⟨⟨m, h1.kept hl⟩, h2, h3, fun hne => ⟨(h4 hne).1, by rw [ha hne]; exact (h4 hne).2⟩⟩
theorem LEl.kept {U : State} {H H1 : Heap} {es : List Nat} (h : LEl U H es) (he : ∀ e, e < H.size → e ∈ es → H1[e]? = H[e]?) : LEl U H1 es := fun e hm => (h e hm).kept (fun hl => he e hl hm)
theorem LEl.moved {s U : State} {H : Heap} {es : List Nat} (hvm : s.vm.Alike U.vm) (h : LEl s H es) : LEl U H es := fun e hm => (h e hm).moved hvm
theorem LHt.list {Γ : CG} {H : Heap} {l a : Nat} {es : List Nat} {Rg : Nat → Prop} (h : LHt Γ H l a es) (hl : Rg l) (ha : es ≠ [] → Rg a) : ListAt Γ Rg H l es := by
  obtain ⟨⟨m, h1⟩, h2, h3, h4⟩ := h
  have hc := capN_le es.length
  exact ⟨hl, m, a, capN es.length, h1, hc.1, by omega, fun hne => ⟨ha hne, (h4 hne).2⟩⟩
theorem cap_room {n : Nat} (h : n < capN n) : capN (n + 1) = capN n := by
  rw [capN, if_pos h]
theorem cap_full {n : Nat} (h : ¬ n < capN n) (h0 : n ≠ 0) : capN (n + 1) = nwN (capN n) := by
  rw [capN, if_neg h, if_neg h0]
theorem es_put {es : List Nat} {x : Nat} : (fun q => va_rf (va_up (fun i => es[i]?) es.length (some x) q)) = (fun q => va_rf (es ++ [x])[q]?) := by
  funext q
  unfold va_up
  by_cases hq : q = es.length
  · subst hq
    simp
  · rw [if_neg hq]
    show va_rf es[q]? = va_rf (es ++ [x])[q]?
    rcases Nat.lt_or_ge q es.length with h | h
    · rw [List.getElem?_append_left h]
    · rw [List.getElem?_eq_none h, List.getElem?_eq_none]
      rw [List.length_append, List.length_singleton]
      omega
theorem es_cpy {es : List Nat} : (fun q => va_rf (va_cpy (fun i => es[i]?) (fun _ => none) 0 0 es.length q)) = (fun q => va_rf es[q]?) := by
  funext q
  unfold va_cpy
  by_cases hq : q < es.length
  · rw [if_pos ⟨Nat.zero_le _, by omega⟩, Nat.sub_zero, Nat.zero_add]
  · rw [if_neg (fun z => hq (by omega)), List.getElem?_eq_none (by omega)]
