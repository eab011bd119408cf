/-! NEW ARRAYS, told by their addresses -/
set_option maxRecDepth 100000
section NWA
variable {ρ : Type} {K : KT} {Q : ρ → State → Prop} {comp A B : Option ρ} {nL : Nat} {I : Heap → List Loc → Prop} {cs sl pc : Nat} {ls : List (Nat × Value)} {st : List Value} {cc : ByteArray} {rm : Room} {ret : Option FieldType} {Γ : CG} {own : String}
theorem x_newI (hk : KOK K cc nL own rm ret) (hK : CK Γ (kS K)) {N : Nat} {n : Int32} (hn : n = nI N) (hN : N < 100000) (hc : cs + 1 ≤ rm.cells) (hs : sl + N ≤ rm.slots) (hd : decode cc pc = .ok (.newarray .int, 2)) (kk : ∀ q, GGo K Q comp nL (fun H1 locs => ∃ H, I H locs ∧ q = H.size ∧ H1.size = H.size + 1 ∧ (∀ x, x < H.size → H1[x]? = H[x]?) ∧ H1[q]? = some (arrV (gC Γ 0) N (fun _ => .int 0))) (cs + 1) (sl + N) (pc + 2) ls (.ref q :: st)) : GGo K Q comp nL I cs sl pc ls (.int n :: st) := by
  subst hn
  intro r hr H locs lsA hI hh
  refine va_newaK (atype := .int) (N := N) hk.1 hk.2.1 (hk.2.2.2.2.1 _ q224) rfl hd rfl (nI_pos (by omega)) (nI_clamp (by omega)) (by show N * 4 ≤ _; omega) (by show _ ≤ (kR K).cells; rw [hk.2.2.2.2.2.2.2]; exact hc) (by show _ ≤ (kR K).slots; rw [hk.2.2.2.2.2.2.2]; exact hs) rfl (fun H1 cA e z oq hA hf => ?_)
  cases Option.some.inj (hf.symm.trans ((hK.1.2 0 _ rfl).2 : (kS K).vm.findClass _ = some (gC Γ 0)))
  exact kk H.size r hr H1 locs lsA ⟨H, hI, rfl, z, oq, e⟩ hh
theorem x_newB (hk : KOK K cc nL own rm ret) (hK : CK Γ (kS K)) {N : Nat} {n : Int32} (hn : n = nI N) (hN : N < 100000) (hc : cs + 1 ≤ rm.cells) (hs : sl + N ≤ rm.slots) (hd : decode cc pc = .ok (.newarray .byte, 2)) (kk : ∀ q, GGo K Q comp nL (fun H1 locs => ∃ H, I H locs ∧ q = H.size ∧ H1.size = H.size + 1 ∧ (∀ x, x < H.size → H1[x]? = H[x]?) ∧ H1[q]? = some (arrV (gC Γ 1) N (fun _ => .int 0))) (cs + 1) (sl + N) (pc + 2) ls (.ref q :: st)) : GGo K Q comp nL I cs sl pc ls (.int n :: st) := by
  subst hn
  intro r hr H locs lsA hI hh
  refine va_newaK (atype := .byte) (N := N) hk.1 hk.2.1 (hk.2.2.2.2.1 _ q291) rfl hd rfl (nI_pos (by omega)) (nI_clamp (by omega)) (by show N * 1 ≤ _; omega) (by show _ ≤ (kR K).cells; rw [hk.2.2.2.2.2.2.2]; exact hc) (by show _ ≤ (kR K).slots; rw [hk.2.2.2.2.2.2.2]; exact hs) rfl (fun H1 cA e z oq hA hf => ?_)
  cases Option.some.inj (hf.symm.trans ((hK.1.2 1 _ rfl).2 : (kS K).vm.findClass _ = some (gC Γ 1)))
  exact kk H.size r hr H1 locs lsA ⟨H, hI, rfl, z, oq, e⟩ hh
theorem arrV_of {cell : Cell} {cA : ClassId} {n : Nat} {f : Nat → Value} (h1 : cell.cls = cA) (h2 : cell.vm = .none) (h3 : cell.slots.size = n) (h4 : ∀ j, j < n → cell.slots[j]? = some (f j)) (h5 : cell.monitor = {}) (h6 : cell.hash = none) : cell = arrV cA n f := by
  obtain ⟨c, s, m, hs, v⟩ := cell
  subst h1; subst h2; subst h5; subst h6
  have : s = (arrV c n f).slots := by
    apply Array.ext_getElem?
    intro i
    rcases Nat.lt_or_ge i n with h | h
    · rw [h4 i h, arrV_read _ _ h]
    · rw [Array.getElem?_eq_none (by rw [show s.size = n from h3]; exact h), Array.getElem?_eq_none (by rw [arrV_size]; exact h)]
  rw [this]
  rfl
theorem outer_mon (c : ClassId) (N h0 : Nat) : ∀ i, (Jvm.Free.Multi.outerC c N h0 i).monitor = {}
  | 0 => rfl
  | i + 1 => by rw [Jvm.Free.Multi.outerC]; exact outer_mon c N h0 i
theorem outer_hash (c : ClassId) (N h0 : Nat) : ∀ i, (Jvm.Free.Multi.outerC c N h0 i).hash = none
  | 0 => rfl
  | i + 1 => by rw [Jvm.Free.Multi.outerC]; exact outer_hash c N h0 i
def AO2 (U : State) : Prop := (Cond.arrayOver (.array .int)).before #[] U = true
/-- rows of ints -/
theorem x_multi (hk : KOK K cc nL own rm ret) (hK : CK Γ (kS K)) {idx N M : Nat} {n m : Int32} (hn : n = nI N) (hm : m = nI M) (hN : N < 1000) (hM : M < 1000) (hao : AO2 (kS K)) (hcl : Cond.classLink own idx "[[I" ∈ lw_all) (hc : cs + (1 + N) ≤ rm.cells) (hs : sl + (N + N * M) ≤ rm.slots) (hd : decode cc pc = .ok (.multianewarray idx 2, 4)) (kk : ∀ q, GGo K Q comp nL (fun H1 locs => ∃ H, I H locs ∧ q = H.size ∧ H1.size = H.size + (1 + N) ∧ (∀ x, x < H.size → H1[x]? = H[x]?) ∧ H1[q]? = some (arrV (gC Γ 2) N (fun i => .ref (q + 1 + i))) ∧ ∀ i, i < N → H1[q + 1 + i]? = some (arrV (gC Γ 0) M (fun _ => .int 0))) (cs + (1 + N)) (sl + (N + N * M)) (pc + 4) ls (.ref q :: st)) : GGo K Q comp nL I cs sl pc ls (.int m :: .int n :: st) := by
  subst hn
  subst hm
  intro r hr H locs lsA hI hh T hT X
  have cN : (nI N).toNatClampNeg = N := nI_clamp (by omega)
  have cM : (nI M).toNatClampNeg = M := nI_clamp (by omega)
  obtain ⟨vm₁, cA, comp9, hW, hfA, hfC, -, -, X1, step⟩ := X.multianewarray2F hk.1 (ty := .int) hk.2.2.2.1 (hk.2.2.2.2.1 _ hcl) hao (hk.2.2.2.2.1 _ q224) (g := F0 (kM K) pc lsA (.int (nI M) :: .int (nI N) :: st)) rfl (by rw [hk.2.1]; exact hd) rfl (nI_pos (by omega)) (nI_pos (by omega)) (by rw [cN]; omega) (by rw [cM]; show M * 4 ≤ _; omega) (by rw [cM]; omega) rfl rfl (by rw [cN]; show _ ≤ (kR K).cells; rw [hk.2.2.2.2.2.2.2]; exact hc) (by rw [cN, cM]; show _ ≤ (kR K).slots; rw [hk.2.2.2.2.2.2.2]; exact hs)
  rw [cN, cM] at X1 step
  obtain ⟨f1, f2, f3, f4⟩ := Jvm.Free.Multi.fill_facts (T.setVm vm₁) cA comp9 N M (defaultValue .int) N
  have fo := fun (a : Addr) (ha : a < T.heap.size) => Jvm.Free.Multi.fill_old (T.setVm vm₁) cA comp9 N M (defaultValue .int) (a := a) ha N
  have fi := fun (j : Nat) (hj : j < N) => Jvm.Free.Multi.fill_inner (T.setVm vm₁) cA comp9 N M (defaultValue .int) N j hj
  obtain ⟨o1, o2, o3⟩ := Jvm.Free.Multi.outerC_facts cA N T.heap.size N
  have os := fun (j : Nat) (hj : j < N) => Jvm.Free.Multi.outerC_slot cA N T.heap.size N j hj
  cases Option.some.inj (hfA.symm.trans ((hK.1.2 2 _ rfl).2 : (kS K).vm.findClass _ = some (gC Γ 2)))
  cases Option.some.inj (hfC.symm.trans ((hK.1.2 0 _ rfl).2 : (kS K).vm.findClass _ = some (gC Γ 0)))
  subst hT
  obtain ⟨t, a1, b1⟩ := kk T.heap.size r hr _ locs lsA ⟨T.heap, hI, rfl, by rw [f1]; show T.heap.size + 1 + N = _; omega, fo, by
    refine f2.trans (congrArg some ?_)
    exact arrV_of o1 o2 o3 (fun j hj => (os j hj).trans (by rw [if_pos hj])) (outer_mon _ _ _ _) (outer_hash _ _ _ _), fun i hi => by
    refine (fi i hi).trans (congrArg some ?_)
    exact arrV_of rfl rfl (by simp [Jvm.Free.Multi.innerC]) (fun j hj => by simp [Jvm.Free.Multi.innerC, hj, defaultValue]) rfl rfl⟩ hh _ rfl (stand_widen X1 (by omega) (by omega))
  exact ⟨t, step t a1, b1⟩
end NWA
