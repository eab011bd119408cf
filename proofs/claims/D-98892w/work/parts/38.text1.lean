/-! Text's constructor; doing -/
set_option maxRecDepth 100000
section XTX
variable {ρ : Type} {K : KT} {Q : ρ → State → Prop} {comp : Option ρ} {nL : Nat} {I : Heap → List Loc → Prop} {cs sl pc : Nat} {ls : List (Nat × Value)} {st : List Value} {cc : ByteArray} {rm : Room} {ret : Option FieldType} {Γ : CG} {own : String} {tx : TXs Tx}
theorem x_putN (hk : KOK K cc nL own rm ret) (hK : CK Γ (kS K)) {ci N idx : Nat} {C host : String} {T : u_T} {fs : List Value} {a : Nat} {v : Value} (hc : ccl[ci]? = some (C, T, N)) (hin : ∀ w ∈ u_ws C T N, w ∈ lw_all) (ty0 : Nat → FieldType) (hty : ∀ k, k < N → parseFieldDescriptor (T k).2.2.1 = some (ty0 k)) (hnm : ∀ a, a < N → ∀ b, b < N → a ≠ b → (T a).2.1 ≠ (T b).2.1) (ha : ∀ H locs, I H locs → va_at (gD Γ) ccl (a, .inr (ci, fs)) H) (k : Nat) (hkN : k < N) (hl : Cond.fieldLinkNest own idx C (T k).2.1 (T k).2.2.1 host ∈ cnw) (hs : (T k).1 = C) (hfin : (T k).2.2.2 = false) (hn : narrow (ty0 k) v = v) (hfit : fits (ty0 k) v = true) (hkl : k < fs.length) (hd : decode cc pc = .ok (.putfield idx, 3))
    (kk : GGo K Q comp nL (fun H1 locs1 => ∃ H locs, I H locs ∧ va_at (gD Γ) ccl (a, .inr (ci, fs.set k v)) H1 ∧ H1.size = H.size ∧ (∀ q : Nat, q ≠ a → H1[q]? = H[q]?) ∧ ∀ l ∈ locs1, l ∈ locs ∨ l.base = a) cs sl (pc + 3) ls st) : GGo K Q comp nL I cs sl pc ls (v :: .ref a :: st) := by
  intro r hr H locs lsA hI hh
  have hap := va_apart (own := own) hk.2.2.2.2.1 hin ty0 hty hnm hK.1 hc
  obtain ⟨r0, h1, cell, q1, q2, q3, q4⟩ := ha H locs hI
  have hr0 : r0 = (C, T, N) := Option.some.inj (h1.symm.trans hc)
  subst hr0
  obtain ⟨hS, hfc, kC, hkC, hkind⟩ := hK.1.1 ci _ hc
  obtain ⟨cf, kf, fi, f, hi, hsl⟩ := hS k hkN
  have hlay := hk.2.2.2.2.1 _ (hin _ (u_in_lay hkN))
  unfold u_lay at hlay
  rw [if_neg (by rw [hfin]; decide)] at hlay
  have hst := (u_facts hfc hkC (u_lays hk.2.2.2.2.1 hin hkN) hi).1
  have h6 := u_store hfc hkC hkind hlay hi (hty k hkN) hn hfit
  refine va_WputK hk.1 hk.2.1 (f := f) hk.2.2.2.1 (hK.nest hl rfl) (by rw [← hs]; exact hi) hst (by rw [q2]; exact h6) q1 q3 (by rw [hsl]; exact k2_hasslot (q4 k hkN)) rfl rfl hd fun H' e1 e2 e3 => ?_
  rw [hsl] at e1
  exact kk r hr H' _ lsA ⟨H, locs, hI, ⟨_, hc, t_OB.to (V := updV (vp_V fs) k v) ⟨_, e1, q2, q3, t_set q4 hap hkN v⟩ (fun j _ => vp_updV_set hkl v j)⟩, e2, e3, fun l hl => (List.mem_append.mp hl).elim Or.inl (fun h => Or.inr (by rw [List.mem_singleton.mp h]))⟩ hh
theorem x_anewS (hk : KOK K cc nL own rm ret) (hK : CK Γ (kS K)) (hX : XK (kS K)) {idx N : Nat} {n : Int32} (hcl : Cond.classLink own idx "ShaveOfAnother$Sum" ∈ lw_all) (hn : n = nI N) (hN : N < 100000) (hc : cs + 1 ≤ rm.cells) (hs : sl + N ≤ rm.slots) (hd : decode cc pc = .ok (.anewarray idx, 3)) (kk : ∀ q, GGo K Q comp nL (fun H1 locs => ∃ H, I H locs ∧ q = H.size ∧ H1.size = H.size + 1 ∧ (∀ x, x < H.size → H1[x]? = H[x]?) ∧ H1[q]? = some (arrV (gC Γ 4) N (fun _ => va_rf none))) (cs + 1) (sl + N) (pc + 3) ls (.ref q :: st)) : GGo K Q comp nL I cs sl pc ls (.int n :: st) := by
  subst hn
  intro r hr H locs lsA hI hh
  have hcn : (nI N).toNatClampNeg = N := nI_clamp (by omega)
  refine W.anew hk.1 hk.2.1 hk.2.2.2.1 (hk.2.2.2.2.1 _ hcl) (va_AO.use hX.2.2.1) rfl hd rfl (nI_pos (by omega)) (by rw [hcn]; omega) (by show _ ≤ (kR K).cells; rw [hk.2.2.2.2.2.2.2]; exact hc) (by show _ ≤ (kR K).slots; rw [hk.2.2.2.2.2.2.2, hcn]; exact hs) fun cA kA comp0 f1 f2 f3 f4 => ?_
  rw [hcn]
  have hcA : cA = gC Γ 4 := by
    obtain ⟨-, -, -, -, -, h4⟩ := (hK.1.2 4 _ rfl).2
    exact Option.some.inj (f1.symm.trans h4)
  subst hcA
  generalize hH1 : H.push ({ cls := gC Γ 4, slots := Array.replicate N .null, vm := .none } : Cell) = H1
  have z1 : H1.size = H.size + 1 := by rw [← hH1, Array.size_push]
  have e1 : H1[H.size]? = some (arrV (gC Γ 4) N (fun _ => .null)) := by rw [← hH1, Array.getElem?_push_size, ← arrV_new]
  have o1 : ∀ q : Nat, q < H.size → H1[q]? = H[q]? := fun q hq => by rw [← hH1, Array.getElem?_push, if_neg (Nat.ne_of_lt hq)]
  exact kk H.size r hr H1 locs lsA ⟨H, hI, rfl, z1, o1, e1⟩ hh
/-- a store into an array of sums -/
theorem x_aastS (hk : KOK K cc nL own rm ret) (hK : CK Γ (kS K)) (hX : XK (kS K)) {a v n j : Nat} {C : String} {fv : Nat → Option Nat} {i : Int32} (hcell : ∀ H locs, I H locs → H[a]? = some (arrV (gC Γ 4) n (fun j => va_rf (fv j)))) (hC : Cond.castable C "ShaveOfAnother$Sum" ∈ cxw) (hv : ∀ H locs, I H locs → ∃ cell : Cell, H[v]? = some cell ∧ cell.vm.isStatics = false ∧ (kS K).vm.findClass C = some cell.cls) (hin : inb i n = true) (hj : i.toNatClampNeg = j) (hd : decode cc pc = .ok (.aastore, 1)) (kk : GGo K Q comp nL (fun H1 locs1 => ∃ H locs, I H locs ∧ H1[a]? = some (arrV (gC Γ 4) n (fun q => va_rf (va_up fv j (some v) q))) ∧ H1.size = H.size ∧ (∀ q : Nat, q ≠ a → H1[q]? = H[q]?) ∧ ∀ l ∈ locs1, l ∈ locs ∨ l.base = a) cs sl (pc + 1) ls st) : GGo K Q comp nL I cs sl pc ls (.ref v :: .int i :: .ref a :: st) := by
  subst hj
  intro r hr H locs lsA hI hh
  have hw := inb_vp hin
  have hlt := inb_lt hin
  have h0 : ¬ i < 0 := fun q => hw (Or.inl q)
  obtain ⟨cellV, g1, g3, g2⟩ := hv H locs hI
  obtain ⟨kA, comp0, k1, k2, k3, -⟩ := (hK.1.2 4 _ rfl).2
  obtain ⟨kE, hkE, -⟩ := Vm.findClass_spec k3
  obtain ⟨kC, hkC, -⟩ := Vm.findClass_spec g2
  refine W.aast hk.1 hk.2.1 (hcell H locs hI) (fun q h => by cases h) (fun h => by cases h) k1 k2 rfl hkE ⟨h0, by show _ < (arrV _ _ _).slots.size; rw [arrV_size]; exact hlt⟩ g1 (fun q h => by rw [h] at g3; cases g3) hkC (vb_asgC (hX.1 _ hC) _ _ k3 g2) rfl rfl hd fun H1 e z oq => ?_
  refine kk r hr H1 _ lsA ⟨H, locs, hI, ?_, z, oq, fun l hl => (List.mem_append.mp hl).elim Or.inl (fun h => Or.inr (by rw [List.mem_singleton.mp h]))⟩ hh
  rw [e, arrV_store]
  congr 2
  funext q
  by_cases hq : q = i.toNatClampNeg
  · subst hq
    simp [updV, va_up, va_rf]
  · simp [updV, va_up, hq]
end XTX
theorem DAt.sm {Γ : CG} {Rg : Nat → Prop} {K : KT} (hK : CK Γ (kS K)) {H : Heap} : ∀ {k : Nat} {x : Den} {q : Nat}, DAt Γ Rg H k (.inl x) q → ∃ C, Cond.castable C "ShaveOfAnother$Sum" ∈ cxw ∧ ∃ cell : Cell, H[q]? = some cell ∧ cell.vm.isStatics = false ∧ (kS K).vm.findClass C = some cell.cls := by
  have mk : ∀ {q ci N : Nat} {fs : List Value} {C : String} {T : u_T}, ccl[ci]? = some (C, T, N) → Cond.castable C "ShaveOfAnother$Sum" ∈ cxw → va_at (gD Γ) ccl (q, .inr (ci, fs)) H → ∃ C, Cond.castable C "ShaveOfAnother$Sum" ∈ cxw ∧ ∃ cell : Cell, H[q]? = some cell ∧ cell.vm.isStatics = false ∧ (kS K).vm.findClass C = some cell.cls := fun hc hx ha => ⟨_, hx, x_rec (I := fun H' _ => H' = H) hK hc (fun _ _ e => by rw [e]; exact ha) H [] rfl⟩
  intro k
  induction k with
  | zero =>
    intro x q h
    obtain ⟨h0, h | h⟩ := h
    · obtain ⟨n, he, h1⟩ := h; exact mk rfl cx_966 h1
    · obtain ⟨n, he, h1⟩ := h; exact mk rfl cx_960 h1
  | succ k ih =>
    intro x q h
    rcases h with h | ⟨h0, h⟩
    · exact ih h
    rcases h with h | h | h | h | h | h | h
    · obtain ⟨_, _, _, h1, _⟩ := h; exact mk rfl cx_952 h1
    · obtain ⟨_, _, _, _, _, _, h1, _⟩ := h; exact mk rfl cx_915 h1
    · obtain ⟨_, _, _, _, _, h1, _⟩ := h; exact mk rfl cx_907 h1
    · obtain ⟨_, _, _, _, _, _, _, h1, _⟩ := h; exact mk rfl cx_923 h1
    · obtain ⟨_, _, _, _, _, he, _⟩ := h; cases he
    · obtain ⟨_, _, he, _⟩ := h; cases he
    · obtain ⟨_, _, _, _, _, he, _⟩ := h; cases he
section TXI
variable {Γ : CG} {tx : TXs Tx}
/-- a new text -/
theorem n_X4 (hΓ : DLX Γ) {H0 : Heap} {a b : Nat} (hb : b ≤ a) (hf : va_at (gD Γ) ccl (a, .inr (3, [.null, .int 0, .null])) H0) : NMetB Γ tx yX4_init cX4_init 1 rm_x_ch [.ref a] H0 a b (fun H1 => ∃ la dl, va_at (gD Γ) ccl (a, .inr (3, [.ref la, .int 0, .ref dl])) H1 ∧ H1[la]? = some (arrV (gC Γ 4) 3 (fun _ => va_rf none)) ∧ LHt Γ H1 dl (gA Γ 600) [] ∧ H0.size ≤ la ∧ H0.size ≤ dl ∧ la ≠ dl) := by
  refine nb_met (own := RX4) rfl (by decide) rfl (ls0 := [(0, .ref a)]) rfl (fun K hk hK htr hnm hH hE => ?_)
  have hX := hΓ.1.1.1.1.x hK
  have hlt := hf.lt
  have hbK : ∀ (E : Heap → Prop) H locs, NW K a E H locs → gEb Γ tx b (kS K) H := fun E H locs hI => hE.put (by rw [← hH]; exact hI.1.1) (fun q hq hqb => by rw [← hH] at hq ⊢; exact hI.1.2 q hq (by omega))
  refine g_aload_n (pc := 0) hk dX4_init_0 rfl ?_
  refine x_objI (pc := 1) hk q367 q164 q165 rfl rfl rfl dX4_init_1 ?_
  refine g_aload_n (pc := 4) hk dX4_init_4 rfl ?_
  refine g_iconst (pc := 5) (v := 3) hk dX4_init_5 rfl ?_
  refine x_anewS (pc := 6) (N := 3) hk hK hX q368 rfl (by decide) (by decide) (by decide) dX4_init_6 (fun la => ?_)
  refine g_I (I' := NW K a (fun H => va_at (gD Γ) ccl (a, .inr (3, [.null, .int 0, .null])) H ∧ (H[la]? = some (arrV (gC Γ 4) 3 (fun _ => va_rf none)) ∧ H0.size ≤ la ∧ la < H.size))) (fun H1 locs hI => ?_) ?_
  · obtain ⟨H, ⟨h1, h2, rfl⟩, rfl, h4, h5, h6⟩ := hI
    exact ⟨h1.trans ⟨by omega, fun x hx _ => h5 x hx⟩, h2, hf.kept (h5 _ hlt), h6, Nat.le_refl _, by omega⟩
  refine nw_putF (pc := 9) (ci := 3) (fs := [.null, .int 0, .null]) (ref := RX4) hk hK rfl in_X4 tyX4 tyX4_ok nmX4 0 (by decide) q396 rfl rfl hnm rfl rfl rfl (show 0 < 3 by decide) (fun H H1 h e ho => ⟨by rw [ho la (by omega)]; exact h.1, h.2.1, by omega⟩) dX4_init_9 ?_
  refine g_aload_n (pc := 12) hk dX4_init_12 rfl ?_
  refine nw_list (pc := 13) (cs := 1) (sl := 3) (st := [.ref a]) (ix := 15) (iy := 17) hΓ hk hK htr (a := a) (E := fun H => va_at (gD Γ) ccl (a, .inr (3, [.ref la, .int 0, .null])) H ∧ (H[la]? = some (arrV (gC Γ 4) 3 (fun _ => va_rf none)) ∧ H0.size ≤ la ∧ la < H.size)) (hbK _) (fun H H1 h hz ho => ⟨h.1.kept (ho _ h.1.lt), by rw [ho la h.2.2.2]; exact h.2.1, h.2.2.1, by omega⟩) q370 q372 rfl rfl (by decide) (by decide) dX4_init_13 dX4_init_16 dX4_init_17 (fun dl => ?_)
  refine g_I (I' := NW K a (fun H => va_at (gD Γ) ccl (a, .inr (3, [.ref la, .int 0, .null])) H ∧ ((H[la]? = some (arrV (gC Γ 4) 3 (fun _ => va_rf none)) ∧ H0.size ≤ la) ∧ (LHt Γ H dl (gA Γ 600) [] ∧ H0.size ≤ dl) ∧ la ≠ dl))) (fun H locs hI => ?_) ?_
  · obtain ⟨h1, h2, ⟨h3, h4, h5, h6⟩, h7, h8, h9, H', h10, h11⟩ := hI
    exact ⟨h1, h2, h3, ⟨h4, h5⟩, ⟨h7, by rw [← hH]; exact h8⟩, by have := h10.2.2.2; omega⟩
  refine nw_putF (pc := 20) (ci := 3) (fs := [.ref la, .int 0, .null]) (ref := RX4) hk hK rfl in_X4 tyX4 tyX4_ok nmX4 2 (by decide) q400 rfl rfl hnm rfl rfl rfl (show 2 < 3 by decide) (fun H H1 h e ho => ⟨⟨by rw [ho la (by have := h.1.2; omega)]; exact h.1.1, h.1.2⟩, ⟨h.2.1.1.kept (ho dl (by have := h.2.1.2; omega)) (fun e => absurd rfl e), h.2.1.2⟩, h.2.2⟩) dX4_init_20 ?_
  refine nw_ret (pc := 23) hk (fun H e => ?_) dX4_init_23 (by decide) (by decide)
  exact ⟨la, dl, e.1, e.2.1.1, e.2.2.1.1, e.2.1.2, e.2.2.1.2, e.2.2.2⟩
end TXI
/-! doing -/
def K_doing (π : PPar) (cl : Int32) (τ : TKS) : Option (KRs (Int32 × Int32 × Int32 × Int32)) :=
  if τ.2.2.2.2.2 = 203 then obE (K_number π 0 99 τ) (fun e => some (.inl e, 4, 28)) (fun a => obE (K_behind π 208 9 a.2) (fun e => some (.inl e, 4, 28)) (fun b => some (.inr ((a.2.2.2.2.2.2, a.1, b.1, cl), b.2), 4, 28)))
  else if τ.2.2.2.2.2 = 204 then obE (K_number π 0 7 τ) (fun e => some (.inl e, 4, 28)) (fun a => obE (K_behind π 209 7 a.2) (fun e => some (.inl e, 4, 28)) (fun b => some (.inr ((a.2.2.2.2.2.2, a.1, b.1, cl), b.2), 4, 28)))
  else if τ.2.2.2.2.2 = 207 then obE (K_number π 1 60 τ) (fun e => some (.inl e, 4, 28)) (fun a => some (.inr ((τ.2.2.2.2.2, a.1, -1, cl), a.2), 4, 28))
  else obE (K_number π 0 7 τ) (fun e => some (.inl e, 4, 28)) (fun a => some (.inr ((τ.2.2.2.2.2, a.1, -1, cl), a.2), 4, 28))
def vwD (Γ : CG) (π : PPar) (H0 : Heap) : ((Int32 × Int32) ⊕ ((Int32 × Int32 × Int32 × Int32) × TKS)) → PRes
  | .inl e => .inl e
  | .inr r => .inr (fun v H1 => ∃ q, v = some (.ref q) ∧ va_at (gD Γ) ccl (π.1, .inr (2, tkF Γ π r.2)) H1 ∧ va_at (gD Γ) ccl (q, .inr (14, [.int r.1.1, .int r.1.2.1, .int r.1.2.2.1, .int r.1.2.2.2])) H1 ∧ H0.size ≤ q)
def rm_x_do : Room := { frames := 12, cells := 4, slots := 28, locals := 900 }
