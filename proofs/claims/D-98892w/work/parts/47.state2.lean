/-! A STATE's arrays, in the order of their making -/
set_option maxRecDepth 100000
def stN (i : Nat) : Nat := if i = 5 then 8 else if i = 14 then 8 else if i = 23 then 6 else if i = 30 then 8 else if i = 39 then 30 else 0
def stL (i : Nat) : Nat := if i = 0 then 6 else if i = 1 then 148 else if i < 23 then 8 else if i < 30 then 2 else if i < 39 then 2 else 148
def stC (Γ : CG) (b : Nat) (c : Nat → Nat → Int32) (i : Nat) : Cell := if stN i = 0 then (if i = 70 then arrV (gC Γ 3) 4 (fun _ => va_rf none) else arrV (gC Γ 0) (stL i) (fun q => .int (c i q))) else arrV (gC Γ 2) (stN i) (fun q => .ref (b + i + 1 + q))
def AW (Γ : CG) (b k : Nat) (c : Nat → Nat → Int32) (H : Heap) : Prop := H.size = b + k ∧ ∀ i, i < k → H[b + i]? = some (stC Γ b c i)
theorem AW.kept {Γ : CG} {b k a : Nat} {c : Nat → Nat → Int32} {H H1 : Heap} (h : AW Γ b k c H) (ha : a < b) (hz : H1.size = H.size) (ho : ∀ q : Nat, q ≠ a → H1[q]? = H[q]?) : AW Γ b k c H1 := ⟨hz.trans h.1, fun i hi => (ho _ (by omega)).trans (h.2 i hi)⟩
theorem AW.put {Γ : CG} {b k i : Nat} {c : Nat → Nat → Int32} {f : Nat → Int32} {H H1 : Heap} (h : AW Γ b k c H) (hi : stN i = 0) (h7 : i ≠ 70) (e : H1[b + i]? = some (arrV (gC Γ 0) (stL i) (fun q => .int (f q)))) (hz : H1.size = H.size) (ho : ∀ q : Nat, q ≠ b + i → H1[q]? = H[q]?) : AW Γ b k (va_up c i f) H1 := by
  refine ⟨hz.trans h.1, fun j hj => ?_⟩
  by_cases hji : j = i
  · subst hji
    rw [e]
    unfold stC
    rw [if_pos hi, if_neg h7]
    simp only [va_up, if_true]
  · rw [ho _ (by omega), h.2 j hj]
    unfold stC
    simp only [va_up, if_neg hji]
theorem AW.ext {Γ : CG} {b k : Nat} {c c' : Nat → Nat → Int32} {H : Heap} (h : AW Γ b k c H) (e : ∀ i, i < k → stN i = 0 → ∀ q, q < stL i → c i q = c' i q) : AW Γ b k c' H := by
  refine ⟨h.1, fun i hi => (h.2 i hi).trans (congrArg some ?_)⟩
  unfold stC
  by_cases h0 : stN i = 0
  · rw [if_pos h0, if_pos h0]
    by_cases h7 : i = 70
    · rw [if_pos h7, if_pos h7]
    · rw [if_neg h7, if_neg h7]
      exact arrV_ext (fun q hq => by rw [e i hi h0 q hq])
  · rw [if_neg h0, if_neg h0]
theorem AW.arr {Γ : CG} {b k i : Nat} {c : Nat → Nat → Int32} {H : Heap} (h : AW Γ b k c H) (hi : i < k) (h0 : stN i = 0) (h7 : i ≠ 70) : H[b + i]? = some (arrV (gC Γ 0) (stL i) (fun q => .int (c i q))) := by
  rw [h.2 i hi]; unfold stC; rw [if_pos h0, if_neg h7]
def c00 : Nat → Nat → Int32 := fun _ _ => 0
def NS (Γ : CG) (K : KT) (a b : Nat) (fs : List Value) (k : Nat) (c : Nat → Nat → Int32) : Heap → List Loc → Prop := NW K a (fun H => va_at (gD Γ) ccl (a, .inr (1, fs)) H ∧ AW Γ b k c H)
section ANS
variable {ρ : Type} {K : KT} {Q : ρ → State → Prop} {comp A B : Option ρ} {nL : Nat} {I : Heap → List Loc → Prop} {cs sl pc : Nat} {ls : List (Nat × Value)} {st : List Value} {cc : ByteArray} {rm : Room} {ret : Option FieldType} {Γ : CG} {own : String} {a b k : Nat} {fs : List Value} {c : Nat → Nat → Int32}
theorem NS.grow {H H1 : Heap} {locs : List Loc} {d : Nat} (h : NS Γ K a b fs k c00 H locs) (ha : a < b) (hb : b = (kS K).heap.size) (hz : H1.size = H.size + d) (ho : ∀ x, x < H.size → H1[x]? = H[x]?) (hn : ∀ i, i < d → H1[b + (k + i)]? = some (stC Γ b c00 (k + i))) : NS Γ K a b fs (k + d) c00 H1 locs := by
  obtain ⟨h1, h2, h3, h4, h5⟩ := h
  refine ⟨h1.trans ⟨by omega, fun q hq _ => ho q hq⟩, h2, h3.kept (ho _ h3.lt), by omega, fun i hi => ?_⟩
  rcases Nat.lt_or_ge i k with h | h
  · rw [ho _ (by omega)]; exact h5 i h
  · have := hn (i - k) (by omega)
    rw [show k + (i - k) = i by omega] at this
    exact this
theorem ns_newI (hk : KOK K cc nL own rm ret) (hK : CK Γ (kS K)) (ha : a < b) (hb : b = (kS K).heap.size) {N : Nat} {n : Int32} (hn : n = nI N) (hN : N < 100000) (h0 : stN k = 0) (h7 : k ≠ 70) (hL : stL k = N) (hc : cs + 1 ≤ rm.cells) (hs : sl + N ≤ rm.slots) (hd : decode cc pc = .ok (.newarray .int, 2)) (kk : GGo K Q comp nL (NS Γ K a b fs (k + 1) c00) (cs + 1) (sl + N) (pc + 2) ls (.ref (b + k) :: st)) : GGo K Q comp nL (NS Γ K a b fs k c00) cs sl pc ls (.int n :: st) := by
  refine x_newI hk hK hn hN hc hs hd (fun q => ?_)
  refine g_at (fun H1 locs hI => ?_)
  obtain ⟨H, hI, rfl, hz, ho, he⟩ := hI
  have hsz := hI.2.2.2.1
  rw [hsz]
  refine g_I (fun H9 l9 e9 => ?_) kk
  rw [e9.1, e9.2]
  refine hI.grow ha hb hz ho (fun i hi => ?_)
  rw [show k + i = k by omega, ← hsz, he]
  unfold stC
  rw [if_pos h0, if_neg h7, hL]
  rfl
theorem ns_multi (hk : KOK K cc nL own rm ret) (hK : CK Γ (kS K)) (hao : AO2 (kS K)) (ha : a < b) (hb : b = (kS K).heap.size) {idx N M : Nat} {n m : Int32} (hn : n = nI N) (hm : m = nI M) (hN : N < 1000) (hM : M < 1000) (h0 : stN k = N) (hpos : 0 < N) (hin : ∀ i, i < N → stN (k + 1 + i) = 0 ∧ k + 1 + i ≠ 70 ∧ stL (k + 1 + i) = M) (hcl : Cond.classLink own idx "[[I" ∈ lw_all) (hc : cs + (1 + N) ≤ rm.cells) (hs : sl + (N + N * M) ≤ rm.slots) (hd : decode cc pc = .ok (.multianewarray idx 2, 4)) (kk : GGo K Q comp nL (NS Γ K a b fs (k + (1 + N)) c00) (cs + (1 + N)) (sl + (N + N * M)) (pc + 4) ls (.ref (b + k) :: st)) : GGo K Q comp nL (NS Γ K a b fs k c00) cs sl pc ls (.int m :: .int n :: st) := by
  refine x_multi hk hK hn hm hN hM hao hcl hc hs hd (fun q => ?_)
  refine g_at (fun H1 locs hI => ?_)
  obtain ⟨H, hI, rfl, hz, ho, he, hi9⟩ := hI
  have hsz := hI.2.2.2.1
  rw [hsz] at he hi9 ⊢
  refine g_I (fun H9 l9 e9 => ?_) kk
  rw [e9.1, e9.2]
  refine hI.grow ha hb hz ho (fun i hi => ?_)
  rcases Nat.eq_zero_or_pos i with h | h
  · subst h
    rw [Nat.add_zero, he]
    unfold stC
    rw [if_neg (by omega), h0]
  · have w := hin (i - 1) (by omega)
    have w2 := hi9 (i - 1) (by omega)
    rw [show k + 1 + (i - 1) = k + i by omega] at w
    rw [show b + k + 1 + (i - 1) = b + (k + i) by omega] at w2
    rw [w2]
    unfold stC
    rw [if_pos w.1, if_neg w.2.1, w.2.2]
    rfl
theorem ns_anewT (hk : KOK K cc nL own rm ret) (hK : CK Γ (kS K)) (hao : va_AO RX4 (kS K)) (ha : a < b) (hb : b = (kS K).heap.size) {idx : Nat} (h70 : k = 70) (hcl : Cond.classLink own idx RX4 ∈ lw_all) (hc : cs + 1 ≤ rm.cells) (hs : sl + 4 ≤ rm.slots) (hd : decode cc pc = .ok (.anewarray idx, 3)) (kk : GGo K Q comp nL (NS Γ K a b fs (k + 1) c00) (cs + 1) (sl + 4) (pc + 3) ls (.ref (b + k) :: st)) : GGo K Q comp nL (NS Γ K a b fs k c00) cs sl pc ls (.int 4 :: st) := by
  intro r hr H locs lsA hI hh
  have hcn : (4 : Int32).toNatClampNeg = 4 := by decide
  refine W.anew hk.1 hk.2.1 hk.2.2.2.1 (hk.2.2.2.2.1 _ hcl) (va_AO.use hao) rfl hd rfl (by decide) (by rw [hcn]; decide) (by show _ ≤ (kR K).cells; rw [hk.2.2.2.2.2.2.2]; exact hc) (by show _ ≤ (kR K).slots; rw [hk.2.2.2.2.2.2.2, hcn]; exact hs) fun cA kA comp0 f1 f2 f3 f4 => ?_
  rw [hcn]
  have hcA : cA = gC Γ 3 := by
    obtain ⟨-, -, -, -, -, h4⟩ := (hK.1.2 3 _ rfl).2
    exact Option.some.inj (f1.symm.trans h4)
  subst hcA
  generalize hH1 : H.push ({ cls := gC Γ 3, slots := Array.replicate 4 .null, vm := .none } : Cell) = H1
  have z1 : H1.size = H.size + 1 := by rw [← hH1, Array.size_push]
  have e1 : H1[H.size]? = some (arrV (gC Γ 3) 4 (fun _ => .null)) := by rw [← hH1, Array.getElem?_push_size, ← arrV_new]
  have o1 : ∀ q : Nat, q < H.size → H1[q]? = H[q]? := fun q hq => by rw [← hH1, Array.getElem?_push, if_neg (Nat.ne_of_lt hq)]
  have hsz := hI.2.2.2.1
  rw [hsz]
  refine kk r hr H1 locs lsA (NS.grow (d := 1) hI ha hb z1 o1 (fun i hi => ?_)) hh
  rw [show k + i = k by omega, ← hsz, e1]
  unfold stC
  rw [h70]
  rfl
theorem ns_put (hk : KOK K cc nL RX1 rm ret) (hK : CK Γ (kS K)) (ha : a < b) {v : Value} (j idx : Nat) (hj : j < 11) (hl : Cond.fieldLink RX1 idx RX1 (TX1 j).2.1 (TX1 j).2.2.1 ∈ lw_all) (hs : (TX1 j).1 = RX1) (hfin : (TX1 j).2.2.2 = true) (hnm : (kMe K).name = "<init>") (hn : narrow (tyX1 j) v = v) (hfit : fits (tyX1 j) v = true) (hkl : fs.length = 11) (hd : decode cc pc = .ok (.putfield idx, 3)) (kk : GGo K Q comp nL (NS Γ K a b (fs.set j v) k c) cs sl (pc + 3) ls st) : GGo K Q comp nL (NS Γ K a b fs k c) cs sl pc ls (v :: .ref a :: st) :=
  nw_putF (ci := 1) (fs := fs) (ref := RX1) hk hK rfl in_X1 tyX1 tyX1_ok nmX1 j hj hl hs hfin hnm hs hn hfit (by omega) (fun H H1 h z o => h.kept ha z o) hd kk
end ANS
