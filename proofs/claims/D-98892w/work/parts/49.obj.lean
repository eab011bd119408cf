/-! THE OBJECT's constructor (made by mkdx36.py) -/
set_option maxRecDepth 100000
def sJ (j : Nat) : Nat := if j < 5 then j else if j < 18 then j - 4 else if j < 28 then j - 5 else if j < 36 then j - 6 else if j < 48 then j - 9 else if j < 80 then j - 10 else if j = 85 then 5 else if j = 86 then 14 else if j = 87 then 23 else if j = 88 then 30 else if j = 89 then 39 else 70
/-- where a cell lies, from the first State's address on -/
def oX (k : Nat) : Nat := if k = 301 then 0 else if k = 302 then 72 else if k < 200 then 1 + 72 * (k / 100) + sJ (k % 100) else 144 + (k - 200)
def P12 (Γ : CG) (s w : Nat) (H : Heap) : Prop := va_at (gD Γ) ccl (s + 72 * w, .inr (1, fsS (s + 72 * w + 1))) H ∧ ∀ i, i < 71 → H[s + 72 * w + 1 + i]? = some (stC Γ (s + 72 * w + 1) (stF 8) i)
def xC (Γ : CG) (i : Nat) : Cell := if cby (200 + i) = true then arrV (gC Γ 1) (cln (200 + i)) (fun _ => .int 0) else arrV (gC Γ 0) (cln (200 + i)) (fun _ => .int 0)
theorem P12.kept {Γ : CG} {s w : Nat} {H H1 : Heap} (h : P12 Γ s w H) (ho : ∀ q, s ≤ q → q < H.size → H1[q]? = H[q]?) : P12 Γ s w H1 := by
  refine ⟨h.1.kept (ho _ (by omega) h.1.lt), fun i hi => ?_⟩
  have e := h.2 i hi
  rw [ho _ (by omega) (Array.getElem?_eq_some_iff.mp e).1]
  exact e
def NX (Γ : CG) (K : KT) (a s : Nat) (fs : List Value) (m : Nat) : Heap → List Loc → Prop := NW K a (fun H => va_at (gD Γ) ccl (a, .inr (0, fs)) H ∧ P12 Γ s 0 H ∧ P12 Γ s 1 H ∧ H.size = s + 144 + m ∧ ∀ i, i < m → H[s + 144 + i]? = some (xC Γ i))
section XNX
variable {ρ : Type} {K : KT} {Q : ρ → State → Prop} {comp A B : Option ρ} {nL : Nat} {I : Heap → List Loc → Prop} {cs sl pc : Nat} {ls : List (Nat × Value)} {st : List Value} {cc : ByteArray} {rm : Room} {ret : Option FieldType} {Γ : CG} {own : String} {a s m : Nat} {fs : List Value}
theorem NX.grow {H H1 : Heap} {locs : List Loc} (h : NX Γ K a s fs m H locs) (hz : H1.size = H.size + 1) (ho : ∀ x, x < H.size → H1[x]? = H[x]?) (hn : H1[H.size]? = some (xC Γ m)) : NX Γ K a s fs (m + 1) H1 locs := by
  obtain ⟨h1, h2, h3, h4, h5, h6, h7⟩ := h
  refine ⟨h1.trans ⟨by omega, fun q hq _ => ho q hq⟩, h2, h3.kept (ho _ h3.lt), h4.kept (fun q _ hq => ho q hq), h5.kept (fun q _ hq => ho q hq), by omega, fun i hi => ?_⟩
  rcases Nat.lt_or_ge i m with h | h
  · rw [ho _ (by omega)]; exact h7 i h
  · obtain rfl : i = m := by omega
    rw [← h6]; exact hn
theorem xs_newI (hk : KOK K cc nL own rm ret) (hK : CK Γ (kS K)) {N : Nat} {n : Int32} (hn : n = nI N) (hN : N < 100000) (hc : xC Γ m = arrV (gC Γ 0) N (fun _ => .int 0)) (hcs : cs + 1 ≤ rm.cells) (hs : sl + N ≤ rm.slots) (hd : decode cc pc = .ok (.newarray .int, 2)) (kk : GGo K Q comp nL (NX Γ K a s fs (m + 1)) (cs + 1) (sl + N) (pc + 2) ls (.ref (s + 144 + m) :: st)) : GGo K Q comp nL (NX Γ K a s fs m) cs sl pc ls (.int n :: st) := by
  refine x_newI hk hK hn hN hcs hs hd (fun q => ?_)
  refine g_at (fun H1 locs hI => ?_)
  obtain ⟨H, hI, rfl, hz, ho, he⟩ := hI
  have hsz := hI.2.2.2.2.2.1
  refine g_I (I' := NX Γ K a s fs (m + 1)) (fun H9 l9 e9 => ?_) (by rw [hsz]; exact kk)
  rw [e9.1, e9.2]
  exact hI.grow hz ho (by rw [he, hc])
theorem xs_newB (hk : KOK K cc nL own rm ret) (hK : CK Γ (kS K)) {N : Nat} {n : Int32} (hn : n = nI N) (hN : N < 100000) (hc : xC Γ m = arrV (gC Γ 1) N (fun _ => .int 0)) (hcs : cs + 1 ≤ rm.cells) (hs : sl + N ≤ rm.slots) (hd : decode cc pc = .ok (.newarray .byte, 2)) (kk : GGo K Q comp nL (NX Γ K a s fs (m + 1)) (cs + 1) (sl + N) (pc + 2) ls (.ref (s + 144 + m) :: st)) : GGo K Q comp nL (NX Γ K a s fs m) cs sl pc ls (.int n :: st) := by
  refine x_newB hk hK hn hN hcs hs hd (fun q => ?_)
  refine g_at (fun H1 locs hI => ?_)
  obtain ⟨H, hI, rfl, hz, ho, he⟩ := hI
  have hsz := hI.2.2.2.2.2.1
  refine g_I (I' := NX Γ K a s fs (m + 1)) (fun H9 l9 e9 => ?_) (by rw [hsz]; exact kk)
  rw [e9.1, e9.2]
  exact hI.grow hz ho (by rw [he, hc])
theorem NX.keptE (ha : a < s) : ∀ H H1 : Heap, (P12 Γ s 0 H ∧ P12 Γ s 1 H ∧ H.size = s + 144 + m ∧ ∀ i, i < m → H[s + 144 + i]? = some (xC Γ i)) → H1.size = H.size → (∀ q : Nat, q ≠ a → H1[q]? = H[q]?) → (P12 Γ s 0 H1 ∧ P12 Γ s 1 H1 ∧ H1.size = s + 144 + m ∧ ∀ i, i < m → H1[s + 144 + i]? = some (xC Γ i)) := fun H H1 h hz ho =>
  ⟨h.1.kept (fun q hq _ => ho q (by omega)), h.2.1.kept (fun q hq _ => ho q (by omega)), by rw [hz]; exact h.2.2.1, fun i hi => by rw [ho _ (by omega)]; exact h.2.2.2 i hi⟩
theorem xs_putF (hk : KOK K cc nL RX0 rm ret) (hK : CK Γ (kS K)) (ha : a < s) {v : Value} (j idx : Nat) (hj : j < 17) (hl : Cond.fieldLink RX0 idx RX0 (TX0 j).2.1 (TX0 j).2.2.1 ∈ lw_all) (hs : (TX0 j).1 = RX0) (hfin : (TX0 j).2.2.2 = true) (hnm : (kMe K).name = "<init>") (hn : narrow (tyX0 j) v = v) (hfit : fits (tyX0 j) v = true) (hkl : fs.length = 17) (hd : decode cc pc = .ok (.putfield idx, 3)) (kk : GGo K Q comp nL (NX Γ K a s (fs.set j v) m) cs sl (pc + 3) ls st) : GGo K Q comp nL (NX Γ K a s fs m) cs sl pc ls (v :: .ref a :: st) :=
  nw_putF (ci := 0) (fs := fs) (ref := RX0) hk hK rfl in_X0 tyX0 tyX0_ok nmX0 j hj hl hs hfin hnm hs hn hfit (by omega) (NX.keptE ha) hd kk
theorem xs_put (hk : KOK K cc nL RX0 rm ret) (hK : CK Γ (kS K)) (ha : a < s) {v : Value} (j idx : Nat) (hj : j < 17) (hl : Cond.fieldLink RX0 idx RX0 (TX0 j).2.1 (TX0 j).2.2.1 ∈ lw_all) (hs : (TX0 j).1 = RX0) (hfin : (TX0 j).2.2.2 = false) (hn : narrow (tyX0 j) v = v) (hfit : fits (tyX0 j) v = true) (hkl : fs.length = 17) (hd : decode cc pc = .ok (.putfield idx, 3)) (kk : GGo K Q comp nL (NX Γ K a s (fs.set j v) m) cs sl (pc + 3) ls st) : GGo K Q comp nL (NX Γ K a s fs m) cs sl pc ls (v :: .ref a :: st) :=
  nw_put (ci := 0) (fs := fs) (ref := RX0) hk hK rfl in_X0 tyX0 tyX0_ok nmX0 j hj hl hs hfin hn hfit (by omega) (NX.keptE ha) hd kk
/-- the arrays as they are made -/
def cA0 (k : Nat) : Nat → Int32 := if k < 200 then stF 8 (sJ (k % 100)) else fun _ => 0
def cI0 (k : Nat) : Int32 := if k = 4 then -1 else if k = 5 then -1 else 0
def s00 (tx : TXs Tx) : CS := (cI0, cA0, tx)
theorem sJ_ok : ∀ k, k < 200 → 0 < cln k → sJ (k % 100) < 71 ∧ stN (sJ (k % 100)) = 0 ∧ sJ (k % 100) ≠ 70 ∧ stL (sJ (k % 100)) = cln k ∧ cby k = false := by decide +kernel
theorem cln_hi {k : Nat} (h : 200 ≤ k) (h2 : 0 < cln k) : k ≤ 210 := by
  rcases Nat.lt_or_ge 210 k with h3 | h3
  · unfold cln at h2
    rw [if_neg (by omega), if_neg (by omega), if_neg (by omega), if_neg (by omega), if_neg (by omega), if_neg (by omega), if_neg (by omega), if_neg (by omega), if_neg (by omega), if_neg (by omega), if_neg (by omega), if_neg (by omega)] at h2
    omega
  · exact h3
theorem sJ_rows : ∀ w, w < 2 → ∀ j, j < 10 → 5 ≤ j → stN (sJ (80 + j)) = cgn j ∧ cgn j ≠ 0 ∧ sJ (80 + j) < 71 ∧ (100 * w + (80 + j)) / 100 = w ∧ (100 * w + (80 + j)) % 100 = 80 + j ∧ cval (100 * w + (80 + j)) = true ∧ ∀ i, i < cgn j → cval (cgb w j + i) = true ∧ (cgb w j + i) < 200 ∧ (cgb w j + i) / 100 = w ∧ sJ ((cgb w j + i) % 100) = sJ (80 + j) + 1 + i := by
  intro w hw j hj h5
  rcases (show w = 0 ∨ w = 1 by omega) with rfl | rfl <;> rcases (show j = 5 ∨ j = 6 ∨ j = 7 ∨ j = 8 ∨ j = 9 by omega) with rfl | rfl | rfl | rfl | rfl <;> exact ⟨by decide, by decide, by decide, by decide, by decide, by decide, by decide +kernel⟩
theorem CW.made {s : Nat} {H : Heap} {tx : TXs Tx} (htx : ∀ w i, w < 2 → i < 4 → tx.1 w i = none) (hg : ∀ k, cval k = true → k ≠ 300 → gA Γ k = s + oX k) (h0 : va_at (gD Γ) ccl (gA Γ 300, .inr (0, cfx Γ (s00 tx))) H) (h1 : P12 Γ s 0 H) (h2 : P12 Γ s 1 H) (h3 : ∀ i, i < 11 → H[s + 144 + i]? = some (xC Γ i)) : CW Γ (s00 tx) H := by
  have hP : ∀ w, w < 2 → P12 Γ s w H := fun w hw => by
    rcases (show w = 0 ∨ w = 1 by omega) with rfl | rfl
    · exact h1
    · exact h2
  have low : ∀ k, k < 200 → cval k = true → gA Γ k = s + 72 * (k / 100) + 1 + sJ (k % 100) := fun k hk hv => by
    rw [hg k hv (by omega)]
    unfold oX
    rw [if_neg (by omega), if_neg (by omega), if_pos hk]
    omega
  refine ⟨fun k n hk => ?_, fun k n hk => ?_, fun w j hw h5 h10 => ?_, fun w hw => ?_, h0, fun w hw => ?_⟩
  · have hv := cAv_val hk
    obtain ⟨⟨hn, hp⟩, hb⟩ := hk
    rcases Nat.lt_or_ge k 200 with h | h
    · obtain ⟨g1, g2, g3, g4, g5⟩ := sJ_ok k h (by omega)
      rw [low k h hv, (hP (k / 100) (by omega)).2 _ g1]
      unfold stC
      rw [if_pos g2, if_neg g3, g4, hn]
      show some (arrV (gC Γ 0) n (fun q => .int (stF 8 (sJ (k % 100)) q))) = some (arrV (gC Γ 0) n (fun j => .int (cA0 k j)))
      unfold cA0
      rw [if_pos h]
    · have hle := cln_hi h (by omega)
      rw [hg k hv (by omega)]
      unfold oX
      rw [if_neg (by omega), if_neg (by omega), if_neg (by omega), ← Nat.add_assoc, h3 _ (by omega)]
      unfold xC
      rw [show 200 + (k - 200) = k by omega, hb, hn]
      show some (arrV (gC Γ 0) n (fun _ => .int 0)) = some (arrV (gC Γ 0) n (fun j => .int (cA0 k j)))
      unfold cA0
      rw [if_neg (by omega)]
  · have hv := cBv_val hk
    obtain ⟨⟨hn, hp⟩, hb⟩ := hk
    rcases Nat.lt_or_ge k 200 with h | h
    · obtain ⟨g1, g2, g3, g4, g5⟩ := sJ_ok k h (by omega)
      rw [g5] at hb; cases hb
    · have hle := cln_hi h (by omega)
      rw [hg k hv (by omega)]
      unfold oX
      rw [if_neg (by omega), if_neg (by omega), if_neg (by omega), ← Nat.add_assoc, h3 _ (by omega)]
      unfold xC
      rw [show 200 + (k - 200) = k by omega, hb, hn]
      show some (arrV (gC Γ 1) n (fun _ => .int 0)) = some (arrV (gC Γ 1) n (fun j => .int (cA0 k j)))
      unfold cA0
      rw [if_neg (by omega)]
  · obtain ⟨g1, g2, g3, g4, g5, g6, g7⟩ := sJ_rows w hw j h10 h5
    rw [low _ (by omega) g6, g4, g5, (hP w hw).2 _ g3]
    unfold stC
    rw [if_neg (by rw [g1]; exact g2), g1]
    refine congrArg some (arrV_ext (fun i hi => ?_))
    obtain ⟨k1, k2, k3, k4⟩ := g7 i hi
    rw [low _ k2 k1, k3, k4]
    have e9 : @Eq Nat (s + 72 * w + 1 + sJ (80 + j) + 1 + i) (s + 72 * w + 1 + (sJ (80 + j) + 1 + i)) := by omega
    exact congrArg Value.ref e9
  · have e : gA Γ (100 * w + 90) = s + 72 * w + 1 + 70 := by
      rcases (show w = 0 ∨ w = 1 by omega) with rfl | rfl
      · exact low 90 (by decide) rfl
      · exact low 190 (by decide) rfl
    rw [e, (hP w hw).2 70 (by decide)]
    show some (arrV (gC Γ 3) 4 (fun _ => va_rf none)) = some (arrV (gC Γ 3) 4 (fun i => va_rf (tx.1 w i)))
    exact congrArg some (arrV_ext (fun i hi => by rw [htx w i hw hi]))
  · have e : gA Γ (301 + w) = s + 72 * w := by
      rcases (show w = 0 ∨ w = 1 by omega) with rfl | rfl
      · exact hg 301 rfl (by decide)
      · exact hg 302 rfl (by decide)
    rw [e]
    have h9 := (hP w hw).1
    have hb : ∀ j, j < 100 → cval (100 * w + j) = true → gA Γ (100 * w + j) = s + 72 * w + 1 + sJ j := fun j hj hv => by
      rw [low _ (by omega) hv, show (100 * w + j) / 100 = w by omega, show (100 * w + j) % 100 = j by omega]
    have hcv : ∀ j ∈ [0, 1, 2, 3, 4, 85, 86, 87, 88, 89, 90], cval (100 * w + j) = true := by
      rcases (show w = 0 ∨ w = 1 by omega) with rfl | rfl <;> decide
    have e2 : cfs Γ w = fsS (s + 72 * w + 1) := by
      unfold cfs fsS
      rw [hb 0 (by decide) (hcv 0 (by decide)), hb 1 (by decide) (hcv 1 (by decide)), hb 2 (by decide) (hcv 2 (by decide)), hb 3 (by decide) (hcv 3 (by decide)), hb 4 (by decide) (hcv 4 (by decide)), hb 85 (by decide) (hcv 85 (by decide)), hb 86 (by decide) (hcv 86 (by decide)), hb 87 (by decide) (hcv 87 (by decide)), hb 88 (by decide) (hcv 88 (by decide)), hb 89 (by decide) (hcv 89 (by decide)), hb 90 (by decide) (hcv 90 (by decide))]
      rfl
    rw [e2]
    exact h9
end XNX
