/-! read -/
set_option maxRecDepth 100000
abbrev D4 : Type := Int32 × Int32 × Int32 × Int32
def isDo (k : Int32) : Bool := k == 203 || k == 204 || k == 205 || k == 206 || k == 207
theorem isDo_or {k : Int32} (h : isDo k = true) : k = 203 ∨ k = 204 ∨ k = 205 ∨ k = 206 ∨ k = 207 := by
  unfold isDo at h
  simp only [Bool.or_eq_true, beq_iff_eq] at h
  rcases h with (((h | h) | h) | h) | h
  · exact Or.inl h
  · exact Or.inr (Or.inl h)
  · exact Or.inr (Or.inr (Or.inl h))
  · exact Or.inr (Or.inr (Or.inr (Or.inl h)))
  · exact Or.inr (Or.inr (Or.inr (Or.inr h)))
def lwI (κ : TKS) : Nat := (κ.2.2.2.2.2 - 200).toNatClampNeg
/-- a clause, behind its word's check -/
def K_r88 (π : PPar) (sum : TKS → Option (KRs Den)) (rec : TKS → (Nat → Option Den) → List D4 → Nat → Nat → Nat → Option (KRs Tx)) (τ : TKS) (lw : Nat → Option Den) (ds : List D4) (n c s : Nat) : Option (KRs Tx) :=
  if n = 24 then some (.inl (6, τ.2.1), c + 1, s + 8)
  else ob1 (K_next π τ) (fun τ2 =>
    if 202 < τ2.2.2.2.2.2 then
      (if isDo τ2.2.2.2.2.2 = true then obK (K_doing π (nI n) τ2) (fun e _ _ => some (.inl e, c + 4, s + 28)) (fun x τ3 _ _ => obE (K_want π 59 τ3) (fun e => some (.inl e, c + 4 + adC ds.length + 1, s + 28 + adS ds.length + 8)) (fun τ4 => rec τ4 lw (ds ++ [x]) (n + 1) (c + 4 + adC ds.length + 1) (s + 28 + adS ds.length + 8))) else none)
    else if inb (τ2.2.2.2.2.2 - 200) 3 = true then
      obK (sum τ2) (fun e a b => some (.inl e, c + a, s + b)) (fun d τ3 a b => obE (K_want π 59 τ3) (fun e => some (.inl e, c + a + 1, s + b + 8)) (fun τ4 => rec τ4 (va_up lw (lwI τ2) (some d)) ds (n + 1) (c + a + 1) (s + b + 8)))
    else none)
def K_rd (π : PPar) (sum : TKS → Option (KRs Den)) : Nat → TKS → (Nat → Option Den) → List D4 → Nat → Nat → Nat → Option (KRs Tx)
  | 0, _, _, _, _, _, _ => none
  | m + 1, τ, lw, ds, n, c, s =>
    if τ.2.2.1 = 301 then some (.inr ((lw, ds), τ), c, s)
    else if τ.2.2.1 < 200 then some (.inl (1, τ.2.1), c + 1, s + 8)
    else if 207 < τ.2.2.1 then some (.inl (1, τ.2.1), c + 1, s + 8)
    else if 202 < τ.2.2.1 then K_r88 π sum (K_rd π sum m) (sKind τ τ.2.2.1) lw ds n c s
    else if inb (τ.2.2.1 - 200) 3 = true then
      (match lw (lwI (sKind τ τ.2.2.1)) with
       | some _ => some (.inl (4, τ.2.1), c + 1, s + 8)
       | none => K_r88 π sum (K_rd π sum m) (sKind τ τ.2.2.1) lw ds n c s)
    else none
def rdSum (π : PPar) : TKS → Option (KRs Den) := K_sum π (K_pair π 12).1
def K_read (π : PPar) (τ : TKS) : Option (KRs Tx) := ob1 (K_next π τ) (fun τ1 => K_rd π (rdSum π) 400 τ1 (fun _ => none) [] 0 3 9)
theorem K_r88_up {π : PPar} {sum : TKS → Option (KRs Den)} {rec : TKS → (Nat → Option Den) → List D4 → Nat → Nat → Nat → Option (KRs Tx)} (hrec : ∀ τ lw ds n c s r, rec τ lw ds n c s = some r → c ≤ r.2.1 ∧ s ≤ r.2.2) {τ : TKS} {lw : Nat → Option Den} {ds : List D4} {n c s : Nat} {r : KRs Tx} (h : K_r88 π sum rec τ lw ds n c s = some r) : c ≤ r.2.1 ∧ s ≤ r.2.2 := by
  unfold K_r88 at h
  split at h
  · cases h; exact ⟨Nat.le_add_right _ _, Nat.le_add_right _ _⟩
  obtain ⟨τ2, -, h⟩ := ob1_some h
  split at h
  · split at h
    · rcases obK_some h with ⟨e, a, b, -, h⟩ | ⟨x, τ3, a, b, -, h⟩
      · cases h; exact ⟨Nat.le_add_right _ _, Nat.le_add_right _ _⟩
      rcases obE_some h with ⟨e, -, h⟩ | ⟨τ4, -, h⟩
      · cases h; dsimp only; omega
      · have := hrec _ _ _ _ _ _ _ h; omega
    · cases h
  · split at h
    · rcases obK_some h with ⟨e, a, b, -, h⟩ | ⟨x, τ3, a, b, -, h⟩
      · cases h; exact ⟨Nat.le_add_right _ _, Nat.le_add_right _ _⟩
      rcases obE_some h with ⟨e, -, h⟩ | ⟨τ4, -, h⟩
      · cases h; dsimp only; omega
      · have := hrec _ _ _ _ _ _ _ h; omega
    · cases h
theorem K_rd_up {π : PPar} {sum : TKS → Option (KRs Den)} : ∀ (m : Nat) (τ : TKS) (lw : Nat → Option Den) (ds : List D4) (n c s : Nat) (r : KRs Tx), K_rd π sum m τ lw ds n c s = some r → c ≤ r.2.1 ∧ s ≤ r.2.2 := by
  intro m
  induction m with
  | zero => intro τ lw ds n c s r h; cases h
  | succ m ih =>
    intro τ lw ds n c s r h
    unfold K_rd at h
    split at h
    · cases h; exact ⟨Nat.le_refl _, Nat.le_refl _⟩
    split at h
    · cases h; exact ⟨Nat.le_add_right _ _, Nat.le_add_right _ _⟩
    split at h
    · cases h; exact ⟨Nat.le_add_right _ _, Nat.le_add_right _ _⟩
    split at h
    · exact K_r88_up ih h
    split at h
    · split at h
      · cases h; exact ⟨Nat.le_add_right _ _, Nat.le_add_right _ _⟩
      · exact K_r88_up ih h
    · cases h
/-- none of the text's own cells -/
def rdO (t la dl a q : Nat) : Prop := q ≠ t ∧ q ≠ la ∧ q ≠ dl ∧ q ≠ a
/-- the text that is being read -/
def RDE (Γ : CG) (s k t la dl a : Nat) (lw : Nat → Option Den) (lq : Nat → Option Nat) (es : List Nat) (ds : List D4) (n : Nat) (H : Heap) : Prop :=
  (va_at (gD Γ) ccl (t, .inr (3, [.ref la, .int (nI n), .ref dl])) H ∧ H[la]? = some (arrV (gC Γ 4) 3 (fun i => va_rf (lq i))) ∧ LHt Γ H dl a es) ∧
  ((s ≤ t ∧ s ≤ la ∧ s ≤ dl) ∧ (t ≠ la ∧ t ≠ dl ∧ la ≠ dl) ∧ (es ≠ [] → s ≤ a ∧ a ≠ t ∧ a ≠ la)) ∧
  (∀ i, i < 3 → (lw i = none ∧ lq i = none) ∨ ∃ x y, lw i = some x ∧ lq i = some y ∧ DAt Γ (fun q => s ≤ q ∧ rdO t la dl a q) H k (.inl x) y) ∧
  (es.length = ds.length ∧ ∀ (j y : Nat) (d : D4), es[j]? = some y → ds[j]? = some d → (s ≤ y ∧ rdO t la dl a y) ∧ va_at (gD Γ) ccl (y, .inr (14, [.int d.1, .int d.2.1, .int d.2.2.1, .int d.2.2.2])) H)
theorem RDE.kept {Γ : CG} {s k t la dl a n : Nat} {lw : Nat → Option Den} {lq : Nat → Option Nat} {es : List Nat} {ds : List D4} {H H1 : Heap} (h : RDE Γ s k t la dl a lw lq es ds n H) (ho : ∀ x : Nat, x < H.size → s ≤ x → H1[x]? = H[x]?) : RDE Γ s k t la dl a lw lq es ds n H1 := by
  obtain ⟨⟨h1, h2, h3⟩, ⟨⟨h4, h5, h6⟩, h7, h8⟩, h9, h10, h11⟩ := h
  refine ⟨⟨h1.kept (ho _ h1.lt h4), by rw [ho la (Array.getElem?_eq_some_iff.mp h2).1 h5]; exact h2, h3.kept (ho _ h3.lt.1 h6) (fun e => ho _ (h3.lt.2 e) (h8 e).1)⟩, ⟨⟨h4, h5, h6⟩, h7, h8⟩, fun i hi => ?_, h10, fun j y d e1 e2 => ?_⟩
  · rcases h9 i hi with z | ⟨x, y, z1, z2, z3⟩
    · exact Or.inl z
    · exact Or.inr ⟨x, y, z1, z2, z3.kept (fun q hq h2 => ⟨h2, ho q hq h2.1⟩)⟩
  · obtain ⟨z1, z2⟩ := h11 j y d e1 e2
    exact ⟨z1, z2.kept (ho _ z2.lt z1.1)⟩
theorem RDE.st {Γ : CG} {π : PPar} {s k t la dl a n : Nat} {lw : Nat → Option Den} {lq : Nat → Option Nat} {es : List Nat} {ds : List D4} (hs : π.1 < s) : PSt π (RDE Γ s k t la dl a lw lq es ds n) := fun H H1 h hF => h.kept (fun x hx h2 => hF.2 x hx (by omega))
/-- a text read -/
def TextS (Γ : CG) (s k : Nat) (H : Heap) (q : Nat) (T : Tx) : Prop := ∃ (la dl a : Nat) (lq : Nat → Option Nat) (es : List Nat) (n : Nat), RDE Γ s k q la dl a T.1 lq es T.2 n H
def vwX (Γ : CG) (π : PPar) (H0 : Heap) (k : Nat) : ((Int32 × Int32) ⊕ (Tx × TKS)) → PRes
  | .inl e => .inl e
  | .inr r => .inr (fun v H1 => ∃ q, v = some (.ref q) ∧ TextS Γ H0.size k H1 q r.1)
section G9
variable {ρ : Type} {K : KT} {Q : ρ → State → Prop} {comp : Option ρ} {nL : Nat} {I : Heap → List Loc → Prop} {cs sl pc : Nat} {ls : List (Nat × Value)} {st : List Value} {cc : ByteArray} {rm : Room} {ret : Option FieldType} {own : String}
theorem g_ifnl (hk : KOK K cc nL own rm ret) {x : Nat} {off : Int} (hd : decode cc pc = .ok (.ifnull off, 3)) (k : GGo K Q comp nL I cs sl (pc + 3) ls st) : GGo K Q comp nL I cs sl pc ls (.ref x :: st) := fun r hr H locs lsA hI hh => lv_ifnull hk.1 hk.2.1 hd (k r hr H locs lsA hI hh)
theorem g_ifnlN (hk : KOK K cc nL own rm ret) {off : Int} {tgt : Nat} (hd : decode cc pc = .ok (.ifnull off, 3)) (ht : (pc : Int) + off = (tgt : Int)) (k : GGo K Q comp nL I cs sl tgt ls st) : GGo K Q comp nL I cs sl pc ls (.null :: st) := fun r hr H locs lsA hI hh => lv_ifnullN hk.1 hk.2.1 hd ht (k r hr H locs lsA hI hh)
end G9
