/-! TOKENS: fields of the object, the tape; next (made by mkdx8.py) -/
set_option maxRecDepth 100000
def sAt (τ : TKS) (v : Int32) : TKS := (v, τ.2)
def sTok (τ : TKS) (v : Int32) : TKS := (τ.1, v, τ.2.2)
def sSort (τ : TKS) (v : Int32) : TKS := (τ.1, τ.2.1, v, τ.2.2.2)
def sNum (τ : TKS) (v : Int32) : TKS := (τ.1, τ.2.1, τ.2.2.1, v, τ.2.2.2.2)
def sOpen (τ : TKS) (v : Int32) : TKS := (τ.1, τ.2.1, τ.2.2.1, τ.2.2.2.1, v, τ.2.2.2.2.2)
def sKind (τ : TKS) (v : Int32) : TKS := (τ.1, τ.2.1, τ.2.2.1, τ.2.2.2.1, τ.2.2.2.2.1, v)
/-- only the Tokens object has changed since H0, nothing is new -/
def TKW (Γ : CG) (π : PPar) (H0 : Heap) (τ : TKS) : Heap → List Loc → Prop := fun H locs => va_at (gD Γ) ccl (π.1, .inr (2, tkF Γ π τ)) H ∧ H.size = H0.size ∧ (∀ q : Nat, q ≠ π.1 → H[q]? = H0[q]?) ∧ ∀ l ∈ locs, l.base = π.1
section TKR
variable {ρ : Type} {K : KT} {Q : ρ → State → Prop} {comp : Option ρ} {f : TKS → Option ρ} {nL : Nat} {I : Heap → List Loc → Prop} {cs sl pc : Nat} {ls : List (Nat × Value)} {st : List Value} {cc : ByteArray} {rm : Room} {ret : Option FieldType} {Γ : CG} {π : PPar} {τ : TKS} {H0 : Heap}
theorem kg_9 (hk : KOK K cc nL RX3 rm ret) (hK : CK Γ (kS K)) (ht : ∀ H locs, I H locs → va_at (gD Γ) ccl (π.1, .inr (2, tkF Γ π τ)) H) (hd : decode cc pc = .ok (.getfield 9, 3)) (kk : GGo K Q comp nL I cs sl (pc + 3) ls (.ref (gA Γ 200) :: st)) : GGo K Q comp nL I cs sl pc ls (.ref π.1 :: st) := x_get (v := .ref (gA Γ 200)) hk hK (ci := 2) rfl in_X3 ht 0 (by decide) q333 (Or.inl rfl) rfl hd kk
theorem kg_15 (hk : KOK K cc nL RX3 rm ret) (hK : CK Γ (kS K)) (ht : ∀ H locs, I H locs → va_at (gD Γ) ccl (π.1, .inr (2, tkF Γ π τ)) H) (hd : decode cc pc = .ok (.getfield 15, 3)) (kk : GGo K Q comp nL I cs sl (pc + 3) ls (.int π.2.1 :: st)) : GGo K Q comp nL I cs sl pc ls (.ref π.1 :: st) := x_get (v := .int π.2.1) hk hK (ci := 2) rfl in_X3 ht 1 (by decide) q334 (Or.inl rfl) rfl hd kk
theorem kg_19 (hk : KOK K cc nL RX3 rm ret) (hK : CK Γ (kS K)) (ht : ∀ H locs, I H locs → va_at (gD Γ) ccl (π.1, .inr (2, tkF Γ π τ)) H) (hd : decode cc pc = .ok (.getfield 19, 3)) (kk : GGo K Q comp nL I cs sl (pc + 3) ls (.int τ.1 :: st)) : GGo K Q comp nL I cs sl pc ls (.ref π.1 :: st) := x_get (v := .int τ.1) hk hK (ci := 2) rfl in_X3 ht 2 (by decide) q335 (Or.inl rfl) rfl hd kk
theorem kg_22 (hk : KOK K cc nL RX3 rm ret) (hK : CK Γ (kS K)) (ht : ∀ H locs, I H locs → va_at (gD Γ) ccl (π.1, .inr (2, tkF Γ π τ)) H) (hd : decode cc pc = .ok (.getfield 22, 3)) (kk : GGo K Q comp nL I cs sl (pc + 3) ls (.int τ.2.1 :: st)) : GGo K Q comp nL I cs sl pc ls (.ref π.1 :: st) := x_get (v := .int τ.2.1) hk hK (ci := 2) rfl in_X3 ht 3 (by decide) q336 (Or.inl rfl) rfl hd kk
theorem kg_25 (hk : KOK K cc nL RX3 rm ret) (hK : CK Γ (kS K)) (ht : ∀ H locs, I H locs → va_at (gD Γ) ccl (π.1, .inr (2, tkF Γ π τ)) H) (hd : decode cc pc = .ok (.getfield 25, 3)) (kk : GGo K Q comp nL I cs sl (pc + 3) ls (.int τ.2.2.1 :: st)) : GGo K Q comp nL I cs sl pc ls (.ref π.1 :: st) := x_get (v := .int τ.2.2.1) hk hK (ci := 2) rfl in_X3 ht 4 (by decide) q337 (Or.inl rfl) rfl hd kk
theorem kg_43 (hk : KOK K cc nL RX3 rm ret) (hK : CK Γ (kS K)) (ht : ∀ H locs, I H locs → va_at (gD Γ) ccl (π.1, .inr (2, tkF Γ π τ)) H) (hd : decode cc pc = .ok (.getfield 43, 3)) (kk : GGo K Q comp nL I cs sl (pc + 3) ls (.int τ.2.2.2.1 :: st)) : GGo K Q comp nL I cs sl pc ls (.ref π.1 :: st) := x_get (v := .int τ.2.2.2.1) hk hK (ci := 2) rfl in_X3 ht 5 (by decide) q338 (Or.inl rfl) rfl hd kk
theorem kg_77 (hk : KOK K cc nL RX3 rm ret) (hK : CK Γ (kS K)) (ht : ∀ H locs, I H locs → va_at (gD Γ) ccl (π.1, .inr (2, tkF Γ π τ)) H) (hd : decode cc pc = .ok (.getfield 77, 3)) (kk : GGo K Q comp nL I cs sl (pc + 3) ls (.int τ.2.2.2.2.1 :: st)) : GGo K Q comp nL I cs sl pc ls (.ref π.1 :: st) := x_get (v := .int τ.2.2.2.2.1) hk hK (ci := 2) rfl in_X3 ht 6 (by decide) q339 (Or.inl rfl) rfl hd kk
theorem kg_83 (hk : KOK K cc nL RX3 rm ret) (hK : CK Γ (kS K)) (ht : ∀ H locs, I H locs → va_at (gD Γ) ccl (π.1, .inr (2, tkF Γ π τ)) H) (hd : decode cc pc = .ok (.getfield 83, 3)) (kk : GGo K Q comp nL I cs sl (pc + 3) ls (.int τ.2.2.2.2.2 :: st)) : GGo K Q comp nL I cs sl pc ls (.ref π.1 :: st) := x_get (v := .int τ.2.2.2.2.2) hk hK (ci := 2) rfl in_X3 ht 7 (by decide) q340 (Or.inl rfl) rfl hd kk
theorem kp_19 {v : Int32} (hk : KOK K cc nL RX3 rm ret) (hK : CK Γ (kS K)) (hd : decode cc pc = .ok (.putfield 19, 3)) (kk : GGo K Q (f (sAt τ v)) nL (TKW Γ π H0 (sAt τ v)) cs sl (pc + 3) ls st) : GGo K Q (nm (sAt τ v) f) nL (TKW Γ π H0 τ) cs sl pc ls (.int v :: .ref π.1 :: st) := by
  refine x_put (ci := 2) (fs := tkF Γ π τ) (ref := RX3) hk hK rfl in_X3 tyX3 tyX3_ok nmX3 (fun _ _ e => e.1) 2 (by decide) q335 rfl rfl rfl rfl (show 2 < 8 by decide) hd ?_
  refine g_I (I' := TKW Γ π H0 (sAt τ v)) (fun H1 locs1 hI => ?_) kk
  obtain ⟨H, locs, ⟨-, h2, h3, h4⟩, h5, h6, h7, h8⟩ := hI
  exact ⟨h5, h6.trans h2, fun q hq => (h7 q hq).trans (h3 q hq), fun l hl => (h8 l hl).elim (h4 l) id⟩
theorem kp_22 {v : Int32} (hk : KOK K cc nL RX3 rm ret) (hK : CK Γ (kS K)) (hd : decode cc pc = .ok (.putfield 22, 3)) (kk : GGo K Q (f (sTok τ v)) nL (TKW Γ π H0 (sTok τ v)) cs sl (pc + 3) ls st) : GGo K Q (nm (sTok τ v) f) nL (TKW Γ π H0 τ) cs sl pc ls (.int v :: .ref π.1 :: st) := by
  refine x_put (ci := 2) (fs := tkF Γ π τ) (ref := RX3) hk hK rfl in_X3 tyX3 tyX3_ok nmX3 (fun _ _ e => e.1) 3 (by decide) q336 rfl rfl rfl rfl (show 3 < 8 by decide) hd ?_
  refine g_I (I' := TKW Γ π H0 (sTok τ v)) (fun H1 locs1 hI => ?_) kk
  obtain ⟨H, locs, ⟨-, h2, h3, h4⟩, h5, h6, h7, h8⟩ := hI
  exact ⟨h5, h6.trans h2, fun q hq => (h7 q hq).trans (h3 q hq), fun l hl => (h8 l hl).elim (h4 l) id⟩
theorem kp_25 {v : Int32} (hk : KOK K cc nL RX3 rm ret) (hK : CK Γ (kS K)) (hd : decode cc pc = .ok (.putfield 25, 3)) (kk : GGo K Q (f (sSort τ v)) nL (TKW Γ π H0 (sSort τ v)) cs sl (pc + 3) ls st) : GGo K Q (nm (sSort τ v) f) nL (TKW Γ π H0 τ) cs sl pc ls (.int v :: .ref π.1 :: st) := by
  refine x_put (ci := 2) (fs := tkF Γ π τ) (ref := RX3) hk hK rfl in_X3 tyX3 tyX3_ok nmX3 (fun _ _ e => e.1) 4 (by decide) q337 rfl rfl rfl rfl (show 4 < 8 by decide) hd ?_
  refine g_I (I' := TKW Γ π H0 (sSort τ v)) (fun H1 locs1 hI => ?_) kk
  obtain ⟨H, locs, ⟨-, h2, h3, h4⟩, h5, h6, h7, h8⟩ := hI
  exact ⟨h5, h6.trans h2, fun q hq => (h7 q hq).trans (h3 q hq), fun l hl => (h8 l hl).elim (h4 l) id⟩
theorem kp_43 {v : Int32} (hk : KOK K cc nL RX3 rm ret) (hK : CK Γ (kS K)) (hd : decode cc pc = .ok (.putfield 43, 3)) (kk : GGo K Q (f (sNum τ v)) nL (TKW Γ π H0 (sNum τ v)) cs sl (pc + 3) ls st) : GGo K Q (nm (sNum τ v) f) nL (TKW Γ π H0 τ) cs sl pc ls (.int v :: .ref π.1 :: st) := by
  refine x_put (ci := 2) (fs := tkF Γ π τ) (ref := RX3) hk hK rfl in_X3 tyX3 tyX3_ok nmX3 (fun _ _ e => e.1) 5 (by decide) q338 rfl rfl rfl rfl (show 5 < 8 by decide) hd ?_
  refine g_I (I' := TKW Γ π H0 (sNum τ v)) (fun H1 locs1 hI => ?_) kk
  obtain ⟨H, locs, ⟨-, h2, h3, h4⟩, h5, h6, h7, h8⟩ := hI
  exact ⟨h5, h6.trans h2, fun q hq => (h7 q hq).trans (h3 q hq), fun l hl => (h8 l hl).elim (h4 l) id⟩
theorem kp_77 {v : Int32} (hk : KOK K cc nL RX3 rm ret) (hK : CK Γ (kS K)) (hd : decode cc pc = .ok (.putfield 77, 3)) (kk : GGo K Q (f (sOpen τ v)) nL (TKW Γ π H0 (sOpen τ v)) cs sl (pc + 3) ls st) : GGo K Q (nm (sOpen τ v) f) nL (TKW Γ π H0 τ) cs sl pc ls (.int v :: .ref π.1 :: st) := by
  refine x_put (ci := 2) (fs := tkF Γ π τ) (ref := RX3) hk hK rfl in_X3 tyX3 tyX3_ok nmX3 (fun _ _ e => e.1) 6 (by decide) q339 rfl rfl rfl rfl (show 6 < 8 by decide) hd ?_
  refine g_I (I' := TKW Γ π H0 (sOpen τ v)) (fun H1 locs1 hI => ?_) kk
  obtain ⟨H, locs, ⟨-, h2, h3, h4⟩, h5, h6, h7, h8⟩ := hI
  exact ⟨h5, h6.trans h2, fun q hq => (h7 q hq).trans (h3 q hq), fun l hl => (h8 l hl).elim (h4 l) id⟩
theorem kp_83 {v : Int32} (hk : KOK K cc nL RX3 rm ret) (hK : CK Γ (kS K)) (hd : decode cc pc = .ok (.putfield 83, 3)) (kk : GGo K Q (f (sKind τ v)) nL (TKW Γ π H0 (sKind τ v)) cs sl (pc + 3) ls st) : GGo K Q (nm (sKind τ v) f) nL (TKW Γ π H0 τ) cs sl pc ls (.int v :: .ref π.1 :: st) := by
  refine x_put (ci := 2) (fs := tkF Γ π τ) (ref := RX3) hk hK rfl in_X3 tyX3 tyX3_ok nmX3 (fun _ _ e => e.1) 7 (by decide) q340 rfl rfl rfl rfl (show 7 < 8 by decide) hd ?_
  refine g_I (I' := TKW Γ π H0 (sKind τ v)) (fun H1 locs1 hI => ?_) kk
  obtain ⟨H, locs, ⟨-, h2, h3, h4⟩, h5, h6, h7, h8⟩ := hI
  exact ⟨h5, h6.trans h2, fun q hq => (h7 q hq).trans (h3 q hq), fun l hl => (h8 l hl).elim (h4 l) id⟩
theorem k_bald (hk : KOK K cc nL RX3 rm ret) (hK : CK Γ (kS K)) (htp : H0[gA Γ 200]? = some (arrV (gC Γ 1) 300 (fun j => .int (π.2.2 j)))) (hne : gA Γ 200 ≠ π.1) {i : Int32} (hin : inb i 300 = true) (hd : decode cc pc = .ok (.baload, 1)) (kk : GGo K Q comp nL (TKW Γ π H0 τ) cs sl (pc + 1) ls (.int (π.2.2 i.toNatClampNeg) :: st)) : GGo K Q comp nL (TKW Γ π H0 τ) cs sl pc ls (.int i :: .ref (gA Γ 200) :: st) := x_baldA (f := π.2.2) hk (fun H locs hI => (hI.2.2.1 _ hne).trans htp) ((hK.1.2 1 _ rfl).1) hin hd kk
theorem x_ldcS {own : String} (hk : KOK K cc nL own rm ret) {txs : String} {index q : Nat} (hZ : vk_R own index txs q (kS K)) (hd : decode cc pc = .ok (.ldc index, 2)) (kk : GGo K Q comp nL I cs sl (pc + 2) ls (.ref q :: st)) : GGo K Q comp nL I cs sl pc ls st := fun r hr H locs lsA hI hh => va_ldcS hk.1 hk.2.1 hk.2.2.2.1 hZ hd (kk r hr H locs lsA hI hh)
theorem x_aaldT {own : String} (hk : KOK K cc nL own rm ret) {C : String} {t N j : Nat} {fv : Nat → Value} {i : Int32} {P : Nat → Prop} {v : Value} (hB : ∀ H locs, I H locs → va_T (.object C) t N fv P (kS K) H) (hv : fv j = v) (hin : inb i N = true) (hj : i.toNatClampNeg = j) (hd : decode cc pc = .ok (.aaload, 1)) (kk : GGo K Q comp nL I cs sl (pc + 1) ls (v :: st)) : GGo K Q comp nL I cs sl pc ls (.int i :: .ref t :: st) := by
  subst hj
  intro r hr H locs lsA hI hh
  obtain ⟨cell, h1, h2, h3, h4, h5, h6, h7⟩ := hB H locs hI
  have hw := inb_vp hin
  have hlt := inb_lt hin
  exact W.aald (v := v) (ty := .object C) hk.1 hk.2.1 h1 h2 rfl h3 (fun q => q.elim (fun z => hw (Or.inl z)) (fun z => by omega)) (by rw [h6 _ hlt, hv]) rfl rfl hd (kk r hr H locs lsA hI hh)
end TKR
def kWORDS : List (List Int32) := [[114, 97, 122, 101, 115], [115, 108, 105, 112, 115], [114, 97, 116, 101, 115], [112, 101, 114, 115, 111, 110], [111, 116, 104, 101, 114], [115, 104, 97, 118, 101], [99, 97, 108, 109], [100, 97, 121], [110, 101, 114, 118, 101], [116, 111], [97, 102, 116, 101, 114], [98, 121], [105, 102], [116, 104, 101, 110], [101, 108, 115, 101], [101, 110, 100], [111, 114], [97, 110, 100], [110, 111, 116], [99, 104, 97, 105, 114], [115, 99, 97, 114, 115], [98, 101, 97, 114, 100], [116, 97, 107, 105, 110, 103, 115]]
def kSIGNS : List Int32 := [60, 62, 61, 35, 43, 45, 42, 47, 94, 40, 41, 59]
def kNAMED : List Int32 := [207, 219, 208, 204, 220, 221, 222]
/-- constant texts and tables that the parser reads -/
def KST (Γ : CG) (U : State) (H : Heap) : Prop := SST Γ U H ∧ (va_Z RX3 "WORDS" "[Ljava/lang/String;" (.ref (gA Γ 500)) (cSt Γ) U H ∧ va_T (.object RJ4) (gA Γ 500) 23 (fun j => .ref (gA Γ (501 + j))) (cSt Γ) U H ∧ ∀ j w, kWORDS[j]? = some w → StrAt Γ U H (gA Γ (501 + j)) (gA Γ (530 + j)) w) ∧ StrAt Γ U H (gA Γ 560) (gA Γ 561) kSIGNS ∧ va_Z RX3 "NAMED" "[I" (.ref (gA Γ 570)) (cSt Γ) U H ∧ va_T .int (gA Γ 570) 7 (fun j => .int (kNAMED.getD j 0)) (cSt Γ) U H
def DKX (Γ : CG) : Prop := DPX Γ ∧ (∀ tx U H, gE Γ tx U H → KST Γ U H) ∧ ∀ U, gX Γ U → vk_R RX3 53 "<>=#+-*/^();" (gA Γ 560) U
theorem hv_k_isWord : yX3_isWord.cls = RX3 ∧ yX3_isWord.cls ≠ "java/lang/invoke/MethodHandle" ∧ yX3_isWord.cls ≠ "java/lang/invoke/VarHandle" ∧ (parseMethodDescriptor yX3_isWord.desc).map (fun d => d.parameters.length) = some 1 := by decide +kernel
/-! what next does, on the six numbers -/
def kBy (π : PPar) (τ : TKS) : Int32 := π.2.2 τ.1.toNatClampNeg
def K_ws (π : PPar) (k : TKS → Option TKS) : Nat → TKS → Option TKS
  | 0, _ => none
  | n + 1, τ => if τ.1 < π.2.1 then (if inb τ.1 300 = true then (if kBy π τ = 32 then nm (sAt τ (τ.1 + 1)) (K_ws π k n) else (if kBy π τ = 10 then nm (sAt τ (τ.1 + 1)) (K_ws π k n) else k τ)) else none) else k τ
def K_lt (π : PPar) (k : TKS → Option TKS) : Nat → TKS → Option TKS
  | 0, _ => none
  | n + 1, τ => if τ.1 < π.2.1 then (if inb τ.1 300 = true then ob1 (K_isLetter (kBy π τ)) (fun r => if r = 0 then k τ else nm (sAt τ (τ.1 + 1)) (K_lt π k n)) else none) else k τ
def K_wd (π : PPar) : List (List Int32) → Nat → TKS → Option TKS
  | [], _, τ => some τ
  | w :: ws, i, τ => ob1 (K_isWord π τ w) (fun r => if r = 0 then K_wd π ws (i + 1) τ else nm (sSort τ (200 + nI i)) (K_wd π ws (i + 1)))
def K_dg (π : PPar) : Nat → TKS → Option TKS
  | 0, _ => none
  | n + 1, τ => if τ.1 < π.2.1 then (if inb τ.1 300 = true then ob1 (K_isDigit (kBy π τ)) (fun r => if r = 0 then some τ else nm (sNum τ (i_min 99999 (10 * τ.2.2.2.1 + kBy π τ - 48))) (fun τ1 => nm (sAt τ1 (τ1.1 + 1)) (K_dg π n))) else none) else some τ
def K_sg (c : Int32) (k : TKS → Option TKS) : List Int32 → TKS → Option TKS
  | [], τ => k τ
  | s :: t, τ => if chV s = c then nm (sSort τ c) (K_sg c k t) else K_sg c k t τ
def K_nx389 (τ : TKS) (v : Int32) : Option TKS := nm (sSort τ v) (fun τ1 => nm (sAt τ1 (τ1.1 + 1)) some)
def K_nx348 (π : PPar) (c : Int32) (τ : TKS) : Option TKS := if τ.1 < π.2.1 then (if inb τ.1 300 = true then (if kBy π τ = 61 then (if c = 60 then K_nx389 τ 303 else K_nx389 τ 304) else some τ) else none) else some τ
def K_nx277 (π : PPar) (τ : TKS) : Option TKS := if inb τ.1 300 = true then nm (kBy π τ) (fun c => nm (sAt τ (τ.1 + 1)) (fun τ1 => nm (sSort τ1 302) (K_sg c (fun τ2 => if c = 60 then K_nx348 π c τ2 else if c = 62 then K_nx348 π c τ2 else some τ2) kSIGNS))) else none
def K_nx182 (π : PPar) (τ : TKS) : Option TKS := if inb τ.1 300 = true then ob1 (K_isDigit (kBy π τ)) (fun r => if r = 0 then K_nx277 π τ else nm (sSort τ 300) (fun τ1 => nm (sNum τ1 0) (K_dg π FU))) else none
def K_nx52 (π : PPar) (τ : TKS) : Option TKS := nm (sTok τ τ.1) (fun τ1 => if τ1.1 = π.2.1 then nm (sSort τ1 301) some else (if inb τ1.1 300 = true then ob1 (K_isLetter (kBy π τ1)) (fun r => if r = 0 then K_nx182 π τ1 else K_lt π (fun τ2 => nm (sSort τ2 302) (K_wd π kWORDS 0)) FU τ1) else none))
def K_next (π : PPar) (τ : TKS) : Option TKS := K_ws π (K_nx52 π) FU τ

/-! TOKENS: next, walked -/
set_option maxRecDepth 100000
/-- what next leaves -/
def tkR (Γ : CG) (π : PPar) (H0 : Heap) (r : TKS) : Option Value → Heap → Prop := fun v H1 => v = none ∧ va_at (gD Γ) ccl (π.1, .inr (2, tkF Γ π r)) H1 ∧ H1.size = H0.size ∧ ∀ q : Nat, q ≠ π.1 → H1[q]? = H0[q]?
def rm_x_nx : Room := { frames := 6, cells := 0, slots := 0, locals := 400 }
section NXT
variable {K : KT} {Γ : CG} {tx : TXs Tx} {π : PPar} {H0 : Heap} {τ : TKS}
abbrev NXQ (K : KT) (Γ : CG) (π : PPar) : TKS → State → Prop := xQ K Γ π rm_x_nx (fun r : TKS => .inr (tkR Γ π (kS K).heap r))
theorem nx_end (hk : KOK K cX3_next 3 RX3 rm_x_nx none) {τ : TKS} {ls : List (Nat × Value)} : GGo K (NXQ K Γ π) (some τ) 3 (TKW Γ π (kS K).heap τ) 0 0 402 ls [] :=
  x_vretX (pc := 402) hk rfl (fun H locs hI => ⟨⟨rfl, hI.1, hI.2.1, hI.2.2.1⟩, ⟨by rw [hI.2.1]; exact Nat.le_refl _, fun q _ hq => hI.2.2.1 q hq⟩, fun l hl => Or.inl (hI.2.2.2 l hl)⟩) dX3_next_402 (Nat.zero_le _) (Nat.zero_le _)
theorem nx_dg (hk : KOK K cX3_next 3 RX3 rm_x_nx none) (hK : CK Γ (kS K)) (htp : (kS K).heap[gA Γ 200]? = some (arrV (gC Γ 1) 300 (fun j => .int (π.2.2 j)))) (hne : gA Γ 200 ≠ π.1) : ∀ (n : Nat) (τ : TKS), GGo K (NXQ K Γ π) (K_dg π n τ) 3 (TKW Γ π (kS K).heap τ) 0 0 209 [(0, .ref π.1)] [] := by
  intro n
  induction n with
  | zero => exact fun τ => g_none
  | succ n ih =>
    intro τ
    unfold K_dg
    refine g_aload_n (pc := 209) hk dX3_next_209 rfl ?_
    refine kg_19 (pc := 210) hk hK (fun _ _ e => e.1) dX3_next_210 ?_
    refine g_aload_n (pc := 213) hk dX3_next_213 rfl ?_
    refine kg_15 (pc := 214) hk hK (fun _ _ e => e.1) dX3_next_214 ?_
    refine g_icmp_ge (pc := 217) (tgt := 402) hk dX3_next_217 rfl ?_ ?_
    · exact nx_end hk
    · refine g_gd (fun hin => g_ob1 (fun r hr => ?_))
      refine g_aload_n (pc := 220) hk dX3_next_220 rfl ?_
      refine kg_9 (pc := 221) hk hK (fun _ _ e => e.1) dX3_next_221 ?_
      refine g_aload_n (pc := 224) hk dX3_next_224 rfl ?_
      refine kg_19 (pc := 225) hk hK (fun _ _ e => e.1) dX3_next_225 ?_
      refine k_bald (pc := 228) hk hK htp hne hin dX3_next_228 ?_
      refine g_callP (pc := 229) hk [.int _] [] (k_isDigit _ r hr) (lw_S q471 q472 q129 q473) hs_k_isDigit rfl ⟨rfl, rfl⟩ rfl rfl dX3_next_229 rfl rfl ⟨rfl, rfl⟩ ?_
      refine g_if_eq (pc := 232) (tgt := 402) hk dX3_next_232 rfl ?_ ?_
      · exact nx_end hk
      · refine g_aload_n (pc := 235) hk dX3_next_235 rfl ?_
        refine g_ldc (pc := 236) (v := 99999) hk q474 dX3_next_236 ?_
        refine g_bipush (pc := 238) (v := 10) hk dX3_next_238 rfl ?_
        refine g_aload_n (pc := 240) hk dX3_next_240 rfl ?_
        refine kg_43 (pc := 241) hk hK (fun _ _ e => e.1) dX3_next_241 ?_
        refine g_imul (pc := 244) hk dX3_next_244 ?_
        refine g_aload_n (pc := 245) hk dX3_next_245 rfl ?_
        refine kg_9 (pc := 246) hk hK (fun _ _ e => e.1) dX3_next_246 ?_
        refine g_aload_n (pc := 249) hk dX3_next_249 rfl ?_
        refine kg_19 (pc := 250) hk hK (fun _ _ e => e.1) dX3_next_250 ?_
        refine k_bald (pc := 253) hk hK htp hne hin dX3_next_253 ?_
        refine g_iadd (pc := 254) hk dX3_next_254 ?_
        refine g_bipush (pc := 255) (v := 48) hk dX3_next_255 rfl ?_
        refine g_isub (pc := 257) hk dX3_next_257 ?_
        refine g_i_min (pc := 258) hk q475 rfl rfl rfl dX3_next_258 ⟨rfl, rfl⟩ ?_
        refine kp_43 (pc := 261) hk hK dX3_next_261 ?_
        refine g_aload_n (pc := 264) hk dX3_next_264 rfl ?_
        refine g_dup (pc := 265) hk dX3_next_265 rfl ?_
        refine kg_19 (pc := 266) hk hK (fun _ _ e => e.1) dX3_next_266 ?_
        refine g_iconst (pc := 269) (v := 1) hk dX3_next_269 rfl ?_
        refine g_iadd (pc := 270) hk dX3_next_270 ?_
        refine kp_19 (pc := 271) hk hK dX3_next_271 ?_
        refine g_goto (pc := 274) (tgt := 209) hk dX3_next_274 rfl ?_
        exact ih _
theorem nx_sg (hΓ : DKX Γ) (hk : KOK K cX3_next 3 RX3 rm_x_nx none) (hK : CK Γ (kS K)) (hG : PG Γ tx π (kS K) (kS K).heap) {c : Int32} {kc : TKS → Option TKS} (kk : ∀ τ, GGo K (NXQ K Γ π) (kc τ) 3 (TKW Γ π (kS K).heap τ) 0 0 336 [(0, .ref π.1), (1, .int c)] []) : ∀ (rest pre : List Int32) (τ : TKS), kSIGNS = pre ++ rest → GGo K (NXQ K Γ π) (K_sg c kc rest τ) 3 (TKW Γ π (kS K).heap τ) 0 0 306 [(0, .ref π.1), (1, .int c), (2, .int (nI pre.length))] [] := by
  have hE : ∀ τ H locs, TKW Γ π (kS K).heap τ H locs → gE Γ tx (kS K) H := fun τ H locs hI => (hG.fr ⟨by rw [hI.2.1]; exact Nat.le_refl _, fun q _ hq => hI.2.2.1 q hq⟩).ge hK.2.2.2
  have hst : ∀ tx U H, gE Γ tx U H → SST Γ U H ∧ StrAt Γ U H (gA Γ 560) (gA Γ 561) kSIGNS := fun tx U H h => ⟨(hΓ.2.1 tx U H h).1, (hΓ.2.1 tx U H h).2.2.1⟩
  have hZ : vk_R RX3 53 "<>=#+-*/^();" (gA Γ 560) (kS K) := hΓ.2.2 _ hK.2.2.1
  intro rest
  induction rest with
  | nil =>
    intro pre τ hf
    rw [List.append_nil] at hf
    have hn : ¬ nI pre.length < nI kSIGNS.length := by rw [hf]; exact fun h => Int32.lt_irrefl h
    unfold K_sg
    refine g_iload_n (pc := 306) hk dX3_next_306 rfl ?_
    refine x_ldcS (pc := 307) hk hZ dX3_next_307 ?_
    refine x_callV (pc := 309) (tx := tx) (v := some (.int (nI kSIGNS.length))) (rmY := rmK 2) hk hK (hE τ) (s_rec (fun H locs hI => (hst _ _ _ (hE τ H locs hI)).2.1)) [] _ (fun _ _ _ => s_length hst) (lw_V q423 q424 q425 q134 q426) hv_s4length rfl ⟨rfl, rfl⟩ rfl rfl dX3_next_309 rfl rfl ⟨Nat.zero_le _, Nat.zero_le _⟩ ?_
    refine g_no hn ?_
    refine g_icmp_ge (pc := 312) (tgt := 336) hk dX3_next_312 rfl ?_ g_none
    exact g_ls (ls' := [(0, .ref π.1), (1, .int c)]) ⟨rfl, rfl, trivial⟩ (kk τ)
  | cons x rest ih =>
    intro pre τ hf
    have hl9 : kSIGNS.length = 12 := rfl
    have hlt : pre.length < kSIGNS.length := by rw [hf, List.length_append, List.length_cons]; omega
    have hlen : kSIGNS.length < 2 ^ 31 := by decide
    have hy : nI pre.length < nI kSIGNS.length := nI_lt hlt hlen
    have hx : kSIGNS.getD (nI pre.length).toNatClampNeg 0 = x := by rw [nI_clamp (by omega), hf]; simp
    unfold K_sg
    refine g_iload_n (pc := 306) hk dX3_next_306 rfl ?_
    refine x_ldcS (pc := 307) hk hZ dX3_next_307 ?_
    refine x_callV (pc := 309) (tx := tx) (v := some (.int (nI kSIGNS.length))) (rmY := rmK 2) hk hK (hE τ) (s_rec (fun H locs hI => (hst _ _ _ (hE τ H locs hI)).2.1)) [] _ (fun _ _ _ => s_length hst) (lw_V q423 q424 q425 q134 q426) hv_s4length rfl ⟨rfl, rfl⟩ rfl rfl dX3_next_309 rfl rfl ⟨Nat.zero_le _, Nat.zero_le _⟩ ?_
    refine g_yes hy ?_
    refine g_icmp_ge (pc := 312) (tgt := 336) hk dX3_next_312 rfl g_none ?_
    refine x_ldcS (pc := 315) hk hZ dX3_next_315 ?_
    refine g_iload_n (pc := 317) hk dX3_next_317 rfl ?_
    refine x_callV (pc := 318) (tx := tx) (v := some (.int (chV x))) (rmY := rmK 4) hk hK (hE τ) (s_rec (fun H locs hI => (hst _ _ _ (hE τ H locs hI)).2.1)) [.int (nI pre.length)] _ (fun _ _ _ => hx ▸ s_charAt hst (inb_nI hlt hlen) hlen) (lw_V q433 q434 q435 q134 q436) hv_s4charAt rfl ⟨rfl, rfl⟩ rfl rfl dX3_next_318 rfl rfl ⟨Nat.zero_le _, Nat.zero_le _⟩ ?_
    have nxt : ∀ τ, GGo K (NXQ K Γ π) (K_sg c kc rest τ) 3 (TKW Γ π (kS K).heap τ) 0 0 330 [(0, .ref π.1), (1, .int c), (2, .int (nI pre.length))] [] := by
      intro τ
      refine g_iinc (pc := 330) (v := 1) hk dX3_next_330 rfl rfl (by decide) rfl ?_
      refine g_goto (pc := 333) (tgt := 306) hk dX3_next_333 rfl ?_
      have := ih (pre ++ [x]) τ (by rw [hf, List.append_assoc]; rfl)
      rw [List.length_append, List.length_singleton, ← nI_1] at this
      exact g_ls (ls' := [(0, .ref π.1), (1, .int c), (2, .int (nI pre.length + 1))]) ⟨rfl, rfl, rfl, trivial⟩ this
    refine g_iload_n (pc := 321) hk dX3_next_321 rfl ?_
    refine g_icmp_ne (pc := 322) (tgt := 330) hk dX3_next_322 rfl ?_ ?_
    · exact nxt _
    · refine g_aload_n (pc := 325) hk dX3_next_325 rfl ?_
      refine g_iload_n (pc := 326) hk dX3_next_326 rfl ?_
      refine kp_25 (pc := 327) hk hK dX3_next_327 ?_
      exact nxt _
theorem nx_wd (hΓ : DKX Γ) (hk : KOK K cX3_next 3 RX3 rm_x_nx none) (hK : CK Γ (kS K)) (hG : PG Γ tx π (kS K) (kS K).heap) : ∀ (rest pre : List (List Int32)) (τ : TKS), kWORDS = pre ++ rest → GGo K (NXQ K Γ π) (K_wd π rest pre.length τ) 3 (TKW Γ π (kS K).heap τ) 0 0 144 [(0, .ref π.1), (1, .int (nI pre.length))] [] := by
  have hE : ∀ τ H locs, TKW Γ π (kS K).heap τ H locs → gE Γ tx (kS K) H := fun τ H locs hI => (hG.fr ⟨by rw [hI.2.1]; exact Nat.le_refl _, fun q _ hq => hI.2.2.1 q hq⟩).ge hK.2.2.2
  have hl9 : kWORDS.length = 23 := rfl
  intro rest
  induction rest with
  | nil =>
    intro pre τ hf
    rw [List.append_nil] at hf
    have hn : ¬ nI pre.length < nI 23 := by rw [← hf]; exact fun h => Int32.lt_irrefl h
    unfold K_wd
    refine g_iload_n (pc := 144) hk dX3_next_144 rfl ?_
    refine x_gets (pc := 145) (C := RX3) (v := .ref (gA Γ 500)) hk (fun H locs hI => (hΓ.2.1 _ _ _ (hE τ H locs hI)).2.1.1) q417 dX3_next_145 ?_
    refine x_alenT (pc := 148) hk (fun H locs hI => (hΓ.2.1 _ _ _ (hE τ H locs hI)).2.1.2.1) dX3_next_148 ?_
    refine g_no hn ?_
    refine g_icmp_ge (pc := 149) (tgt := 179) hk dX3_next_149 rfl ?_ g_none
    refine g_goto (pc := 179) (tgt := 402) hk dX3_next_179 rfl ?_
    exact nx_end hk
  | cons w rest ih =>
    intro pre τ hf
    have hlt : pre.length < 23 := by rw [← hl9, hf, List.length_append, List.length_cons]; omega
    have hy : nI pre.length < nI 23 := nI_lt hlt (by decide)
    have hw : kWORDS[pre.length]? = some w := by rw [hf]; simp
    have hst : ∀ tx U H, gE Γ tx U H → SST Γ U H ∧ StrAt Γ U H (gA Γ (501 + pre.length)) (gA Γ (530 + pre.length)) w := fun tx U H h => ⟨(hΓ.2.1 tx U H h).1, (hΓ.2.1 tx U H h).2.1.2.2 _ _ hw⟩
    have hlw : w.length < 2 ^ 31 := by
      have hm : w ∈ kWORDS := List.mem_of_getElem? hw
      have key : ∀ w ∈ kWORDS, w.length < 8 := by decide
      have := key w hm
      omega
    unfold K_wd
    refine g_ob1 (fun r hr => ?_)
    refine g_iload_n (pc := 144) hk dX3_next_144 rfl ?_
    refine x_gets (pc := 145) (C := RX3) (v := .ref (gA Γ 500)) hk (fun H locs hI => (hΓ.2.1 _ _ _ (hE τ H locs hI)).2.1.1) q417 dX3_next_145 ?_
    refine x_alenT (pc := 148) hk (fun H locs hI => (hΓ.2.1 _ _ _ (hE τ H locs hI)).2.1.2.1) dX3_next_148 ?_
    refine g_yes hy ?_
    refine g_icmp_ge (pc := 149) (tgt := 179) hk dX3_next_149 rfl g_none ?_
    refine g_aload_n (pc := 152) hk dX3_next_152 rfl ?_
    refine x_gets (pc := 153) (C := RX3) (v := .ref (gA Γ 500)) hk (fun H locs hI => (hΓ.2.1 _ _ _ (hE τ H locs hI)).2.1.1) q417 dX3_next_153 ?_
    refine g_iload_n (pc := 156) hk dX3_next_156 rfl ?_
    refine x_aaldT (pc := 157) (N := 23) (j := pre.length) hk (fun H locs hI => (hΓ.2.1 _ _ _ (hE τ H locs hI)).2.1.2.1) rfl (inb_nI hlt (by decide)) (nI_clamp (by omega)) dX3_next_157 ?_
    have htp := hG.2.1
    have hne := hG.2.2
    refine x_callV (pc := 158) (tx := tx) (v := some (.int r)) (rmY := rmK 5) hk hK (hE τ) (x_rec hK (ci := 2) rfl (fun H locs hI => hI.1)) [.ref (gA Γ (501 + pre.length))] _ (fun H locs hI => k_isWord hst hlw hI.1 ((hI.2.2.1 _ hne).trans htp) hr) (lw_V q419 q421 qs2 q129 q422) hv_k_isWord rfl ⟨rfl, rfl⟩ rfl rfl dX3_next_158 rfl rfl ⟨Nat.zero_le _, Nat.zero_le _⟩ ?_
    have nxt : ∀ τ, GGo K (NXQ K Γ π) (K_wd π rest (pre.length + 1) τ) 3 (TKW Γ π (kS K).heap τ) 0 0 173 [(0, .ref π.1), (1, .int (nI pre.length))] [] := by
      intro τ
      refine g_iinc (pc := 173) (v := 1) hk dX3_next_173 rfl rfl (by decide) rfl ?_
      refine g_goto (pc := 176) (tgt := 144) hk dX3_next_176 rfl ?_
      have := ih (pre ++ [w]) τ (by rw [hf, List.append_assoc]; rfl)
      rw [List.length_append, List.length_singleton] at this
      rw [nI_1]
      exact g_ls (ls' := [(0, .ref π.1), (1, .int (nI (pre.length + 1)))]) ⟨rfl, rfl, trivial⟩ this
    refine g_if_eq (pc := 161) (tgt := 173) hk dX3_next_161 rfl ?_ ?_
    · exact nxt τ
    · refine g_aload_n (pc := 164) hk dX3_next_164 rfl ?_
      refine g_sipush (pc := 165) (v := 200) hk dX3_next_165 rfl ?_
      refine g_iload_n (pc := 168) hk dX3_next_168 rfl ?_
      refine g_iadd (pc := 169) hk dX3_next_169 ?_
      refine kp_25 (pc := 170) hk hK dX3_next_170 ?_
      exact nxt _
theorem nx_lt (hk : KOK K cX3_next 3 RX3 rm_x_nx none) (hK : CK Γ (kS K)) (htp : (kS K).heap[gA Γ 200]? = some (arrV (gC Γ 1) 300 (fun j => .int (π.2.2 j)))) (hne : gA Γ 200 ≠ π.1) {kc : TKS → Option TKS} (kk : ∀ τ, GGo K (NXQ K Γ π) (kc τ) 3 (TKW Γ π (kS K).heap τ) 0 0 135 [(0, .ref π.1)] []) : ∀ (n : Nat) (τ : TKS), GGo K (NXQ K Γ π) (K_lt π kc n τ) 3 (TKW Γ π (kS K).heap τ) 0 0 96 [(0, .ref π.1)] [] := by
  intro n
  induction n with
  | zero => exact fun τ => g_none
  | succ n ih =>
    intro τ
    unfold K_lt
    refine g_aload_n (pc := 96) hk dX3_next_96 rfl ?_
    refine kg_19 (pc := 97) hk hK (fun _ _ e => e.1) dX3_next_97 ?_
    refine g_aload_n (pc := 100) hk dX3_next_100 rfl ?_
    refine kg_15 (pc := 101) hk hK (fun _ _ e => e.1) dX3_next_101 ?_
    refine g_icmp_ge (pc := 104) (tgt := 135) hk dX3_next_104 rfl ?_ ?_
    · exact kk τ
    · refine g_gd (fun hin => g_ob1 (fun r hr => ?_))
      refine g_aload_n (pc := 107) hk dX3_next_107 rfl ?_
      refine kg_9 (pc := 108) hk hK (fun _ _ e => e.1) dX3_next_108 ?_
      refine g_aload_n (pc := 111) hk dX3_next_111 rfl ?_
      refine kg_19 (pc := 112) hk hK (fun _ _ e => e.1) dX3_next_112 ?_
      refine k_bald (pc := 115) hk hK htp hne hin dX3_next_115 ?_
      refine g_callP (pc := 116) hk [.int _] [] (k_isLetter _ r hr) (lw_S q414 q415 q129 q416) hs_k_isLetter rfl ⟨rfl, rfl⟩ rfl rfl dX3_next_116 rfl rfl ⟨rfl, rfl⟩ ?_
      refine g_if_eq (pc := 119) (tgt := 135) hk dX3_next_119 rfl ?_ ?_
      · exact kk τ
      · refine g_aload_n (pc := 122) hk dX3_next_122 rfl ?_
        refine g_dup (pc := 123) hk dX3_next_123 rfl ?_
        refine kg_19 (pc := 124) hk hK (fun _ _ e => e.1) dX3_next_124 ?_
        refine g_iconst (pc := 127) (v := 1) hk dX3_next_127 rfl ?_
        refine g_iadd (pc := 128) hk dX3_next_128 ?_
        refine kp_19 (pc := 129) hk hK dX3_next_129 ?_
        refine g_goto (pc := 132) (tgt := 96) hk dX3_next_132 rfl ?_
        exact ih _
theorem nx_389 (hk : KOK K cX3_next 3 RX3 rm_x_nx none) (hK : CK Γ (kS K)) (τ : TKS) (v : Int32) : GGo K (NXQ K Γ π) (K_nx389 τ v) 3 (TKW Γ π (kS K).heap τ) 0 0 389 [(0, .ref π.1)] [.int v, .ref π.1] := by
  unfold K_nx389
  refine kp_25 (pc := 389) hk hK dX3_next_389 ?_
  refine g_aload_n (pc := 392) hk dX3_next_392 rfl ?_
  refine g_dup (pc := 393) hk dX3_next_393 rfl ?_
  refine kg_19 (pc := 394) hk hK (fun _ _ e => e.1) dX3_next_394 ?_
  refine g_iconst (pc := 397) (v := 1) hk dX3_next_397 rfl ?_
  refine g_iadd (pc := 398) hk dX3_next_398 ?_
  refine kp_19 (pc := 399) hk hK dX3_next_399 ?_
  exact nx_end hk
theorem nx_348 (hk : KOK K cX3_next 3 RX3 rm_x_nx none) (hK : CK Γ (kS K)) (htp : (kS K).heap[gA Γ 200]? = some (arrV (gC Γ 1) 300 (fun j => .int (π.2.2 j)))) (hne : gA Γ 200 ≠ π.1) (c : Int32) (τ : TKS) : GGo K (NXQ K Γ π) (K_nx348 π c τ) 3 (TKW Γ π (kS K).heap τ) 0 0 348 [(0, .ref π.1), (1, .int c)] [] := by
  unfold K_nx348
  refine g_aload_n (pc := 348) hk dX3_next_348 rfl ?_
  refine kg_19 (pc := 349) hk hK (fun _ _ e => e.1) dX3_next_349 ?_
  refine g_aload_n (pc := 352) hk dX3_next_352 rfl ?_
  refine kg_15 (pc := 353) hk hK (fun _ _ e => e.1) dX3_next_353 ?_
  refine g_icmp_ge (pc := 356) (tgt := 402) hk dX3_next_356 rfl ?_ ?_
  · exact nx_end hk
  · refine g_gd (fun hin => ?_)
    refine g_aload_n (pc := 359) hk dX3_next_359 rfl ?_
    refine kg_9 (pc := 360) hk hK (fun _ _ e => e.1) dX3_next_360 ?_
    refine g_aload_n (pc := 363) hk dX3_next_363 rfl ?_
    refine kg_19 (pc := 364) hk hK (fun _ _ e => e.1) dX3_next_364 ?_
    refine k_bald (pc := 367) hk hK htp hne hin dX3_next_367 ?_
    refine g_bipush (pc := 368) (v := 61) hk dX3_next_368 rfl ?_
    refine g_icmp_ne (pc := 370) (tgt := 402) hk dX3_next_370 rfl ?_ ?_
    · exact nx_end hk
    · refine g_aload_n (pc := 373) hk dX3_next_373 rfl ?_
      refine g_iload_n (pc := 374) hk dX3_next_374 rfl ?_
      refine g_bipush (pc := 375) (v := 60) hk dX3_next_375 rfl ?_
      refine g_icmp_ne (pc := 377) (tgt := 386) hk dX3_next_377 rfl ?_ ?_
      · refine g_sipush (pc := 386) (v := 304) hk dX3_next_386 rfl ?_
        exact g_ls (ls' := [(0, .ref π.1)]) ⟨rfl, trivial⟩ (nx_389 hk hK τ 304)
      · refine g_sipush (pc := 380) (v := 303) hk dX3_next_380 rfl ?_
        refine g_goto (pc := 383) (tgt := 389) hk dX3_next_383 rfl ?_
        exact g_ls (ls' := [(0, .ref π.1)]) ⟨rfl, trivial⟩ (nx_389 hk hK τ 303)
theorem nx_277 (hΓ : DKX Γ) (hk : KOK K cX3_next 3 RX3 rm_x_nx none) (hK : CK Γ (kS K)) (hG : PG Γ tx π (kS K) (kS K).heap) (τ : TKS) : GGo K (NXQ K Γ π) (K_nx277 π τ) 3 (TKW Γ π (kS K).heap τ) 0 0 277 [(0, .ref π.1)] [] := by
  have htp := hG.2.1
  have hne := hG.2.2
  unfold K_nx277
  refine g_gd (fun hin => g_nm ?_)
  refine g_aload_n (pc := 277) hk dX3_next_277 rfl ?_
  refine kg_9 (pc := 278) hk hK (fun _ _ e => e.1) dX3_next_278 ?_
  refine g_aload_n (pc := 281) hk dX3_next_281 rfl ?_
  refine kg_19 (pc := 282) hk hK (fun _ _ e => e.1) dX3_next_282 ?_
  refine k_bald (pc := 285) hk hK htp hne hin dX3_next_285 ?_
  refine g_istore_n (pc := 286) (i := 1) hk dX3_next_286 rfl (by decide) rfl ?_
  refine g_aload_n (pc := 287) hk dX3_next_287 rfl ?_
  refine g_dup (pc := 288) hk dX3_next_288 rfl ?_
  refine kg_19 (pc := 289) hk hK (fun _ _ e => e.1) dX3_next_289 ?_
  refine g_iconst (pc := 292) (v := 1) hk dX3_next_292 rfl ?_
  refine g_iadd (pc := 293) hk dX3_next_293 ?_
  refine kp_19 (pc := 294) hk hK dX3_next_294 ?_
  refine g_aload_n (pc := 297) hk dX3_next_297 rfl ?_
  refine g_sipush (pc := 298) (v := 302) hk dX3_next_298 rfl ?_
  refine kp_25 (pc := 301) hk hK dX3_next_301 ?_
  refine g_iconst (pc := 304) (v := 0) hk dX3_next_304 rfl ?_
  refine g_istore_n (pc := 305) (i := 2) hk dX3_next_305 rfl (by decide) rfl ?_
  refine g_ls (ls' := [(0, .ref π.1), (1, .int (kBy π τ)), (2, .int (nI ([] : List Int32).length))]) ⟨rfl, rfl, rfl, trivial⟩ ?_
  refine nx_sg hΓ hk hK hG (fun τ2 => ?_) kSIGNS [] _ rfl
  refine g_iload_n (pc := 336) hk dX3_next_336 rfl ?_
  refine g_bipush (pc := 337) (v := 60) hk dX3_next_337 rfl ?_
  refine g_icmp_eq (pc := 339) (tgt := 348) hk dX3_next_339 rfl ?_ ?_
  · exact nx_348 hk hK htp hne _ τ2
  · refine g_iload_n (pc := 342) hk dX3_next_342 rfl ?_
    refine g_bipush (pc := 343) (v := 62) hk dX3_next_343 rfl ?_
    refine g_icmp_ne (pc := 345) (tgt := 402) hk dX3_next_345 rfl ?_ ?_
    · exact nx_end hk
    · exact nx_348 hk hK htp hne _ τ2
theorem nx_182 (hΓ : DKX Γ) (hk : KOK K cX3_next 3 RX3 rm_x_nx none) (hK : CK Γ (kS K)) (hG : PG Γ tx π (kS K) (kS K).heap) (τ : TKS) : GGo K (NXQ K Γ π) (K_nx182 π τ) 3 (TKW Γ π (kS K).heap τ) 0 0 182 [(0, .ref π.1)] [] := by
  have htp := hG.2.1
  have hne := hG.2.2
  unfold K_nx182
  refine g_gd (fun hin => g_ob1 (fun r hr => ?_))
  refine g_aload_n (pc := 182) hk dX3_next_182 rfl ?_
  refine kg_9 (pc := 183) hk hK (fun _ _ e => e.1) dX3_next_183 ?_
  refine g_aload_n (pc := 186) hk dX3_next_186 rfl ?_
  refine kg_19 (pc := 187) hk hK (fun _ _ e => e.1) dX3_next_187 ?_
  refine k_bald (pc := 190) hk hK htp hne hin dX3_next_190 ?_
  refine g_callP (pc := 191) hk [.int _] [] (k_isDigit _ r hr) (lw_S q471 q472 q129 q473) hs_k_isDigit rfl ⟨rfl, rfl⟩ rfl rfl dX3_next_191 rfl rfl ⟨rfl, rfl⟩ ?_
  refine g_if_eq (pc := 194) (tgt := 277) hk dX3_next_194 rfl ?_ ?_
  · exact nx_277 hΓ hk hK hG τ
  · refine g_aload_n (pc := 197) hk dX3_next_197 rfl ?_
    refine g_sipush (pc := 198) (v := 300) hk dX3_next_198 rfl ?_
    refine kp_25 (pc := 201) hk hK dX3_next_201 ?_
    refine g_aload_n (pc := 204) hk dX3_next_204 rfl ?_
    refine g_iconst (pc := 205) (v := 0) hk dX3_next_205 rfl ?_
    refine kp_43 (pc := 206) hk hK dX3_next_206 ?_
    exact nx_dg hk hK htp hne _ _
theorem nx_52 (hΓ : DKX Γ) (hk : KOK K cX3_next 3 RX3 rm_x_nx none) (hK : CK Γ (kS K)) (hG : PG Γ tx π (kS K) (kS K).heap) (τ : TKS) : GGo K (NXQ K Γ π) (K_nx52 π τ) 3 (TKW Γ π (kS K).heap τ) 0 0 52 [(0, .ref π.1)] [] := by
  have htp := hG.2.1
  have hne := hG.2.2
  unfold K_nx52
  refine g_aload_n (pc := 52) hk dX3_next_52 rfl ?_
  refine g_aload_n (pc := 53) hk dX3_next_53 rfl ?_
  refine kg_19 (pc := 54) hk hK (fun _ _ e => e.1) dX3_next_54 ?_
  refine kp_22 (pc := 57) hk hK dX3_next_57 ?_
  refine g_aload_n (pc := 60) hk dX3_next_60 rfl ?_
  refine kg_19 (pc := 61) hk hK (fun _ _ e => e.1) dX3_next_61 ?_
  refine g_aload_n (pc := 64) hk dX3_next_64 rfl ?_
  refine kg_15 (pc := 65) hk hK (fun _ _ e => e.1) dX3_next_65 ?_
  refine g_icmp_ne (pc := 68) (tgt := 81) hk dX3_next_68 rfl ?_ ?_
  rotate_left
  · refine g_aload_n (pc := 71) hk dX3_next_71 rfl ?_
    refine g_sipush (pc := 72) (v := 301) hk dX3_next_72 rfl ?_
    refine kp_25 (pc := 75) hk hK dX3_next_75 ?_
    refine g_goto (pc := 78) (tgt := 402) hk dX3_next_78 rfl ?_
    exact nx_end hk
  · refine g_gd (fun hin => g_ob1 (fun r hr => ?_))
    refine g_aload_n (pc := 81) hk dX3_next_81 rfl ?_
    refine kg_9 (pc := 82) hk hK (fun _ _ e => e.1) dX3_next_82 ?_
    refine g_aload_n (pc := 85) hk dX3_next_85 rfl ?_
    refine kg_19 (pc := 86) hk hK (fun _ _ e => e.1) dX3_next_86 ?_
    refine k_bald (pc := 89) hk hK htp hne hin dX3_next_89 ?_
    refine g_callP (pc := 90) hk [.int _] [] (k_isLetter _ r hr) (lw_S q414 q415 q129 q416) hs_k_isLetter rfl ⟨rfl, rfl⟩ rfl rfl dX3_next_90 rfl rfl ⟨rfl, rfl⟩ ?_
    refine g_if_eq (pc := 93) (tgt := 182) hk dX3_next_93 rfl ?_ ?_
    · exact nx_182 hΓ hk hK hG _
    · refine nx_lt hk hK htp hne (fun τ2 => ?_) _ _
      refine g_aload_n (pc := 135) hk dX3_next_135 rfl ?_
      refine g_sipush (pc := 136) (v := 302) hk dX3_next_136 rfl ?_
      refine kp_25 (pc := 139) hk hK dX3_next_139 ?_
      refine g_iconst (pc := 142) (v := 0) hk dX3_next_142 rfl ?_
      refine g_istore_n (pc := 143) (i := 1) hk dX3_next_143 rfl (by decide) rfl ?_
      exact g_ls (ls' := [(0, .ref π.1), (1, .int (nI ([] : List (List Int32)).length))]) ⟨rfl, rfl, trivial⟩ (nx_wd hΓ hk hK hG kWORDS [] _ rfl)
theorem nx_ws (hΓ : DKX Γ) (hk : KOK K cX3_next 3 RX3 rm_x_nx none) (hK : CK Γ (kS K)) (hG : PG Γ tx π (kS K) (kS K).heap) : ∀ (n : Nat) (τ : TKS), GGo K (NXQ K Γ π) (K_ws π (K_nx52 π) n τ) 3 (TKW Γ π (kS K).heap τ) 0 0 0 [(0, .ref π.1)] [] := by
  have htp := hG.2.1
  have hne := hG.2.2
  intro n
  induction n with
  | zero => exact fun τ => g_none
  | succ n ih =>
    intro τ
    have adv : GGo K (NXQ K Γ π) (nm (sAt τ (τ.1 + 1)) (K_ws π (K_nx52 π) n)) 3 (TKW Γ π (kS K).heap τ) 0 0 39 [(0, .ref π.1)] [] := by
      refine g_aload_n (pc := 39) hk dX3_next_39 rfl ?_
      refine g_dup (pc := 40) hk dX3_next_40 rfl ?_
      refine kg_19 (pc := 41) hk hK (fun _ _ e => e.1) dX3_next_41 ?_
      refine g_iconst (pc := 44) (v := 1) hk dX3_next_44 rfl ?_
      refine g_iadd (pc := 45) hk dX3_next_45 ?_
      refine kp_19 (pc := 46) hk hK dX3_next_46 ?_
      refine g_goto (pc := 49) (tgt := 0) hk dX3_next_49 rfl ?_
      exact ih _
    unfold K_ws
    refine g_aload_n (pc := 0) hk dX3_next_0 rfl ?_
    refine kg_19 (pc := 1) hk hK (fun _ _ e => e.1) dX3_next_1 ?_
    refine g_aload_n (pc := 4) hk dX3_next_4 rfl ?_
    refine kg_15 (pc := 5) hk hK (fun _ _ e => e.1) dX3_next_5 ?_
    refine g_icmp_ge (pc := 8) (tgt := 52) hk dX3_next_8 rfl ?_ ?_
    · exact nx_52 hΓ hk hK hG τ
    · refine g_gd (fun hin => ?_)
      refine g_aload_n (pc := 11) hk dX3_next_11 rfl ?_
      refine kg_9 (pc := 12) hk hK (fun _ _ e => e.1) dX3_next_12 ?_
      refine g_aload_n (pc := 15) hk dX3_next_15 rfl ?_
      refine kg_19 (pc := 16) hk hK (fun _ _ e => e.1) dX3_next_16 ?_
      refine k_bald (pc := 19) hk hK htp hne hin dX3_next_19 ?_
      refine g_bipush (pc := 20) (v := 32) hk dX3_next_20 rfl ?_
      refine g_icmp_eq (pc := 22) (tgt := 39) hk dX3_next_22 rfl ?_ ?_
      · exact adv
      · refine g_aload_n (pc := 25) hk dX3_next_25 rfl ?_
        refine kg_9 (pc := 26) hk hK (fun _ _ e => e.1) dX3_next_26 ?_
        refine g_aload_n (pc := 29) hk dX3_next_29 rfl ?_
        refine kg_19 (pc := 30) hk hK (fun _ _ e => e.1) dX3_next_30 ?_
        refine k_bald (pc := 33) hk hK htp hne hin dX3_next_33 ?_
        refine g_bipush (pc := 34) (v := 10) hk dX3_next_34 rfl ?_
        refine g_icmp_ne (pc := 36) (tgt := 52) hk dX3_next_36 rfl ?_ ?_
        · exact nx_52 hΓ hk hK hG τ
        · exact adv
end NXT
theorem hv_k_next : yX3_next.cls = RX3 ∧ yX3_next.cls ≠ "java/lang/invoke/MethodHandle" ∧ yX3_next.cls ≠ "java/lang/invoke/VarHandle" ∧ (parseMethodDescriptor yX3_next.desc).map (fun d => d.parameters.length) = some 0 := by decide +kernel
theorem k_next {Γ : CG} {tx : TXs Tx} {π : PPar} (hΓ : DKX Γ) {H0 : Heap} {τ r : TKS} (ht : va_at (gD Γ) ccl (π.1, .inr (2, tkF Γ π τ)) H0) (hr : K_next π τ = some r) : XMet Γ tx π yX3_next cX3_next 3 none rm_x_nx [.ref π.1] H0 (.inr (tkR Γ π H0 r)) := by
  refine x_met (view := fun r : TKS => .inr (tkR Γ π H0 r)) (own := RX3) rfl (by decide) rfl (ls0 := [(0, .ref π.1)]) rfl (fun K hk hK htab htr hH hG => ?_) r hr
  subst hH
  refine g_I (I' := TKW Γ π (kS K).heap τ) (fun H locs hI => ?_) (nx_ws hΓ hk hK hG FU τ)
  obtain ⟨rfl, rfl⟩ := hI
  exact ⟨ht, rfl, fun _ _ => rfl, fun _ h => by cases h⟩
