/-! THE COMPONENT'S WORLD: arrays by number (an address each), the object's int fields, texts as an extra part E of the world -/
set_option maxRecDepth 100000
/-- lengths of the int and byte arrays by number: 0.. the state now, 100.. the image (n, row, other, need, odds; from 10 cut, 20 likes, 30 seen, 40 said, 50 step), 200.. the object's own -/
def cln (k : Nat) : Nat :=
  if k < 200 then
    (let j := k % 100
     if j = 0 then 6 else if j = 1 then 148 else if j < 5 then 8 else if j < 10 then 0 else if j < 18 then 8 else if j < 20 then 0 else if j < 28 then 8 else if j < 30 then 0 else if j < 36 then 2 else if j < 40 then 0 else if j < 48 then 2 else if j < 50 then 0 else if j < 80 then 148 else 0)
  else if k = 200 then 300 else if k = 201 then 15 else if k = 202 then 148 else if k = 203 then 8 else if k = 204 then 65536 else if k = 205 then 65536 else if k = 206 then 24 else if k = 207 then 65536 else if k = 208 then 5 else if k = 209 then 5 else if k = 210 then 8 else 0
def cby (k : Nat) : Bool := Nat.beq k 200 || Nat.beq k 207
/-- k is the number of an int array of n places (n > 0) -/
def cAv (k n : Nat) : Prop := (cln k = n ∧ 0 < n) ∧ cby k = false
def cBv (k n : Nat) : Prop := (cln k = n ∧ 0 < n) ∧ cby k = true
/-- numbers of all cells: arrays; 85..89, 185..189 arrays of rows; 90, 190 the texts; 300 the object, 301, 302 the states -/
def cval (k : Nat) : Bool := Nat.blt 0 (cln k) || (Nat.blt k 200 && Nat.ble 85 (k % 100) && Nat.ble (k % 100) 90) || (Nat.ble 300 k && Nat.ble k 302)
abbrev TXs (α : Type) : Type := (Nat → Nat → Option Nat) × (Nat → α)
/-- what a sum, an asking says by the numbers of its names -/
abbrev Den : Type := (Nat → Int32) → Option Int64
abbrev ADen : Type := (Nat → Int32) → Option Int32
/-- what a text is: its three laws, its doings (sort, two numbers, which clause) -/
abbrev Tx : Type := (Nat → Option Den) × List (Int32 × Int32 × Int32 × Int32)
abbrev CS : Type := (Nat → Int32) × (Nat → Nat → Int32) × TXs Tx
def cI (σ : CS) (k : Nat) : Int32 := σ.1 k
def cA (σ : CS) (k : Nat) : Nat → Int32 := σ.2.1 k
def cT (σ : CS) (w : Nat) : Nat → Option Nat := σ.2.2.1 w
def dI (σ : CS) (k : Nat) (v : Int32) : CS := (upd σ.1 k v, σ.2.1, σ.2.2)
def dA (σ : CS) (k : Nat) (f : Nat → Int32) : CS := (σ.1, va_up σ.2.1 k f, σ.2.2)
def dT (σ : CS) (w : Nat) (f : Nat → Option Nat) : CS := (σ.1, σ.2.1, va_up σ.2.2.1 w f, σ.2.2.2)
def eA (σ : CS) (k i : Nat) (v : Int32) : CS := dA σ k (upd (cA σ k) i v)
/-- D, the addresses, the array classes (0 int, 1 byte, 2 int[], 3 Text, 4 Sum, 5 Object, 6 String), the world's part of texts, what else is known of the tables -/
abbrev CG : Type := va_G × (Nat → Nat) × (Nat → ClassId) × (TXs Tx → State → Heap → Prop) × (State → Prop)
abbrev gD (Γ : CG) : va_G := Γ.1
abbrev gA (Γ : CG) : Nat → Nat := Γ.2.1
abbrev gC (Γ : CG) : Nat → ClassId := Γ.2.2.1
abbrev gE (Γ : CG) : TXs Tx → State → Heap → Prop := Γ.2.2.2.1
abbrev gX (Γ : CG) : State → Prop := Γ.2.2.2.2
abbrev ccl : List vw_C := [(RX0, TX0, 17), (RX1, TX1, 11), (RX3, TX3, 8), (RX4, TX4, 3), (RX5, TX5, 8), (RX6, TX6, 3), (RX7, TX7, 1), (RX8, TX8, 1), (RX9, TX9, 3), (RX10, TX10, 2), (RX11, TX11, 3), (RX12, TX12, 2), (RX13, TX13, 1), (RX14, TX14, 1), (RX15, TX15, 4), (RJ3, TJ3, 3)]
def ctys (Γ : CG) : List (ClassId × FieldType) := [(gC Γ 0, .int), (gC Γ 1, .byte), (gC Γ 2, .array .int), (gC Γ 3, .object RX4), (gC Γ 4, .object "ShaveOfAnother$Sum"), (gC Γ 5, .object "java/lang/Object"), (gC Γ 6, .object "java/lang/String")]
def cSt (Γ : CG) (q : Nat) : Prop := ∃ k, cval k = true ∧ q = gA Γ k
def cfx (Γ : CG) (σ : CS) : List Value := [.ref (gA Γ 301), .ref (gA Γ 302), .ref (gA Γ 200), .int (cI σ 3), .int (cI σ 4), .int (cI σ 5), .ref (gA Γ 201), .ref (gA Γ 202), .ref (gA Γ 203), .ref (gA Γ 204), .ref (gA Γ 205), .ref (gA Γ 206), .ref (gA Γ 207), .ref (gA Γ 208), .ref (gA Γ 209), .int (cI σ 15), .ref (gA Γ 210)]
def cfs (Γ : CG) (w : Nat) : List Value := [.ref (gA Γ (100 * w + 0)), .ref (gA Γ (100 * w + 1)), .ref (gA Γ (100 * w + 2)), .ref (gA Γ (100 * w + 3)), .ref (gA Γ (100 * w + 4)), .ref (gA Γ (100 * w + 85)), .ref (gA Γ (100 * w + 86)), .ref (gA Γ (100 * w + 87)), .ref (gA Γ (100 * w + 88)), .ref (gA Γ (100 * w + 89)), .ref (gA Γ (100 * w + 90))]
/-- the array of rows j of a state: how many rows, the first row's number -/
def cgn (j : Nat) : Nat := if j = 5 then 8 else if j = 6 then 8 else if j = 7 then 6 else if j = 8 then 8 else 30
def cgb (w j : Nat) : Nat := 100 * w + 10 * (j - 4)
def CW (Γ : CG) (σ : CS) (H : Heap) : Prop :=
  (∀ k n, cAv k n → H[gA Γ k]? = some (arrV (gC Γ 0) n (fun j => .int (cA σ k j)))) ∧
  (∀ k n, cBv k n → H[gA Γ k]? = some (arrV (gC Γ 1) n (fun j => .int (cA σ k j)))) ∧
  (∀ w j, w < 2 → 5 ≤ j → j < 10 → H[gA Γ (100 * w + (80 + j))]? = some (arrV (gC Γ 2) (cgn j) (fun i => .ref (gA Γ (cgb w j + i))))) ∧
  (∀ w, w < 2 → H[gA Γ (100 * w + 90)]? = some (arrV (gC Γ 3) 4 (fun i => va_rf (cT σ w i)))) ∧
  va_at (gD Γ) ccl (gA Γ 300, .inr (0, cfx Γ σ)) H ∧
  (∀ w, w < 2 → va_at (gD Γ) ccl (gA Γ (301 + w), .inr (1, cfs Γ w)) H)
/-- a heap moved, but no cell outside the static ones -/
def cFr (Γ : CG) (H H1 : Heap) : Prop := H.size ≤ H1.size ∧ ∀ q : Nat, q < H.size → ¬ cSt Γ q → H1[q]? = H[q]?
theorem cFr.rf {Γ : CG} {H : Heap} : cFr Γ H H := ⟨Nat.le_refl _, fun _ _ _ => rfl⟩
theorem cFr.trans {Γ : CG} {H H1 H2 : Heap} (h : cFr Γ H H1) (h2 : cFr Γ H1 H2) : cFr Γ H H2 := ⟨Nat.le_trans h.1 h2.1, fun q a b => (h2.2 q (Nat.lt_of_lt_of_le a h.1) b).trans (h.2 q a b)⟩
theorem cFr.put {Γ : CG} {H H1 : Heap} {k : Nat} (hk : cval k = true) (z : H1.size = H.size) (oq : ∀ q, q ≠ gA Γ k → H1[q]? = H[q]?) : cFr Γ H H1 := ⟨by rw [z]; exact Nat.le_refl _, fun q _ h => oq q (fun e => h ⟨k, hk, e⟩)⟩
/-- what holds of the picture's parameters alone -/
def cOK (Γ : CG) : Prop :=
  (∀ i j, cval i = true → cval j = true → gA Γ i = gA Γ j → i = j) ∧
  (∀ tx s H H1, cFr Γ H H1 → gE Γ tx s H → gE Γ tx s H1) ∧
  (∀ (tx : TXs Tx) (s U : State) (H : Heap), s.vm.Alike U.vm → gE Γ tx s H → gE Γ tx U H) ∧
  (∀ s U : State, s.WarmedH U.vm → gX Γ s → gX Γ U) ∧
  (∀ (tx : TXs Tx) (s : State) (H : Heap), gE Γ tx s H → ∀ w j q, w < 2 → j < 4 → tx.1 w j = some q → ∃ cellV : Cell, H[q]? = some cellV ∧ cellV.vm.isStatics = false ∧ s.vm.findClass RX4 = some cellV.cls) ∧
  (∀ (tx : TXs Tx) (s : State) (H : Heap) w w1, w < 2 → w1 < 2 → gE Γ tx s H → gE Γ (va_up tx.1 w (va_cpy (tx.1 w1) (tx.1 w) 0 0 4), tx.2) s H)

/-- the words of nest mates: no list of lw_all holds them, the contracts carry them -/
def cnw : List Cond := [.fieldLinkNest "ShaveOfAnother" 91 "ShaveOfAnother$State" "n" "[I" "ShaveOfAnother", .fieldLinkNest "ShaveOfAnother" 189 "ShaveOfAnother$State" "row" "[I" "ShaveOfAnother", .fieldLinkNest "ShaveOfAnother" 102 "ShaveOfAnother$State" "other" "[I" "ShaveOfAnother", .fieldLinkNest "ShaveOfAnother" 305 "ShaveOfAnother$State" "need" "[I" "ShaveOfAnother", .fieldLinkNest "ShaveOfAnother" 370 "ShaveOfAnother$State" "odds" "[I" "ShaveOfAnother", .fieldLinkNest "ShaveOfAnother" 345 "ShaveOfAnother$State" "cut" "[[I" "ShaveOfAnother", .fieldLinkNest "ShaveOfAnother" 358 "ShaveOfAnother$State" "likes" "[[I" "ShaveOfAnother", .fieldLinkNest "ShaveOfAnother" 326 "ShaveOfAnother$State" "seen" "[[I" "ShaveOfAnother", .fieldLinkNest "ShaveOfAnother" 385 "ShaveOfAnother$State" "said" "[[I" "ShaveOfAnother", .fieldLinkNest "ShaveOfAnother" 256 "ShaveOfAnother$State" "step" "[[I" "ShaveOfAnother", .fieldLinkNest "ShaveOfAnother" 112 "ShaveOfAnother$State" "text" "[LShaveOfAnother$Text;" "ShaveOfAnother", .fieldLinkNest "ShaveOfAnother$Tokens" 86 "ShaveOfAnother$Text" "law" "[LShaveOfAnother$Sum;" "ShaveOfAnother", .fieldLinkNest "ShaveOfAnother" 147 "ShaveOfAnother$Text" "law" "[LShaveOfAnother$Sum;" "ShaveOfAnother", .fieldLinkNest "ShaveOfAnother$Tokens" 90 "ShaveOfAnother$Text" "clauses" "I" "ShaveOfAnother", .fieldLinkNest "ShaveOfAnother$Tokens" 97 "ShaveOfAnother$Text" "doings" "Ljava/util/ArrayList;" "ShaveOfAnother", .fieldLinkNest "ShaveOfAnother" 236 "ShaveOfAnother$Text" "doings" "Ljava/util/ArrayList;" "ShaveOfAnother", .fieldLinkNest "ShaveOfAnother" 127 "ShaveOfAnother$Wrong" "fault" "I" "ShaveOfAnother", .fieldLinkNest "ShaveOfAnother" 128 "ShaveOfAnother$Wrong" "place" "I" "ShaveOfAnother", .methodLinkNest "ShaveOfAnother$Tokens" 82 ⟨"ShaveOfAnother$Text", "<init>", "()V"⟩ "ShaveOfAnother", .methodLinkNest "ShaveOfAnother$Tokens" 198 ⟨"ShaveOfAnother$Plain", "<init>", "(I)V"⟩ "ShaveOfAnother", .methodLinkNest "ShaveOfAnother$Tokens" 151 ⟨"ShaveOfAnother$Not", "<init>", "(LShaveOfAnother$Asked;)V"⟩ "ShaveOfAnother", .methodLinkNest "ShaveOfAnother$Tokens" 156 ⟨"ShaveOfAnother$Compared", "<init>", "(ILShaveOfAnother$Sum;LShaveOfAnother$Sum;)V"⟩ "ShaveOfAnother", .methodLinkNest "ShaveOfAnother$Tokens" 140 ⟨"ShaveOfAnother$All", "<init>", "(ZLjava/util/ArrayList;)V"⟩ "ShaveOfAnother", .methodLinkNest "ShaveOfAnother$Tokens" 193 ⟨"ShaveOfAnother$If", "<init>", "(LShaveOfAnother$Asked;LShaveOfAnother$Sum;LShaveOfAnother$Sum;)V"⟩ "ShaveOfAnother", .methodLinkNest "ShaveOfAnother$Tokens" 185 ⟨"ShaveOfAnother$After", "<init>", "(LShaveOfAnother$Sum;LShaveOfAnother$Sum;)V"⟩ "ShaveOfAnother", .methodLinkNest "ShaveOfAnother$Tokens" 214 ⟨"ShaveOfAnother$Name", "<init>", "(I)V"⟩ "ShaveOfAnother", .methodLinkNest "ShaveOfAnother$Tokens" 217 ⟨"ShaveOfAnother$Minus", "<init>", "(LShaveOfAnother$Sum;)V"⟩ "ShaveOfAnother", .methodLinkNest "ShaveOfAnother$Tokens" 122 ⟨"ShaveOfAnother$Doing", "<init>", "(IIII)V"⟩ "ShaveOfAnother", .methodLinkNest "ShaveOfAnother$Chain" 56 ⟨"ShaveOfAnother", "powered", "(JJ)J"⟩ "ShaveOfAnother", .methodLinkNest "ShaveOfAnother$After" 26 ⟨"ShaveOfAnother", "shortOf", "(J)J"⟩ "ShaveOfAnother", .methodLinkNest "ShaveOfAnother" 260 ⟨"ShaveOfAnother$State", "copy", "([I[I)V"⟩ "ShaveOfAnother"]
theorem cnw_warm {s U : State} : ∀ w ∈ cnw, s.WarmedH U.vm → va_Nw w s → va_Nw w U := List.forall_mem_cons.mpr ⟨fun hW h => va_Nw.warmF hW h, List.forall_mem_cons.mpr ⟨fun hW h => va_Nw.warmF hW h, List.forall_mem_cons.mpr ⟨fun hW h => va_Nw.warmF hW h, List.forall_mem_cons.mpr ⟨fun hW h => va_Nw.warmF hW h, List.forall_mem_cons.mpr ⟨fun hW h => va_Nw.warmF hW h, List.forall_mem_cons.mpr ⟨fun hW h => va_Nw.warmF hW h, List.forall_mem_cons.mpr ⟨fun hW h => va_Nw.warmF hW h, List.forall_mem_cons.mpr ⟨fun hW h => va_Nw.warmF hW h, List.forall_mem_cons.mpr ⟨fun hW h => va_Nw.warmF hW h, List.forall_mem_cons.mpr ⟨fun hW h => va_Nw.warmF hW h, List.forall_mem_cons.mpr ⟨fun hW h => va_Nw.warmF hW h, List.forall_mem_cons.mpr ⟨fun hW h => va_Nw.warmF hW h, List.forall_mem_cons.mpr ⟨fun hW h => va_Nw.warmF hW h, List.forall_mem_cons.mpr ⟨fun hW h => va_Nw.warmF hW h, List.forall_mem_cons.mpr ⟨fun hW h => va_Nw.warmF hW h, List.forall_mem_cons.mpr ⟨fun hW h => va_Nw.warmF hW h, List.forall_mem_cons.mpr ⟨fun hW h => va_Nw.warmF hW h, List.forall_mem_cons.mpr ⟨fun hW h => va_Nw.warmF hW h, List.forall_mem_cons.mpr ⟨fun hW h => va_Nw.warmM hW h, List.forall_mem_cons.mpr ⟨fun hW h => va_Nw.warmM hW h, List.forall_mem_cons.mpr ⟨fun hW h => va_Nw.warmM hW h, List.forall_mem_cons.mpr ⟨fun hW h => va_Nw.warmM hW h, List.forall_mem_cons.mpr ⟨fun hW h => va_Nw.warmM hW h, List.forall_mem_cons.mpr ⟨fun hW h => va_Nw.warmM hW h, List.forall_mem_cons.mpr ⟨fun hW h => va_Nw.warmM hW h, List.forall_mem_cons.mpr ⟨fun hW h => va_Nw.warmM hW h, List.forall_mem_cons.mpr ⟨fun hW h => va_Nw.warmM hW h, List.forall_mem_cons.mpr ⟨fun hW h => va_Nw.warmM hW h, List.forall_mem_cons.mpr ⟨fun hW h => va_Nw.warmM hW h, List.forall_mem_cons.mpr ⟨fun hW h => va_Nw.warmM hW h, List.forall_mem_cons.mpr ⟨fun hW h => va_Nw.warmM hW h, fun _ h => absurd h List.not_mem_nil⟩⟩⟩⟩⟩⟩⟩⟩⟩⟩⟩⟩⟩⟩⟩⟩⟩⟩⟩⟩⟩⟩⟩⟩⟩⟩⟩⟩⟩⟩⟩
theorem cnw_tbl : ∀ w ∈ cnw, w ∈ lw_tbl := List.forall_mem_cons.mpr ⟨q180, List.forall_mem_cons.mpr ⟨q182, List.forall_mem_cons.mpr ⟨q184, List.forall_mem_cons.mpr ⟨q186, List.forall_mem_cons.mpr ⟨q188, List.forall_mem_cons.mpr ⟨q190, List.forall_mem_cons.mpr ⟨q192, List.forall_mem_cons.mpr ⟨q194, List.forall_mem_cons.mpr ⟨q196, List.forall_mem_cons.mpr ⟨q198, List.forall_mem_cons.mpr ⟨q200, List.forall_mem_cons.mpr ⟨q397, List.forall_mem_cons.mpr ⟨q398, List.forall_mem_cons.mpr ⟨q399, List.forall_mem_cons.mpr ⟨q401, List.forall_mem_cons.mpr ⟨q402, List.forall_mem_cons.mpr ⟨q528, List.forall_mem_cons.mpr ⟨q530, List.forall_mem_cons.mpr ⟨q364, List.forall_mem_cons.mpr ⟨q571, List.forall_mem_cons.mpr ⟨q606, List.forall_mem_cons.mpr ⟨q616, List.forall_mem_cons.mpr ⟨q710, List.forall_mem_cons.mpr ⟨q727, List.forall_mem_cons.mpr ⟨q747, List.forall_mem_cons.mpr ⟨q770, List.forall_mem_cons.mpr ⟨q780, List.forall_mem_cons.mpr ⟨q847, List.forall_mem_cons.mpr ⟨q990, List.forall_mem_cons.mpr ⟨q1008, List.forall_mem_cons.mpr ⟨q1092, fun _ h => absurd h List.not_mem_nil⟩⟩⟩⟩⟩⟩⟩⟩⟩⟩⟩⟩⟩⟩⟩⟩⟩⟩⟩⟩⟩⟩⟩⟩⟩⟩⟩⟩⟩⟩⟩
theorem cn_180 : Cond.fieldLinkNest "ShaveOfAnother" 91 "ShaveOfAnother$State" "n" "[I" "ShaveOfAnother" ∈ cnw := List.mem_of_getElem? (i := 0) rfl
theorem cn_182 : Cond.fieldLinkNest "ShaveOfAnother" 189 "ShaveOfAnother$State" "row" "[I" "ShaveOfAnother" ∈ cnw := List.mem_of_getElem? (i := 1) rfl
theorem cn_184 : Cond.fieldLinkNest "ShaveOfAnother" 102 "ShaveOfAnother$State" "other" "[I" "ShaveOfAnother" ∈ cnw := List.mem_of_getElem? (i := 2) rfl
theorem cn_186 : Cond.fieldLinkNest "ShaveOfAnother" 305 "ShaveOfAnother$State" "need" "[I" "ShaveOfAnother" ∈ cnw := List.mem_of_getElem? (i := 3) rfl
theorem cn_188 : Cond.fieldLinkNest "ShaveOfAnother" 370 "ShaveOfAnother$State" "odds" "[I" "ShaveOfAnother" ∈ cnw := List.mem_of_getElem? (i := 4) rfl
theorem cn_190 : Cond.fieldLinkNest "ShaveOfAnother" 345 "ShaveOfAnother$State" "cut" "[[I" "ShaveOfAnother" ∈ cnw := List.mem_of_getElem? (i := 5) rfl
theorem cn_192 : Cond.fieldLinkNest "ShaveOfAnother" 358 "ShaveOfAnother$State" "likes" "[[I" "ShaveOfAnother" ∈ cnw := List.mem_of_getElem? (i := 6) rfl
theorem cn_194 : Cond.fieldLinkNest "ShaveOfAnother" 326 "ShaveOfAnother$State" "seen" "[[I" "ShaveOfAnother" ∈ cnw := List.mem_of_getElem? (i := 7) rfl
theorem cn_196 : Cond.fieldLinkNest "ShaveOfAnother" 385 "ShaveOfAnother$State" "said" "[[I" "ShaveOfAnother" ∈ cnw := List.mem_of_getElem? (i := 8) rfl
theorem cn_198 : Cond.fieldLinkNest "ShaveOfAnother" 256 "ShaveOfAnother$State" "step" "[[I" "ShaveOfAnother" ∈ cnw := List.mem_of_getElem? (i := 9) rfl
theorem cn_200 : Cond.fieldLinkNest "ShaveOfAnother" 112 "ShaveOfAnother$State" "text" "[LShaveOfAnother$Text;" "ShaveOfAnother" ∈ cnw := List.mem_of_getElem? (i := 10) rfl
theorem cn_397 : Cond.fieldLinkNest "ShaveOfAnother$Tokens" 86 "ShaveOfAnother$Text" "law" "[LShaveOfAnother$Sum;" "ShaveOfAnother" ∈ cnw := List.mem_of_getElem? (i := 11) rfl
theorem cn_398 : Cond.fieldLinkNest "ShaveOfAnother" 147 "ShaveOfAnother$Text" "law" "[LShaveOfAnother$Sum;" "ShaveOfAnother" ∈ cnw := List.mem_of_getElem? (i := 12) rfl
theorem cn_399 : Cond.fieldLinkNest "ShaveOfAnother$Tokens" 90 "ShaveOfAnother$Text" "clauses" "I" "ShaveOfAnother" ∈ cnw := List.mem_of_getElem? (i := 13) rfl
theorem cn_401 : Cond.fieldLinkNest "ShaveOfAnother$Tokens" 97 "ShaveOfAnother$Text" "doings" "Ljava/util/ArrayList;" "ShaveOfAnother" ∈ cnw := List.mem_of_getElem? (i := 14) rfl
theorem cn_402 : Cond.fieldLinkNest "ShaveOfAnother" 236 "ShaveOfAnother$Text" "doings" "Ljava/util/ArrayList;" "ShaveOfAnother" ∈ cnw := List.mem_of_getElem? (i := 15) rfl
theorem cn_528 : Cond.fieldLinkNest "ShaveOfAnother" 127 "ShaveOfAnother$Wrong" "fault" "I" "ShaveOfAnother" ∈ cnw := List.mem_of_getElem? (i := 16) rfl
theorem cn_530 : Cond.fieldLinkNest "ShaveOfAnother" 128 "ShaveOfAnother$Wrong" "place" "I" "ShaveOfAnother" ∈ cnw := List.mem_of_getElem? (i := 17) rfl
theorem cn_364 : Cond.methodLinkNest "ShaveOfAnother$Tokens" 82 ⟨"ShaveOfAnother$Text", "<init>", "()V"⟩ "ShaveOfAnother" ∈ cnw := List.mem_of_getElem? (i := 18) rfl
theorem cn_571 : Cond.methodLinkNest "ShaveOfAnother$Tokens" 198 ⟨"ShaveOfAnother$Plain", "<init>", "(I)V"⟩ "ShaveOfAnother" ∈ cnw := List.mem_of_getElem? (i := 19) rfl
theorem cn_606 : Cond.methodLinkNest "ShaveOfAnother$Tokens" 151 ⟨"ShaveOfAnother$Not", "<init>", "(LShaveOfAnother$Asked;)V"⟩ "ShaveOfAnother" ∈ cnw := List.mem_of_getElem? (i := 20) rfl
theorem cn_616 : Cond.methodLinkNest "ShaveOfAnother$Tokens" 156 ⟨"ShaveOfAnother$Compared", "<init>", "(ILShaveOfAnother$Sum;LShaveOfAnother$Sum;)V"⟩ "ShaveOfAnother" ∈ cnw := List.mem_of_getElem? (i := 21) rfl
theorem cn_710 : Cond.methodLinkNest "ShaveOfAnother$Tokens" 140 ⟨"ShaveOfAnother$All", "<init>", "(ZLjava/util/ArrayList;)V"⟩ "ShaveOfAnother" ∈ cnw := List.mem_of_getElem? (i := 22) rfl
theorem cn_727 : Cond.methodLinkNest "ShaveOfAnother$Tokens" 193 ⟨"ShaveOfAnother$If", "<init>", "(LShaveOfAnother$Asked;LShaveOfAnother$Sum;LShaveOfAnother$Sum;)V"⟩ "ShaveOfAnother" ∈ cnw := List.mem_of_getElem? (i := 23) rfl
theorem cn_747 : Cond.methodLinkNest "ShaveOfAnother$Tokens" 185 ⟨"ShaveOfAnother$After", "<init>", "(LShaveOfAnother$Sum;LShaveOfAnother$Sum;)V"⟩ "ShaveOfAnother" ∈ cnw := List.mem_of_getElem? (i := 24) rfl
theorem cn_770 : Cond.methodLinkNest "ShaveOfAnother$Tokens" 214 ⟨"ShaveOfAnother$Name", "<init>", "(I)V"⟩ "ShaveOfAnother" ∈ cnw := List.mem_of_getElem? (i := 25) rfl
theorem cn_780 : Cond.methodLinkNest "ShaveOfAnother$Tokens" 217 ⟨"ShaveOfAnother$Minus", "<init>", "(LShaveOfAnother$Sum;)V"⟩ "ShaveOfAnother" ∈ cnw := List.mem_of_getElem? (i := 26) rfl
theorem cn_847 : Cond.methodLinkNest "ShaveOfAnother$Tokens" 122 ⟨"ShaveOfAnother$Doing", "<init>", "(IIII)V"⟩ "ShaveOfAnother" ∈ cnw := List.mem_of_getElem? (i := 27) rfl
theorem cn_990 : Cond.methodLinkNest "ShaveOfAnother$Chain" 56 ⟨"ShaveOfAnother", "powered", "(JJ)J"⟩ "ShaveOfAnother" ∈ cnw := List.mem_of_getElem? (i := 28) rfl
theorem cn_1008 : Cond.methodLinkNest "ShaveOfAnother$After" 26 ⟨"ShaveOfAnother", "shortOf", "(J)J"⟩ "ShaveOfAnother" ∈ cnw := List.mem_of_getElem? (i := 29) rfl
theorem cn_1092 : Cond.methodLinkNest "ShaveOfAnother" 260 ⟨"ShaveOfAnother$State", "copy", "([I[I)V"⟩ "ShaveOfAnother" ∈ cnw := List.mem_of_getElem? (i := 30) rfl
def CK (Γ : CG) (U : State) : Prop := va_K (gD Γ) ccl (ctys Γ) U ∧ (∀ w ∈ cnw, va_Nw w U) ∧ gX Γ U ∧ cOK Γ
theorem CK.warm {Γ : CG} {s U : State} (hW : s.WarmedH U.vm) (h : CK Γ s) : CK Γ U := ⟨va_K.moved hW.alike h.1, fun w hw => cnw_warm w hw hW (h.2.1 w hw), h.2.2.2.2.2.2.1 s U hW h.2.2.1, h.2.2.2⟩
theorem CK.nest {Γ : CG} {s : State} (h : CK Γ s) {w : Cond} (hw : w ∈ cnw) (ht : w.onTables = true) {A : Array Value} : w.before A s = true := va_Nw.use ht (h.2.1 w hw)
def cAc (Γ : CG) (sz : Nat) (q : Nat) : Prop := cSt Γ q ∨ sz ≤ q
/-- the world at σ, since the method's start s -/
def CI (Γ : CG) (s : State) (σ : CS) : Heap → List Loc → Prop := fun H locs => CW Γ σ H ∧ gE Γ σ.2.2 s H ∧ cFr Γ s.heap H ∧ ∀ l ∈ locs, cAc Γ s.heap.size l.base
def cPc (Γ : CG) (av : List Value) (σ : CS) (sz : Nat) : Array Value → State → Prop := va_Pc av (fun U => U.heap.size = sz ∧ CW Γ σ U.heap ∧ gE Γ σ.2.2 U U.heap ∧ CK Γ U)
def cQc (Γ : CG) (v : Option Value) (σ : CS) : Array Value → State → Outcome → State → Prop := fun _ st oc t => (oc = .returned v ∧ CW Γ σ t.heap ∧ gE Γ σ.2.2 t t.heap) ∧ cFr Γ st.heap t.heap
/-- a method's contract -/
def CMet (Γ : CG) (y : MethodName) (bytes : ByteArray) (maxL : Nat) (ret : Option FieldType) (rm : Room) (av : List Value) (σ : CS) (v : Option Value) (σ' : CS) : Prop :=
  ∀ (l : Launch) (sz : Nat), Met l y (ws_ y bytes maxL ret) rm (cPc Γ av σ sz) (cQc Γ v σ') rm.cells rm.slots (cAc Γ sz)
def cQ (K : KT) (Γ : CG) (rm : Room) {ρ : Type} (view : ρ → Option Value × CS) : ρ → State → Prop := fun r => MQ (kB K) (cQc Γ (view r).1 (view r).2) (kA K) (kS K) rm.cells rm.slots (cAc Γ (kS K).heap.size)
/-- a contract of a method that reads and writes no heap -/
def pQc (v : Option Value) : Array Value → State → Outcome → State → Prop := fun _ st oc t => oc = .returned v ∧ t.heap = st.heap
def PMet (y : MethodName) (bytes : ByteArray) (maxL : Nat) (ret : Option FieldType) (rm : Room) (av : List Value) (v : Option Value) : Prop :=
  ∀ l : Launch, Met l y (ws_ y bytes maxL ret) rm (va_Pc av (fun _ => True)) (pQc v) 0 0 (fun _ => False)
def pI (K : KT) : Heap → List Loc → Prop := fun H locs => H = (kS K).heap ∧ locs = []
def pQ (K : KT) {ρ : Type} (view : ρ → Option Value) : ρ → State → Prop := fun r => MQ (kB K) (pQc (view r)) (kA K) (kS K) 0 0 (fun _ => False)
theorem cAv_val {k n : Nat} (h : cAv k n) : cval k = true := by
  have h2 : 0 < cln k := by rw [h.1.1]; exact h.1.2
  unfold cval
  rw [Nat.blt_eq.mpr h2, Bool.true_or, Bool.true_or]
theorem cBv_val {k n : Nat} (h : cBv k n) : cval k = true := by
  have h2 : 0 < cln k := by rw [h.1.1]; exact h.1.2
  unfold cval
  rw [Nat.blt_eq.mpr h2, Bool.true_or, Bool.true_or]
theorem cval_row : ∀ w, w < 2 → ∀ j, 5 ≤ j → j < 11 → cval (100 * w + (80 + j)) = true ∧ cln (100 * w + (80 + j)) = 0 := by
  intro w hw j h1 h2
  rcases (show w = 0 ∨ w = 1 by omega) with rfl | rfl <;> rcases (show j = 5 ∨ j = 6 ∨ j = 7 ∨ j = 8 ∨ j = 9 ∨ j = 10 by omega) with rfl | rfl | rfl | rfl | rfl | rfl <;> exact ⟨rfl, rfl⟩
theorem cval_ob : ∀ j, 300 ≤ j → j < 303 → cval j = true ∧ cln j = 0 := by
  intro j h1 h2
  rcases (show j = 300 ∨ j = 301 ∨ j = 302 by omega) with rfl | rfl | rfl <;> exact ⟨rfl, rfl⟩
/-- what is laid at a number that is no array of numbers touches no array of numbers -/
theorem cne {Γ : CG} (hO : cOK Γ) {i j : Nat} (hi : cval i = true) (hj : cval j = true) (h : i ≠ j) : gA Γ i ≠ gA Γ j := fun e => h (hO.1 i j hi hj e)
theorem updV_upd {f : Nat → Int32} {i : Nat} {v : Int32} : updV (fun j => Value.int (f j)) i (.int v) = (fun j => Value.int (upd f i v j)) := by
  funext q
  by_cases hq : q = i
  · subst hq; simp [updV, upd]
  · simp [updV, upd, hq]
/-- an int array gets other contents -/
theorem CW.arr {Γ : CG} {σ : CS} {H H1 : Heap} (hO : cOK Γ) (h : CW Γ σ H) {k n : Nat} (hk : cAv k n) {f : Nat → Int32} (e : H1[gA Γ k]? = some (arrV (gC Γ 0) n (fun j => .int (f j)))) (oq : ∀ q, q ≠ gA Γ k → H1[q]? = H[q]?) : CW Γ (dA σ k f) H1 := by
  obtain ⟨h1, h2, h3, h4, h5, h6⟩ := h
  have hv := cAv_val hk
  refine ⟨fun j m hj => ?_, fun j m hj => ?_, fun w j hw ha hb => ?_, fun w hw => ?_, ?_, fun w hw => ?_⟩
  · by_cases q : j = k
    · subst q
      have hm : m = n := hj.1.1.symm.trans hk.1.1
      subst hm
      simp only [cA, dA, va_up, if_pos]
      exact e
    · rw [oq _ (cne hO (cAv_val hj) hv q), h1 j m hj]
      simp only [cA, dA, va_up, if_neg q]
  · have q : j ≠ k := fun q => by
      have := hj.2
      rw [q, hk.2] at this
      cases this
    rw [oq _ (cne hO (cBv_val hj) hv q), h2 j m hj]
    simp only [cA, dA, va_up, if_neg q]
  · have := cval_row w hw j ha (by omega)
    rw [oq _ (cne hO this.1 hv (fun q => by have z := hk.1; rw [← q, this.2] at z; omega))]
    exact h3 w j hw ha hb
  · have := cval_row w hw 10 (by omega) (by omega)
    rw [oq _ (cne hO this.1 hv (fun q => by have z := hk.1; rw [← q, this.2] at z; omega))]
    exact h4 w hw
  · exact h5.kept (oq _ (cne hO rfl hv (fun q => by have z := hk.1; rw [← q] at z; simp [cln] at z; omega)))
  · have := cval_ob (301 + w) (by omega) (by omega)
    exact (h6 w hw).kept (oq _ (cne hO this.1 hv (fun q => by have z := hk.1; rw [← q, this.2] at z; omega)))
theorem CW.byt {Γ : CG} {σ : CS} {H H1 : Heap} (hO : cOK Γ) (h : CW Γ σ H) {k n : Nat} (hk : cBv k n) {f : Nat → Int32} (e : H1[gA Γ k]? = some (arrV (gC Γ 1) n (fun j => .int (f j)))) (oq : ∀ q, q ≠ gA Γ k → H1[q]? = H[q]?) : CW Γ (dA σ k f) H1 := by
  obtain ⟨h1, h2, h3, h4, h5, h6⟩ := h
  have hv := cBv_val hk
  refine ⟨fun j m hj => ?_, fun j m hj => ?_, fun w j hw ha hb => ?_, fun w hw => ?_, ?_, fun w hw => ?_⟩
  · have q : j ≠ k := fun q => by
      have := hj.2
      rw [q, hk.2] at this
      cases this
    rw [oq _ (cne hO (cAv_val hj) hv q), h1 j m hj]
    simp only [cA, dA, va_up, if_neg q]
  · by_cases q : j = k
    · subst q
      have hm : m = n := hj.1.1.symm.trans hk.1.1
      subst hm
      simp only [cA, dA, va_up, if_pos]
      exact e
    · rw [oq _ (cne hO (cBv_val hj) hv q), h2 j m hj]
      simp only [cA, dA, va_up, if_neg q]
  · have := cval_row w hw j ha (by omega)
    rw [oq _ (cne hO this.1 hv (fun q => by have z := hk.1; rw [← q, this.2] at z; omega))]
    exact h3 w j hw ha hb
  · have := cval_row w hw 10 (by omega) (by omega)
    rw [oq _ (cne hO this.1 hv (fun q => by have z := hk.1; rw [← q, this.2] at z; omega))]
    exact h4 w hw
  · exact h5.kept (oq _ (cne hO rfl hv (fun q => by have z := hk.1; rw [← q] at z; simp [cln] at z; omega)))
  · have := cval_ob (301 + w) (by omega) (by omega)
    exact (h6 w hw).kept (oq _ (cne hO this.1 hv (fun q => by have z := hk.1; rw [← q, this.2] at z; omega)))
/-- cells that are no part of the world moved -/
theorem CW.fr {Γ : CG} {σ : CS} {H H1 : Heap} (h : CW Γ σ H) (oq : ∀ q, cSt Γ q → H1[q]? = H[q]?) : CW Γ σ H1 := by
  obtain ⟨h1, h2, h3, h4, h5, h6⟩ := h
  refine ⟨fun j m hj => by rw [oq _ ⟨j, cAv_val hj, rfl⟩]; exact h1 j m hj, fun j m hj => by rw [oq _ ⟨j, cBv_val hj, rfl⟩]; exact h2 j m hj, fun w j hw ha hb => by rw [oq _ ⟨_, (cval_row w hw j ha (by omega)).1, rfl⟩]; exact h3 w j hw ha hb, fun w hw => by rw [oq _ ⟨_, (cval_row w hw 10 (by omega) (by omega)).1, rfl⟩]; exact h4 w hw, h5.kept (oq _ ⟨300, rfl, rfl⟩), fun w hw => (h6 w hw).kept (oq _ ⟨_, (cval_ob (301 + w) (by omega) (by omega)).1, rfl⟩)⟩
theorem CW.lt {Γ : CG} {σ : CS} {H : Heap} (h : CW Γ σ H) {q : Nat} (hq : cSt Γ q) : q < H.size := by
  obtain ⟨h1, h2, h3, h4, h5, h6⟩ := h
  obtain ⟨k, hk, rfl⟩ := hq
  have lt : ∀ {c : Cell}, H[gA Γ k]? = some c → gA Γ k < H.size := fun h => (Array.getElem?_eq_some_iff.mp h).1
  by_cases h0 : 0 < cln k
  · cases hb : cby k with
    | false => exact lt (h1 k _ ⟨⟨rfl, h0⟩, hb⟩)
    | true => exact lt (h2 k _ ⟨⟨rfl, h0⟩, hb⟩)
  · have hz : Nat.blt 0 (cln k) = false := by
      cases e : Nat.blt 0 (cln k) with
      | false => rfl
      | true => exact absurd (Nat.blt_eq.mp e) h0
    unfold cval at hk
    rw [hz, Bool.false_or, Bool.or_eq_true, Bool.and_eq_true, Bool.and_eq_true, Bool.and_eq_true, Nat.blt_eq] at hk
    rcases hk with ⟨⟨a, b⟩, c⟩ | ⟨a, b⟩
    · have b := Nat.le_of_ble_eq_true b
      have c := Nat.le_of_ble_eq_true c
      have e : k = 100 * (k / 100) + (80 + (k % 100 - 80)) := by omega
      by_cases h10 : k % 100 = 90
      · have e2 : k = 100 * (k / 100) + 90 := by omega
        have := h4 (k / 100) (by omega)
        rw [← e2] at this
        exact lt this
      · have := h3 (k / 100) (k % 100 - 80) (by omega) (by omega) (by omega)
        rw [← e] at this
        exact lt this
    · have a := Nat.le_of_ble_eq_true a
      have b := Nat.le_of_ble_eq_true b
      rcases (show k = 300 ∨ k = 301 ∨ k = 302 by omega) with rfl | rfl | rfl
      · exact h5.lt
      · exact (h6 0 (by omega)).lt
      · exact (h6 1 (by omega)).lt

/-! ROWS over the component's world -/
set_option maxRecDepth 100000
/-- the object's field of place k: an int; a reference to the cell of number j -/
def cFi (k : Nat) : Prop := k < 17 ∧ (TX0 k).1 = RX0 ∧ tyX0 k = .int ∧ (TX0 k).2.2.2 = false ∧ ∀ (Γ : CG) (σ : CS), (cfx Γ σ)[k]? = some (.int (cI σ k)) ∧ ∀ v, (cfx Γ σ).set k (.int v) = cfx Γ (dI σ k v)
def cFr0 (k j : Nat) : Prop := k < 17 ∧ (TX0 k).1 = RX0 ∧ ∀ (Γ : CG) (σ : CS), (cfx Γ σ)[k]? = some (.ref (gA Γ j))
def cFl (k idx : Nat) : Prop := Cond.fieldLink RX0 idx RX0 (TX0 k).2.1 (TX0 k).2.2.1 ∈ lw_all
/-- a state's field of place k: the cell of number 100 * w + j -/
def sFr (k j : Nat) : Prop := k < 11 ∧ (TX1 k).1 = RX1 ∧ ∀ (Γ : CG) (w : Nat), (cfs Γ w)[k]? = some (.ref (gA Γ (100 * w + j)))
def sFl (k idx : Nat) : Prop := Cond.fieldLink RX1 idx RX1 (TX1 k).2.1 (TX1 k).2.2.1 ∈ lw_all
def sFn (k idx : Nat) : Prop := Cond.fieldLinkNest RX0 idx RX1 (TX1 k).2.1 (TX1 k).2.2.1 RX0 ∈ cnw
theorem ci_3 : cFi 3 := ⟨by decide, rfl, rfl, rfl, fun _ _ => ⟨rfl, fun _ => rfl⟩⟩
theorem ci_4 : cFi 4 := ⟨by decide, rfl, rfl, rfl, fun _ _ => ⟨rfl, fun _ => rfl⟩⟩
theorem ci_5 : cFi 5 := ⟨by decide, rfl, rfl, rfl, fun _ _ => ⟨rfl, fun _ => rfl⟩⟩
theorem ci_15 : cFi 15 := ⟨by decide, rfl, rfl, rfl, fun _ _ => ⟨rfl, fun _ => rfl⟩⟩
theorem cr_0 : cFr0 0 301 := ⟨by decide, rfl, fun _ _ => rfl⟩
theorem cr_1 : cFr0 1 302 := ⟨by decide, rfl, fun _ _ => rfl⟩
theorem cr_2 : cFr0 2 200 := ⟨by decide, rfl, fun _ _ => rfl⟩
theorem cr_6 : cFr0 6 201 := ⟨by decide, rfl, fun _ _ => rfl⟩
theorem cr_7 : cFr0 7 202 := ⟨by decide, rfl, fun _ _ => rfl⟩
theorem cr_8 : cFr0 8 203 := ⟨by decide, rfl, fun _ _ => rfl⟩
theorem cr_9 : cFr0 9 204 := ⟨by decide, rfl, fun _ _ => rfl⟩
theorem cr_10 : cFr0 10 205 := ⟨by decide, rfl, fun _ _ => rfl⟩
theorem cr_11 : cFr0 11 206 := ⟨by decide, rfl, fun _ _ => rfl⟩
theorem cr_12 : cFr0 12 207 := ⟨by decide, rfl, fun _ _ => rfl⟩
theorem cr_13 : cFr0 13 208 := ⟨by decide, rfl, fun _ _ => rfl⟩
theorem cr_14 : cFr0 14 209 := ⟨by decide, rfl, fun _ _ => rfl⟩
theorem cr_16 : cFr0 16 210 := ⟨by decide, rfl, fun _ _ => rfl⟩
theorem sr_0 : sFr 0 0 := ⟨by decide, rfl, fun _ _ => rfl⟩
theorem sr_1 : sFr 1 1 := ⟨by decide, rfl, fun _ _ => rfl⟩
theorem sr_2 : sFr 2 2 := ⟨by decide, rfl, fun _ _ => rfl⟩
theorem sr_3 : sFr 3 3 := ⟨by decide, rfl, fun _ _ => rfl⟩
theorem sr_4 : sFr 4 4 := ⟨by decide, rfl, fun _ _ => rfl⟩
theorem sr_5 : sFr 5 85 := ⟨by decide, rfl, fun _ _ => rfl⟩
theorem sr_6 : sFr 6 86 := ⟨by decide, rfl, fun _ _ => rfl⟩
theorem sr_7 : sFr 7 87 := ⟨by decide, rfl, fun _ _ => rfl⟩
theorem sr_8 : sFr 8 88 := ⟨by decide, rfl, fun _ _ => rfl⟩
theorem sr_9 : sFr 9 89 := ⟨by decide, rfl, fun _ _ => rfl⟩
theorem sr_10 : sFr 10 90 := ⟨by decide, rfl, fun _ _ => rfl⟩
theorem sf_0 : sFl 0 9 := q179
theorem sn_0 : sFn 0 91 := cn_180
theorem sf_1 : sFl 1 15 := q181
theorem sn_1 : sFn 1 189 := cn_182
theorem sf_2 : sFl 2 18 := q183
theorem sn_2 : sFn 2 102 := cn_184
theorem sf_3 : sFl 3 21 := q185
theorem sn_3 : sFn 3 305 := cn_186
theorem sf_4 : sFl 4 24 := q187
theorem sn_4 : sFn 4 370 := cn_188
theorem sf_5 : sFl 5 29 := q189
theorem sn_5 : sFn 5 345 := cn_190
theorem sf_6 : sFl 6 32 := q191
theorem sn_6 : sFn 6 358 := cn_192
theorem sf_7 : sFl 7 35 := q193
theorem sn_7 : sFn 7 326 := cn_194
theorem sf_8 : sFl 8 38 := q195
theorem sn_8 : sFn 8 385 := cn_196
theorem sf_9 : sFl 9 41 := q197
theorem sn_9 : sFn 9 256 := cn_198
theorem sf_10 : sFl 10 46 := q199
theorem sn_10 : sFn 10 112 := cn_200
theorem cf_0 : cFl 0 33 := q239
theorem cf_1 : cFl 1 37 := q240
theorem cf_2 : cFl 2 40 := q241
theorem cf_3 : cFl 3 105 := q242
theorem cf_4 : cFl 4 44 := q243
theorem cf_5 : cFl 5 48 := q244
theorem cf_6 : cFl 6 51 := q245
theorem cf_7 : cFl 7 55 := q246
theorem cf_8 : cFl 8 58 := q247
theorem cf_9 : cFl 9 62 := q248
theorem cf_10 : cFl 10 65 := q249
theorem cf_11 : cFl 11 68 := q250
theorem cf_12 : cFl 12 71 := q251
theorem cf_13 : cFl 13 74 := q252
theorem cf_14 : cFl 14 77 := q253
theorem cf_15 : cFl 15 336 := q254
theorem cf_16 : cFl 16 80 := q255
theorem va_P1 {D : va_G} {cl : List vw_C} {a : Nat} {e : va_E} {H : Heap} (h : va_at D cl (a, e) H) : va_P D cl [(a, e)] H := by
  intro k q hk
  cases k with
  | zero => cases hk; exact h
  | succ k => cases hk
section CWR
variable {ρ : Type} {K : KT} {Q : ρ → State → Prop} {comp A B : Option ρ} {nL : Nat} {cs sl pc : Nat} {ls : List (Nat × Value)} {st : List Value} {cc : ByteArray} {rm : Room} {ret : Option FieldType} {Γ : CG} {σ : CS} {own : String}
theorem CI.next {s : State} {σ' : CS} {H H1 : Heap} {locs locs1 : List Loc} (hI : CI Γ s σ H locs) (hO : cOK Γ) (hW : CW Γ σ' H1) (ht : σ'.2.2 = σ.2.2) (hF : cFr Γ H H1) (hl : ∀ l ∈ locs1, l ∈ locs ∨ cAc Γ s.heap.size l.base) : CI Γ s σ' H1 locs1 :=
  ⟨hW, by rw [ht]; exact hO.2.1 _ _ _ _ hF hI.2.1, hI.2.2.1.trans hF, fun l h => (hl l h).elim (hI.2.2.2 l) id⟩
theorem c_getI (hk : KOK K cc nL RX0 rm ret) (hK : CK Γ (kS K)) {k idx : Nat} (hf : cFi k) (hl : cFl k idx) (hd : decode cc pc = .ok (.getfield idx, 3)) (kk : GGo K Q comp nL (CI Γ (kS K) σ) cs sl (pc + 3) ls (.int (cI σ k) :: st)) : GGo K Q comp nL (CI Γ (kS K) σ) cs sl pc ls (.ref (gA Γ 300) :: st) :=
  fun r hr H locs lsA hI hh => va_get (D := gD Γ) (ci := 0) (v := .int (cI σ k)) (C := RX0) (T := TX0) (N := 17) hk.1 hk.2.1 hk.2.2.2.2.1 in_X0 hk.2.2.2.1 hK.1 (va_P1 hI.1.2.2.2.2.1) 0 rfl rfl k hf.1 (hk.2.2.2.2.1 _ hl) (fun _ h9 => by rw [← hf.2.1]; exact h9) ((hf.2.2.2.2 Γ σ).1) hd (kk r hr H locs lsA hI hh)
theorem c_getR (hk : KOK K cc nL RX0 rm ret) (hK : CK Γ (kS K)) {k j idx : Nat} (hf : cFr0 k j) (hl : cFl k idx) (hd : decode cc pc = .ok (.getfield idx, 3)) (kk : GGo K Q comp nL (CI Γ (kS K) σ) cs sl (pc + 3) ls (.ref (gA Γ j) :: st)) : GGo K Q comp nL (CI Γ (kS K) σ) cs sl pc ls (.ref (gA Γ 300) :: st) :=
  fun r hr H locs lsA hI hh => va_get (D := gD Γ) (ci := 0) (v := .ref (gA Γ j)) (C := RX0) (T := TX0) (N := 17) hk.1 hk.2.1 hk.2.2.2.2.1 in_X0 hk.2.2.2.1 hK.1 (va_P1 hI.1.2.2.2.2.1) 0 rfl rfl k hf.1 (hk.2.2.2.2.1 _ hl) (fun _ h9 => by rw [← hf.2.1]; exact h9) (hf.2.2 Γ σ) hd (kk r hr H locs lsA hI hh)
/-- a state's field, read by the state's own class; by the outer class -/
theorem s_getR (hk : KOK K cc nL RX1 rm ret) (hK : CK Γ (kS K)) {k j idx : Nat} {w : Nat} (hw : w < 2) (hf : sFr k j) (hl : sFl k idx) (hd : decode cc pc = .ok (.getfield idx, 3)) (kk : GGo K Q comp nL (CI Γ (kS K) σ) cs sl (pc + 3) ls (.ref (gA Γ (100 * w + j)) :: st)) : GGo K Q comp nL (CI Γ (kS K) σ) cs sl pc ls (.ref (gA Γ (301 + w)) :: st) :=
  fun r hr H locs lsA hI hh => va_get (D := gD Γ) (ci := 1) (v := .ref (gA Γ (100 * w + j))) (C := RX1) (T := TX1) (N := 11) hk.1 hk.2.1 hk.2.2.2.2.1 in_X1 hk.2.2.2.1 hK.1 (va_P1 (hI.1.2.2.2.2.2 w hw)) 0 rfl rfl k hf.1 (hk.2.2.2.2.1 _ hl) (fun _ h9 => by rw [← hf.2.1]; exact h9) (hf.2.2 Γ w) hd (kk r hr H locs lsA hI hh)
theorem c_getS (hk : KOK K cc nL RX0 rm ret) (hK : CK Γ (kS K)) {k j idx : Nat} {w : Nat} (hw : w < 2) (hf : sFr k j) (hl : sFn k idx) (hd : decode cc pc = .ok (.getfield idx, 3)) (kk : GGo K Q comp nL (CI Γ (kS K) σ) cs sl (pc + 3) ls (.ref (gA Γ (100 * w + j)) :: st)) : GGo K Q comp nL (CI Γ (kS K) σ) cs sl pc ls (.ref (gA Γ (301 + w)) :: st) :=
  fun r hr H locs lsA hI hh => va_getN (D := gD Γ) (ci := 1) (v := .ref (gA Γ (100 * w + j))) (C := RX1) (T := TX1) (N := 11) hk.1 hk.2.1 hk.2.2.2.2.1 in_X1 hk.2.2.2.1 hK.1 (va_P1 (hI.1.2.2.2.2.2 w hw)) 0 rfl rfl k hf.1 (hK.nest hl rfl) (fun _ h9 => by rw [← hf.2.1]; exact h9) (hf.2.2 Γ w) hd (kk r hr H locs lsA hI hh)
/-- a putfield, with all that it leaves alone -/
theorem c_put0 {p : Program} {l : Launch} {e : Env} {R : Room} {s : State} {m : MethodId} {args : Array Value} {below : List Frame} {meth : Method} {c : Code} {H : Heap} {locs : List Loc} {cells slots : Nat} {Q : State → Prop} {cc : ByteArray} {pc : Nat} {ls : Array Slot} {rest : List Value} {D : va_G} {cl : List vw_C} {a : Nat} {tys : List (ClassId × FieldType)} (hexec : p.tables.exec = Jvm.exec) (hb : c.code = cc) {own ref C : String} {T : u_T} {N ci index : Nat} {Ts : List Cond} (hts : ∀ w ∈ Ts, w.before args s = true) (hin : ∀ w ∈ u_ws C T N, w ∈ Ts) (ty0 : Nat → FieldType) (hty : ∀ k, k < N → parseFieldDescriptor (T k).2.2.1 = some (ty0 k)) (hnm : ∀ a, a < N → ∀ b, b < N → a ≠ b → (T a).2.1 ≠ (T b).2.1) (hown : s.vm.findClass own = some m.cls) (hK : va_K D cl tys s) {fs : List Value} (he : va_at D cl (a, .inr (ci, fs)) H) (hc : cl[ci]? = some (C, T, N)) (k : Nat) (hk : k < N) (hlink : (Cond.fieldLink own index ref (T k).2.1 (T k).2.2.1).before args s = true) (hsame : ∀ x, s.fieldFound? (T k).1 (T k).2.1 (T k).2.2.1 = some x → s.fieldFound? ref (T k).2.1 (T k).2.2.1 = some x) (hfin : (T k).2.2.2 = false) {ty : FieldType} {v : Value} (hd : parseFieldDescriptor (T k).2.2.1 = some ty) (hn : narrow ty v = v) (hfit : fits ty v = true) (hl : k < fs.length)
    (hdg : decode cc pc = .ok (.putfield index, 3)) (kk : ∀ (H1 : Heap) (locs1 : List Loc), va_at D cl (a, .inr (ci, fs.set k v)) H1 → H1.size = H.size → (∀ q : Nat, q ≠ a → H1[q]? = H[q]?) → (∀ l ∈ locs1, l ∈ locs ∨ l.base = a) → W p l e R s m args below meth c H1 locs1 cells slots Q (F0 m (pc + 3) ls rest)) : W p l e R s m args below meth c H locs cells slots Q (F0 m pc ls (v :: .ref a :: rest)) := by
  have hap := va_apart (own := own) hts hin ty0 hty hnm hK hc
  obtain ⟨r, h1, cell, q1, q2, q3, q4⟩ := he
  have hr : r = (C, T, N) := Option.some.inj (h1.symm.trans hc)
  subst hr
  obtain ⟨hS, hfc, kC, hkC, hkind⟩ := hK.1 ci _ hc
  obtain ⟨cf, kf, fi, f, hi, hsl⟩ := hS k hk
  have hlay := hts _ (hin _ (u_in_lay hk))
  unfold u_lay at hlay
  rw [if_neg (by rw [hfin]; decide)] at hlay
  have hst := (u_facts hfc hkC (u_lays hts hin hk) hi).1
  have h6 := u_store hfc hkC hkind hlay hi hd hn hfit
  refine W.putK hexec hb (f := f) ⟨hown, hlink, ⟨_, _, _, hsame _ hi⟩, hst⟩ (by rw [q2]; exact h6) q1 q3 (by rw [hsl]; exact k2_hasslot (q4 k hk)) rfl rfl hdg fun H' e1 e2 e3 => ?_
  rw [hsl] at e1 ⊢
  exact kk H' _ ⟨_, hc, t_OB.to (V := updV (vp_V fs) k v) ⟨_, e1, q2, q3, t_set q4 hap hk v⟩ (fun j _ => vp_updV_set hl v j)⟩ e2 e3 (fun l hl => (List.mem_append.mp hl).elim Or.inl (fun h => Or.inr (by rw [List.mem_singleton.mp h])))
theorem c_putI (hk : KOK K cc nL RX0 rm ret) (hK : CK Γ (kS K)) {k idx : Nat} {v : Int32} {f : CS → Option ρ} (hf : cFi k) (hl : cFl k idx) (hd : decode cc pc = .ok (.putfield idx, 3)) (kk : ∀ σ', GGo K Q (f σ') nL (CI Γ (kS K) σ') cs sl (pc + 3) ls st) : GGo K Q (nm (dI σ k v) f) nL (CI Γ (kS K) σ) cs sl pc ls (.int v :: .ref (gA Γ 300) :: st) := by
  intro r hr H locs lsA hI hh
  refine c_put0 (D := gD Γ) (ci := 0) (v := .int v) (ty := tyX0 k) (C := RX0) (T := TX0) (N := 17) hk.1 hk.2.1 hk.2.2.2.2.1 in_X0 tyX0 tyX0_ok nmX0 hk.2.2.2.1 hK.1 hI.1.2.2.2.2.1 rfl k hf.1 (hk.2.2.2.2.1 _ hl) (fun _ h9 => by rw [← hf.2.1]; exact h9) hf.2.2.2.1 (tyX0_ok k hf.1) (by rw [hf.2.2.1]; rfl) (by rw [hf.2.2.1]; rfl) hf.1 hd (fun H1 locs1 hP hz oq hlo => ?_)
  rw [(hf.2.2.2.2 Γ σ).2 v] at hP
  have hO := hK.2.2.2
  obtain ⟨h1, h2, h3, h4, h5, h6⟩ := hI.1
  refine kk (dI σ k v) r hr H1 locs1 lsA (hI.next hO ?_ rfl (cFr.put (k := 300) rfl hz oq) (fun l h => (hlo l h).elim Or.inl (fun e => Or.inr (Or.inl ⟨300, rfl, e⟩)))) hh
  refine ⟨fun j m hj => ?_, fun j m hj => ?_, fun w j hw ha hb => ?_, fun w hw => ?_, hP, fun w hw => ?_⟩
  · rw [oq _ (cne hO (cAv_val hj) rfl (fun q => by have z := hj.1; rw [q] at z; simp [cln] at z; omega))]; exact h1 j m hj
  · rw [oq _ (cne hO (cBv_val hj) rfl (fun q => by have z := hj.1; rw [q] at z; simp [cln] at z; omega))]; exact h2 j m hj
  · rw [oq _ (cne hO (cval_row w hw j ha (by omega)).1 rfl (by omega))]; exact h3 w j hw ha hb
  · rw [oq _ (cne hO (cval_row w hw 10 (by omega) (by omega)).1 rfl (by omega))]; exact h4 w hw
  · exact (h6 w hw).kept (oq _ (cne hO (cval_ob (301 + w) (by omega) (by omega)).1 rfl (by omega)))

theorem c_ialdN (hk : KOK K cc nL own rm ret) (hK : CK Γ (kS K)) {k n : Nat} {i : Int32} (ha : cAv k n) (hin : inb i n = true) (hd : decode cc pc = .ok (.iaload, 1)) (kk : GGo K Q A nL (CI Γ (kS K) σ) cs sl (pc + 1) ls (.int (cA σ k i.toNatClampNeg) :: st)) : GGo K Q A nL (CI Γ (kS K) σ) cs sl pc ls (.int i :: .ref (gA Γ k) :: st) := by
  intro r hr H locs lsA hI hh
  have hv := inb_vp hin
  have hlt : i.toNatClampNeg < n := Nat.not_le.mp fun q => hv (Or.inr q)
  exact W.iald (v := .int (cA σ k i.toNatClampNeg)) hk.1 hk.2.1 (hI.1.1 k n ha) ((hK.1.2 0 _ rfl).1 n _) (fun q => by cases q) (by rw [arrV_size]; exact hv) (by rw [arrV_read _ _ hlt]) rfl rfl hd (kk r hr H locs lsA hI hh)
theorem c_iald (hk : KOK K cc nL own rm ret) (hK : CK Γ (kS K)) {k n : Nat} {i : Int32} (ha : cAv k n) (hd : decode cc pc = .ok (.iaload, 1)) (kk : GGo K Q A nL (CI Γ (kS K) σ) cs sl (pc + 1) ls (.int (cA σ k i.toNatClampNeg) :: st)) : GGo K Q (if inb i n = true then A else none) nL (CI Γ (kS K) σ) cs sl pc ls (.int i :: .ref (gA Γ k) :: st) := g_gd (fun h => c_ialdN hk hK ha h hd kk)
theorem c_ialdC (hk : KOK K cc nL own rm ret) (hK : CK Γ (kS K)) {k n : Nat} {i : Int32} {j : Nat} (ha : cAv k n) (hin : inb i n = true) (hj : i.toNatClampNeg = j) (hd : decode cc pc = .ok (.iaload, 1)) (kk : GGo K Q A nL (CI Γ (kS K) σ) cs sl (pc + 1) ls (.int (cA σ k j) :: st)) : GGo K Q A nL (CI Γ (kS K) σ) cs sl pc ls (.int i :: .ref (gA Γ k) :: st) := c_ialdN hk hK ha hin hd (hj ▸ kk)
theorem c_baldN (hk : KOK K cc nL own rm ret) (hK : CK Γ (kS K)) {k n : Nat} {i : Int32} (ha : cBv k n) (hin : inb i n = true) (hd : decode cc pc = .ok (.baload, 1)) (kk : GGo K Q A nL (CI Γ (kS K) σ) cs sl (pc + 1) ls (.int (cA σ k i.toNatClampNeg) :: st)) : GGo K Q A nL (CI Γ (kS K) σ) cs sl pc ls (.int i :: .ref (gA Γ k) :: st) := by
  intro r hr H locs lsA hI hh
  have hv := inb_vp hin
  have hlt : i.toNatClampNeg < n := Nat.not_le.mp fun q => hv (Or.inr q)
  exact W.bald (v := .int (cA σ k i.toNatClampNeg)) hk.1 hk.2.1 (hI.1.2.1 k n ha) ((hK.1.2 1 _ rfl).1 n _) (fun q => by cases q) (by rw [arrV_size]; exact hv) (by rw [arrV_read _ _ hlt]) rfl rfl hd (kk r hr H locs lsA hI hh)
theorem c_bald (hk : KOK K cc nL own rm ret) (hK : CK Γ (kS K)) {k n : Nat} {i : Int32} (ha : cBv k n) (hd : decode cc pc = .ok (.baload, 1)) (kk : GGo K Q A nL (CI Γ (kS K) σ) cs sl (pc + 1) ls (.int (cA σ k i.toNatClampNeg) :: st)) : GGo K Q (if inb i n = true then A else none) nL (CI Γ (kS K) σ) cs sl pc ls (.int i :: .ref (gA Γ k) :: st) := g_gd (fun h => c_baldN hk hK ha h hd kk)
theorem c_baldC (hk : KOK K cc nL own rm ret) (hK : CK Γ (kS K)) {k n : Nat} {i : Int32} {j : Nat} (ha : cBv k n) (hin : inb i n = true) (hj : i.toNatClampNeg = j) (hd : decode cc pc = .ok (.baload, 1)) (kk : GGo K Q A nL (CI Γ (kS K) σ) cs sl (pc + 1) ls (.int (cA σ k j) :: st)) : GGo K Q A nL (CI Γ (kS K) σ) cs sl pc ls (.int i :: .ref (gA Γ k) :: st) := c_baldN hk hK ha hin hd (hj ▸ kk)
theorem c_iastN (hk : KOK K cc nL own rm ret) (hK : CK Γ (kS K)) {k n : Nat} {i : Int32} {v : Int32} {f : CS → Option ρ} (ha : cAv k n) (hin : inb i n = true) (hd : decode cc pc = .ok (.iastore, 1)) (kk : ∀ σ', GGo K Q (f σ') nL (CI Γ (kS K) σ') cs sl (pc + 1) ls st) : GGo K Q (nm (eA σ k i.toNatClampNeg v) f) nL (CI Γ (kS K) σ) cs sl pc ls (.int v :: .int i :: .ref (gA Γ k) :: st) := by
  intro r hr H locs lsA hI hh
  have hv := inb_vp hin
  refine W.iast hk.1 hk.2.1 (hI.1.1 k n ha) ((hK.1.2 0 _ rfl).1 n _) (fun q => by cases q) (by rw [arrV_size]; exact hv) rfl rfl hd fun H1 e z oq => ?_
  refine kk _ r hr H1 _ lsA (hI.next hK.2.2.2 (CW.arr hK.2.2.2 hI.1 ha (f := upd (cA σ k) i.toNatClampNeg v) ?_ oq) rfl (cFr.put (cAv_val ha) z oq) (fun l h => (List.mem_append.mp h).elim Or.inl (fun e => Or.inr (Or.inl ⟨k, cAv_val ha, by rw [List.mem_singleton.mp e]⟩)))) hh
  rw [e, arrV_store, ← updV_upd]
  try rfl
theorem c_iast (hk : KOK K cc nL own rm ret) (hK : CK Γ (kS K)) {k n : Nat} {i : Int32} {v : Int32} {f : CS → Option ρ} (ha : cAv k n) (hd : decode cc pc = .ok (.iastore, 1)) (kk : ∀ σ', GGo K Q (f σ') nL (CI Γ (kS K) σ') cs sl (pc + 1) ls st) : GGo K Q (if inb i n = true then nm (eA σ k i.toNatClampNeg v) f else none) nL (CI Γ (kS K) σ) cs sl pc ls (.int v :: .int i :: .ref (gA Γ k) :: st) := g_gd (fun h => c_iastN hk hK ha h hd kk)
theorem c_iastC (hk : KOK K cc nL own rm ret) (hK : CK Γ (kS K)) {k n : Nat} {i : Int32} {j : Nat} {v : Int32} {f : CS → Option ρ} (ha : cAv k n) (hin : inb i n = true) (hj : i.toNatClampNeg = j) (hd : decode cc pc = .ok (.iastore, 1)) (kk : ∀ σ', GGo K Q (f σ') nL (CI Γ (kS K) σ') cs sl (pc + 1) ls st) : GGo K Q (nm (eA σ k j v) f) nL (CI Γ (kS K) σ) cs sl pc ls (.int v :: .int i :: .ref (gA Γ k) :: st) := by
  subst hj
  exact c_iastN hk hK ha hin hd kk
theorem c_bastN (hk : KOK K cc nL own rm ret) (hK : CK Γ (kS K)) {k n : Nat} {i : Int32} {v : Int32} {f : CS → Option ρ} (ha : cBv k n) (hin : inb i n = true) (hd : decode cc pc = .ok (.bastore, 1)) (kk : ∀ σ', GGo K Q (f σ') nL (CI Γ (kS K) σ') cs sl (pc + 1) ls st) : GGo K Q (nm (eA σ k i.toNatClampNeg (vp_nar .byte v)) f) nL (CI Γ (kS K) σ) cs sl pc ls (.int v :: .int i :: .ref (gA Γ k) :: st) := by
  intro r hr H locs lsA hI hh
  have hv := inb_vp hin
  refine W.bast hk.1 hk.2.1 (hI.1.2.1 k n ha) ((hK.1.2 1 _ rfl).1 n _) (fun q => by cases q) (by rw [arrV_size]; exact hv) rfl rfl hd fun H1 e z oq => ?_
  refine kk _ r hr H1 _ lsA (hI.next hK.2.2.2 (CW.byt hK.2.2.2 hI.1 ha (f := upd (cA σ k) i.toNatClampNeg (vp_nar .byte v)) ?_ oq) rfl (cFr.put (cBv_val ha) z oq) (fun l h => (List.mem_append.mp h).elim Or.inl (fun e => Or.inr (Or.inl ⟨k, cBv_val ha, by rw [List.mem_singleton.mp e]⟩)))) hh
  rw [e, arrV_store, ← updV_upd]
  try rfl
theorem c_bast (hk : KOK K cc nL own rm ret) (hK : CK Γ (kS K)) {k n : Nat} {i : Int32} {v : Int32} {f : CS → Option ρ} (ha : cBv k n) (hd : decode cc pc = .ok (.bastore, 1)) (kk : ∀ σ', GGo K Q (f σ') nL (CI Γ (kS K) σ') cs sl (pc + 1) ls st) : GGo K Q (if inb i n = true then nm (eA σ k i.toNatClampNeg (vp_nar .byte v)) f else none) nL (CI Γ (kS K) σ) cs sl pc ls (.int v :: .int i :: .ref (gA Γ k) :: st) := g_gd (fun h => c_bastN hk hK ha h hd kk)
theorem c_bastC (hk : KOK K cc nL own rm ret) (hK : CK Γ (kS K)) {k n : Nat} {i : Int32} {j : Nat} {v : Int32} {f : CS → Option ρ} (ha : cBv k n) (hin : inb i n = true) (hj : i.toNatClampNeg = j) (hd : decode cc pc = .ok (.bastore, 1)) (kk : ∀ σ', GGo K Q (f σ') nL (CI Γ (kS K) σ') cs sl (pc + 1) ls st) : GGo K Q (nm (eA σ k j (vp_nar .byte v)) f) nL (CI Γ (kS K) σ) cs sl pc ls (.int v :: .int i :: .ref (gA Γ k) :: st) := by
  subst hj
  exact c_bastN hk hK ha hin hd kk
/-- a row of an array of rows -/
theorem c_aald (hk : KOK K cc nL own rm ret) (hK : CK Γ (kS K)) {w j n : Nat} {i : Int32} (hw : w < 2) (h5 : 5 ≤ j) (h10 : j < 10) (hn : cgn j = n) (hd : decode cc pc = .ok (.aaload, 1)) (kk : inb i n = true → GGo K Q A nL (CI Γ (kS K) σ) cs sl (pc + 1) ls (.ref (gA Γ (cgb w j + i.toNatClampNeg)) :: st)) : GGo K Q (if inb i n = true then A else none) nL (CI Γ (kS K) σ) cs sl pc ls (.int i :: .ref (gA Γ (100 * w + (80 + j))) :: st) := by
  refine g_gd (fun hin => ?_)
  intro r hr H locs lsA hI hh
  have hv := inb_vp hin
  have hlt : i.toNatClampNeg < n := Nat.not_le.mp fun q => hv (Or.inr q)
  subst hn
  exact W.aald (v := .ref (gA Γ (cgb w j + i.toNatClampNeg))) (ty := .array .int) hk.1 hk.2.1 (hI.1.2.2.1 w j hw h5 h10) ((hK.1.2 2 _ rfl).1 _ _) rfl (fun q => by cases q) (by rw [arrV_size]; exact hv) (by rw [arrV_read _ _ hlt]) rfl rfl hd (kk hin r hr H locs lsA hI hh)
theorem c_alen (hk : KOK K cc nL own rm ret) (hK : CK Γ (kS K)) {k n : Nat} {v : Int32} (ha : cAv k n) (hv : Int32.ofNat n = v) (hd : decode cc pc = .ok (.arraylength, 1)) (kk : GGo K Q A nL (CI Γ (kS K) σ) cs sl (pc + 1) ls (.int v :: st)) : GGo K Q A nL (CI Γ (kS K) σ) cs sl pc ls (.ref (gA Γ k) :: st) := by
  intro r hr H locs lsA hI hh
  exact W.alen hk.1 hk.2.1 (hI.1.1 k n ha) ((hK.1.2 0 _ rfl).1 n _) (by rw [arrV_size]; exact hv) rfl rfl hd (kk r hr H locs lsA hI hh)
theorem c_alenG (hk : KOK K cc nL own rm ret) (hK : CK Γ (kS K)) {w j n : Nat} {v : Int32} (hw : w < 2) (h5 : 5 ≤ j) (h10 : j < 10) (hn : cgn j = n) (hv : Int32.ofNat n = v) (hd : decode cc pc = .ok (.arraylength, 1)) (kk : GGo K Q A nL (CI Γ (kS K) σ) cs sl (pc + 1) ls (.int v :: st)) : GGo K Q A nL (CI Γ (kS K) σ) cs sl pc ls (.ref (gA Γ (100 * w + (80 + j))) :: st) := by
  subst hn
  intro r hr H locs lsA hI hh
  exact W.alen hk.1 hk.2.1 (hI.1.2.2.1 w j hw h5 h10) ((hK.1.2 2 _ rfl).1 _ _) (by rw [arrV_size]; exact hv) rfl rfl hd (kk r hr H locs lsA hI hh)
theorem cI_end {v : Option Value} {H : Heap} {locs : List Loc} (hO : cOK Γ) (hI : CI Γ (kS K) σ H locs) {t : State} (ht : t.heap = H) (hW : (kS K).WarmedH t.vm) : cQc Γ v σ (kA K) (kS K) (.returned v) t := ⟨⟨rfl, by rw [ht]; exact hI.1, by rw [ht]; exact hO.2.2.1 _ _ _ _ hW.alike hI.2.1⟩, by rw [ht]; exact hI.2.2.1⟩

theorem c_iret {view : ρ → Option Value × CS} {x : Int32} {r0 : ρ} (hk : KOK K cc nL own rm (some .int)) (hK : CK Γ (kS K)) (hv : view r0 = (some (.int x), σ)) (hd : decode cc pc = .ok (.ireturn, 1)) (h1 : Nat.ble cs rm.cells = true) (h2 : Nat.ble sl rm.slots = true) : GGo K (cQ K Γ rm view) (some r0) nL (CI Γ (kS K) σ) cs sl pc ls [.int x] := by
  intro r hr H locs lsA hI hh
  cases hr
  refine W.widen (Nat.le_of_ble_eq_true h1) (Nat.le_of_ble_eq_true h2) ?_
  refine W.iret hk.1 hk.2.1 hk.2.2.2.2.2.2.1 (fun t ht hW => ?_) hI.2.2.2 hd hk.2.2.2.2.2.1
  rw [hv]
  exact cI_end hK.2.2.2 hI ht hW
theorem p_iret {view : ρ → Option Value} {x : Int32} {r0 : ρ} (hk : KOK K cc nL own rm (some .int)) (hv : view r0 = some (.int x)) (hd : decode cc pc = .ok (.ireturn, 1)) : GGo K (pQ K view) (some r0) nL (pI K) 0 0 pc ls [.int x] := by
  intro r hr H locs lsA hI hh
  cases hr
  obtain ⟨rfl, rfl⟩ := hI
  refine W.iret hk.1 hk.2.1 hk.2.2.2.2.2.2.1 (fun t ht hW => ?_) (fun _ h => by cases h) hd hk.2.2.2.2.2.1
  rw [hv]
  exact ⟨rfl, ht⟩
theorem c_lret {view : ρ → Option Value × CS} {x : Int64} {r0 : ρ} (hk : KOK K cc nL own rm (some .long)) (hK : CK Γ (kS K)) (hv : view r0 = (some (.long x), σ)) (hd : decode cc pc = .ok (.lreturn, 1)) (h1 : Nat.ble cs rm.cells = true) (h2 : Nat.ble sl rm.slots = true) : GGo K (cQ K Γ rm view) (some r0) nL (CI Γ (kS K) σ) cs sl pc ls [.long x] := by
  intro r hr H locs lsA hI hh
  cases hr
  refine W.widen (Nat.le_of_ble_eq_true h1) (Nat.le_of_ble_eq_true h2) ?_
  refine W.lret hk.1 hk.2.1 hk.2.2.2.2.2.2.1 (fun t ht hW => ?_) hI.2.2.2 hd hk.2.2.2.2.2.1
  rw [hv]
  exact cI_end hK.2.2.2 hI ht hW
theorem p_lret {view : ρ → Option Value} {x : Int64} {r0 : ρ} (hk : KOK K cc nL own rm (some .long)) (hv : view r0 = some (.long x)) (hd : decode cc pc = .ok (.lreturn, 1)) : GGo K (pQ K view) (some r0) nL (pI K) 0 0 pc ls [.long x] := by
  intro r hr H locs lsA hI hh
  cases hr
  obtain ⟨rfl, rfl⟩ := hI
  refine W.lret hk.1 hk.2.1 hk.2.2.2.2.2.2.1 (fun t ht hW => ?_) (fun _ h => by cases h) hd hk.2.2.2.2.2.1
  rw [hv]
  exact ⟨rfl, ht⟩
theorem c_zret {view : ρ → Option Value × CS} {x : Int32} {r0 : ρ} (hk : KOK K cc nL own rm (some .boolean)) (hK : CK Γ (kS K)) (hz : isZ x = true) (hv : view r0 = (some (.int x), σ)) (hd : decode cc pc = .ok (.ireturn, 1)) (h1 : Nat.ble cs rm.cells = true) (h2 : Nat.ble sl rm.slots = true) : GGo K (cQ K Γ rm view) (some r0) nL (CI Γ (kS K) σ) cs sl pc ls [.int x] := by
  intro r hr H locs lsA hI hh
  cases hr
  refine W.widen (Nat.le_of_ble_eq_true h1) (Nat.le_of_ble_eq_true h2) ?_
  refine W.zret hk.1 hk.2.1 hk.2.2.2.2.2.2.1 (isZ_nar hz) (fun t ht hW => ?_) hI.2.2.2 hd hk.2.2.2.2.2.1
  rw [hv]
  exact cI_end hK.2.2.2 hI ht hW
theorem p_zret {view : ρ → Option Value} {x : Int32} {r0 : ρ} (hk : KOK K cc nL own rm (some .boolean)) (hz : isZ x = true) (hv : view r0 = some (.int x)) (hd : decode cc pc = .ok (.ireturn, 1)) : GGo K (pQ K view) (some r0) nL (pI K) 0 0 pc ls [.int x] := by
  intro r hr H locs lsA hI hh
  cases hr
  obtain ⟨rfl, rfl⟩ := hI
  refine W.zret hk.1 hk.2.1 hk.2.2.2.2.2.2.1 (isZ_nar hz) (fun t ht hW => ?_) (fun _ h => by cases h) hd hk.2.2.2.2.2.1
  rw [hv]
  exact ⟨rfl, ht⟩
theorem c_vret {view : ρ → Option Value × CS} {r0 : ρ} (hk : KOK K cc nL own rm none) (hK : CK Γ (kS K)) (hv : view r0 = (none, σ)) (hd : decode cc pc = .ok (.return_, 1)) (h1 : Nat.ble cs rm.cells = true) (h2 : Nat.ble sl rm.slots = true) : GGo K (cQ K Γ rm view) (some r0) nL (CI Γ (kS K) σ) cs sl pc ls [] := by
  intro r hr H locs lsA hI hh
  cases hr
  refine W.widen (Nat.le_of_ble_eq_true h1) (Nat.le_of_ble_eq_true h2) ?_
  refine W.vret hk.1 hk.2.1 hk.2.2.2.2.2.2.1 (fun t ht hW => ?_) hI.2.2.2 hd hk.2.2.2.2.2.1
  rw [hv]
  exact cI_end hK.2.2.2 hI ht hW
theorem p_vret {view : ρ → Option Value} {r0 : ρ} (hk : KOK K cc nL own rm none) (hv : view r0 = none) (hd : decode cc pc = .ok (.return_, 1)) : GGo K (pQ K view) (some r0) nL (pI K) 0 0 pc ls [] := by
  intro r hr H locs lsA hI hh
  cases hr
  obtain ⟨rfl, rfl⟩ := hI
  refine W.vret hk.1 hk.2.1 hk.2.2.2.2.2.2.1 (fun t ht hW => ?_) (fun _ h => by cases h) hd hk.2.2.2.2.2.1
  rw [hv]
  exact ⟨rfl, ht⟩
/-- the room of a callee fits the caller's -/
def rmFit (maxL : Nat) (a b : Room) : Bool := Nat.ble (a.frames + 1) b.frames && Nat.ble (8 + (maxL + 11) + a.locals) b.locals
theorem rmFit_ok {maxL : Nat} {a b R : Room} (h : rmFit maxL a b = true) (hR : R = b) : a.frames + 1 ≤ R.frames ∧ 8 + (maxL + 11) + a.locals ≤ R.locals := by
  subst hR
  unfold rmFit at h
  rw [Bool.and_eq_true] at h
  exact ⟨Nat.le_of_ble_eq_true h.1, Nat.le_of_ble_eq_true h.2⟩
theorem cPc_blind (av : List Value) (sz : Nat) : FrameBlind (cPc Γ av σ sz) := fun a U g mk q => by
  obtain ⟨q0, q1, qW, qE, qK⟩ := q
  have hW : U.WarmedH (U.calling g mk a).vm := State.WarmedH.refl U
  exact ⟨q0, q1, qW, qK.2.2.2.2.2.1 _ _ _ _ hW.alike qE, qK.warm hW⟩
/-- a call of a method that touches no heap: the same over every world -/
theorem g_callP {I : Heap → List Loc → Prop} (hk : KOK K cc nL own rm ret) {y : MethodName} {bytes : ByteArray} {maxL n idx : Nat} {retY : Option FieldType} {rmY : Room} {v : Option Value} {stk st2 : List Value} (As : List Value) (st : List Value) (hM : PMet y bytes maxL retY rmY As v) (hG : GoodIn lw_all (va_wsS own idx y (ws_ y bytes maxL retY))) (hy : y.cls ≠ "java/lang/invoke/MethodHandle" ∧ y.cls ≠ "java/lang/invoke/VarHandle" ∧ (parseMethodDescriptor y.desc).map (fun d => d.parameters.length) = some n) (hrm : rmFit maxL rmY rm = true) (hc0 : rmY.cells = 0 ∧ rmY.slots = 0) (hn : As.length = n) (hs : Nat.ble ((st.map fun v => v.category).sum) 8 = true) (hd : decode cc pc = .ok (.invokestatic idx, 3)) (hstk : stk = As.reverse ++ st) (hst2 : v.toList ++ st = st2) (hcs : Nat.ble cs rm.cells = true ∧ Nat.ble sl rm.slots = true) (kk : GGo K Q comp nL I cs sl (pc + 3) ls st2) : GGo K Q comp nL I cs sl pc ls stk := by
  subst hst2
  intro r hr H locs lsA hI hh T hT X
  obtain ⟨v', st₀, t, T', L, h0, X', hL, e1, e2, ⟨hv, hz⟩, stp⟩ := va_runS (g := F0 (kM K) pc lsA stk) (As := As) (rest := st) (cc := cc) (nL := nL) (own := own) (Ts := lw_all) ⟨hk.1, hk.2.1, hk.2.2.1, hk.2.2.2.1, hk.2.2.2.2.1⟩ (hM K.2.1) (va_cwS n hk.2.2.2.2.1 hG rfl hc0.1 hc0.2 hy (rmFit_ok hrm hk.2.2.2.2.2.2.2)) ⟨fun a U g mk q => q, fun U hU hW => ⟨rfl, trivial⟩⟩ rfl hn hh.1 hstk (lv_room (Nat.le_of_ble_eq_true hs)) hd ⟨(by show cs + 0 ≤ (kR K).cells; rw [hk.2.2.2.2.2.2.2]; exact Nat.le_of_ble_eq_true hcs.1), (by show sl + 0 ≤ (kR K).slots; rw [hk.2.2.2.2.2.2.2]; exact Nat.le_of_ble_eq_true hcs.2)⟩ T hT X
  cases hv
  have hL0 : L = [] := by
    cases L with
    | nil => rfl
    | cons a t => exact absurd (hL a List.mem_cons_self) id
  subst hL0
  rw [List.append_nil] at X'
  have e3 : T'.heap = H := by rw [e1, hz, h0]
  obtain ⟨t2, a1, b1⟩ := kk r hr H locs lsA hI hh T' e3 X'
  exact ⟨t2, stp t2 a1, b1⟩

theorem c_callV (hk : KOK K cc nL own rm ret) (hK : CK Γ (kS K)) {y : MethodName} {bytes : ByteArray} {maxL n idx : Nat} {retY : Option FieldType} {rmY : Room} {v : Option Value} {σ' : CS} {stk st2 : List Value} {C : String} {a0 : Nat} (hrec : ∀ H, CW Γ σ H → ∃ cell : Cell, H[a0]? = some cell ∧ cell.vm.isStatics = false ∧ (kS K).vm.findClass C = some cell.cls) (As : List Value) (st : List Value) (hM : CMet Γ y bytes maxL retY rmY (.ref a0 :: As) σ v σ') (hG : GoodIn lw_all (wsV own idx C y (ws_ y bytes maxL retY))) (hy : y.cls = C ∧ y.cls ≠ "java/lang/invoke/MethodHandle" ∧ y.cls ≠ "java/lang/invoke/VarHandle" ∧ (parseMethodDescriptor y.desc).map (fun d => d.parameters.length) = some n) (hrm : rmFit maxL rmY rm = true) (hn : As.length = n) (hs : Nat.ble ((st.map fun v => v.category).sum) 8 = true) (hd : decode cc pc = .ok (.invokevirtual idx, 3)) (hstk : stk = As.reverse ++ .ref a0 :: st) (hst2 : v.toList ++ st = st2) (hcs : Nat.ble (cs + rmY.cells) rm.cells = true ∧ Nat.ble (sl + rmY.slots) rm.slots = true) (kk : GGo K Q comp nL (CI Γ (kS K) σ') (cs + rmY.cells) (sl + rmY.slots) (pc + 3) ls st2) : GGo K Q comp nL (CI Γ (kS K) σ) cs sl pc ls stk := by
  subst hst2
  intro r hr H locs lsA hI hh T hT X
  obtain ⟨v', st₀, t, T', L, h0, X', hL, e1, e2, ⟨⟨hv, hP', hE'⟩, hF⟩, stp⟩ := va_runV (g := F0 (kM K) pc lsA stk) (As := As) (rest := st) (cc := cc) (nL := nL) (own := own) (Ts := lw_all) ⟨hk.1, hk.2.1, hk.2.2.1, hk.2.2.2.1, hk.2.2.2.2.1⟩ (hM K.2.1 H.size) (cwV n hk.2.2.2.2.1 hG rfl rfl rfl hy (rmFit_ok hrm hk.2.2.2.2.2.2.2)) ⟨cPc_blind _ _, hrec H hI.1, fun U hU hW => ⟨rfl, by rw [hU], by rw [hU]; exact hI.1, by rw [hU]; exact hK.2.2.2.2.2.1 _ _ _ _ hW.alike hI.2.1, hK.warm hW⟩⟩ rfl hn hh.1 hstk (lv_room (Nat.le_of_ble_eq_true hs)) hd ⟨(by show cs + rmY.cells ≤ (kR K).cells; rw [hk.2.2.2.2.2.2.2]; exact Nat.le_of_ble_eq_true hcs.1), (by show sl + rmY.slots ≤ (kR K).slots; rw [hk.2.2.2.2.2.2.2]; exact Nat.le_of_ble_eq_true hcs.2)⟩ T hT X
  cases hv
  rw [h0] at hF
  have hE2 : gE Γ σ'.2.2 (kS K) T'.heap := by
    rw [e1]
    exact hK.2.2.2.2.2.1 _ _ _ _ (by rw [← e2]; exact X'.warmed.alike.symm) hE'
  obtain ⟨t2, a1, b1⟩ := kk r hr T'.heap (locs ++ L) lsA ⟨by rw [e1]; exact hP', hE2, by rw [e1]; exact hI.2.2.1.trans hF, fun q hq => (List.mem_append.mp hq).elim (hI.2.2.2 q) (fun h => (hL q h).elim Or.inl (fun h => Or.inr (Nat.le_trans hI.2.2.1.1 h)))⟩ hh T' rfl X'
  exact ⟨t2, stp t2 a1, b1⟩
theorem c_callS (hk : KOK K cc nL own rm ret) (hK : CK Γ (kS K)) {y : MethodName} {bytes : ByteArray} {maxL n idx : Nat} {retY : Option FieldType} {rmY : Room} {v : Option Value} {σ' : CS} {stk st2 : List Value} (As : List Value) (st : List Value) (hM : CMet Γ y bytes maxL retY rmY As σ v σ') (hG : GoodIn lw_all (va_wsS own idx y (ws_ y bytes maxL retY))) (hy : y.cls ≠ "java/lang/invoke/MethodHandle" ∧ y.cls ≠ "java/lang/invoke/VarHandle" ∧ (parseMethodDescriptor y.desc).map (fun d => d.parameters.length) = some n) (hrm : rmFit maxL rmY rm = true) (hn : As.length = n) (hs : Nat.ble ((st.map fun v => v.category).sum) 8 = true) (hd : decode cc pc = .ok (.invokestatic idx, 3)) (hstk : stk = As.reverse ++ st) (hst2 : v.toList ++ st = st2) (hcs : Nat.ble (cs + rmY.cells) rm.cells = true ∧ Nat.ble (sl + rmY.slots) rm.slots = true) (kk : GGo K Q comp nL (CI Γ (kS K) σ') (cs + rmY.cells) (sl + rmY.slots) (pc + 3) ls st2) : GGo K Q comp nL (CI Γ (kS K) σ) cs sl pc ls stk := by
  subst hst2
  intro r hr H locs lsA hI hh T hT X
  obtain ⟨v', st₀, t, T', L, h0, X', hL, e1, e2, ⟨⟨hv, hP', hE'⟩, hF⟩, stp⟩ := va_runS (g := F0 (kM K) pc lsA stk) (As := As) (rest := st) (cc := cc) (nL := nL) (own := own) (Ts := lw_all) ⟨hk.1, hk.2.1, hk.2.2.1, hk.2.2.2.1, hk.2.2.2.2.1⟩ (hM K.2.1 H.size) (va_cwS n hk.2.2.2.2.1 hG rfl rfl rfl hy (rmFit_ok hrm hk.2.2.2.2.2.2.2)) ⟨cPc_blind _ _, fun U hU hW => ⟨rfl, by rw [hU], by rw [hU]; exact hI.1, by rw [hU]; exact hK.2.2.2.2.2.1 _ _ _ _ hW.alike hI.2.1, hK.warm hW⟩⟩ rfl hn hh.1 hstk (lv_room (Nat.le_of_ble_eq_true hs)) hd ⟨(by show cs + rmY.cells ≤ (kR K).cells; rw [hk.2.2.2.2.2.2.2]; exact Nat.le_of_ble_eq_true hcs.1), (by show sl + rmY.slots ≤ (kR K).slots; rw [hk.2.2.2.2.2.2.2]; exact Nat.le_of_ble_eq_true hcs.2)⟩ T hT X
  cases hv
  rw [h0] at hF
  have hE2 : gE Γ σ'.2.2 (kS K) T'.heap := by
    rw [e1]
    exact hK.2.2.2.2.2.1 _ _ _ _ (by rw [← e2]; exact X'.warmed.alike.symm) hE'
  obtain ⟨t2, a1, b1⟩ := kk r hr T'.heap (locs ++ L) lsA ⟨by rw [e1]; exact hP', hE2, by rw [e1]; exact hI.2.2.1.trans hF, fun q hq => (List.mem_append.mp hq).elim (hI.2.2.2 q) (fun h => (hL q h).elim Or.inl (fun h => Or.inr (Nat.le_trans hI.2.2.1.1 h)))⟩ hh T' rfl X'
  exact ⟨t2, stp t2 a1, b1⟩
theorem c_callSN (hk : KOK K cc nL own rm ret) (hK : CK Γ (kS K)) {y : MethodName} {bytes : ByteArray} {maxL n idx : Nat} {retY : Option FieldType} {rmY : Room} {v : Option Value} {σ' : CS} {stk st2 : List Value} (As : List Value) (st : List Value) (hM : CMet Γ y bytes maxL retY rmY As σ v σ') {host : String} (hN : Cond.methodLinkNest own idx y host ∈ cnw) (hst0 : Cond.static y ∈ lw_all) (hini : Cond.initialized y.cls ∈ lw_all) (hG : Cond.code y bytes maxL retY ∈ lw_all) (hy : y.cls ≠ "java/lang/invoke/MethodHandle" ∧ y.cls ≠ "java/lang/invoke/VarHandle" ∧ (parseMethodDescriptor y.desc).map (fun d => d.parameters.length) = some n) (hrm : rmFit maxL rmY rm = true) (hn : As.length = n) (hs : Nat.ble ((st.map fun v => v.category).sum) 8 = true) (hd : decode cc pc = .ok (.invokestatic idx, 3)) (hstk : stk = As.reverse ++ st) (hst2 : v.toList ++ st = st2) (hcs : Nat.ble (cs + rmY.cells) rm.cells = true ∧ Nat.ble (sl + rmY.slots) rm.slots = true) (kk : GGo K Q comp nL (CI Γ (kS K) σ') (cs + rmY.cells) (sl + rmY.slots) (pc + 3) ls st2) : GGo K Q comp nL (CI Γ (kS K) σ) cs sl pc ls stk := by
  subst hst2
  intro r hr H locs lsA hI hh T hT X
  obtain ⟨v', st₀, t, T', L, h0, X', hL, e1, e2, ⟨⟨hv, hP', hE'⟩, hF⟩, stp⟩ := va_runSN (g := F0 (kM K) pc lsA stk) (As := As) (rest := st) (cc := cc) (nL := nL) (own := own) (Ts := lw_all) ⟨hk.1, hk.2.1, hk.2.2.1, hk.2.2.2.1, hk.2.2.2.2.1⟩ (hM K.2.1 H.size) (⟨va_cnB (host := host) n hk.2.2.2.2.1 (lw_meth hG) rfl rfl rfl (hK.2.1 _ hN) (hk.2.2.2.2.1 _ hini) hy (rmFit_ok hrm hk.2.2.2.2.2.2.2), hk.2.2.2.2.1 _ hst0, trivial⟩) ⟨cPc_blind _ _, fun U hU hW => ⟨rfl, by rw [hU], by rw [hU]; exact hI.1, by rw [hU]; exact hK.2.2.2.2.2.1 _ _ _ _ hW.alike hI.2.1, hK.warm hW⟩⟩ rfl hn hh.1 hstk (lv_room (Nat.le_of_ble_eq_true hs)) hd ⟨(by show cs + rmY.cells ≤ (kR K).cells; rw [hk.2.2.2.2.2.2.2]; exact Nat.le_of_ble_eq_true hcs.1), (by show sl + rmY.slots ≤ (kR K).slots; rw [hk.2.2.2.2.2.2.2]; exact Nat.le_of_ble_eq_true hcs.2)⟩ T hT X
  cases hv
  rw [h0] at hF
  have hE2 : gE Γ σ'.2.2 (kS K) T'.heap := by
    rw [e1]
    exact hK.2.2.2.2.2.1 _ _ _ _ (by rw [← e2]; exact X'.warmed.alike.symm) hE'
  obtain ⟨t2, a1, b1⟩ := kk r hr T'.heap (locs ++ L) lsA ⟨by rw [e1]; exact hP', hE2, by rw [e1]; exact hI.2.2.1.trans hF, fun q hq => (List.mem_append.mp hq).elim (hI.2.2.2 q) (fun h => (hL q h).elim Or.inl (fun h => Or.inr (Nat.le_trans hI.2.2.1.1 h)))⟩ hh T' rfl X'
  exact ⟨t2, stp t2 a1, b1⟩
theorem rec_X (hK : CK Γ (kS K)) : ∀ H, CW Γ σ H → ∃ cell : Cell, H[gA Γ 300]? = some cell ∧ cell.vm.isStatics = false ∧ (kS K).vm.findClass RX0 = some cell.cls := fun H h => va_recv (q0 := 0) (ci := 0) hK.1 (va_P1 h.2.2.2.2.1) rfl rfl
theorem rec_S (hK : CK Γ (kS K)) {w : Nat} (hw : w < 2) : ∀ H, CW Γ σ H → ∃ cell : Cell, H[gA Γ (301 + w)]? = some cell ∧ cell.vm.isStatics = false ∧ (kS K).vm.findClass RX1 = some cell.cls := fun H h => va_recv (q0 := 0) (ci := 1) hK.1 (va_P1 (h.2.2.2.2.2 w hw)) rfl rfl
end CWR
theorem c_met {ρ : Type} {Γ : CG} {y : MethodName} {bytes : ByteArray} {maxL : Nat} {ret : Option FieldType} {rm : Room} {av : List Value} {σ : CS} {comp : Option ρ} {view : ρ → Option Value × CS} {ls0 : List (Nat × Value)} {own : String} (hc : y.cls = own) (hpl : plainName own = true) (hl : Nat.ble (lg_sl av).length maxL = true) (hls : lv_args 0 av = ls0)
    (body : ∀ K : KT, KOK K bytes maxL own rm ret → CK Γ (kS K) → GGo K (cQ K Γ rm view) comp maxL (CI Γ (kS K) σ) 0 0 0 ls0 []) (r : ρ) (hr : comp = some r) : CMet Γ y bytes maxL ret rm av σ (view r).1 (view r).2 := by
  intro l sz
  subst hls
  refine Met.ofW (cc := bytes) (maxL := maxL) (ret := ret) (by rw [hc]; exact hpl) rfl ?_
  intro p e s m args below meth c s₁ B hml hv
  obtain ⟨rfl, hsz, hP, hE, hKK⟩ := hv
  subst hsz
  have hts := atoms_spec (ws := ws_ y bytes maxL ret) B.pre
  have hown : s.vm.findClass y.cls = some m.cls := findClass_of_methodNamed B.named
  rw [hc] at hown
  rw [lg_entry_eq]
  exact body (p, l, e, (headSpec (ws_ y bytes maxL ret) rm).room, s, m, av.toArray, below, meth, c) ⟨B.exec, B.bytes, hml, hown, fun w h => hts w (List.mem_cons_of_mem _ h), B.notSynchronized, B.returns, rfl⟩ hKK r hr s.heap [] _ ⟨hP, hE, cFr.rf, fun _ h => by cases h⟩ (lv_entry av (Nat.le_of_ble_eq_true hl))
theorem p_met {ρ : Type} {y : MethodName} {bytes : ByteArray} {maxL : Nat} {ret : Option FieldType} {rm : Room} {av : List Value} {comp : Option ρ} {view : ρ → Option Value} {ls0 : List (Nat × Value)} {own : String} (hc : y.cls = own) (hpl : plainName own = true) (hl : Nat.ble (lg_sl av).length maxL = true) (hls : lv_args 0 av = ls0)
    (body : ∀ K : KT, KOK K bytes maxL own rm ret → GGo K (pQ K view) comp maxL (pI K) 0 0 0 ls0 []) (r : ρ) (hr : comp = some r) : PMet y bytes maxL ret rm av (view r) := by
  intro l
  subst hls
  refine Met.ofW (cc := bytes) (maxL := maxL) (ret := ret) (by rw [hc]; exact hpl) rfl ?_
  intro p e s m args below meth c s₁ B hml hv
  obtain ⟨rfl, -⟩ := hv
  have hts := atoms_spec (ws := ws_ y bytes maxL ret) B.pre
  have hown : s.vm.findClass y.cls = some m.cls := findClass_of_methodNamed B.named
  rw [hc] at hown
  rw [lg_entry_eq]
  exact body (p, l, e, (headSpec (ws_ y bytes maxL ret) rm).room, s, m, av.toArray, below, meth, c) ⟨B.exec, B.bytes, hml, hown, fun w h => hts w (List.mem_cons_of_mem _ h), B.notSynchronized, B.returns, rfl⟩ r hr s.heap [] _ ⟨rfl, rfl⟩ (lv_entry av (Nat.le_of_ble_eq_true hl))

/-! MORE ROWS over the component's world: validity of numbers, System.arraycopy, texts -/
set_option maxRecDepth 100000
theorem cav_0 : cAv 0 6 := ⟨⟨rfl, by decide⟩, rfl⟩
theorem cav_1 : cAv 1 148 := ⟨⟨rfl, by decide⟩, rfl⟩
theorem cav_2 : cAv 2 8 := ⟨⟨rfl, by decide⟩, rfl⟩
theorem cav_3 : cAv 3 8 := ⟨⟨rfl, by decide⟩, rfl⟩
theorem cav_4 : cAv 4 8 := ⟨⟨rfl, by decide⟩, rfl⟩
theorem cav_100 : cAv 100 6 := ⟨⟨rfl, by decide⟩, rfl⟩
theorem cav_101 : cAv 101 148 := ⟨⟨rfl, by decide⟩, rfl⟩
theorem cav_102 : cAv 102 8 := ⟨⟨rfl, by decide⟩, rfl⟩
theorem cav_103 : cAv 103 8 := ⟨⟨rfl, by decide⟩, rfl⟩
theorem cav_104 : cAv 104 8 := ⟨⟨rfl, by decide⟩, rfl⟩
theorem cav_201 : cAv 201 15 := ⟨⟨rfl, by decide⟩, rfl⟩
theorem cav_202 : cAv 202 148 := ⟨⟨rfl, by decide⟩, rfl⟩
theorem cav_203 : cAv 203 8 := ⟨⟨rfl, by decide⟩, rfl⟩
theorem cav_204 : cAv 204 65536 := ⟨⟨rfl, by decide⟩, rfl⟩
theorem cav_205 : cAv 205 65536 := ⟨⟨rfl, by decide⟩, rfl⟩
theorem cav_206 : cAv 206 24 := ⟨⟨rfl, by decide⟩, rfl⟩
theorem cav_208 : cAv 208 5 := ⟨⟨rfl, by decide⟩, rfl⟩
theorem cav_209 : cAv 209 5 := ⟨⟨rfl, by decide⟩, rfl⟩
theorem cav_210 : cAv 210 8 := ⟨⟨rfl, by decide⟩, rfl⟩
theorem cbv_200 : cBv 200 300 := ⟨⟨rfl, by decide⟩, rfl⟩
theorem cbv_207 : cBv 207 65536 := ⟨⟨rfl, by decide⟩, rfl⟩
theorem cav_s0 {w : Nat} (hw : w < 2) : cAv (100 * w + 0) 6 := by
  rcases (show w = 0 ∨ w = 1 by omega) with rfl | rfl <;> exact ⟨⟨rfl, by decide⟩, rfl⟩
theorem cav_s1 {w : Nat} (hw : w < 2) : cAv (100 * w + 1) 148 := by
  rcases (show w = 0 ∨ w = 1 by omega) with rfl | rfl <;> exact ⟨⟨rfl, by decide⟩, rfl⟩
theorem cav_s2 {w : Nat} (hw : w < 2) : cAv (100 * w + 2) 8 := by
  rcases (show w = 0 ∨ w = 1 by omega) with rfl | rfl <;> exact ⟨⟨rfl, by decide⟩, rfl⟩
theorem cav_s3 {w : Nat} (hw : w < 2) : cAv (100 * w + 3) 8 := by
  rcases (show w = 0 ∨ w = 1 by omega) with rfl | rfl <;> exact ⟨⟨rfl, by decide⟩, rfl⟩
theorem cav_s4 {w : Nat} (hw : w < 2) : cAv (100 * w + 4) 8 := by
  rcases (show w = 0 ∨ w = 1 by omega) with rfl | rfl <;> exact ⟨⟨rfl, by decide⟩, rfl⟩
/-- how long the rows of an array of rows are -/
def crl (j : Nat) : Nat := if j = 5 then 8 else if j = 6 then 8 else if j = 7 then 2 else if j = 8 then 2 else 148
theorem inb_lt {i : Int32} {n : Nat} (h : inb i n = true) : i.toNatClampNeg < n := by
  have hv := inb_vp h
  exact Nat.not_le.mp fun q => hv (Or.inr q)
theorem cav_all : ∀ w, w < 2 → ∀ j, 5 ≤ j → j < 10 → ∀ i, i < cgn j → cAv (cgb w j + i) (crl j) := by
  intro w hw j h1 h2 i hi
  have key : ∀ w, w < 2 → ∀ j, j < 5 → ∀ i, i < cgn (j + 5) → (Nat.beq (cln (cgb w (j + 5) + i)) (crl (j + 5)) && Nat.blt 0 (crl (j + 5)) && !cby (cgb w (j + 5) + i)) = true := by decide +kernel
  obtain ⟨j, rfl⟩ : ∃ k, j = k + 5 := ⟨j - 5, by omega⟩
  have := key w hw j (by omega) i hi
  rw [Bool.and_eq_true, Bool.and_eq_true] at this
  obtain ⟨⟨a, b⟩, c⟩ := this
  exact ⟨⟨Nat.eq_of_beq_eq_true a, Nat.blt_eq.mp b⟩, by simpa using c⟩
theorem cav_gg {w j : Nat} {i : Int32} (hw : w < 2) (hj : 5 ≤ j ∧ j < 10) (h : inb i (cgn j) = true) : cAv (cgb w j + i.toNatClampNeg) (crl j) := cav_all w hw j hj.1 hj.2 _ (inb_lt h)
theorem cav_g {w j : Nat} {i : Int32} (hw : w < 2) (hj : j = 7 ∨ j = 8) (h : inb i (cgn j) = true) : cAv (cgb w j + i.toNatClampNeg) 2 := by
  have := cav_all w hw j (by omega) (by omega) _ (inb_lt h)
  rcases hj with rfl | rfl <;> exact this
theorem cav_row5 {w : Nat} {i : Int32} (hw : w < 2) (h : inb i 8 = true) : cAv (cgb w 5 + i.toNatClampNeg) 8 := cav_all w hw 5 (by decide) (by decide) _ (inb_lt h)
theorem cav_row6 {w : Nat} {i : Int32} (hw : w < 2) (h : inb i 8 = true) : cAv (cgb w 6 + i.toNatClampNeg) 8 := cav_all w hw 6 (by decide) (by decide) _ (inb_lt h)
theorem cav_row7 {w : Nat} {i : Int32} (hw : w < 2) (h : inb i 6 = true) : cAv (cgb w 7 + i.toNatClampNeg) 2 := cav_all w hw 7 (by decide) (by decide) _ (inb_lt h)
theorem cav_row8 {w : Nat} {i : Int32} (hw : w < 2) (h : inb i 8 = true) : cAv (cgb w 8 + i.toNatClampNeg) 2 := cav_all w hw 8 (by decide) (by decide) _ (inb_lt h)
theorem cav_row9 {w : Nat} {i : Int32} (hw : w < 2) (h : inb i 30 = true) : cAv (cgb w 9 + i.toNatClampNeg) 148 := cav_all w hw 9 (by decide) (by decide) _ (inb_lt h)
theorem rmFit_i {maxL : Nat} {a b : Room} (h1 : a.frames + 1 ≤ b.frames) (h2 : 8 + (maxL + 11) + a.locals ≤ b.locals) : rmFit maxL a b = true := by
  unfold rmFit
  rw [Bool.and_eq_true]
  exact ⟨Nat.ble_eq.mpr h1, Nat.ble_eq.mpr h2⟩
def i_ushr (x y : Int32) : Int32 := (x.toUInt32 >>> (y.toUInt32 &&& Int32.toUInt32 31)).toInt32
/-- what an arraycopy asks; what it does -/
def cpOK (sp dp n : Int32) (n0 n1 : Nat) : Bool := decide (0 ≤ sp.toInt) && decide (0 ≤ dp.toInt) && decide (0 ≤ n.toInt) && Nat.ble (sp.toNatClampNeg + n.toNatClampNeg) n0 && Nat.ble (dp.toNatClampNeg + n.toNatClampNeg) n1
def dCp (σ : CS) (k0 k1 : Nat) (sp dp n : Int32) : CS := dA σ k1 (va_cpy (cA σ k0) (cA σ k1) sp.toNatClampNeg dp.toNatClampNeg n.toNatClampNeg)
theorem cpOK_u {sp dp n : Int32} {n0 n1 : Nat} (h : cpOK sp dp n n0 n1 = true) : ¬ sp < 0 ∧ ¬ dp < 0 ∧ ¬ n < 0 ∧ sp.toNatClampNeg + n.toNatClampNeg ≤ n0 ∧ dp.toNatClampNeg + n.toNatClampNeg ≤ n1 := by
  unfold cpOK at h
  rw [Bool.and_eq_true, Bool.and_eq_true, Bool.and_eq_true, Bool.and_eq_true, decide_eq_true_eq, decide_eq_true_eq, decide_eq_true_eq] at h
  obtain ⟨⟨⟨⟨a, b⟩, c⟩, d⟩, e⟩ := h
  have nl : ∀ z : Int32, 0 ≤ z.toInt → ¬ z < 0 := fun z hz q => by
    have := Int32.lt_iff_toInt_lt.mp q
    simp at this
    omega
  exact ⟨nl _ a, nl _ b, nl _ c, Nat.le_of_ble_eq_true d, Nat.le_of_ble_eq_true e⟩
section CP
variable {p : Program} {l : Launch} {e : Env} {R : Room} {s : State} {m : MethodId} {args : Array Value} {below : List Frame} {meth : Method} {c : Code} {H : Heap} {locs : List Loc} {cells slots : Nat} {Q : State → Prop} {pc : Nat} {ls : Array Slot} {rest : List Value} {a : Nat}
/-- System.arraycopy of ints, with all that it leaves alone -/
theorem w_copyi {cc : ByteArray} (hexec : p.tables.exec = Jvm.exec) (hb : c.code = cc) (hml : c.maxLocals = ls.size) {own : String} {index : Nat} (hown : s.vm.findClass own = some m.cls) (hlink : (Cond.methodLink own index arraycopyName).before args s = true) (hnat : (Cond.native arraycopyName).before args s = true) (hstat : (Cond.static arraycopyName).before args s = true) (hini : (Cond.initialized "java/lang/System").before args s = true)
    {a0 : Nat} {c0 c1 : ClassId} {n0 n1 : Nat} {f g : Nat → Int32} (hc0 : H[a0]? = some (arrV c0 n0 (fun j => .int (f j)))) (hc1 : H[a]? = some (arrV c1 n1 (fun j => .int (g j)))) (ht0 : ArrOfT s c0 .int) (ht1 : ArrOfT s c1 .int)
    {sp dp n : Int32} (h1 : ¬ sp < 0) (h2 : ¬ dp < 0) (h3 : ¬ n < 0) (h4 : sp.toNatClampNeg + n.toNatClampNeg ≤ n0) (h5 : dp.toNatClampNeg + n.toNatClampNeg ≤ n1)
    (hframes : 1 ≤ R.frames) (hlocals : (rest.map fun v => v.category).sum + (nativeFrameWords "java/lang/System" "arraycopy" 5 + 11) ≤ R.locals) (hdg : decode cc pc = .ok (.invokestatic index, 3))
    (kk : ∀ (H1 : Heap) (locs1 : List Loc), H1[a]? = some (arrV c1 n1 (fun j => .int (va_cpy f g sp.toNatClampNeg dp.toNatClampNeg n.toNatClampNeg j))) → H1.size = H.size → (∀ q : Nat, q ≠ a → H1[q]? = H[q]?) → (∀ l ∈ locs1, l ∈ locs ∨ l.base = a) → W p l e R s m args below meth c H1 locs1 cells slots Q (F0 m (pc + 3) ls rest)) : W p l e R s m args below meth c H locs cells slots Q (F0 m pc ls (.int n :: .int dp :: .ref a :: .int sp :: .ref a0 :: rest)) := by
  have nn : ∀ z : Int32, ¬ z < 0 → z.toInt = (z.toNatClampNeg : Int) := by
    intro z hz
    have hz0 : (0 : Int) ≤ z.toInt := by
      have := Int32.not_lt.mp hz
      simpa using Int32.le_iff_toInt_le.mp this
    show z.toInt = ((z.toInt.toNat : Nat) : Int)
    omega
  intro T hT X
  obtain ⟨-, k0, hk0, cm0, hkk0⟩ := ht0 n0 (fun j => .int (f j))
  obtain ⟨-, k1, hk1, cm1, hkk1⟩ := ht1 n1 (fun j => .int (g j))
  obtain ⟨vm', X', step⟩ := X.arraycopy hexec hown hlink hnat hstat hini (src := a0) (dst := a) (cs := arrV c0 n0 (fun j => .int (f j))) (cd := arrV c1 n1 (fun j => .int (g j))) (srcPos := sp) (destPos := dp) (n := n) (by rw [hT]; exact hc0) (by rw [hT]; exact hc1)
    (fun _ h => by cases h) (fun _ h => by cases h) (fun h => by cases h) (fun h => by cases h) hk0 hk1 hkk0 hkk1 (by decide) h1 h2 h3
    (by rw [nn sp h1, nn n h3, arrV_size]; omega)
    (by rw [nn dp h2, nn n h3, arrV_size]; omega)
    (fun vm₁ _ i hi => by
      have e : (arrV c0 n0 (fun j => .int (f j))).slots.getD (sp.toNatClampNeg + i) .null = .int (f (sp.toNatClampNeg + i)) := by
        rw [Array.getD_eq_getD_getElem?, arrV_read _ _ (by omega)]
        rfl
      refine ⟨?_, ?_⟩
      · rw [e]
        rfl
      · rw [e]
        exact trivial)
    (g := F0 m pc ls (.int n :: .int dp :: .ref a :: .int sp :: .ref a0 :: rest)) rfl (by rw [hml]) (rest := rest) rfl (by rw [hb]; exact hdg) hframes (by show 2 * 0 + _ + _ ≤ _; omega)
  have e1 : copied (arrV c0 n0 (fun j => .int (f j))) (arrV c1 n1 (fun j => .int (g j))) sp dp n = arrV c1 n1 (fun j => .int (va_cpy f g sp.toNatClampNeg dp.toNatClampNeg n.toNatClampNeg j)) := va_copied (fun z => .int z) c0 c1 f g h4
  rw [e1] at X' step
  have hl : a < H.size := (Array.getElem?_eq_some_iff.mp hc1).1
  have hheap : ((T.setVm vm').setCell a (arrV c1 n1 (fun j => .int (va_cpy f g sp.toNatClampNeg dp.toNatClampNeg n.toNatClampNeg j)))).heap = H.setIfInBounds a (arrV c1 n1 (fun j => .int (va_cpy f g sp.toNatClampNeg dp.toNatClampNeg n.toNatClampNeg j))) := by rw [← hT]; rfl
  obtain ⟨t, a1, b1⟩ := kk _ _ (show (H.setIfInBounds a _)[a]? = some _ by simp [Array.getElem?_setIfInBounds, hl]) (by simp) (fun q hq => by simp [Array.getElem?_setIfInBounds, Ne.symm hq]) (fun q hq => (List.mem_append.mp hq).elim Or.inl (fun h => by
      obtain ⟨z, -, hz⟩ := List.mem_map.mp h
      exact Or.inr (by rw [← hz]))) _ hheap X'
  exact ⟨t, step t a1, b1⟩
/-- System.arraycopy of references, with all that it leaves alone -/
theorem w_copyq {cc : ByteArray} (hexec : p.tables.exec = Jvm.exec) (hb : c.code = cc) (hml : c.maxLocals = ls.size) {own : String} {index : Nat} (hown : s.vm.findClass own = some m.cls) (hlink : (Cond.methodLink own index arraycopyName).before args s = true) (hnat : (Cond.native arraycopyName).before args s = true) (hstat : (Cond.static arraycopyName).before args s = true) (hini : (Cond.initialized "java/lang/System").before args s = true)
    {a0 : Nat} {c0 c1 : ClassId} {n0 n1 : Nat} {f g : Nat → Option Nat} {E0 E1 C : String} (hc0 : H[a0]? = some (arrV c0 n0 (fun j => va_rf (f j)))) (hc1 : H[a]? = some (arrV c1 n1 (fun j => va_rf (g j)))) (ht0 : ArrOfT s c0 (.object E0)) (ht1 : ArrOfT s c1 (.object E1)) (hra : va_RA s c1 (.object E1))
    {sp dp n : Int32} (h1 : ¬ sp < 0) (h2 : ¬ dp < 0) (h3 : ¬ n < 0) (h4 : sp.toNatClampNeg + n.toNatClampNeg ≤ n0) (h5 : dp.toNatClampNeg + n.toNatClampNeg ≤ n1) (hel : ∀ i : Nat, i < n.toNatClampNeg → ∀ y : Nat, f (sp.toNatClampNeg + i) = some y → ∃ cellV : Cell, H[y]? = some cellV ∧ cellV.vm.isStatics = false ∧ s.vm.findClass C = some cellV.cls) (hasg : ∀ comp c0 : ClassId, s.vm.findClass E1 = some comp → s.vm.findClass C = some c0 → s.vm.assignable c0 comp = true)
    (hframes : 1 ≤ R.frames) (hlocals : (rest.map fun v => v.category).sum + (nativeFrameWords "java/lang/System" "arraycopy" 5 + 11) ≤ R.locals) (hdg : decode cc pc = .ok (.invokestatic index, 3))
    (kk : ∀ (H1 : Heap) (locs1 : List Loc), H1[a]? = some (arrV c1 n1 (fun j => va_rf (va_cpy f g sp.toNatClampNeg dp.toNatClampNeg n.toNatClampNeg j))) → H1.size = H.size → (∀ q : Nat, q ≠ a → H1[q]? = H[q]?) → (∀ l ∈ locs1, l ∈ locs ∨ l.base = a) → W p l e R s m args below meth c H1 locs1 cells slots Q (F0 m (pc + 3) ls rest)) : W p l e R s m args below meth c H locs cells slots Q (F0 m pc ls (.int n :: .int dp :: .ref a :: .int sp :: .ref a0 :: rest)) := by
  have nn : ∀ z : Int32, ¬ z < 0 → z.toInt = (z.toNatClampNeg : Int) := by
    intro z hz
    have hz0 : (0 : Int) ≤ z.toInt := by
      have := Int32.not_lt.mp hz
      simpa using Int32.le_iff_toInt_le.mp this
    show z.toInt = ((z.toInt.toNat : Nat) : Int)
    omega
  intro T hT X
  obtain ⟨-, k0, hk0, cm0, hkk0⟩ := ht0 n0 (fun j => va_rf (f j))
  obtain ⟨-, k1, hk1, cm1, hkk1⟩ := ht1 n1 (fun j => va_rf (g j))
  obtain ⟨vm', X', step⟩ := X.arraycopy hexec hown hlink hnat hstat hini (src := a0) (dst := a) (cs := arrV c0 n0 (fun j => va_rf (f j))) (cd := arrV c1 n1 (fun j => va_rf (g j))) (srcPos := sp) (destPos := dp) (n := n) (by rw [hT]; exact hc0) (by rw [hT]; exact hc1)
    (fun _ h => by cases h) (fun _ h => by cases h) (fun h => by cases h) (fun h => by cases h) hk0 hk1 hkk0 hkk1 rfl h1 h2 h3
    (by rw [nn sp h1, nn n h3, arrV_size]; omega)
    (by rw [nn dp h2, nn n h3, arrV_size]; omega)
    (fun vm₁ hal i hi => by
      have e : (arrV c0 n0 (fun j => va_rf (f j))).slots.getD (sp.toNatClampNeg + i) .null = va_rf (f (sp.toNatClampNeg + i)) := by
        rw [Array.getD_eq_getD_getElem?, arrV_read _ _ (by omega)]
        rfl
      rw [e]
      cases hy : f (sp.toNatClampNeg + i) with
      | none => exact ⟨rfl, trivial⟩
      | some y =>
        obtain ⟨cellV, g1, g2, g3⟩ := hel i hi y hy
        obtain ⟨kA, comp, r1, r2, r3, -⟩ := hra
        cases hk1.symm.trans r1
        cases hkk1.symm.trans r2
        obtain ⟨kC, hkC, -⟩ := Vm.findClass_spec g3
        obtain ⟨kE, hkE, -⟩ := Vm.findClass_spec r3
        obtain ⟨kC', hkC', -⟩ := hal.2.2 _ _ hkC
        obtain ⟨kE', hkE', -⟩ := hal.2.2 _ _ hkE
        refine ⟨rfl, cellV, (show T.heap[y]? = some cellV by rw [hT]; exact g1), (fun q h => by rw [h] at g2; cases g2), ⟨kC', hkC'⟩, ?_, ?_⟩
        · exact ⟨kE', hkE'⟩
        · show vm₁.assignable _ _ = true
          rw [hal.assignable]
          exact hasg _ _ r3 g3)
    (g := F0 m pc ls (.int n :: .int dp :: .ref a :: .int sp :: .ref a0 :: rest)) rfl (by rw [hml]) (rest := rest) rfl (by rw [hb]; exact hdg) hframes (by show 2 * 0 + _ + _ ≤ _; omega)
  have e1 : copied (arrV c0 n0 (fun j => va_rf (f j))) (arrV c1 n1 (fun j => va_rf (g j))) sp dp n = arrV c1 n1 (fun j => va_rf (va_cpy f g sp.toNatClampNeg dp.toNatClampNeg n.toNatClampNeg j)) := va_copied (fun z => va_rf z) c0 c1 f g h4
  rw [e1] at X' step
  have hl : a < H.size := (Array.getElem?_eq_some_iff.mp hc1).1
  have hheap : ((T.setVm vm').setCell a (arrV c1 n1 (fun j => va_rf (va_cpy f g sp.toNatClampNeg dp.toNatClampNeg n.toNatClampNeg j)))).heap = H.setIfInBounds a (arrV c1 n1 (fun j => va_rf (va_cpy f g sp.toNatClampNeg dp.toNatClampNeg n.toNatClampNeg j))) := by rw [← hT]; rfl
  obtain ⟨t, a1, b1⟩ := kk _ _ (show (H.setIfInBounds a _)[a]? = some _ by simp [Array.getElem?_setIfInBounds, hl]) (by simp) (fun q hq => by simp [Array.getElem?_setIfInBounds, Ne.symm hq]) (fun q hq => (List.mem_append.mp hq).elim Or.inl (fun h => by
      obtain ⟨z, -, hz⟩ := List.mem_map.mp h
      exact Or.inr (by rw [← hz]))) _ hheap X'
  exact ⟨t, step t a1, b1⟩
end CP
/-- the array of texts gets other contents -/
theorem CW.txt {Γ : CG} {σ : CS} {H H1 : Heap} (hO : cOK Γ) (h : CW Γ σ H) {w : Nat} (hw : w < 2) {f : Nat → Option Nat} (e : H1[gA Γ (100 * w + 90)]? = some (arrV (gC Γ 3) 4 (fun i => va_rf (f i)))) (oq : ∀ q, q ≠ gA Γ (100 * w + 90) → H1[q]? = H[q]?) : CW Γ (dT σ w f) H1 := by
  obtain ⟨h1, h2, h3, h4, h5, h6⟩ := h
  have hv := cval_row w hw 10 (by omega) (by omega)
  refine ⟨fun j m hj => ?_, fun j m hj => ?_, fun v j hv1 ha hb => ?_, fun v hv1 => ?_, ?_, fun v hv1 => ?_⟩
  · rw [oq _ (cne hO (cAv_val hj) hv.1 (fun q => by have z := hj.1; rw [q, hv.2] at z; omega))]; exact h1 j m hj
  · rw [oq _ (cne hO (cBv_val hj) hv.1 (fun q => by have z := hj.1; rw [q, hv.2] at z; omega))]; exact h2 j m hj
  · rw [oq _ (cne hO (cval_row v hv1 j ha (by omega)).1 hv.1 (by omega))]; exact h3 v j hv1 ha hb
  · by_cases q : v = w
    · subst q
      simp only [cT, dT, va_up, if_pos]
      exact e
    · rw [oq _ (cne hO (cval_row v hv1 10 (by omega) (by omega)).1 hv.1 (by omega)), h4 v hv1]
      simp only [cT, dT, va_up, if_neg q]
  · exact h5.kept (oq _ (cne hO rfl hv.1 (by omega)))
  · exact (h6 v hv1).kept (oq _ (cne hO (cval_ob (301 + v) (by omega) (by omega)).1 hv.1 (by omega)))
def i_min (x y : Int32) : Int32 := if y < x then y else x
def i_max (x y : Int32) : Int32 := if x < y then y else x
def l_min (x y : Int64) : Int64 := if y < x then y else x
def l_max (x y : Int64) : Int64 := if y < x then x else y
section CWR4
variable {ρ : Type} {K : KT} {Q : ρ → State → Prop} {comp A B : Option ρ} {nL : Nat} {cs sl pc : Nat} {ls : List (Nat × Value)} {st : List Value} {cc : ByteArray} {rm : Room} {ret : Option FieldType} {Γ : CG} {σ : CS} {own : String}
theorem g_iushr {I : Heap → List Loc → Prop} (hk : KOK K cc nL own rm ret) {x y : Int32} (hd : decode cc pc = .ok (.iushr, 1)) (k : GGo K Q comp nL I cs sl (pc + 1) ls (.int (i_ushr x y) :: st)) : GGo K Q comp nL I cs sl pc ls (.int y :: .int x :: st) := fun r hr H locs lsA hI hh => lv_iushr hk.1 hk.2.1 hd rfl (k r hr H locs lsA hI hh)
theorem c_copyi (hk : KOK K cc nL own rm ret) (hK : CK Γ (kS K)) {k0 k1 n0 n1 idx : Nat} {sp dp n : Int32} {f : CS → Option ρ} (h0 : cAv k0 n0) (h1 : cAv k1 n1) (hl : Cond.methodLink own idx arraycopyName ∈ lw_all) (hs : Nat.ble ((st.map fun v => v.category).sum) 8 = true) (hr1 : Nat.ble 1 rm.frames = true) (hr2 : Nat.ble (8 + (nativeFrameWords "java/lang/System" "arraycopy" 5 + 11)) rm.locals = true) (hd : decode cc pc = .ok (.invokestatic idx, 3)) (kk : ∀ σ', GGo K Q (f σ') nL (CI Γ (kS K) σ') cs sl (pc + 3) ls st) : GGo K Q (if cpOK sp dp n n0 n1 = true then nm (dCp σ k0 k1 sp dp n) f else none) nL (CI Γ (kS K) σ) cs sl pc ls (.int n :: .int dp :: .ref (gA Γ k1) :: .int sp :: .ref (gA Γ k0) :: st) := by
  refine g_gd (fun hc => ?_)
  intro r hr H locs lsA hI hh
  obtain ⟨g1, g2, g3, g4, g5⟩ := cpOK_u hc
  have hA := (hK.1.2 0 _ rfl).1
  refine w_copyi hk.1 hk.2.1 (by rw [hh.1]; exact hk.2.2.1) hk.2.2.2.1 (hk.2.2.2.2.1 _ hl) (hk.2.2.2.2.1 _ q235) (hk.2.2.2.2.1 _ q234) (hk.2.2.2.2.1 _ q127) (hI.1.1 k0 n0 h0) (hI.1.1 k1 n1 h1) hA hA g1 g2 g3 g4 g5 (by show 1 ≤ (kR K).frames; rw [hk.2.2.2.2.2.2.2]; exact Nat.le_of_ble_eq_true hr1) (by show _ ≤ (kR K).locals; rw [hk.2.2.2.2.2.2.2]; exact Nat.le_trans (Nat.add_le_add_right (Nat.le_of_ble_eq_true hs) _) (Nat.le_of_ble_eq_true hr2)) hd (fun H1 locs1 e z oq hlo => ?_)
  exact kk _ r hr H1 locs1 lsA (hI.next hK.2.2.2 (CW.arr hK.2.2.2 hI.1 h1 e oq) rfl (cFr.put (cAv_val h1) z oq) (fun l h => (hlo l h).elim Or.inl (fun e => Or.inr (Or.inl ⟨k1, cAv_val h1, e⟩)))) hh
theorem c_aaldT (hk : KOK K cc nL own rm ret) (hK : CK Γ (kS K)) {w : Nat} {i : Int32} {f : Nat → Option ρ} (hw : w < 2) (hd : decode cc pc = .ok (.aaload, 1)) (kk : ∀ q, inb i 4 = true → cT σ w i.toNatClampNeg = some q → GGo K Q (f q) nL (CI Γ (kS K) σ) cs sl (pc + 1) ls (.ref q :: st)) : GGo K Q (if inb i 4 = true then ob1 (cT σ w i.toNatClampNeg) f else none) nL (CI Γ (kS K) σ) cs sl pc ls (.int i :: .ref (gA Γ (100 * w + 90)) :: st) := by
  refine g_gd (fun hin => g_ob1 (fun q hq => ?_))
  intro r hr H locs lsA hI hh
  have hv := inb_vp hin
  have hlt := inb_lt hin
  exact W.aald (v := .ref q) (ty := .object RX4) hk.1 hk.2.1 (hI.1.2.2.2.1 w hw) ((hK.1.2 3 _ rfl).1 _ _) rfl (fun q => by cases q) (by rw [arrV_size]; exact hv) (by rw [arrV_read _ _ hlt, hq]; rfl) rfl rfl hd (kk q hin hq r hr H locs lsA hI hh)
theorem c_copyT (hk : KOK K cc nL own rm ret) (hK : CK Γ (kS K)) {w0 w1 idx : Nat} {f : CS → Option ρ} (h0 : w0 < 2) (h1 : w1 < 2) (hl : Cond.methodLink own idx arraycopyName ∈ lw_all) (hs : Nat.ble ((st.map fun v => v.category).sum) 8 = true) (hr1 : Nat.ble 1 rm.frames = true) (hr2 : Nat.ble (8 + (nativeFrameWords "java/lang/System" "arraycopy" 5 + 11)) rm.locals = true) (hd : decode cc pc = .ok (.invokestatic idx, 3)) (kk : ∀ σ', GGo K Q (f σ') nL (CI Γ (kS K) σ') cs sl (pc + 3) ls st) : GGo K Q (nm (dT σ w1 (va_cpy (cT σ w0) (cT σ w1) 0 0 4)) f) nL (CI Γ (kS K) σ) cs sl pc ls (.int 4 :: .int 0 :: .ref (gA Γ (100 * w1 + 90)) :: .int 0 :: .ref (gA Γ (100 * w0 + 90)) :: st) := by
  intro r hr H locs lsA hI hh
  have hA := (hK.1.2 3 _ rfl)
  have hO := hK.2.2.2
  refine w_copyq (C := RX4) (E0 := RX4) (E1 := RX4) hk.1 hk.2.1 (by rw [hh.1]; exact hk.2.2.1) hk.2.2.2.1 (hk.2.2.2.2.1 _ hl) (hk.2.2.2.2.1 _ q235) (hk.2.2.2.2.1 _ q234) (hk.2.2.2.2.1 _ q127) (hI.1.2.2.2.1 w0 h0) (hI.1.2.2.2.1 w1 h1) hA.1 hA.1 hA.2 (by decide) (by decide) (by decide) (by decide) (by decide) (fun i hi y hy => hO.2.2.2.2.1 _ _ _ hI.2.1 w0 i y h0 hi (by rw [← hy]; show cT σ w0 i = cT σ w0 (0 + i); rw [Nat.zero_add])) (fun comp c0 g1 g2 => by
    cases g1.symm.trans g2
    have hc := (hK.1.1 3 _ rfl).2
    cases hc.1.symm.trans g1
    exact va_assign hc) (by show 1 ≤ (kR K).frames; rw [hk.2.2.2.2.2.2.2]; exact Nat.le_of_ble_eq_true hr1) (by show _ ≤ (kR K).locals; rw [hk.2.2.2.2.2.2.2]; exact Nat.le_trans (Nat.add_le_add_right (Nat.le_of_ble_eq_true hs) _) (Nat.le_of_ble_eq_true hr2)) hd (fun H1 locs1 e z oq hlo => ?_)
  have hv := cval_row w1 h1 10 (by omega) (by omega)
  have hF : cFr Γ H H1 := cFr.put hv.1 z oq
  refine kk _ r hr H1 locs1 lsA ⟨CW.txt hO hI.1 h1 e oq, hO.2.1 _ _ _ _ hF (hO.2.2.2.2.2 _ _ _ w1 w0 h1 h0 hI.2.1), hI.2.2.1.trans hF, fun l h => (hlo l h).elim (hI.2.2.2 l) (fun e => Or.inl ⟨_, hv.1, e⟩)⟩ hh
theorem g_i_min {I : Heap → List Loc → Prop} (hk : KOK K cc nL own rm ret) {idx : Nat} {x y : Int32} (hl : Cond.methodLink own idx Lib.Math.min.name ∈ lw_all) (hs : Nat.ble ((st.map fun v => v.category).sum) 8 = true) (hr1 : Nat.ble 1 rm.frames = true) (hr2 : Nat.ble 40 rm.locals = true) (hd : decode cc pc = .ok (.invokestatic idx, 3)) (hcs : Nat.ble cs rm.cells = true ∧ Nat.ble sl rm.slots = true) (kk : GGo K Q comp nL I cs sl (pc + 3) ls (.int (i_min x y) :: st)) : GGo K Q comp nL I cs sl pc ls (.int y :: .int x :: st) := by
  intro r hr H locs lsA hI hh
  exact va_mmin hk.1 hk.2.1 (by rw [hh.1]; exact hk.2.2.1) hk.2.2.2.1 (hk.2.2.2.2.1 _ hl) (hk.2.2.2.2.1 _ q476) (hk.2.2.2.2.1 _ q138) (hk.2.2.2.2.1 _ q477) (by show 1 ≤ (kR K).frames; rw [hk.2.2.2.2.2.2.2]; exact Nat.le_of_ble_eq_true hr1) (by show _ ≤ (kR K).locals; rw [hk.2.2.2.2.2.2.2]; exact Nat.le_trans (Nat.add_le_add_right (Nat.le_of_ble_eq_true hs) _) (Nat.le_trans (by decide) (Nat.le_of_ble_eq_true hr2))) (by show cs ≤ (kR K).cells; rw [hk.2.2.2.2.2.2.2]; exact Nat.le_of_ble_eq_true hcs.1) (by show sl ≤ (kR K).slots; rw [hk.2.2.2.2.2.2.2]; exact Nat.le_of_ble_eq_true hcs.2) hd (kk r hr H locs lsA hI hh)
theorem g_i_max {I : Heap → List Loc → Prop} (hk : KOK K cc nL own rm ret) {idx : Nat} {x y : Int32} (hl : Cond.methodLink own idx Lib.Math.max.name ∈ lw_all) (hs : Nat.ble ((st.map fun v => v.category).sum) 8 = true) (hr1 : Nat.ble 1 rm.frames = true) (hr2 : Nat.ble 40 rm.locals = true) (hd : decode cc pc = .ok (.invokestatic idx, 3)) (hcs : Nat.ble cs rm.cells = true ∧ Nat.ble sl rm.slots = true) (kk : GGo K Q comp nL I cs sl (pc + 3) ls (.int (i_max x y) :: st)) : GGo K Q comp nL I cs sl pc ls (.int y :: .int x :: st) := by
  intro r hr H locs lsA hI hh
  exact va_mmax hk.1 hk.2.1 (by rw [hh.1]; exact hk.2.2.1) hk.2.2.2.1 (hk.2.2.2.2.1 _ hl) (hk.2.2.2.2.1 _ q650) (hk.2.2.2.2.1 _ q138) (hk.2.2.2.2.1 _ q651) (by show 1 ≤ (kR K).frames; rw [hk.2.2.2.2.2.2.2]; exact Nat.le_of_ble_eq_true hr1) (by show _ ≤ (kR K).locals; rw [hk.2.2.2.2.2.2.2]; exact Nat.le_trans (Nat.add_le_add_right (Nat.le_of_ble_eq_true hs) _) (Nat.le_trans (by decide) (Nat.le_of_ble_eq_true hr2))) (by show cs ≤ (kR K).cells; rw [hk.2.2.2.2.2.2.2]; exact Nat.le_of_ble_eq_true hcs.1) (by show sl ≤ (kR K).slots; rw [hk.2.2.2.2.2.2.2]; exact Nat.le_of_ble_eq_true hcs.2) hd (kk r hr H locs lsA hI hh)
theorem g_l_min {I : Heap → List Loc → Prop} (hk : KOK K cc nL own rm ret) {idx : Nat} {x y : Int64} (hl : Cond.methodLink own idx Lib.MathLoose.min_long.x ∈ lw_all) (hs : Nat.ble ((st.map fun v => v.category).sum) 8 = true) (hr1 : Nat.ble 1 rm.frames = true) (hr2 : Nat.ble 40 rm.locals = true) (hd : decode cc pc = .ok (.invokestatic idx, 3)) (hcs : Nat.ble cs rm.cells = true ∧ Nat.ble sl rm.slots = true) (kk : GGo K Q comp nL I cs sl (pc + 3) ls (.long (l_min x y) :: st)) : GGo K Q comp nL I cs sl pc ls (.long y :: .long x :: st) := by
  intro r hr H locs lsA hI hh
  exact va_mmin_long hk.1 hk.2.1 (by rw [hh.1]; exact hk.2.2.1) hk.2.2.2.1 (hk.2.2.2.2.1 _ hl) (hk.2.2.2.2.1 _ q998) (hk.2.2.2.2.1 _ q138) (hk.2.2.2.2.1 _ q999) (by show 1 ≤ (kR K).frames; rw [hk.2.2.2.2.2.2.2]; exact Nat.le_of_ble_eq_true hr1) (by show _ ≤ (kR K).locals; rw [hk.2.2.2.2.2.2.2]; exact Nat.le_trans (Nat.add_le_add_right (Nat.le_of_ble_eq_true hs) _) (Nat.le_trans (by decide) (Nat.le_of_ble_eq_true hr2))) (by show cs ≤ (kR K).cells; rw [hk.2.2.2.2.2.2.2]; exact Nat.le_of_ble_eq_true hcs.1) (by show sl ≤ (kR K).slots; rw [hk.2.2.2.2.2.2.2]; exact Nat.le_of_ble_eq_true hcs.2) hd (kk r hr H locs lsA hI hh)
theorem g_l_max {I : Heap → List Loc → Prop} (hk : KOK K cc nL own rm ret) {idx : Nat} {x y : Int64} (hl : Cond.methodLink own idx Lib.MathLoose.max_long.x ∈ lw_all) (hs : Nat.ble ((st.map fun v => v.category).sum) 8 = true) (hr1 : Nat.ble 1 rm.frames = true) (hr2 : Nat.ble 40 rm.locals = true) (hd : decode cc pc = .ok (.invokestatic idx, 3)) (hcs : Nat.ble cs rm.cells = true ∧ Nat.ble sl rm.slots = true) (kk : GGo K Q comp nL I cs sl (pc + 3) ls (.long (l_max x y) :: st)) : GGo K Q comp nL I cs sl pc ls (.long y :: .long x :: st) := by
  intro r hr H locs lsA hI hh
  exact va_mmax_long hk.1 hk.2.1 (by rw [hh.1]; exact hk.2.2.1) hk.2.2.2.1 (hk.2.2.2.2.1 _ hl) (hk.2.2.2.2.1 _ q1001) (hk.2.2.2.2.1 _ q138) (hk.2.2.2.2.1 _ q1002) (by show 1 ≤ (kR K).frames; rw [hk.2.2.2.2.2.2.2]; exact Nat.le_of_ble_eq_true hr1) (by show _ ≤ (kR K).locals; rw [hk.2.2.2.2.2.2.2]; exact Nat.le_trans (Nat.add_le_add_right (Nat.le_of_ble_eq_true hs) _) (Nat.le_trans (by decide) (Nat.le_of_ble_eq_true hr2))) (by show cs ≤ (kR K).cells; rw [hk.2.2.2.2.2.2.2]; exact Nat.le_of_ble_eq_true hcs.1) (by show sl ≤ (kR K).slots; rw [hk.2.2.2.2.2.2.2]; exact Nat.le_of_ble_eq_true hcs.2) hd (kk r hr H locs lsA hI hh)
end CWR4
