/-! PURE LAW 1: numbers -/
set_option maxRecDepth 100000
theorem pe_sl : ∀ n, n < 32 → ((nI n &&& 31).toBitVec.smod 32).toNat = n := by decide +kernel
theorem pe_mul (a b : Nat) : nI a * nI b = nI (a * b) := (Int32.ofNat_mul a b).symm
theorem pe_sub {a b : Nat} (h : b ≤ a) : nI a - nI b = nI (a - b) := by
  have e : nI a = nI (a - b) + nI b := by rw [nI_add, Nat.sub_add_cancel h]
  rw [e, Int32.add_sub_cancel]
theorem pe_div {a b : Nat} (ha : a < 2 ^ 31) (hb : b < 2 ^ 31) : nI a / nI b = nI (a / b) := by
  have hq : a / b ≤ a := Nat.div_le_self a b
  refine Int32.toInt_inj.mp ?_
  rw [Int32.toInt_div, nI_toInt ha, nI_toInt hb, nI_toInt (by omega), Int.tdiv_eq_ediv_of_nonneg (by omega), ← Int.natCast_ediv]
  generalize a / b = q at hq
  rw [Int.bmod_eq_of_le (by omega) (by omega)]
theorem pe_rem {a b : Nat} (ha : a < 2 ^ 31) (hb : b < 2 ^ 31) : i_rem (nI a) (nI b) = nI (a % b) := by
  unfold i_rem
  rw [pe_div ha hb, pe_mul, pe_sub (Nat.div_mul_le_self a b)]
  have h := Nat.div_add_mod a b
  have e : b * (a / b) = a / b * b := Nat.mul_comm _ _
  rw [show a - a / b * b = a % b by omega]
theorem pe_shr {a k : Nat} (ha : a < 2 ^ 31) (hk : k < 32) : i_shr (nI a) (nI k) = nI (a / 2 ^ k) := pk_shrN ha _ k (pe_sl k hk)
theorem pe_shl {a k : Nat} (hk : k < 32) (h : a * 2 ^ k < 2 ^ 32) : i_shl (nI a) (nI k) = nI (a * 2 ^ k) := pk_shlN _ k (pe_sl k hk) h
theorem pe_bit {k : Nat} (hk : k < 31) : i_shl 1 (nI k) = nI (2 ^ k) := by
  have h : 2 ^ k < 2 ^ 32 := Nat.pow_lt_pow_right (by decide) (by omega)
  have := pe_shl (a := 1) (k := k) (by omega) (by omega)
  rw [Nat.one_mul] at this
  exact this
theorem pe_and (a b : Nat) : nI a &&& nI b = nI (a &&& b) := by
  apply Int32.toBitVec_inj.1
  show BitVec.ofNat 32 a &&& BitVec.ofNat 32 b = BitVec.ofNat 32 (a &&& b)
  apply BitVec.eq_of_getLsbD_eq
  intro i hi
  simp [hi]
theorem pe_or (a b : Nat) : nI a ||| nI b = nI (a ||| b) := by
  apply Int32.toBitVec_inj.1
  show BitVec.ofNat 32 a ||| BitVec.ofNat 32 b = BitVec.ofNat 32 (a ||| b)
  apply BitVec.eq_of_getLsbD_eq
  intro i hi
  simp [hi]
theorem pe_inb {i n : Nat} (h : i < n) (hn : n < 2 ^ 31) : inb (nI i) n = true := inb_nI h hn
theorem pe_rd {α : Type} {i n : Nat} {A B : α} (h : i < n) (hn : n < 2 ^ 31) : (if inb (nI i) n = true then A else B) = A := if_pos (inb_nI h hn)
theorem pe_ne {a b : Nat} (ha : a < 2 ^ 31) (hb : b < 2 ^ 31) (h : a ≠ b) : ¬ nI a = nI b := fun e => h ((nI_eq ha hb).mp e)
theorem pe_m1 {a : Nat} (ha : a < 2 ^ 31) : ¬ nI a = -1 := fun e => by
  have h := congrArg Int32.toInt e
  rw [nI_toInt ha] at h
  have h1 : (-1 : Int32).toInt = -1 := by decide
  omega
theorem pe_0 : (0 : Int32) = nI 0 := rfl
theorem pe_1 : (1 : Int32) = nI 1 := rfl
/-- an int that isn't negative, or is -/
theorem pe_cases (v : Int32) : (∃ n, n < 2 ^ 31 ∧ v = nI n) ∨ v < 0 := by
  by_cases h : v < 0
  · exact Or.inr h
  · exact Or.inl (nI_of h)
theorem pe_in {v : Int32} (a b : Int32) (lo hi : Nat) (ea : a = nI lo) (eb : b = nI hi) (hlo : lo < 2 ^ 31) (hhi : hi < 2 ^ 31) : (∃ n, lo ≤ n ∧ n ≤ hi ∧ v = nI n ∧ T_isIn v a b = some 1 ∧ C_in v a b = some 1) ∨ ((∀ n, lo ≤ n → n ≤ hi → v ≠ nI n) ∧ T_isIn v a b = some 0 ∧ C_in v a b = some 0) := by
  subst ea eb
  unfold T_isIn C_in
  by_cases h1 : v < nI lo
  · refine Or.inr ⟨fun n hn1 hn2 e => ?_, ?_⟩
    · subst e
      rw [nI_ltI (by omega) hlo] at h1
      omega
    · simp only [if_pos h1, and_self]
  · by_cases h2 : nI hi < v
    · refine Or.inr ⟨fun n hn1 hn2 e => ?_, ?_⟩
      · subst e
        rw [nI_ltI hhi (by omega)] at h2
        omega
      · simp only [if_neg h1, if_pos h2, and_self]
    · obtain ⟨n, hn, rfl⟩ : ∃ n, n < 2 ^ 31 ∧ v = nI n := by
        refine nI_of (fun h => h1 ?_)
        rw [Int32.lt_iff_toInt_lt] at h ⊢
        have h0 : (0 : Int32).toInt = 0 := by decide
        rw [nI_toInt hlo]
        omega
      rw [nI_ltI hn hlo] at h1
      rw [nI_ltI hhi hn] at h2
      refine Or.inl ⟨n, by omega, by omega, rfl, ?_⟩
      rw [if_neg (by rw [nI_ltI hn hlo]; exact h1), if_neg (by rw [nI_ltI hhi hn]; exact h2)]
      exact ⟨rfl, rfl⟩
/-- .. below a count -/
theorem pe_inP {v b : Int32} (P : Nat) (eb : b = nI P) (hP : P < 2 ^ 31) : (∃ n, n < P ∧ v = nI n ∧ T_isIn v 0 (b - 1) = some 1 ∧ C_in v 0 (b - 1) = some 1) ∨ ((∀ n, n < P → v ≠ nI n) ∧ T_isIn v 0 (b - 1) = some 0 ∧ C_in v 0 (b - 1) = some 0) := by
  subst eb
  rcases Nat.eq_zero_or_pos P with rfl | h
  · refine Or.inr ⟨fun n hn => absurd hn (Nat.not_lt_zero n), ?_⟩
    have e : nI 0 - 1 = (-1 : Int32) := rfl
    rw [e]
    unfold T_isIn C_in
    by_cases h1 : v < 0
    · simp only [if_pos h1, and_self]
    · have h2 : (-1 : Int32) < v := by
        rw [Int32.lt_iff_toInt_lt] at h1 ⊢
        have h0 : (0 : Int32).toInt = 0 := by decide
        have h3 : (-1 : Int32).toInt = -1 := by decide
        omega
      simp only [if_neg h1, if_pos h2, and_self]
  · rw [show nI P - 1 = nI (P - 1) from pe_sub h]
    rcases pe_in (v := v) 0 (nI (P - 1)) 0 (P - 1) rfl rfl (by decide) (by omega) with ⟨n, -, h2, h3, h4, h5⟩ | ⟨h3, h4, h5⟩
    · exact Or.inl ⟨n, by omega, h3, h4, h5⟩
    · exact Or.inr ⟨fun n hn => h3 n (Nat.zero_le _) (by omega), h4, h5⟩
theorem pe_chair (v : Int32) : (∃ n, n < 8 ∧ v = nI n ∧ T_isChair v = some 1 ∧ C_isChair v = some 1) ∨ (T_isChair v = some 0 ∧ C_isChair v = some 0) := by
  unfold T_isChair C_isChair
  rcases pe_in (v := v) 0 7 0 7 rfl rfl (by decide) (by decide) with ⟨n, -, h2, h3, h4, h5⟩ | ⟨h3, h4, h5⟩
  · exact Or.inl ⟨n, by omega, h3, by rw [h4]; rfl, by rw [h5]; rfl⟩
  · exact Or.inr ⟨by rw [h4]; rfl, by rw [h5]; rfl⟩
/-! longs -/
theorem pl_lt {a b : Nat} (ha : a < 2 ^ 63) (hb : b < 2 ^ 63) : lN a < lN b ↔ a < b := by
  rw [Int64.lt_iff_toInt_lt, pk_lT ha, pk_lT hb]; omega
theorem pl_eq {a b : Nat} (ha : a < 2 ^ 63) (hb : b < 2 ^ 63) : lN a = lN b ↔ a = b := by
  rw [← Int64.toInt_inj, pk_lT ha, pk_lT hb]; omega
theorem pl_div {a b : Nat} (ha : a < 2 ^ 63) (hb : b < 2 ^ 63) : lN a / lN b = lN (a / b) := by
  have hq : a / b ≤ a := Nat.div_le_self a b
  refine Int64.toInt_inj.mp ?_
  rw [Int64.toInt_div, pk_lT ha, pk_lT hb, pk_lT (by omega), Int.tdiv_eq_ediv_of_nonneg (by omega), ← Int.natCast_ediv]
  generalize a / b = q at hq
  rw [Int.bmod_eq_of_le (by omega) (by omega)]
theorem pl_rem {a b : Nat} (ha : a < 2 ^ 63) (hb : b < 2 ^ 63) : l_rem (lN a) (lN b) = lN (a % b) := by
  unfold l_rem
  rw [pl_div ha hb, lN_mul, lN_sub (Nat.div_mul_le_self a b)]
  have h := Nat.div_add_mod a b
  have e : b * (a / b) = a / b * b := Nat.mul_comm _ _
  rw [show a - a / b * b = a % b by omega]
theorem pl_of {x : Int64} (h : ¬ x < 0) : ∃ j : Nat, j < 2 ^ 63 ∧ x = lN j := by
  rw [Int64.lt_iff_toInt_lt] at h
  have h0 : (0 : Int64).toInt = 0 := by decide
  have hx := Int64.toInt_lt x
  refine ⟨x.toInt.toNat, by omega, Int64.toInt_inj.mp ?_⟩
  rw [pk_lT (by omega)]
  omega
/-! reads and writes of the two states -/
theorem ps_tw (τ : TS) (k i : Nat) (v : Int32) (j : Nat) : tA (wA τ k i v) j = if j = k then upd (tA τ k) i v else tA τ j := rfl
theorem ps_ts (τ : TS) (k : Nat) (f : Nat → Int32) (j : Nat) : tA (sA τ k f) j = if j = k then f else tA τ j := rfl
theorem ps_ti (τ : TS) (k : Nat) (v : Int32) (j : Nat) : tA (sI τ k v) j = tA τ j := rfl
theorem ps_tW (τ : TS) (v : Int64) (j : Nat) : tA (sW τ v) j = tA τ j := rfl
theorem ps_tL (τ : TS) (k i : Nat) (v : Int64) (j : Nat) : tA (wL τ k i v) j = tA τ j := rfl
theorem ps_iw (τ : TS) (k i : Nat) (v : Int32) (j : Nat) : tI (wA τ k i v) j = tI τ j := rfl
theorem ps_is (τ : TS) (k : Nat) (f : Nat → Int32) (j : Nat) : tI (sA τ k f) j = tI τ j := rfl
theorem ps_ii (τ : TS) (k : Nat) (v : Int32) (j : Nat) : tI (sI τ k v) j = if j = k then v else tI τ j := rfl
theorem ps_iW (τ : TS) (v : Int64) (j : Nat) : tI (sW τ v) j = tI τ j := rfl
theorem ps_iL (τ : TS) (k i : Nat) (v : Int64) (j : Nat) : tI (wL τ k i v) j = tI τ j := rfl
theorem ps_ce (σ : CS) (k i : Nat) (v : Int32) (j : Nat) : cA (eA σ k i v) j = if j = k then upd (cA σ k) i v else cA σ j := rfl
theorem ps_cd (σ : CS) (k : Nat) (f : Nat → Int32) (j : Nat) : cA (dA σ k f) j = if j = k then f else cA σ j := rfl
theorem ps_ci (σ : CS) (k : Nat) (v : Int32) (j : Nat) : cA (dI σ k v) j = cA σ j := rfl
theorem ps_cT (σ : CS) (w : Nat) (f : Nat → Option Nat) (j : Nat) : cA (dT σ w f) j = cA σ j := rfl
theorem ps_ie (σ : CS) (k i : Nat) (v : Int32) (j : Nat) : cI (eA σ k i v) j = cI σ j := rfl
theorem ps_id (σ : CS) (k : Nat) (f : Nat → Int32) (j : Nat) : cI (dA σ k f) j = cI σ j := rfl
theorem ps_ic (σ : CS) (k : Nat) (v : Int32) (j : Nat) : cI (dI σ k v) j = if j = k then v else cI σ j := rfl
theorem ps_iT (σ : CS) (w : Nat) (f : Nat → Option Nat) (j : Nat) : cI (dT σ w f) j = cI σ j := rfl
theorem ps_xe (σ : CS) (k i : Nat) (v : Int32) : (eA σ k i v).2.2 = σ.2.2 := rfl
theorem ps_xd (σ : CS) (k : Nat) (f : Nat → Int32) : (dA σ k f).2.2 = σ.2.2 := rfl
theorem ps_xi (σ : CS) (k : Nat) (v : Int32) : (dI σ k v).2.2 = σ.2.2 := rfl
theorem ps_upd (f : Nat → Int32) (k : Nat) (x : Int32) (j : Nat) : upd f k x j = if j = k then x else f j := rfl
theorem ps_cpy {α : Type} (f g : Nat → α) (sp dp n k : Nat) : va_cpy f g sp dp n k = if dp ≤ k ∧ k < dp + n then f (sp + (k - dp)) else g k := rfl
theorem pc_some {α β : Type} (x : α) (k : α → Option β) : ob1 (some x) k = k x := rfl
theorem pc_some2 {α β γ : Type} (x : α) (y : β) (k : α → β → Option γ) : ob2 (some (x, y)) k = k x y := rfl
theorem pc_nm {α β : Type} (x : α) (k : α → β) : nm x k = k x := rfl
theorem pc_no {α : Type} {A B : α} : (if (1 : Int32) = 0 then A else B) = B := if_neg (by decide)
theorem pc_yes {α : Type} {A B : α} : (if (0 : Int32) = 0 then A else B) = A := if_pos rfl
theorem pe_lit (a b : Int32) (k i : Nat) (e : a = nI k) (eb : b = nI i) : a + b = nI (k + i) := by rw [e, eb, nI_add]

/-! PURE LAW 2: how the two states go together -/
set_option maxRecDepth 100000
def un (m : Nat → Nat) (k v : Nat) : Nat → Nat := fun j => if j = k then v else m j
theorem un_e (m : Nat → Nat) (k v j : Nat) : un m k v j = if j = k then v else m j := rfl
theorem un_s {m : Nat → Nat} {k v : Nat} : un m k v k = v := if_pos rfl
theorem un_o {m : Nat → Nat} {k v j : Nat} (h : j ≠ k) : un m k v j = m j := if_neg h
/-- an entry of the book, packed: day, chair, what came off, scar -/
def pgN (v k : Nat) : Nat := if k = 0 then v / 1600 else if k = 1 then v / 200 % 8 else if k = 2 then v / 2 % 100 else v % 2
/-- a row's day, takings, drawn; its persons; no scars beyond them -/
def CoreR (r : Nat → Int32) (P : Nat) (d : Nat → Nat) (g : Nat → Nat → Nat) : Prop :=
  (∀ j, j < 3 → r j = nI (d j)) ∧ (∀ p, p < P → r (3 + p) = nI (g p 0) ∧ r (11 + p) = nI (g p 1) ∧ r (19 + p) = nI (g p 2)) ∧ (∀ p, P ≤ p → p < 8 → r (19 + p) = 0)
def PageR (r : Nat → Int32) (W : Nat) (b : Nat → Nat) : Prop := r 27 = nI W ∧ ∀ i k, i < W → k < 4 → r (28 + 4 * i + k) = nI (pgN (b i) k)
def nowD (m : Nat → Nat) : Nat → Nat := fun j => m (6 + j)
def nowG (m : Nat → Nat) : Nat → Nat → Nat := fun p k => m (10 + 5 * p + k)
def nowB (m : Nat → Nat) : Nat → Nat := fun i => m (2000 + i)
def stX (k : Nat) : Nat := 230 + 59 * k
def stD (m : Nat → Nat) (k : Nat) : Nat → Nat := fun j => m (stX k + 1 + j)
def stG (m : Nat → Nat) (k : Nat) : Nat → Nat → Nat := fun p w => if p < m (stX k) then m (stX k + 5 + 3 * p + w) else if w = 0 then m (10 + 5 * p + 3) else if w = 1 then m (10 + 5 * p + 4) else 0
def stB (m : Nat → Nat) (k : Nat) : Nat → Nat := fun i => m (stX k + 29 + i)
/-- the twin's row of numbers -/
def TA (a : Nat → Int32) (m : Nat → Nat) : Prop := (∀ k, k < 2030 → k ≠ 2 → a k = nI (m k)) ∧ a 2 = nI (m 2) - 1
/-- the component's arrays of one state -/
def FA (F : Nat → Nat → Int32) (m : Nat → Nat) : Prop :=
  ((∀ k, k < 6 → k ≠ 2 → F 0 k = nI (m k)) ∧ F 0 2 = nI (m 2) - 1) ∧
  (CoreR (F 1) (m 0) (nowD m) (nowG m) ∧ PageR (F 1) (m 9) (nowB m)) ∧
  (∀ k, k < m 3 → CoreR (F (50 + k)) (m 0) (stD m k) (stG m k) ∧ PageR (F (50 + k)) (m (stX k + 4)) (stB m k)) ∧
  (∀ c, c < 8 → F 2 c = nI (m (50 + c)) ∧ F 3 c = nI (m (58 + c)) ∧ F 4 c = nI (m (206 + c))) ∧
  (∀ r c, r < 8 → c < 8 → F (10 + r) c = nI (m (78 + 8 * r + c)) ∧ F (20 + r) c = nI (m (142 + 8 * r + c))) ∧
  (∀ i, i < 6 → F (30 + i) 0 = nI (m (66 + 2 * i)) ∧ F (30 + i) 1 = nI (m (66 + 2 * i + 1))) ∧
  (∀ i, i < 8 → F (40 + i) 0 = nI (m (214 + 2 * i)) ∧ F (40 + i) 1 = nI (m (214 + 2 * i + 1)))
/-- bounds of the numbers -/
def RB (m : Nat → Nat) : Prop :=
  (∀ k, k < 2030 → m k < 33554432) ∧ (m 0 ≤ 8 ∧ m 1 ≤ 4 ∧ m 2 ≤ m 1 ∧ m 3 ≤ 30 ∧ m 4 ≤ 6 ∧ m 5 ≤ 8) ∧ (m 6 ≤ 9999 ∧ m 7 ≤ 99999 ∧ m 8 < 30631 ∧ m 9 ≤ 30) ∧
  (∀ p, p < 8 → m (10 + 5 * p) ≤ 99 ∧ m (10 + 5 * p + 1) ≤ 9 ∧ m (10 + 5 * p + 2) ≤ 99 ∧ m (10 + 5 * p + 3) ≤ 99 ∧ m (10 + 5 * p + 4) ≤ 9) ∧
  (∀ c, c < 8 → m (50 + c) < 8 ∧ m (58 + c) ≤ 3 ∧ m (206 + c) ≤ 10) ∧
  (∀ k, k < 64 → m (78 + k) ≤ 99 ∧ m (142 + k) ≤ 9) ∧
  (∀ i, i < 12 → m (66 + i) ≤ 255) ∧
  ((∀ i, i < m 5 → m (214 + 2 * i) < m 0) ∧ ∀ i, i < 8 → m (214 + 2 * i + 1) ≤ 99) ∧
  (∀ k, k < m 3 → m (stX k) ≤ m 0) ∧
  (∀ k, k < 30 → m (stX k + 1) ≤ 9999 ∧ m (stX k + 2) ≤ 99999 ∧ m (stX k + 3) < 30631 ∧ m (stX k + 4) ≤ 30 ∧ ∀ p, p < 8 → m (stX k + 5 + 3 * p) ≤ 99 ∧ m (stX k + 5 + 3 * p + 1) ≤ 9 ∧ m (stX k + 5 + 3 * p + 2) ≤ 99)
/-- one state of the two sides -/
def RS (F : Nat → Nat → Int32) (a : Nat → Int32) (m : Nat → Nat) : Prop := TA a m ∧ FA F m ∧ RB m
section RD
variable {τ : TS} {m : Nat → Nat}
theorem ta_lt {a : Nat → Int32} (h : TA a m) {k : Nat} (h1 : k < 2030) (h2 : k ≠ 2) : a k = nI (m k) := h.1 k h1 h2
theorem ix_get (p k : Nat) : (10 + (5 * nI p)) + nI k = nI (10 + 5 * p + k) := by
  rw [show (10 : Int32) = nI 10 from rfl, show (5 : Int32) = nI 5 from rfl, pe_mul, nI_add, nI_add]
theorem tg_get (h : TA (tA τ 0) m) (k' : Int32) (k : Nat) (e : k' = nI k) {p : Nat} (hp : p < 8) (hk : k < 5) : T_get τ (nI p) k' = some (nI (m (10 + 5 * p + k))) := by
  subst e
  unfold T_get
  rw [ix_get, pe_rd (by omega) (by decide), nI_clamp (by omega), h.1 _ (by omega) (by omega)]
theorem tg_put (k' : Int32) (k : Nat) (e : k' = nI k) {p : Nat} {v : Int32} (hp : p < 8) (hk : k < 5) : T_put τ (nI p) k' v = some (wA τ 0 (10 + 5 * p + k) v) := by
  subst e
  unfold T_put
  rw [ix_get, pe_rd (by omega) (by decide), nI_clamp (by omega)]
  rfl
theorem tg_oth (h : TA (tA τ 0) m) {c : Nat} (hc : c < 8) : T_otherOf τ (nI c) = some (nI (m (50 + c))) := by
  unfold T_otherOf
  rw [show (50 : Int32) = nI 50 from rfl, nI_add, pe_rd (by omega) (by decide), nI_clamp (by omega), h.1 _ (by omega) (by omega)]
theorem tg_isP (h : TA (tA τ 0) m) (hP : m 0 ≤ 8) (v : Int32) : (∃ n, n < m 0 ∧ v = nI n ∧ T_isPerson τ v = some 1) ∨ ((∀ n, n < m 0 → v ≠ nI n) ∧ T_isPerson τ v = some 0) := by
  unfold T_isPerson
  rcases pe_inP (v := v) (b := tA τ 0 0) (m 0) (h.1 0 (by decide) (by decide)) (by omega) with ⟨n, h1, h2, h3, -⟩ | ⟨h1, h3, -⟩
  · exact Or.inl ⟨n, h1, h2, by rw [h3]; rfl⟩
  · exact Or.inr ⟨h1, by rw [h3]; rfl⟩
theorem tg_isPn (h : TA (tA τ 0) m) (hP : m 0 ≤ 8) {n : Nat} (hn : n < 2 ^ 31) : T_isPerson τ (nI n) = some (if n < m 0 then 1 else 0) := by
  rcases tg_isP h hP (nI n) with ⟨n', h1, h2, h3⟩ | ⟨h1, h3⟩
  · have := (nI_eq hn (by omega)).mp h2
    rw [h3, if_pos (by omega)]
  · rw [h3, if_neg (fun z => h1 n z rfl)]
end RD
section RC
variable {σ : CS} {m : Nat → Nat}
theorem cg_isP (h : cA σ 0 0 = nI (m 0)) (hP : m 0 ≤ 8) (v : Int32) : (∃ n, n < m 0 ∧ v = nI n ∧ C_isPerson σ v = some 1) ∨ ((∀ n, n < m 0 → v ≠ nI n) ∧ C_isPerson σ v = some 0) := by
  unfold C_isPerson
  rcases pe_inP (v := v) (b := cA σ 0 0) (m 0) h (by omega) with ⟨n, h1, h2, -, h3⟩ | ⟨h1, -, h3⟩
  · exact Or.inl ⟨n, h1, h2, by rw [h3]; rfl⟩
  · exact Or.inr ⟨h1, by rw [h3]; rfl⟩
theorem cg_isPn (h : cA σ 0 0 = nI (m 0)) (hP : m 0 ≤ 8) {n : Nat} (hn : n < 2 ^ 31) : C_isPerson σ (nI n) = some (if n < m 0 then 1 else 0) := by
  rcases cg_isP h hP (nI n) with ⟨n', h1, h2, h3⟩ | ⟨h1, h3⟩
  · have := (nI_eq hn (by omega)).mp h2
    rw [h3, if_pos (by omega)]
  · rw [h3, if_neg (fun z => h1 n z rfl)]
end RC
/-- both answer the same -/
def PV {α : Type} (c t : Option α) : Prop := ∃ v, c = some v ∧ t = some v
theorem PV.mk {α : Type} {c t : Option α} (v : α) (h1 : c = some v) (h2 : t = some v) : PV c t := ⟨v, h1, h2⟩

/-! PURE LAW 3: what is only read -/
set_option maxRecDepth 100000
section RO
variable {σ : CS} {τ : TS} {m : Nat → Nat}
abbrev RN (σ : CS) (τ : TS) (m : Nat → Nat) : Prop := RS (cA σ) (tA τ 0) m
theorem rn_P (h : RN σ τ m) : cA σ 0 0 = nI (m 0) ∧ tA τ 0 0 = nI (m 0) ∧ m 0 ≤ 8 := ⟨h.2.1.1.1 0 (by decide) (by decide), h.1.1 0 (by decide) (by decide), h.2.2.2.1.1⟩
theorem rn_oth (h : RN σ τ m) {c : Nat} (hc : c < 8) : cA σ 2 c = nI (m (50 + c)) ∧ m (50 + c) < 8 := ⟨(h.2.1.2.2.2.1 c hc).1, (h.2.2.2.2.2.2.1 c hc).1⟩
theorem pv_told (h : RN σ τ m) (v : Int32) : PV (C_told σ v) (T_told τ v) := by
  unfold C_told T_told
  rcases pe_chair v with ⟨n, hn, rfl, h1, h2⟩ | ⟨h1, h2⟩
  · refine PV.mk (nI (m (50 + n))) ?_ ?_
    · rw [h2, pc_some, if_neg (by decide), pe_rd hn (by decide), nI_clamp (by omega), (rn_oth h hn).1]
    · rw [h1, pc_some, if_neg (by decide), tg_oth h.1 hn]
      rfl
  · exact PV.mk (-1) (by rw [h2]; rfl) (by rw [h1]; rfl)
theorem pv_is (h : RN σ τ m) (v : Int32) : PV (C_is σ v) (T_is τ v) := by
  unfold C_is T_is
  rcases pe_in (v := v) 0 2 0 2 rfl rfl (by decide) (by decide) with ⟨n, -, hn, rfl, h1, h2⟩ | ⟨-, h1, h2⟩
  · refine PV.mk (nI (m (6 + n))) ?_ ?_
    · rw [h2, pc_some, if_neg (by decide), pe_rd (by omega) (by decide), nI_clamp (by omega)]
      exact congrArg some (h.2.1.2.1.1.1 n (by omega))
    · rw [h1, pc_some, if_neg (by decide), show (6 : Int32) = nI 6 from rfl, nI_add, pe_rd (by omega) (by decide), nI_clamp (by omega), h.1.1 _ (by omega) (by omega)]
  · exact PV.mk (-2) (by rw [h2]; rfl) (by rw [h1]; rfl)
theorem pv_till (h : RN σ τ m) (v w : Int32) : PV (C_till σ v w) (T_till τ v w) := by
  obtain ⟨hp1, hp2, hP⟩ := rn_P h
  unfold C_till T_till
  rcases tg_isP h.1 hP v with ⟨n, hn, rfl, h1⟩ | ⟨hv, h1⟩
  · have h2 := cg_isPn (n := n) hp1 hP (by omega)
    rw [if_pos hn] at h2
    rcases pe_in (v := w) 0 99 0 99 rfl rfl (by decide) (by decide) with ⟨b, -, hb, rfl, h3, h4⟩ | ⟨-, h3, h4⟩
    · have hg := tg_get h.1 0 0 rfl (p := n) (by omega) (by decide)
      have hgb := (h.2.2.2.2.2.1 n (by omega)).1
      have hr : cA σ 1 (3 + n) = nI (m (10 + 5 * n)) := (h.2.1.2.1.1.2.1 n hn).1
      simp only [h1, h2, h3, h4, hg, pc_some, pc_no]
      rw [pe_lit 3 (nI n) 3 n rfl rfl, pe_rd (by omega) (by decide), nI_clamp (by omega), hr, Nat.add_zero]
      simp only [nI_ltI (show m (10 + 5 * n) < 2 ^ 31 by omega) (show b < 2 ^ 31 by omega)]
      by_cases hlt : m (10 + 5 * n) < b
      · refine PV.mk (nI (b - m (10 + 5 * n))) ?_ ?_
        · rw [pe_sub (by omega)]
          unfold i_max
          rw [show (0 : Int32) = nI 0 from rfl, if_pos]
          rw [nI_ltI (by omega) (by omega)]
          omega
        · rw [if_pos hlt, pe_sub (by omega)]
      · refine PV.mk 0 ?_ (by rw [if_neg hlt])
        unfold i_max
        rw [if_neg ?_]
        rw [Int32.lt_iff_toInt_lt, Int32.toInt_sub, nI_toInt (by omega), nI_toInt (by omega), Int.bmod_eq_of_le (by omega) (by omega)]
        have h0 : (0 : Int32).toInt = 0 := by decide
        omega
    · exact PV.mk (-1) (by simp only [h2, h4, pc_some, pc_no, pc_yes, if_true]) (by simp only [h1, h3, pc_some, pc_no, pc_yes, if_true])
  · rcases cg_isP hp1 hP v with ⟨n, hn, rfl, h2⟩ | ⟨-, h2⟩
    · exact absurd rfl (hv n hn)
    · exact PV.mk (-1) (by simp only [h2, pc_some, pc_yes, if_true]) (by simp only [h1, pc_some, pc_yes, if_true])
theorem pv_about (h : RN σ τ m) (ht : cI σ 3 = tI τ 4) (v : Int32) : PV (C_about σ v) (T_about τ v) := by
  unfold C_about T_about
  have e : ∀ k, k < 6 → cA σ 0 k = tA τ 0 k := fun k hk => by
    by_cases h2 : k = 2
    · subst h2
      rw [h.2.1.1.2, h.1.2]
    · rw [h.2.1.1.1 k hk h2, h.1.1 k (by omega) h2]
  rcases pe_in (v := v) 0 5 0 5 rfl rfl (by decide) (by decide) with ⟨n, -, hn, rfl, h1, -⟩ | ⟨hv, h1, -⟩
  · simp only [h1, pc_some, pc_no]
    rw [pe_rd (show n < 2030 by omega) (by decide), nI_clamp (by omega)]
    rcases (show n = 0 ∨ n = 1 ∨ n = 2 ∨ n = 3 ∨ n = 4 ∨ n = 5 by omega) with rfl | rfl | rfl | rfl | rfl | rfl
    · exact PV.mk _ (congrArg some (e 0 (by decide))) rfl
    · exact PV.mk _ (congrArg some (e 1 (by decide))) rfl
    · exact PV.mk _ (congrArg some (e 2 (by decide))) rfl
    · exact PV.mk _ (congrArg some (e 3 (by decide))) rfl
    · exact PV.mk _ (congrArg some (e 4 (by decide))) rfl
    · exact PV.mk _ (congrArg some (e 5 (by decide))) rfl
  · have hn : ∀ k, k < 6 → ¬ v = nI k := fun k hk => hv k (Nat.zero_le _) (by omega)
    simp only [h1, pc_some, pc_yes, if_true]
    rw [if_neg (show ¬ v = 0 from hn 0 (by decide)), if_neg (show ¬ v = 1 from hn 1 (by decide)), if_neg (show ¬ v = 2 from hn 2 (by decide)), if_neg (show ¬ v = 3 from hn 3 (by decide)), if_neg (show ¬ v = 4 from hn 4 (by decide)), if_neg (show ¬ v = 5 from hn 5 (by decide))]
    by_cases h6 : v = 6
    · exact PV.mk (cI σ 3) (by rw [if_pos h6]) (by rw [if_pos h6, ht])
    · exact PV.mk (-2) (by rw [if_neg h6]) (by rw [if_neg h6])
end RO
