/-! WHAT THE PARSER DOES, on the six numbers (costs told beside: cells, slots) -/
set_option maxRecDepth 100000
def dOpen (τ : TKS) : TKS := sOpen τ (τ.2.2.2.2.1 - 1)
/-- behind a chain's first: signs o1, o2 -/
def K_chl (π : PPar) (o1 o2 : Nat) (sub : TKS → Option (KRs Den)) : Nat → TKS → Den → Nat → Nat → Nat → Option (KRs Den)
  | 0, _, _, _, _, _ => none
  | m + 1, τ, acc, n, c, s =>
    if τ.2.2.1 = nI o1 then
      ob1 (K_next π τ) (fun τ1 => obK (sub τ1) (fun e a b => some (.inl e, c + a, s + b)) (fun d τ2 a b => if n < 900 then K_chl π o1 o2 sub m τ2 (dBin (nI o1) acc d) (n + 1) (c + a + 2 * adC n) (s + b + 2 * adS n) else none))
    else if τ.2.2.1 = nI o2 then
      ob1 (K_next π τ) (fun τ1 => obK (sub τ1) (fun e a b => some (.inl e, c + a, s + b)) (fun d τ2 a b => if n < 900 then K_chl π o1 o2 sub m τ2 (dBin (nI o2) acc d) (n + 1) (c + a + 2 * adC n) (s + b + 2 * adS n) else none))
    else some (.inr (acc, τ), c, s)
def K_chn (π : PPar) (o1 o2 : Nat) (sub : TKS → Option (KRs Den)) (τ : TKS) : Option (KRs Den) :=
  obK (sub τ) (fun e a b => some (.inl e, 1 + a, 3 + b)) (fun d τ1 a b => K_chl π o1 o2 sub 400 τ1 d 0 (1 + a + 2) (3 + b + 6))
def K_pwl (π : PPar) (one : TKS → Option (KRs Den)) : Nat → TKS → Den → Nat → Nat → Nat → Option (KRs Den)
  | 0, _, _, _, _, _ => none
  | m + 1, τ, acc, n, c, s =>
    if τ.2.2.1 = 94 then
      ob1 (K_next π τ) (fun τ1 => obK (one τ1) (fun e a b => some (.inl e, c + a, s + b)) (fun d τ2 a b => if n < 900 then K_pwl π one m τ2 (dBin 94 acc d) (n + 1) (c + a + 2 * adC n) (s + b + 2 * adS n) else none))
    else some (.inr (acc, τ), c, s)
def K_power (π : PPar) (one : TKS → Option (KRs Den)) (τ : TKS) : Option (KRs Den) :=
  obK (one τ) (fun e a b => some (.inl e, a, b)) (fun d τ1 a b => if τ1.2.2.1 = 94 then K_pwl π one 400 τ1 d 0 (a + 1 + 2) (b + 3 + 6) else some (.inr (d, τ1), a, b))
def K_prod (π : PPar) (one : TKS → Option (KRs Den)) : TKS → Option (KRs Den) := K_chn π 42 47 (K_power π one)
def K_sum (π : PPar) (one : TKS → Option (KRs Den)) : TKS → Option (KRs Den) := K_chn π 43 45 (K_prod π one)
def isCmp (s : Int32) : Bool := s == 60 || s == 62 || s == 61 || s == 35 || s == 303 || s == 304
def K_ask (π : PPar) (one : TKS → Option (KRs Den)) (ask : TKS → Option (KRs ADen)) (τ : TKS) : Option (KRs ADen) :=
  if τ.2.2.1 = 218 then
    obE (K_opens π τ) (fun e => some (.inl e, 1, 8)) (fun τ1 => obK (ask τ1) (fun e a b => some (.inl e, 2 + a, 9 + b)) (fun x τ2 a b => some (.inr (aNot x, dOpen τ2), 2 + a, 9 + b)))
  else
    obK (K_sum π one τ) (fun e a b => some (.inl e, a, b)) (fun x τ1 a b => if isCmp τ1.2.2.1 = true then ob1 (K_next π τ1) (fun τ2 => obK (K_sum π one τ2) (fun e a' b' => some (.inl e, a + 1 + a', b + 3 + b')) (fun y τ3 a' b' => some (.inr (aCmp τ1.2.2.1 x y, τ3), a + 1 + a', b + 3 + b'))) else some (.inl (1, τ1.2.1), a + 1, b + 8))
def K_bnl (π : PPar) (op : Nat) (cnd : Bool) (sub : TKS → Option (KRs ADen)) : Nat → TKS → ADen → Nat → Nat → Nat → Option (KRs ADen)
  | 0, _, _, _, _, _ => none
  | m + 1, τ, acc, n, c, s =>
    if τ.2.2.1 = nI op then
      ob1 (K_next π τ) (fun τ1 => obK (sub τ1) (fun e a b => some (.inl e, c + a, s + b)) (fun d τ2 a b => if n < 900 then K_bnl π op cnd sub m τ2 (aTwo cnd acc d) (n + 1) (c + a + adC n) (s + b + adS n) else none))
    else if n = 1 then some (.inr (acc, τ), c, s) else some (.inr (acc, τ), c + 1, s + 2)
def K_bin (π : PPar) (op : Nat) (cnd : Bool) (sub : TKS → Option (KRs ADen)) (τ : TKS) : Option (KRs ADen) :=
  obK (sub τ) (fun e a b => some (.inl e, 1 + a, 3 + b)) (fun d τ1 a b => K_bnl π op cnd sub 400 τ1 d 1 (1 + a + adC 0) (3 + b + adS 0))
def K_both (π : PPar) (ask : TKS → Option (KRs ADen)) : TKS → Option (KRs ADen) := K_bin π 217 true ask
def K_either (π : PPar) (ask : TKS → Option (KRs ADen)) : TKS → Option (KRs ADen) := K_bin π 216 false (K_both π ask)
def K_choice (π : PPar) (one : TKS → Option (KRs Den)) (ask : TKS → Option (KRs ADen)) (τ : TKS) : Option (KRs Den) :=
  obE (K_opens π τ) (fun e => some (.inl e, 1, 8)) (fun τ1 =>
  obK (K_either π ask τ1) (fun e a b => some (.inl e, 1 + a, 8 + b)) (fun q τ2 a b =>
  obE (K_want π 213 τ2) (fun e => some (.inl e, 1 + a + 1, 8 + b + 8)) (fun τ3 =>
  obK (K_sum π one τ3) (fun e a1 b1 => some (.inl e, 1 + a + 1 + a1, 8 + b + 8 + b1)) (fun x τ4 a1 b1 =>
  obE (K_want π 214 τ4) (fun e => some (.inl e, 1 + a + 1 + a1 + 1, 8 + b + 8 + b1 + 8)) (fun τ5 =>
  obK (K_sum π one τ5) (fun e a2 b2 => some (.inl e, 1 + a + 1 + a1 + 1 + a2, 8 + b + 8 + b1 + 8 + b2)) (fun y τ6 a2 b2 =>
  obE (K_want π 215 τ6) (fun e => some (.inl e, 1 + a + 1 + a1 + 1 + a2 + 1, 8 + b + 8 + b1 + 8 + b2 + 8)) (fun τ7 =>
  some (.inr (dIte q x y, dOpen τ7), 1 + a + 1 + a1 + 1 + a2 + 1 + 1, 8 + b + 8 + b1 + 8 + b2 + 8 + 3))))))))
def K_after (π : PPar) (one : TKS → Option (KRs Den)) (τ : TKS) : Option (KRs Den) :=
  obE (K_opens π τ) (fun e => some (.inl e, 1, 8)) (fun τ1 =>
  obK (one τ1) (fun e a b => some (.inl e, 1 + a, 8 + b)) (fun x τ2 a b =>
  obE (K_want π 211 τ2) (fun e => some (.inl e, 1 + a + 1, 8 + b + 8)) (fun τ3 =>
  obK (one τ3) (fun e a1 b1 => some (.inl e, 1 + a + 1 + a1, 8 + b + 8 + b1)) (fun y τ4 a1 b1 =>
  some (.inr (dAfter x y, dOpen τ4), 1 + a + 1 + a1 + 1, 8 + b + 8 + b1 + 2)))))
def K_one (π : PPar) (one : TKS → Option (KRs Den)) (ask : TKS → Option (KRs ADen)) (τ : TKS) : Option (KRs Den) :=
  if τ.2.2.1 = 300 then obE (K_number π 0 9999 τ) (fun e => some (.inl e, 2, 9)) (fun x => some (.inr (dPlain x.1, x.2), 2, 9))
  else if τ.2.2.1 = 212 then K_choice π one ask τ
  else if τ.2.2.1 = 210 then K_after π one τ
  else if kNm τ.2.2.1 kNAMED 0 = -1 then
    (if τ.2.2.1 = 40 then
      obE (K_opens π τ) (fun e => some (.inl e, 1, 8)) (fun τ1 =>
      obK (K_sum π one τ1) (fun e a b => some (.inl e, 1 + a, 8 + b)) (fun x τ2 a b =>
      obE (K_want π 41 τ2) (fun e => some (.inl e, 1 + a + 1, 8 + b + 8)) (fun τ3 => some (.inr (x, dOpen τ3), 1 + a + 1, 8 + b + 8))))
    else if τ.2.2.1 = 45 then
      obE (K_opens π τ) (fun e => some (.inl e, 1, 8)) (fun τ1 =>
      obK (one τ1) (fun e a b => some (.inl e, 2 + a, 9 + b)) (fun x τ2 a b => some (.inr (dMinus x, dOpen τ2), 2 + a, 9 + b)))
    else some (.inl (1, τ.2.1), 1, 8))
  else ob1 (K_mayName τ.2.2.2.2.2 (kNm τ.2.2.1 kNAMED 0)) (fun g => if g = 0 then some (.inl (5, τ.2.1), 1, 8) else ob1 (K_next π τ) (fun τ1 => some (.inr (dName (kNm τ.2.2.1 kNAMED 0), τ1), 1, 1)))
/-- one and ask, so deep -/
def K_pair (π : PPar) : Nat → (TKS → Option (KRs Den)) × (TKS → Option (KRs ADen))
  | 0 => (fun _ => none, fun _ => none)
  | d + 1 => (K_one π (K_pair π d).1 (K_pair π d).2, K_ask π (K_pair π d).1 (K_pair π d).2)
theorem K_chl_up {π : PPar} {o1 o2 : Nat} {sub : TKS → Option (KRs Den)} : ∀ {m : Nat} {τ : TKS} {acc : Den} {n c s : Nat} {r : KRs Den}, K_chl π o1 o2 sub m τ acc n c s = some r → c ≤ r.2.1 ∧ s ≤ r.2.2 := by
  intro m
  induction m with
  | zero => intro τ acc n c s r h; cases h
  | succ m ih =>
    intro τ acc n c s r h
    have go : ∀ o : Nat, ob1 (K_next π τ) (fun τ1 => obK (sub τ1) (fun e a b => some (.inl e, c + a, s + b)) (fun d τ2 a b => if n < 900 then K_chl π o1 o2 sub m τ2 (dBin (nI o) acc d) (n + 1) (c + a + 2 * adC n) (s + b + 2 * adS n) else none)) = some r → c ≤ r.2.1 ∧ s ≤ r.2.2 := by
      intro o h
      obtain ⟨τ1, -, h⟩ := ob1_some h
      rcases obK_some h with ⟨e, a, b, -, h⟩ | ⟨d, τ2, a, b, -, h⟩
      · cases h
        exact ⟨Nat.le_add_right _ _, Nat.le_add_right _ _⟩
      · split at h
        · have := ih h
          omega
        · cases h
    unfold K_chl at h
    split at h
    · exact go o1 h
    · split at h
      · exact go o2 h
      · cases h
        exact ⟨Nat.le_refl _, Nat.le_refl _⟩
theorem K_pwl_up {π : PPar} {sub : TKS → Option (KRs Den)} : ∀ {m : Nat} {τ : TKS} {acc : Den} {n c s : Nat} {r : KRs Den}, K_pwl π sub m τ acc n c s = some r → c ≤ r.2.1 ∧ s ≤ r.2.2 := by
  intro m
  induction m with
  | zero => intro τ acc n c s r h; cases h
  | succ m ih =>
    intro τ acc n c s r h
    unfold K_pwl at h
    split at h
    · obtain ⟨τ1, -, h⟩ := ob1_some h
      rcases obK_some h with ⟨e, a, b, -, h⟩ | ⟨d, τ2, a, b, -, h⟩
      · cases h
        exact ⟨Nat.le_add_right _ _, Nat.le_add_right _ _⟩
      · split at h
        · have := ih h
          omega
        · cases h
    · cases h
      exact ⟨Nat.le_refl _, Nat.le_refl _⟩
theorem K_bnl_up {π : PPar} {op : Nat} {cnd : Bool} {sub : TKS → Option (KRs ADen)} : ∀ {m : Nat} {τ : TKS} {acc : ADen} {n c s : Nat} {r : KRs ADen}, K_bnl π op cnd sub m τ acc n c s = some r → c ≤ r.2.1 ∧ s ≤ r.2.2 := by
  intro m
  induction m with
  | zero => intro τ acc n c s r h; cases h
  | succ m ih =>
    intro τ acc n c s r h
    unfold K_bnl at h
    split at h
    · obtain ⟨τ1, -, h⟩ := ob1_some h
      rcases obK_some h with ⟨e, a, b, -, h⟩ | ⟨d, τ2, a, b, -, h⟩
      · cases h
        exact ⟨Nat.le_add_right _ _, Nat.le_add_right _ _⟩
      · split at h
        · have := ih h
          omega
        · cases h
    · split at h
      · cases h
        exact ⟨Nat.le_refl _, Nat.le_refl _⟩
      · cases h
        exact ⟨Nat.le_add_right _ _, Nat.le_add_right _ _⟩
