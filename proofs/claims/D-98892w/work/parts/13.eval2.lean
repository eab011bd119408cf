/-! CHAINS, ALL: loops over their lists; every sum and asking answers what it denotes -/
set_option maxRecDepth 100000
theorem ob1_asc {α β ρ : Type} {c : Option α} {f : α → Option β} {k : β → Option ρ} : ob1 (ob1 c f) k = ob1 c (fun a => ob1 (f a) k) := by
  cases c <;> rfl
def chL (v : Nat → Int32) : List (Nat × Den × Nat) → Int64 → Option Int64
  | [], a => some a
  | i :: t, a => ob1 (i.2.1 v) (fun b => ob1 (ev2 (vb_c i.1) a b) (fun a' => chL v t a'))
theorem chL_eq {v : Nat → Int32} : ∀ (items : List (Nat × Den × Nat)) (x : Den), (items.foldl (fun a i => dBin (vb_c i.1) a i.2.1) x) v = ob1 (x v) (fun a => chL v items a) := by
  intro items
  induction items with
  | nil => intro x; cases h : x v with
    | none => exact h
    | some a => exact h
  | cons i t ih =>
    intro x
    rw [List.foldl_cons, ih]
    show ob1 (dBin _ _ _ v) _ = _
    unfold dBin
    rw [ob1_asc]
    congr 1
    funext a
    rw [ob1_asc]
    rfl
theorem ev2_ob {ρ : Type} {s : Int32} {a b : Int64} {k : Int64 → Option ρ} : ob1 (ev2 s a b) k = (if s = 43 then k (cl6 (a + b)) else if s = 45 then k (cl6 (a - b)) else if s = 42 then k (cl6 (a * b)) else if s = 94 then ob1 (C_powered a b) (fun r => k (cl6 r)) else if b = 0 then k (cl6 0) else k (cl6 (a / b))) := by
  unfold ev2
  repeat' split
  all_goals (first | rfl | (rw [ob1_asc]; rfl))
def alL (v : Nat → Int32) : List (ADen × Nat) → Int32 → Option Int32
  | [], so => some so
  | i :: t, so => ob1 (i.1 v) (fun r => if r = 0 then alL v t (so + 0) else alL v t (so + 1))
def alF (c : Bool) (n : Int32) (so : Int32) : Option Int32 := match c with
  | true => if so = n then some 1 else some 0
  | false => if 0 < so then some 1 else some 0
theorem alL_key {v : Nat → Int32} {c : Bool} : ∀ (items : List (ADen × Nat)) (x : ADen) (t : Int32), (∀ t0, x v = some t0 → t0 = 0 ∨ t0 = 1) → (items.foldl (fun a i => aTwo c a i.1) x) v = some t → ∃ (t0 : Int32) (m : Nat), x v = some t0 ∧ m ≤ items.length ∧ (∀ k : Nat, alL v items (nI k) = some (nI (k + m))) ∧ (c = true → t = if t0 = 0 then 0 else if m = items.length then 1 else 0) ∧ (c = false → t = if t0 = 0 then (if m = 0 then 0 else 1) else 1) := by
  intro items
  induction items with
  | nil =>
    intro x t hx h
    have h : x v = some t := h
    refine ⟨t, 0, h, Nat.le_refl _, fun k => rfl, fun _ => ?_, fun _ => ?_⟩
    · rcases hx t h with rfl | rfl <;> rfl
    · rcases hx t h with rfl | rfl <;> rfl
  | cons i rest ih =>
    intro x t hx h
    rw [List.foldl_cons] at h
    obtain ⟨t0', m', e1, hm, hl, ht, hf⟩ := ih (aTwo c x i.1) t (by
      intro t0 h0
      obtain ⟨a, -, h0⟩ := ob1_some h0
      obtain ⟨b, -, h0⟩ := ob1_some h0
      cases h0
      unfold evT
      repeat' split
      all_goals (first | exact Or.inl rfl | exact Or.inr rfl)) h
    obtain ⟨t0, q0, e1⟩ := ob1_some e1
    obtain ⟨ti, qi, e1⟩ := ob1_some e1
    cases e1
    have w0 : (1 : Int32) ≠ 0 := by decide
    by_cases hz : ti = 0
    · refine ⟨t0, m', q0, by rw [List.length_cons]; omega, fun k => ?_, fun hc => ?_, fun hc => ?_⟩
      · show ob1 (i.1 v) _ = _
        rw [qi]
        show (if ti = 0 then _ else _) = _
        rw [if_pos hz, Int32.add_zero]
        exact hl k
      · rw [ht hc, hc, List.length_cons]
        rw [if_neg (show ¬ m' = rest.length + 1 by omega)]
        by_cases h0 : t0 = 0 <;> simp [evT, hz, h0, w0]
      · rw [hf hc, hc]
        by_cases h0 : t0 = 0 <;> simp [evT, hz, h0, w0]
    · refine ⟨t0, m' + 1, q0, by rw [List.length_cons]; omega, fun k => ?_, fun hc => ?_, fun hc => ?_⟩
      · show ob1 (i.1 v) _ = _
        rw [qi]
        show (if ti = 0 then _ else _) = _
        rw [if_neg hz, nI_1, hl (k + 1)]
        congr 2
        omega
      · rw [ht hc, hc, List.length_cons]
        by_cases h0 : t0 = 0 <;> simp [evT, hz, h0, w0]
      · rw [hf hc, hc]
        by_cases h0 : t0 = 0 <;> simp [evT, hz, h0, w0]
theorem alL_ok {v : Nat → Int32} {c : Bool} {items : List (ADen × Nat)} {x : ADen} {q0 : Nat} {t : Int32} (hne : items ≠ []) (hlen : items.length < 2 ^ 30) (hx : ∀ t0, x v = some t0 → t0 = 0 ∨ t0 = 1) (h : (items.foldl (fun a i => aTwo c a i.1) x) v = some t) : ob1 (alL v ((x, q0) :: items) 0) (fun so => alF c (nI (items.length + 1)) so) = some t := by
  obtain ⟨t0, m, e0, hm, hl, ht, hf⟩ := alL_key items x t hx h
  have hl0 : 0 < items.length := List.length_pos_iff.mpr hne
  have w0 : (1 : Int32) ≠ 0 := by decide
  show ob1 (ob1 (x v) _) _ = _
  rw [e0]
  show ob1 (if t0 = 0 then _ else _) _ = _
  rcases hx t0 e0 with rfl | rfl
  · rw [if_pos rfl, show (0 : Int32) + 0 = nI 0 from rfl, hl 0, Nat.zero_add]
    show alF c _ (nI m) = _
    cases c with
    | true =>
      unfold alF
      simp only
      rw [if_neg (fun e => by have := (nI_eq (by omega) (by omega)).mp e; omega), ht rfl, if_pos rfl]
    | false =>
      unfold alF
      simp only
      rw [hf rfl, if_pos rfl]
      by_cases hm0 : m = 0
      · rw [if_pos hm0, hm0, if_neg (by decide)]
      · rw [if_neg hm0, if_pos (nI_0 ▸ nI_lt (Nat.pos_of_ne_zero hm0) (by omega))]
  · rw [if_neg w0, show (0 : Int32) + 1 = nI 1 from rfl, hl 1]
    show alF c _ (nI (1 + m)) = _
    cases c with
    | true =>
      unfold alF
      simp only
      rw [ht rfl, if_neg w0]
      by_cases hmm : m = items.length
      · rw [if_pos hmm, if_pos (by rw [hmm, Nat.add_comm])]
      · rw [if_neg hmm, if_neg (fun e => by have := (nI_eq (by omega) (by omega)).mp e; omega)]
    | false =>
      unfold alF
      simp only
      rw [hf rfl, if_neg w0, if_pos (nI_0 ▸ nI_lt (by omega) (by omega))]
section EVAL3
variable {Γ : CG} {tx : TXs Tx} {H0 : Heap} {v : Nat → Int32} {na : Nat}
theorem e_ch_l (hΓ : DOK Γ) {Rg : Nat → Prop} {q d qf lm lg : Nat} {full : List (Nat × Den × Nat)} (h1 : va_at (gD Γ) ccl (q, .inr (5, [.ref qf, .ref lm, .ref lg])) H0) (h3 : ListAt Γ Rg H0 lm (full.map (fun i => i.2.2))) (h4 : ListAt Γ Rg H0 lg (full.map (fun i => gA Γ (1000 + i.1)))) (h5 : ∀ i ∈ full, i.1 < 256 ∧ ∀ t, i.2.1 v = some t → SMet Γ tx H0 i.2.2 na t (d + 4)) (h6 : full.length < 2 ^ 30) {K : KT} (hk : KOK K cX6_of 10 RX6 (rmK (d + 1 + 4)) (some .long)) (hK : CK Γ (kS K)) (hH : (kS K).heap = H0) (hE : gE Γ tx (kS K) H0) : ∀ (rest pre : List (Nat × Den × Nat)) (a : Int64), full = pre ++ rest → GGo K (pQ K (fun r : Int64 => some (.long r))) (chL v rest a) 10 (pI K) 0 0 14 [(0, .ref q), (1, .ref na), (2, .long a), (4, .int (nI pre.length))] [] := by
  intro rest
  have fr1 : ∀ {m a : Nat}, a ≤ 3 → m ≤ 10 → rmFit m (rmK a) (rmK (d + 1 + 4)) = true := fun {m a} h hm => rmFit_i (by show a + 1 ≤ d + 1 + 4; omega) (by show 8 + (m + 11) + 60 * a ≤ 60 * (d + 1 + 4); omega)
  induction rest with
  | nil =>
    intro pre a hf
    rw [List.append_nil] at hf
    have hn : ¬ nI pre.length < nI (full.map (fun i => i.2.2)).length := by rw [List.length_map, hf]; exact fun h => Int32.lt_irrefl h
    refine g_iload (pc := 14) hk dX6_of_14 rfl ?_
    refine g_aload_n (pc := 16) hk dX6_of_16 rfl ?_
    refine x_get (pc := 17) hk hK (ci := 5) rfl in_X6 (rd hH h1) 1 (by decide) q795 (Or.inl rfl) rfl dX6_of_17 ?_
    refine x_callV (pc := 20) (tx := tx) (rmY := rmK 1) hk hK (rd hH hE) (x_rec hK (ci := 15) rfl (rd hH h3.2.choose_spec.choose_spec.choose_spec.1)) [] _ (rd hH (l_size h3)) (lw_V q982 q692 q693 q133 q694) hv_jsize (fr1 (by omega) (by omega)) ⟨rfl, rfl⟩ rfl rfl dX6_of_20 rfl rfl ⟨Nat.zero_le _, Nat.zero_le _⟩ ?_
    refine g_no hn ?_
    refine g_icmp_ge (pc := 23) (tgt := 159) hk dX6_of_23 rfl ?_ g_none
    refine g_lload_n (pc := 159) hk dX6_of_159 rfl ?_
    exact p_lret (pc := 160) hk rfl dX6_of_160
  | cons i rest ih =>
    intro pre a hf
    have hlen : pre.length < full.length := by rw [hf, List.length_append, List.length_cons]; omega
    have hi : full[pre.length]? = some i := by rw [hf]; simp
    have hmem : i ∈ full := List.mem_of_getElem? hi
    have hy : nI pre.length < nI (full.map (fun i => i.2.2)).length := by rw [List.length_map]; exact nI_lt hlen (by omega)
    have g3 : (full.map (fun i => i.2.2))[pre.length]? = some i.2.2 := by rw [List.getElem?_map, hi]; rfl
    have g4 : (full.map (fun i => gA Γ (1000 + i.1)))[pre.length]? = some (gA Γ (1000 + i.1)) := by rw [List.getElem?_map, hi]; rfl
    have hB := rd hH (P := fun H => BXs Γ (kS K) H) (hΓ.2 _ _ _ hE)
    have hne : full.map (fun i => i.2.2) ≠ [] := fun e => by rw [e] at g3; cases g3
    have jn : ∀ (x : Int64) (ls : List (Nat × Value)), lsub ls [(0, .ref q), (1, .ref na), (4, .int (nI pre.length))] → GGo K (pQ K (fun r : Int64 => some (.long r))) (chL v rest (cl6 x)) 10 (pI K) 0 0 136 ls [.long x] := by
      intro x ls hls
      refine g_ls hls ?_
      refine g_lstore (pc := 136) (i := 8) hk dX6_of_136 (by decide) rfl ?_
      refine g_ldc2 (pc := 138) (v := (-1000000)) hk q1003 dX6_of_138 ?_
      refine g_ldc2 (pc := 141) (v := 1000000) hk q1004 dX6_of_141 ?_
      refine g_lload (pc := 144) hk dX6_of_144 rfl ?_
      refine g_l_min (pc := 146) hk q1005 rfl (Nat.ble_eq.mpr (by show 1 ≤ d + 1 + 4; omega)) (Nat.ble_eq.mpr (by show 40 ≤ 60 * (d + 1 + 4); omega)) dX6_of_146 ⟨rfl, rfl⟩ ?_
      refine g_l_max (pc := 149) hk q1006 rfl (Nat.ble_eq.mpr (by show 1 ≤ d + 1 + 4; omega)) (Nat.ble_eq.mpr (by show 40 ≤ 60 * (d + 1 + 4); omega)) dX6_of_149 ⟨rfl, rfl⟩ ?_
      refine g_lstore_n (pc := 152) (i := 2) hk dX6_of_152 rfl (by decide) rfl ?_
      refine g_iinc (pc := 153) (v := 1) hk dX6_of_153 rfl rfl (by decide) rfl ?_
      refine g_goto (pc := 156) (tgt := 14) hk dX6_of_156 rfl ?_
      have := ih (pre ++ [i]) (cl6 x) (by rw [hf, List.append_assoc]; rfl)
      rw [List.length_append, List.length_singleton, ← nI_1] at this
      exact g_ls (ls' := [(0, .ref q), (1, .ref na), (2, .long (cl6 x)), (4, .int (nI pre.length + 1))]) ⟨rfl, rfl, rfl, rfl, trivial⟩ this
    unfold chL
    refine g_ob1 (fun b hb => ?_)
    rw [ev2_ob]
    refine g_iload (pc := 14) hk dX6_of_14 rfl ?_
    refine g_aload_n (pc := 16) hk dX6_of_16 rfl ?_
    refine x_get (pc := 17) hk hK (ci := 5) rfl in_X6 (rd hH h1) 1 (by decide) q795 (Or.inl rfl) rfl dX6_of_17 ?_
    refine x_callV (pc := 20) (tx := tx) (rmY := rmK 1) hk hK (rd hH hE) (x_rec hK (ci := 15) rfl (rd hH h3.2.choose_spec.choose_spec.choose_spec.1)) [] _ (rd hH (l_size h3)) (lw_V q982 q692 q693 q133 q694) hv_jsize (fr1 (by omega) (by omega)) ⟨rfl, rfl⟩ rfl rfl dX6_of_20 rfl rfl ⟨Nat.zero_le _, Nat.zero_le _⟩ ?_
    refine g_yes hy ?_
    refine g_icmp_ge (pc := 23) (tgt := 159) hk dX6_of_23 rfl g_none ?_
    refine g_aload_n (pc := 26) hk dX6_of_26 rfl ?_
    refine x_get (pc := 27) hk hK (ci := 5) rfl in_X6 (rd hH h1) 1 (by decide) q795 (Or.inl rfl) rfl dX6_of_27 ?_
    refine g_iload (pc := 30) hk dX6_of_30 rfl ?_
    refine x_callV (pc := 32) (tx := tx) (rmY := rmK 3) hk hK (rd hH hE) (x_rec hK (ci := 15) rfl (rd hH h3.2.choose_spec.choose_spec.choose_spec.1)) [.int (nI pre.length)] _ (rd hH (l_get h3 g3)) (lw_V q983 q696 q697 q133 q698) hv_jget (fr1 (by omega) (by omega)) ⟨rfl, rfl⟩ rfl rfl dX6_of_32 rfl rfl ⟨Nat.zero_le _, Nat.zero_le _⟩ ?_
    refine x_castS (pc := 35) hΓ hk hK (rd hH ((h5 i hmem).2 b hb)) q984 dX6_of_35 ?_
    refine g_aload_n (pc := 38) hk dX6_of_38 rfl ?_
    refine scall_X6 (pc := 39) hΓ hk hK (rd hH hE) (rd hH ((h5 i hmem).2 b hb)) (hk_i2 (b := 0)) rfl dX6_of_39 ⟨Nat.zero_le _, Nat.zero_le _⟩ ?_
    refine g_lstore (pc := 44) (i := 5) hk dX6_of_44 (by decide) rfl ?_
    refine g_aload_n (pc := 46) hk dX6_of_46 rfl ?_
    refine x_get (pc := 47) hk hK (ci := 5) rfl in_X6 (rd hH h1) 2 (by decide) q796 (Or.inl rfl) rfl dX6_of_47 ?_
    refine g_iload (pc := 50) hk dX6_of_50 rfl ?_
    refine x_callV (pc := 52) (tx := tx) (rmY := rmK 3) hk hK (rd hH hE) (x_rec hK (ci := 15) rfl (rd hH h4.2.choose_spec.choose_spec.choose_spec.1)) [.int (nI pre.length)] _ (rd hH (l_get h4 g4)) (lw_V q983 q696 q697 q133 q698) hv_jget (fr1 (by omega) (by omega)) ⟨rfl, rfl⟩ rfl rfl dX6_of_52 rfl rfl ⟨Nat.zero_le _, Nat.zero_le _⟩ ?_
    refine x_castI (pc := 55) hk hB (h5 i hmem).1 q985 dX6_of_55 ?_
    refine x_callV (pc := 58) (tx := tx) (rmY := rmK 1) (C := RJ15) hk hK (rd hH hE) (fun H locs hI => by obtain ⟨cell, z1, z2, z3, -⟩ := (hB H locs hI).1 i.1 (h5 i hmem).1; exact ⟨cell, z1, z2, z3⟩) [] _ (rd hH (e_intValue hΓ (h5 i hmem).1)) (lw_V q986 q987 q988 q155 q989) hv_intValue (fr1 (by omega) (by omega)) ⟨rfl, rfl⟩ rfl rfl dX6_of_58 rfl rfl ⟨Nat.zero_le _, Nat.zero_le _⟩ ?_
    refine g_ls (ls' := [(0, .ref q), (1, .ref na), (2, .long a), (4, .int (nI pre.length)), (5, .long b)]) ⟨rfl, rfl, rfl, rfl, rfl, trivial⟩ ?_
    refine g_istore (pc := 61) (i := 7) hk dX6_of_61 (by decide) rfl ?_
    refine g_iload (pc := 63) hk dX6_of_63 rfl ?_
    refine g_bipush (pc := 65) (v := 43) hk dX6_of_65 rfl ?_
    refine g_icmp_ne (pc := 67) (tgt := 77) hk dX6_of_67 rfl ?_ ?_
    · refine g_iload (pc := 77) hk dX6_of_77 rfl ?_
      refine g_bipush (pc := 79) (v := 45) hk dX6_of_79 rfl ?_
      refine g_icmp_ne (pc := 81) (tgt := 91) hk dX6_of_81 rfl ?_ ?_
      · refine g_iload (pc := 91) hk dX6_of_91 rfl ?_
        refine g_bipush (pc := 93) (v := 42) hk dX6_of_93 rfl ?_
        refine g_icmp_ne (pc := 95) (tgt := 105) hk dX6_of_95 rfl ?_ ?_
        · refine g_iload (pc := 105) hk dX6_of_105 rfl ?_
          refine g_bipush (pc := 107) (v := 94) hk dX6_of_107 rfl ?_
          refine g_icmp_ne (pc := 109) (tgt := 121) hk dX6_of_109 rfl ?_ ?_
          · refine g_if (fun hb0 => ?_) (fun hb0 => ?_)
            · refine g_lload (pc := 121) hk dX6_of_121 rfl ?_
              refine g_lconst (pc := 123) (v := 0) hk dX6_of_123 rfl ?_
              refine g_yes hb0 ?_
              refine g_lcmp_ne (pc := 124) (tgt := 132) hk dX6_of_124 dX6_of_125 rfl g_none ?_
              refine g_lconst (pc := 128) (v := 0) hk dX6_of_128 rfl ?_
              refine g_goto (pc := 129) (tgt := 136) hk dX6_of_129 rfl ?_
              exact jn _ _ ⟨rfl, rfl, rfl, trivial⟩
            · refine g_lload (pc := 121) hk dX6_of_121 rfl ?_
              refine g_lconst (pc := 123) (v := 0) hk dX6_of_123 rfl ?_
              refine g_no hb0 ?_
              refine g_lcmp_ne (pc := 124) (tgt := 132) hk dX6_of_124 dX6_of_125 rfl ?_ g_none
              refine g_lload_n (pc := 132) hk dX6_of_132 rfl ?_
              refine g_lload (pc := 133) hk dX6_of_133 rfl ?_
              refine g_ldiv (pc := 135) hk dX6_of_135 hb0 ?_
              exact jn _ _ ⟨rfl, rfl, rfl, trivial⟩
          · refine g_lload_n (pc := 112) hk dX6_of_112 rfl ?_
            refine g_lload (pc := 113) hk dX6_of_113 rfl ?_
            refine g_ob1 (fun p hp => ?_)
            refine g_callPN (pc := 115) hk hK [.long a, .long b] [] (cm_powered a b p hp) cn_990 q991 q124 q992 hs_powered (rmFit_i (by show 2 + 1 ≤ d + 1 + 4; omega) (by show 8 + (8 + 11) + 63 ≤ 60 * (d + 1 + 4); omega)) ⟨rfl, rfl⟩ rfl rfl dX6_of_115 rfl rfl ⟨Nat.zero_le _, Nat.zero_le _⟩ ?_
            refine g_goto (pc := 118) (tgt := 136) hk dX6_of_118 rfl ?_
            exact jn _ _ ⟨rfl, rfl, rfl, trivial⟩
        · refine g_lload_n (pc := 98) hk dX6_of_98 rfl ?_
          refine g_lload (pc := 99) hk dX6_of_99 rfl ?_
          refine g_lmul (pc := 101) hk dX6_of_101 ?_
          refine g_goto (pc := 102) (tgt := 136) hk dX6_of_102 rfl ?_
          exact jn _ _ ⟨rfl, rfl, rfl, trivial⟩
      · refine g_lload_n (pc := 84) hk dX6_of_84 rfl ?_
        refine g_lload (pc := 85) hk dX6_of_85 rfl ?_
        refine g_lsub (pc := 87) hk dX6_of_87 ?_
        refine g_goto (pc := 88) (tgt := 136) hk dX6_of_88 rfl ?_
        exact jn _ _ ⟨rfl, rfl, rfl, trivial⟩
    · refine g_lload_n (pc := 70) hk dX6_of_70 rfl ?_
      refine g_lload (pc := 71) hk dX6_of_71 rfl ?_
      refine g_ladd (pc := 73) hk dX6_of_73 ?_
      refine g_goto (pc := 74) (tgt := 136) hk dX6_of_74 rfl ?_
      exact jn _ _ ⟨rfl, rfl, rfl, trivial⟩
theorem e_chain (hΓ : DOK Γ) {Rg : Nat → Prop} {q d qf lm lg : Nat} {x : Den} {full : List (Nat × Den × Nat)} (h1 : va_at (gD Γ) ccl (q, .inr (5, [.ref qf, .ref lm, .ref lg])) H0) (ihx : ∀ t, x v = some t → SMet Γ tx H0 qf na t (d + 4)) (h3 : ListAt Γ Rg H0 lm (full.map (fun i => i.2.2))) (h4 : ListAt Γ Rg H0 lg (full.map (fun i => gA Γ (1000 + i.1)))) (h5 : ∀ i ∈ full, i.1 < 256 ∧ ∀ t, i.2.1 v = some t → SMet Γ tx H0 i.2.2 na t (d + 4)) (h6 : full.length < 2 ^ 30) {r : Int64} (hr : (full.foldl (fun a i => dBin (vb_c i.1) a i.2.1) x) v = some r) : RMet Γ tx yX6_of cX6_of 10 (some .long) (rmK (d + 1 + 4)) [.ref q, .ref na] H0 (some (.long r)) := by
  rw [chL_eq] at hr
  refine r_met (view := fun r : Int64 => some (.long r)) (own := RX6) rfl (by decide) rfl (ls0 := [(0, .ref q), (1, .ref na)]) rfl (fun K hk hK hH hE => ?_) _ hr
  refine g_ob1 (fun a ha => ?_)
  refine g_aload_n (pc := 0) hk dX6_of_0 rfl ?_
  refine x_get (pc := 1) hk hK (ci := 5) rfl in_X6 (rd hH h1) 0 (by decide) q794 (Or.inl rfl) rfl dX6_of_1 ?_
  refine g_aload_n (pc := 4) hk dX6_of_4 rfl ?_
  refine scall_X6 (pc := 5) hΓ hk hK (rd hH hE) (rd hH (ihx a ha)) (hk_i2 (b := 0)) rfl dX6_of_5 ⟨Nat.zero_le _, Nat.zero_le _⟩ ?_
  refine g_lstore_n (pc := 10) (i := 2) hk dX6_of_10 rfl (by decide) rfl ?_
  refine g_iconst (pc := 11) (v := 0) hk dX6_of_11 rfl ?_
  refine g_istore (pc := 12) (i := 4) hk dX6_of_12 (by decide) rfl ?_
  exact g_ls (ls' := [(0, .ref q), (1, .ref na), (2, .long a), (4, .int (nI ([] : List (Nat × Den × Nat)).length))]) ⟨rfl, rfl, rfl, rfl, trivial⟩ (e_ch_l hΓ h1 h3 h4 h5 h6 hk hK hH hE full [] a rfl)
theorem e_al_l (hΓ : DOK Γ) {Rg : Nat → Prop} {q d l : Nat} {c : Bool} {full : List (ADen × Nat)} (h1 : va_at (gD Γ) ccl (q, .inr (9, [.int (if c then 1 else 0), .ref l])) H0) (h3 : ListAt Γ Rg H0 l (full.map (fun i => i.2))) (h5 : ∀ i ∈ full, ∀ t, i.1 v = some t → AMet Γ tx H0 i.2 na t (d + 4)) (h6 : full.length < 2 ^ 31 - 1) {K : KT} (hk : KOK K cX10_is 4 RX10 (rmK (d + 1 + 4)) (some .boolean)) (hK : CK Γ (kS K)) (hH : (kS K).heap = H0) (hE : gE Γ tx (kS K) H0) : ∀ (rest pre : List (ADen × Nat)) (so : Int32), full = pre ++ rest → GGo K (pQ K (fun r : Int32 => some (.int r))) (ob1 (alL v rest so) (fun so => alF c (nI full.length) so)) 4 (pI K) 0 0 4 [(0, .ref q), (1, .ref na), (2, .int so), (3, .int (nI pre.length))] [] := by
  intro rest
  have fr1 : ∀ {m a : Nat}, a ≤ 3 → m ≤ 10 → rmFit m (rmK a) (rmK (d + 1 + 4)) = true := fun {m a} h hm => rmFit_i (by show a + 1 ≤ d + 1 + 4; omega) (by show 8 + (m + 11) + 60 * a ≤ 60 * (d + 1 + 4); omega)
  induction rest with
  | nil =>
    intro pre so hf
    rw [List.append_nil] at hf
    have hn : ¬ nI pre.length < nI (full.map (fun i => i.2)).length := by rw [List.length_map, hf]; exact fun h => Int32.lt_irrefl h
    show GGo K _ (alF c (nI full.length) so) _ _ _ _ _ _ _
    refine g_tl (fun t ht => ?_)
    rw [← ht]
    refine g_iload_n (pc := 4) hk dX10_is_4 rfl ?_
    refine g_aload_n (pc := 5) hk dX10_is_5 rfl ?_
    refine x_get (pc := 6) hk hK (ci := 9) rfl in_X10 (rd hH h1) 1 (by decide) q715 (Or.inl rfl) rfl dX10_is_6 ?_
    refine x_callV (pc := 9) (tx := tx) (rmY := rmK 1) hk hK (rd hH hE) (x_rec hK (ci := 15) rfl (rd hH h3.2.choose_spec.choose_spec.choose_spec.1)) [] _ (rd hH (l_size h3)) (lw_V q939 q692 q693 q133 q694) hv_jsize (fr1 (by omega) (by omega)) ⟨rfl, rfl⟩ rfl rfl dX10_is_9 rfl rfl ⟨Nat.zero_le _, Nat.zero_le _⟩ ?_
    refine g_no hn ?_
    refine g_icmp_ge (pc := 12) (tgt := 49) hk dX10_is_12 rfl ?_ g_none
    refine g_aload_n (pc := 49) hk dX10_is_49 rfl ?_
    refine x_get (pc := 50) hk hK (ci := 9) rfl in_X10 (rd hH h1) 0 (by decide) q714 (Or.inl rfl) rfl dX10_is_50 ?_
    cases c with
    | true =>
      refine g_no (c := (1 : Int32) = 0) (by decide) ?_
      refine g_if_eq (pc := 53) (tgt := 75) hk dX10_is_53 rfl g_none ?_
      refine g_iload_n (pc := 56) hk dX10_is_56 rfl ?_
      refine g_aload_n (pc := 57) hk dX10_is_57 rfl ?_
      refine x_get (pc := 58) hk hK (ci := 9) rfl in_X10 (rd hH h1) 1 (by decide) q715 (Or.inl rfl) rfl dX10_is_58 ?_
      refine x_callV (pc := 61) (tx := tx) (rmY := rmK 1) hk hK (rd hH hE) (x_rec hK (ci := 15) rfl (rd hH h3.2.choose_spec.choose_spec.choose_spec.1)) [] _ (rd hH (l_size h3)) (lw_V q939 q692 q693 q133 q694) hv_jsize (fr1 (by omega) (by omega)) ⟨rfl, rfl⟩ rfl rfl dX10_is_61 rfl rfl ⟨Nat.zero_le _, Nat.zero_le _⟩ ?_
      rw [List.length_map]
      unfold alF
      refine g_icmp_ne (pc := 64) (tgt := 71) hk dX10_is_64 rfl ?_ ?_
      · refine g_iconst (pc := 71) (v := 0) hk dX10_is_71 rfl ?_
        refine g_goto (pc := 72) (tgt := 84) hk dX10_is_72 rfl ?_
        exact p_zret (pc := 84) hk rfl rfl dX10_is_84
      · refine g_iconst (pc := 67) (v := 1) hk dX10_is_67 rfl ?_
        refine g_goto (pc := 68) (tgt := 84) hk dX10_is_68 rfl ?_
        exact p_zret (pc := 84) hk rfl rfl dX10_is_84
    | false =>
      refine g_yes (c := (0 : Int32) = 0) (by decide) ?_
      refine g_if_eq (pc := 53) (tgt := 75) hk dX10_is_53 rfl ?_ g_none
      unfold alF
      refine g_iload_n (pc := 75) hk dX10_is_75 rfl ?_
      refine g_if_le (pc := 76) (tgt := 83) hk dX10_is_76 rfl ?_ ?_
      · refine g_iconst (pc := 83) (v := 0) hk dX10_is_83 rfl ?_
        exact p_zret (pc := 84) hk rfl rfl dX10_is_84
      · refine g_iconst (pc := 79) (v := 1) hk dX10_is_79 rfl ?_
        refine g_goto (pc := 80) (tgt := 84) hk dX10_is_80 rfl ?_
        exact p_zret (pc := 84) hk rfl rfl dX10_is_84
  | cons i rest ih =>
    intro pre so hf
    have hlen : pre.length < full.length := by rw [hf, List.length_append, List.length_cons]; omega
    have hi : full[pre.length]? = some i := by rw [hf]; simp
    have hmem : i ∈ full := List.mem_of_getElem? hi
    have hy : nI pre.length < nI (full.map (fun i => i.2)).length := by rw [List.length_map]; exact nI_lt hlen (by omega)
    have g3 : (full.map (fun i => i.2))[pre.length]? = some i.2 := by rw [List.getElem?_map, hi]; rfl
    have jn : ∀ (b : Int32) (ls : List (Nat × Value)), lsub ls [(0, .ref q), (1, .ref na), (3, .int (nI pre.length))] → GGo K (pQ K (fun r : Int32 => some (.int r))) (ob1 (alL v rest (so + b)) (fun so => alF c (nI full.length) so)) 4 (pI K) 0 0 41 ls [.int b, .int so] := by
      intro b ls hls
      refine g_ls hls ?_
      refine g_iadd (pc := 41) hk dX10_is_41 ?_
      refine g_istore_n (pc := 42) (i := 2) hk dX10_is_42 rfl (by decide) rfl ?_
      refine g_iinc (pc := 43) (v := 1) hk dX10_is_43 rfl rfl (by decide) rfl ?_
      refine g_goto (pc := 46) (tgt := 4) hk dX10_is_46 rfl ?_
      have := ih (pre ++ [i]) (so + b) (by rw [hf, List.append_assoc]; rfl)
      rw [List.length_append, List.length_singleton, ← nI_1] at this
      exact g_ls (ls' := [(0, .ref q), (1, .ref na), (2, .int (so + b)), (3, .int (nI pre.length + 1))]) ⟨rfl, rfl, rfl, rfl, trivial⟩ this
    unfold alL
    rw [ob1_asc]
    refine g_ob1 (fun b hb => ?_)
    refine g_iload_n (pc := 4) hk dX10_is_4 rfl ?_
    refine g_aload_n (pc := 5) hk dX10_is_5 rfl ?_
    refine x_get (pc := 6) hk hK (ci := 9) rfl in_X10 (rd hH h1) 1 (by decide) q715 (Or.inl rfl) rfl dX10_is_6 ?_
    refine x_callV (pc := 9) (tx := tx) (rmY := rmK 1) hk hK (rd hH hE) (x_rec hK (ci := 15) rfl (rd hH h3.2.choose_spec.choose_spec.choose_spec.1)) [] _ (rd hH (l_size h3)) (lw_V q939 q692 q693 q133 q694) hv_jsize (fr1 (by omega) (by omega)) ⟨rfl, rfl⟩ rfl rfl dX10_is_9 rfl rfl ⟨Nat.zero_le _, Nat.zero_le _⟩ ?_
    refine g_yes hy ?_
    refine g_icmp_ge (pc := 12) (tgt := 49) hk dX10_is_12 rfl g_none ?_
    refine g_iload_n (pc := 15) hk dX10_is_15 rfl ?_
    refine g_aload_n (pc := 16) hk dX10_is_16 rfl ?_
    refine x_get (pc := 17) hk hK (ci := 9) rfl in_X10 (rd hH h1) 1 (by decide) q715 (Or.inl rfl) rfl dX10_is_17 ?_
    refine g_iload_n (pc := 20) hk dX10_is_20 rfl ?_
    refine x_callV (pc := 21) (tx := tx) (rmY := rmK 3) hk hK (rd hH hE) (x_rec hK (ci := 15) rfl (rd hH h3.2.choose_spec.choose_spec.choose_spec.1)) [.int (nI pre.length)] _ (rd hH (l_get h3 g3)) (lw_V q940 q696 q697 q133 q698) hv_jget (fr1 (by omega) (by omega)) ⟨rfl, rfl⟩ rfl rfl dX10_is_21 rfl rfl ⟨Nat.zero_le _, Nat.zero_le _⟩ ?_
    refine x_castA (pc := 24) hΓ hk hK (rd hH (h5 i hmem b hb)) q941 dX10_is_24 ?_
    refine g_aload_n (pc := 27) hk dX10_is_27 rfl ?_
    refine acall_X10 (pc := 28) hΓ hk hK (rd hH hE) (rd hH (h5 i hmem b hb)) (hk_i2 (b := 0)) rfl dX10_is_28 ⟨Nat.zero_le _, Nat.zero_le _⟩ ?_
    rw [show ob1 (if b = 0 then alL v rest (so + 0) else alL v rest (so + 1)) (fun so => alF c (nI full.length) so) = (if b = 0 then ob1 (alL v rest (so + 0)) (fun so => alF c (nI full.length) so) else ob1 (alL v rest (so + 1)) (fun so => alF c (nI full.length) so)) from by split <;> rfl]
    refine g_if (fun h0 => ?_) (fun h0 => ?_)
    · refine g_yes h0 ?_
      refine g_if_eq (pc := 33) (tgt := 40) hk dX10_is_33 rfl ?_ g_none
      refine g_iconst (pc := 40) (v := 0) hk dX10_is_40 rfl ?_
      exact jn 0 _ ⟨rfl, rfl, rfl, trivial⟩
    · refine g_no h0 ?_
      refine g_if_eq (pc := 33) (tgt := 40) hk dX10_is_33 rfl g_none ?_
      refine g_iconst (pc := 36) (v := 1) hk dX10_is_36 rfl ?_
      refine g_goto (pc := 37) (tgt := 41) hk dX10_is_37 rfl ?_
      exact jn 1 _ ⟨rfl, rfl, rfl, trivial⟩
theorem e_all (hΓ : DOK Γ) {Rg : Nat → Prop} {q d l q0 : Nat} {c : Bool} {x : ADen} {items : List (ADen × Nat)} (h1 : va_at (gD Γ) ccl (q, .inr (9, [.int (if c then 1 else 0), .ref l])) H0) (ihx : ∀ t, x v = some t → AMet Γ tx H0 q0 na t (d + 4)) (h01 : ∀ t, x v = some t → t = 0 ∨ t = 1) (h3 : ListAt Γ Rg H0 l (q0 :: items.map (fun i => i.2))) (h5 : ∀ i ∈ items, ∀ t, i.1 v = some t → AMet Γ tx H0 i.2 na t (d + 4)) (hne : items ≠ []) (h6 : items.length < 2 ^ 30) {r : Int32} (hr : (items.foldl (fun a i => aTwo c a i.1) x) v = some r) : RMet Γ tx yX10_is cX10_is 4 (some .boolean) (rmK (d + 1 + 4)) [.ref q, .ref na] H0 (some (.int r)) := by
  have hr2 := alL_ok (q0 := q0) hne h6 h01 hr
  refine r_met (view := fun r : Int32 => some (.int r)) (own := RX10) rfl (by decide) rfl (ls0 := [(0, .ref q), (1, .ref na)]) rfl (fun K hk hK hH hE => ?_) _ hr2
  refine g_iconst (pc := 0) (v := 0) hk dX10_is_0 rfl ?_
  refine g_istore_n (pc := 1) (i := 2) hk dX10_is_1 rfl (by decide) rfl ?_
  refine g_iconst (pc := 2) (v := 0) hk dX10_is_2 rfl ?_
  refine g_istore_n (pc := 3) (i := 3) hk dX10_is_3 rfl (by decide) rfl ?_
  exact g_ls (ls' := [(0, .ref q), (1, .ref na), (2, .int 0), (3, .int (nI ([] : List (ADen × Nat)).length))]) ⟨rfl, rfl, rfl, rfl, trivial⟩ (e_al_l hΓ h1 (full := (x, q0) :: items) h3 (fun i hi => by
    rcases List.mem_cons.mp hi with e | e
    · rw [e]; exact ihx
    · exact h5 i e) (by rw [List.length_cons]; omega) hk hK hH hE ((x, q0) :: items) [] 0 rfl)
/-- every sum, every asking answers what it denotes -/
theorem ev_ok (hΓ : DOK Γ) {Rg : Nat → Prop} (hna : H0[na]? = some (arrV (gC Γ 0) 15 (fun j => .int (v j)))) : ∀ (d k : Nat), d ≤ k → (∀ {q : Nat} {x : Den}, DAt Γ Rg H0 d (.inl x) q → ∀ t, x v = some t → SMet Γ tx H0 q na t (k + 4)) ∧ (∀ {q : Nat} {x : ADen}, DAt Γ Rg H0 d (.inr x) q → ∀ t, x v = some t → AMet Γ tx H0 q na t (k + 4)) := by
  intro d
  induction d with
  | zero =>
    intro k hk
    refine ⟨fun {q x} h t ht => ?_, fun {q x} h t ht => ?_⟩
    · obtain ⟨h0, h | h⟩ := h
      · obtain ⟨n, he, h1⟩ := h; cases he; exact Or.inl ⟨_, h1, e_plain h1 ht⟩
      · obtain ⟨n, he, h1⟩ := h; cases he; exact Or.inr (Or.inl ⟨_, h1, e_name h1 hna ht⟩)
    · obtain ⟨h0, h | h⟩ := h
      · obtain ⟨n, he, h1⟩ := h; cases he
      · obtain ⟨n, he, h1⟩ := h; cases he
  | succ d ih =>
    intro k hk
    obtain ⟨k, rfl⟩ : ∃ j, k = j + 1 := ⟨k - 1, by omega⟩
    obtain ⟨iS, iA⟩ := ih k (by omega)
    obtain ⟨jS, jA⟩ := ih (k + 1) (by omega)
    refine ⟨fun {q x} h t ht => ?_, fun {q x} h t ht => ?_⟩
    · rcases h with h | ⟨h0, h⟩
      · exact jS h t ht
      rcases h with h | h | h | h | h | h | h
      · obtain ⟨x, qx, he, h1, h2⟩ := h; cases he; exact Or.inr (Or.inr (Or.inl ⟨_, h1, e_minus hΓ h1 (iS h2) ht⟩))
      · obtain ⟨x, qf, lm, lg, items, he, h1, h2, h3, h4, h5, h6⟩ := h; cases he; exact Or.inr (Or.inr (Or.inr (Or.inl ⟨_, h1, e_chain hΓ h1 (iS h2) h3 h4 (fun i hi => ⟨(h5 i hi).1, iS (h5 i hi).2⟩) h6 ht⟩)))
      · obtain ⟨c, b, qc, qb, he, h1, h2, h3⟩ := h; cases he; exact Or.inr (Or.inr (Or.inr (Or.inr (Or.inl ⟨_, h1, e_after hΓ h1 hna (iS h2) (iS h3) ht⟩))))
      · obtain ⟨a, y, n, qq, qy, qn, he, h1, h2, h3, h4⟩ := h; cases he; exact Or.inr (Or.inr (Or.inr (Or.inr (Or.inr ⟨_, h1, e_ite hΓ h1 (iA h2) (iS h3) (iS h4) ht⟩))))
      · obtain ⟨_, _, _, _, _, he, _⟩ := h; cases he
      · obtain ⟨_, _, he, _⟩ := h; cases he
      · obtain ⟨_, _, _, _, _, he, _⟩ := h; cases he
    · rcases h with h | ⟨h0, h⟩
      · exact jA h t ht
      rcases h with h | h | h | h | h | h | h
      · obtain ⟨_, _, he, _⟩ := h; cases he
      · obtain ⟨_, _, _, _, _, he, _⟩ := h; cases he
      · obtain ⟨_, _, _, _, he, _⟩ := h; cases he
      · obtain ⟨_, _, _, _, _, _, he, _⟩ := h; cases he
      · obtain ⟨s, a, b, qa, qb, he, h1, h2, h3⟩ := h; cases he; exact Or.inl ⟨_, h1, e_cmp hΓ h1 (iS h2) (iS h3) ht⟩
      · obtain ⟨x, qx, he, h1, h2⟩ := h; cases he; exact Or.inr (Or.inl ⟨_, h1, e_not hΓ h1 (iA h2) ht⟩)
      · obtain ⟨c, x, l, q0, items, he, h1, h2, h3, h4, h5, h6⟩ := h; cases he; exact Or.inr (Or.inr ⟨_, h1, e_all hΓ h1 (iA h2) (fun t ht => aDen_01 h2 ht) h3 (fun i hi => iA (h4 i hi)) h5 h6 ht⟩)
end EVAL3
