/-! A STATE is made -/
set_option maxRecDepth 100000
section IAG
variable {ρ : Type} {K : KT} {Q : ρ → State → Prop} {comp A B : Option ρ} {nL : Nat} {I : Heap → List Loc → Prop} {cs sl pc : Nat} {ls : List (Nat × Value)} {st : List Value} {cc : ByteArray} {rm : Room} {ret : Option FieldType} {Γ : CG} {own : String}
theorem x_iastG (hk : KOK K cc nL own rm ret) {cA : ClassId} {n a j : Nat} {f : Nat → Int32} {i v : Int32} (hA : ArrOfT (kS K) cA .int) (hcell : ∀ H locs, I H locs → H[a]? = some (arrV cA n (fun j => .int (f j)))) (hin : inb i n = true) (hj : i.toNatClampNeg = j) (hd : decode cc pc = .ok (.iastore, 1)) (kk : GGo K Q comp nL (fun H1 locs1 => ∃ H locs, I H locs ∧ H1[a]? = some (arrV cA n (fun q => .int (upd f j v q))) ∧ H1.size = H.size ∧ (∀ q : Nat, q ≠ a → H1[q]? = H[q]?) ∧ ∀ l ∈ locs1, l ∈ locs ∨ l.base = a) cs sl (pc + 1) ls st) : GGo K Q comp nL I cs sl pc ls (.int v :: .int i :: .ref a :: st) := by
  subst hj
  intro r hr H locs lsA hI hh
  have hv := inb_vp hin
  refine W.iast hk.1 hk.2.1 (hcell H locs hI) (hA n _) (fun q => by cases q) (by rw [arrV_size]; exact hv) rfl rfl hd fun H1 e z oq => ?_
  refine kk r hr H1 _ lsA ⟨H, locs, hI, ?_, z, oq, fun l h => (List.mem_append.mp h).elim Or.inl (fun e => Or.inr (by rw [List.mem_singleton.mp e]))⟩ hh
  rw [e, arrV_store, ← updV_upd]
end IAG
theorem arrV_ext {cA : ClassId} {n : Nat} {f g : Nat → Value} (h : ∀ j, j < n → f j = g j) : arrV cA n f = arrV cA n g :=
  arrV_of rfl rfl (arrV_size _ _ _) (fun j hj => by rw [arrV_read _ _ hj, h j hj]) rfl rfl
def rm_x_fi : Room := { frames := 1, cells := 0, slots := 0, locals := 40 }
/-- an array of ints is filled -/
theorem o_fill {Γ : CG} {tx : TXs Tx} {H0 : Heap} {a n : Nat} {f : Nat → Int32} {v : Int32} (hn : n < 1000) (hc : H0[a]? = some (arrV (gC Γ 0) n (fun j => .int (f j)))) : OMet Γ tx yJ0_fill cJ0_fill 4 none rm_x_fi [.ref a, .int v] H0 (fun _ => True) (fun q => q = a) none (fun H1 => H1.size = H0.size ∧ H1[a]? = some (arrV (gC Γ 0) n (fun _ => .int v))) := by
  refine o_met (own := RJ0) rfl (by decide) rfl (ls0 := [(0, .ref a), (1, .int v)]) rfl (fun K hk hK hH hE _ => ?_)
  have hA := (hK.1.2 0 _ rfl).1
  refine g_iconst (pc := 0) (v := 0) hk dJ0_fill_0 rfl ?_
  refine g_istore_n (pc := 1) (i := 2) hk dJ0_fill_1 rfl (by decide) rfl ?_
  refine g_aload_n (pc := 2) hk dJ0_fill_2 rfl ?_
  refine x_alenA (pc := 3) (n := n) hk (fun H locs hI => by rw [hI.2.2]; exact hc) hA (by omega) dJ0_fill_3 ?_
  refine g_istore_n (pc := 4) (i := 3) hk dJ0_fill_4 rfl (by decide) rfl ?_
  have lp : ∀ d m, m + d = n → GGo K (oQ K (fun q => q = a) rm_x_fi none (fun H1 => H1.size = H0.size ∧ H1[a]? = some (arrV (gC Γ 0) n (fun _ => .int v)))) (some ()) 4 (OW K (fun q => q = a) (fun H => H.size = H0.size ∧ H[a]? = some (arrV (gC Γ 0) n (fun j => .int (if j < m then v else f j))))) 0 0 5 [(0, .ref a), (1, .int v), (2, .int (nI m)), (3, .int (nI n))] [] := by
    intro d
    induction d with
    | zero =>
      intro m hm
      refine g_iload_n (pc := 5) hk dJ0_fill_5 rfl ?_
      refine g_iload_n (pc := 6) hk dJ0_fill_6 rfl ?_
      refine g_no (c := nI m < nI n) (nI_nlt (by omega) (by omega)) ?_
      refine g_icmp_ge (pc := 7) (tgt := 20) hk dJ0_fill_7 rfl ?_ g_none
      exact o_vret (pc := 20) hk (fun H e => ⟨e.1, by rw [e.2]; exact congrArg some (arrV_ext (fun j hj => by rw [if_pos (by omega)]))⟩) dJ0_fill_20 (Nat.zero_le _) (Nat.zero_le _)
    | succ d ih =>
      intro m hm
      refine g_iload_n (pc := 5) hk dJ0_fill_5 rfl ?_
      refine g_iload_n (pc := 6) hk dJ0_fill_6 rfl ?_
      refine g_yes (c := nI m < nI n) (nI_lt (by omega) (by omega)) ?_
      refine g_icmp_ge (pc := 7) (tgt := 20) hk dJ0_fill_7 rfl g_none ?_
      refine g_aload_n (pc := 10) hk dJ0_fill_10 rfl ?_
      refine g_iload_n (pc := 11) hk dJ0_fill_11 rfl ?_
      refine g_iload_n (pc := 12) hk dJ0_fill_12 rfl ?_
      refine x_iastG (pc := 13) (n := n) (j := m) hk hA (fun H locs hI => hI.2.2.2) (inb_nI (by omega) (by omega)) (nI_clamp (by omega)) dJ0_fill_13 ?_
      refine g_I (I' := OW K (fun q => q = a) (fun H => H.size = H0.size ∧ H[a]? = some (arrV (gC Γ 0) n (fun j => .int (if j < m + 1 then v else f j))))) (fun H1 locs1 hI => ?_) ?_
      · obtain ⟨H, locs, ⟨⟨h1, h2⟩, h3, h4, h5⟩, h6, h7, h8, h9⟩ := hI
        refine ⟨⟨by omega, fun q hq hn9 => (h8 q hn9).trans (h2 q hq hn9)⟩, fun l hl => (h9 l hl).elim (h3 l) Or.inl, by omega, ?_⟩
        rw [h6]
        refine congrArg some (arrV_ext (fun j hj => ?_))
        simp only [upd]
        by_cases e : j = m
        · rw [if_pos e, if_pos (by omega)]
        · rw [if_neg e]
          by_cases e2 : j < m
          · rw [if_pos e2, if_pos (by omega)]
          · rw [if_neg e2, if_neg (by omega)]
      refine g_iinc (pc := 14) (v := 1) hk dJ0_fill_14 rfl rfl (by decide) rfl ?_
      refine g_goto (pc := 17) (tgt := 5) hk dJ0_fill_17 rfl ?_
      refine g_ls (ls' := [(0, .ref a), (1, .int v), (2, .int (nI (m + 1))), (3, .int (nI n))]) ⟨rfl, rfl, by rw [nI_succ]; rfl, rfl, trivial⟩ ?_
      exact ih (m + 1) (by omega)
  refine g_ls (ls' := [(0, .ref a), (1, .int v), (2, .int (nI 0)), (3, .int (nI n))]) ⟨rfl, rfl, rfl, rfl, trivial⟩ ?_
  refine g_I (fun H locs hI => ?_) (lp n 0 (by omega))
  obtain ⟨h1, h2, h3⟩ := hI
  refine ⟨h1, h2, by rw [h3], ?_⟩
  rw [h3, hc]
  exact congrArg some (arrV_ext (fun j _ => by rw [if_neg (by omega)]))
