/-! ===== M: a test is told ===== -/
def PGt (t : Int → Int) (n : Int) (d : Nat) (K2 : Int → QQ) (h0 : AH) (k : Int) (w cs : List Int) (o : Int) : Prop := MTb w cs k o → ∀ z2 h, MQs false t n k [] w cs o h → Off WZ h0 h → wpB (d + 8) 372 0 [some (.inr (.inr 1036))] [] h (K2 z2)
def PEt (t : Int → Int) (n : Int) (d : Nat) (K2 : Int → QQ) (h0 : AH) (k : Int) (w cs : List Int) (o : Int) : Prop := PGt t n d K2 h0 k (z12 w).2 (cs ++ (z12 w).1) (o - (z12 w).1.length)
def PAt (t : Int → Int) (n : Int) (d : Nat) (Q : QQ) (h0 : AH) (k : Int) (w cs : List Int) (o : Int) : Prop := MTb w cs k o → ∀ h tl, MQs false t n k [] w cs o h → Off WZ h0 h → tl.length ≤ 1 → wpB (d + 9) 369 2 (some (.inr (.inr 1036)) :: some (.inl 1) :: tl) [] h Q
def FFt (Q : QQ) (R : (Int × Int) ⊕ (Int × List Int)) (h0 : AH) (a b : Int) : Prop := R = .inl (a, b) ∧ ∀ h, BX a b h → Off WZ h0 h → Q (.inl none) h
def PZt (t : Int → Int) (n : Int) (Q : QQ) (h0 : AH) (k : Int) (c : List Int) (o : Int) : Prop := (c.length : Int) ≤ 1600 → ∀ h, MQs false t n k [] [] c o h → Off WZ h0 h → Q (.inl none) h
section TQ2
variable {d : Nat} {h h0 : AH} {Q : QQ} {x y z m k s l a b c v n p r o : Int} {t : Int → Int} {hm : Bool} {w0 w cs W : List Int} {K2 : Int → QQ} {R : (Int × Int) ⊕ (Int × List Int)}
set_option maxHeartbeats 4000000
theorem z12_ct : ∀ (w : List Int), ((z12 w).1.length : Int) + zoc (z12 w).2 = zoc w ∧ (z12 w).1.length + (z12 w).2.length = w.length ∧ (∀ v ∈ (z12 w).2, v ∈ w)
  | [] => by simp [z12, zoc]
  | v :: w => by
    have := z12_ct w
    unfold z12
    by_cases g : v = 12
    · rw [if_pos g]; simp only [zoc, List.length_cons]; rw [if_pos (by omega)]
      exact ⟨by omega, by omega, fun u hu => List.mem_cons_of_mem _ (this.2.2 u hu)⟩
    · rw [if_neg g]; simp
theorem zd25_ct : ∀ (w : List Int), zsq w = true → zoc (zd25 w).2 + 1 ≤ zoc w ∧ (zd25 w).1.length + (zd25 w).2.length + 1 = w.length ∧ (∀ v ∈ (zd25 w).2, v ∈ w)
  | [], e => by cases e
  | v :: w, e => by
    unfold zd25
    by_cases g : v = 25
    · rw [if_pos g]; simp only [zoc, List.length_cons, List.length_nil]; rw [if_pos (by omega)]
      exact ⟨by omega, by omega, fun u hu => List.mem_cons_of_mem _ hu⟩
    · simp only [zsq] at e
      rw [if_neg g] at e
      have := zd25_ct w e
      rw [if_neg g]; simp only [zoc, List.length_cons]
      refine ⟨by split <;> omega, by omega, fun u hu => List.mem_cons_of_mem _ (this.2.2 u hu)⟩
theorem zdn_ct {m : Int} : ∀ (w : List Int), zoc (zdn m w).2 ≤ zoc w ∧ (zdn m w).1.length + (zdn m w).2.length = w.length ∧ (∀ v ∈ (zdn m w).2, v ∈ w)
  | [] => by simp [zdn, zoc]
  | v :: w => by
    have := @zdn_ct m w
    unfold zdn
    by_cases g : 10 ≤ v ∧ v ≤ m
    · rw [if_pos g]; simp only [zoc, List.length_cons]
      exact ⟨by split <;> omega, by omega, fun u hu => List.mem_cons_of_mem _ (this.2.2 u hu)⟩
    · rw [if_neg g]; simp
theorem sEt : ∀ k w cs o, SEt (PEt t n d K2 h0) (PGt t n d K2 h0) k w cs o → PEt t n d K2 h0 k w cs o := by
  intro k w cs o hS
  unfold SEt at hS
  unfold PEt at hS ⊢
  match w, hS with
  | [], hS =>
    simp only [z12, List.append_nil, List.length_nil, Int.natCast_zero, Int.cast_ofNat_Int, Int.sub_zero]
    exact hS
  | v :: w, hS =>
    simp only at hS
    simp only [z12]
    by_cases g : v = 12
    · rw [if_pos g] at hS ⊢
      simp only [List.append_assoc, List.cons_append, List.nil_append, List.length_cons] at hS ⊢
      have e : o - ((z12 w).1.length + 1 : Nat) = o - 1 - ((z12 w).1.length : Int) := by omega
      rw [e]; exact hS
    · rw [if_neg g] at hS ⊢
      simp only [List.append_nil, List.length_nil, Int.natCast_zero, Int.cast_ofNat_Int, Int.sub_zero]
      exact hS
theorem zon2_w : zon2 v (w ++ []) = match w with | [] => 0 | x :: _ => if x = v then 1 else 0 := by
  rw [List.append_nil]; cases w <;> rfl
theorem l_371 {R' C : List Int} {O : Int} (hq : ∀ h', MQs false t n k [] R' C O h' → Off WZ h h' → Q (.inl none) h') : ∀ (w cs : List Int) (o : Int) h', MQs false t n k [] w cs o h' → Off WZ h h' → (cs.length : Int) + w.length ≤ 1690 → (z12 w).1.length ≤ o → o ≤ 6 → (z12 w).2 = R' → cs ++ (z12 w).1 = C → o - (z12 w).1.length = O → wpB (d + 2) 371 0 [some (.inr (.inr 1036))] [] h' Q := by
  intro w
  induction w with
  | nil =>
    intro cs o h' hQ hO hl ho ho2 e1 e2 e3
    have h5 := hQ.1.2.2.2.2.1
    have hM := hQ.1.1
    simp only [z12, List.append_nil, List.length_nil, Int.natCast_zero, Int.cast_ofNat_Int, Int.sub_zero] at e1 e2 e3
    rw [← e1, ← e2, ← e3] at hq
    have c75 := fun {Q} => @c_275 (d + 1) h' Q k 12 n o t false [] [] cs hQ (by simp)
    simp only [zon2_w] at c75
    simp (disch := omega) only [q_371_0, b_371_0, q_371_33, b_371_33, ↓w_iconst, ↓w_bipush, ↓w_aload_n_0, ↓w_dup_i, ↓w_dup_a, ↓w_isub, ↓w_getfield, ↓w_putfield_0, ↓w_goto, ↓w_ifCond_eq, ↓w_ifCond_ne, ↓w_return, ↓w_invokevirtual_0, ↓w_invokevirtual_1, stw_0, stw_i, stw_l, stw_r, ofK0, ofK1, ofK2, lst1, lst2, lkill, kont_none, kont_some, Int.reduceToNat, List.length_cons, List.length_nil, Nat.reduceAdd, Nat.reduceLeDiff, Nat.zero_le, true_and, and_true, if_true, if_false, ne_eq, Int.reduceEq, Int.reduceNeg, not_false_eq_true, not_true_eq_false, ↓reduceIte, Int.reduceLT, Int.reduceLE, and_self, or_true, true_or, or_false, false_or, false_and, and_false, ah_t_w, ah_m_w, ah_n_w, lst1_0, List.tail_cons, w32_i, zbd, lst2_0, mt_1036a hM, h5, c75]
    exact hq _ hQ hO
  | cons x w ih =>
    intro cs o h' hQ hO hl ho ho2 e1 e2 e3
    have h5 := hQ.1.2.2.2.2.1
    have hM := hQ.1.1
    have a6 := hQ.2.2.2.2.2.2.1
    simp only [List.length_cons] at hl
    have c75 := fun {Q} => @c_275 (d + 1) h' Q k 12 n o t false [] (x :: w) cs hQ (by simp only [List.length_cons, List.length_nil]; omega)
    simp only [zon2_w] at c75
    simp only [z12] at e1 e2 e3 ho
    rw [q_371_0]
    by_cases g : x = 12
    · rw [if_pos g] at e1 e2 e3 ho
      simp only [List.length_cons] at e3 ho
      simp (disch := omega) only [b_371_0, ↓w_iconst, ↓w_bipush, ↓w_aload_n_0, ↓w_dup_i, ↓w_dup_a, ↓w_isub, ↓w_getfield, ↓w_putfield_0, ↓w_goto, ↓w_ifCond_eq, ↓w_ifCond_ne, ↓w_invokevirtual_0, ↓w_invokevirtual_1, stw_0, stw_i, stw_l, stw_r, ofK0, ofK1, ofK2, lst1, lst2, lkill, kont_none, kont_some, Int.reduceToNat, List.length_cons, List.length_nil, Nat.reduceAdd, Nat.reduceLeDiff, Nat.zero_le, true_and, and_true, if_true, if_false, ne_eq, Int.reduceEq, Int.reduceNeg, not_false_eq_true, not_true_eq_false, ↓reduceIte, Int.reduceLT, Int.reduceLE, and_self, or_true, true_or, or_false, false_or, false_and, and_false, ah_t_w, ah_m_w, ah_n_w, lst1_0, List.tail_cons, w32_i, zbd, lst2_0, mt_1036a hM, h5, c75, g, a6]
      refine c_270 (MQ_o hQ) (by simp only [List.length_cons, List.length_nil]; omega) (fun h2 hQ2 hO2 => ?_)
      simp (disch := omega) only [b_371_0, ↓w_iconst, ↓w_bipush, ↓w_aload_n_0, ↓w_dup_i, ↓w_dup_a, ↓w_isub, ↓w_getfield, ↓w_putfield_0, ↓w_goto, ↓w_ifCond_eq, ↓w_ifCond_ne, ↓w_invokevirtual_0, ↓w_invokevirtual_1, stw_0, stw_i, stw_l, stw_r, ofK0, ofK1, ofK2, lst1, lst2, lkill, kont_none, kont_some, Int.reduceToNat, List.length_cons, List.length_nil, Nat.reduceAdd, Nat.reduceLeDiff, Nat.zero_le, true_and, and_true, if_true, if_false, ne_eq, Int.reduceEq, Int.reduceNeg, not_false_eq_true, not_true_eq_false, ↓reduceIte, Int.reduceLT, Int.reduceLE, and_self, or_true, true_or, or_false, false_or, false_and, and_false, ah_t_w, ah_m_w, ah_n_w, lst1_0, List.tail_cons, w32_i, zbd, lst2_0]
      refine ih (cs ++ [x]) (o - 1) h2 hQ2 (Off_tr hO (Off_tr (Off_w Off_rfl (by unfold WZ WQ; omega)) (Off_mono (fun r i w => Or.inl w) hO2))) (by simp only [List.length_append, List.length_cons, List.length_nil]; omega) (by omega) (by omega) e1 ?_ (by omega)
      rw [← e2]; simp
    · rw [if_neg g] at e1 e2 e3
      simp only [List.append_nil, List.length_nil, Int.natCast_zero, Int.cast_ofNat_Int, Int.sub_zero] at e2 e3
      rw [← e1, ← e2, ← e3] at hq
      simp (disch := omega) only [b_371_0, q_371_33, b_371_33, ↓w_iconst, ↓w_bipush, ↓w_aload_n_0, ↓w_dup_i, ↓w_dup_a, ↓w_isub, ↓w_getfield, ↓w_putfield_0, ↓w_goto, ↓w_ifCond_eq, ↓w_ifCond_ne, ↓w_return, ↓w_invokevirtual_0, ↓w_invokevirtual_1, stw_0, stw_i, stw_l, stw_r, ofK0, ofK1, ofK2, lst1, lst2, lkill, kont_none, kont_some, Int.reduceToNat, List.length_cons, List.length_nil, Nat.reduceAdd, Nat.reduceLeDiff, Nat.zero_le, true_and, and_true, if_true, if_false, ne_eq, Int.reduceEq, Int.reduceNeg, not_false_eq_true, not_true_eq_false, ↓reduceIte, Int.reduceLT, Int.reduceLE, and_self, or_true, true_or, or_false, false_or, false_and, and_false, ah_t_w, ah_m_w, ah_n_w, lst1_0, List.tail_cons, w32_i, zbd, lst2_0, mt_1036a hM, h5, c75, g]
      exact hq _ hQ hO
theorem c_371 (hQ : MQs false t n k [] w cs o h) (hl : (cs.length : Int) + w.length ≤ 1690) (ho : (z12 w).1.length ≤ o) (ho2 : o ≤ 6) (hq : ∀ h', MQs false t n k [] (z12 w).2 (cs ++ (z12 w).1) (o - (z12 w).1.length) h' → Off WZ h h' → Q (.inl none) h') : wpC (d + 3) 371 [.inr (.inr 1036)] h Q := by
  rw [wpC_B]; refine ⟨⟨Nat.zero_lt_succ _, Nat.le_of_ble_eq_true rfl⟩, ?_⟩; simp only [lent]
  exact l_371 hq w cs o h hQ Off_rfl hl ho ho2 rfl rfl rfl
theorem b_371 {kk pp : Int} (hB : BX kk pp h) : wpC (d + 1) 371 [.inr (.inr 1036)] h Q ↔ Q (.inl none) h := by
  have e := hB.2.1; have hk := hB.2.2.2
  apply CT_iff; apply CT_of; rw [wpC_B]; refine ⟨⟨Nat.zero_lt_succ _, Nat.le_of_ble_eq_true rfl⟩, ?_⟩; simp only [lent]
  simp (disch := omega) only [q_371_0, b_371_0, q_371_33, b_371_33, ↓w_iconst, ↓w_bipush, ↓w_aload_n_0, ↓w_dup_i, ↓w_dup_a, ↓w_isub, ↓w_getfield, ↓w_putfield_0, ↓w_goto, ↓w_ifCond_eq, ↓w_ifCond_ne, ↓w_return, ↓w_invokevirtual_0, ↓w_invokevirtual_1, stw_0, stw_i, stw_l, stw_r, ofK0, ofK1, ofK2, lst1, lst2, lkill, kont_none, kont_some, Int.reduceToNat, List.length_cons, List.length_nil, Nat.reduceAdd, Nat.reduceLeDiff, Nat.zero_le, true_and, and_true, if_true, if_false, ne_eq, Int.reduceEq, Int.reduceNeg, not_false_eq_true, not_true_eq_false, ↓reduceIte, Int.reduceLT, Int.reduceLE, and_self, or_true, true_or, or_false, false_or, false_and, and_false, ah_t_w, ah_m_w, ah_n_w, lst1_0, List.tail_cons, w32_i, zbd, lst2_0, mt_1036a hB.1, e, hk]
theorem Stk_get : ∀ {l : List Int} {i : Nat}, Stk h l → i < l.length → ah_m h 1118 i = (l.reverse).getD i 0
  | x :: l, i, hs, hi => by
    by_cases e : i = l.length
    · subst e
      rw [hs.1]; simp
    · have := Stk_get (i := i) hs.2 (by simp at hi; omega)
      rw [this]; simp only [List.reverse_cons, List.getD_eq_getElem?_getD]
      rw [List.getElem?_append_left (by simp at hi ⊢; omega)]
theorem zsq_mem : ∀ (w : List Int), zsq w = true ↔ 25 ∈ w
  | [] => by simp [zsq]
  | v :: w => by
    have := zsq_mem w
    simp only [zsq, List.mem_cons]
    by_cases g : v = 25
    · simp [g]
    · rw [if_neg g, this]; constructor
      · intro q; exact Or.inr q
      · intro q; rcases q with q | q
        · exact absurd q.symm g
        · exact q
theorem l_373 (hM : MI h) (hS : Stk h w) (e113 : ah_m h 1036 113 = w.length) (hl : (w.length : Int) ≤ 1690) : ∀ (j : Nat) (i : Nat), i + j = w.length → wpB d 373 2 [some (.inr (.inr 1036)), some (.inl i)] [] h (fun o h1 => o = .inl (some (.inl (zb (zsq ((w.reverse).drop i))))) ∧ h1 = h) := by
  intro j
  induction j with
  | zero =>
    intro i hi
    have hlt : ¬ (i : Int) < w.length := by omega
    have ed : (w.reverse).drop i = [] := List.drop_eq_nil_iff.2 (by simp; omega)
    rw [ed]
    simp (disch := omega) only [q_373_2, b_373_2, q_373_29, b_373_29, ↓w_iconst, ↓w_bipush, ↓w_aload_n_0, ↓w_iload_n_1, ↓w_getfield, ↓w_iaload, ↓w_if_icmp_ne, ↓w_if_icmp_ge, ↓w_ireturn1, stw_0, stw_i, stw_l, stw_r, ofK0, ofK1, ofK2, lst1, lst2, lkill, kont_none, kont_some, Int.reduceToNat, List.length_cons, List.length_nil, Nat.reduceAdd, Nat.reduceLeDiff, Nat.zero_le, true_and, and_true, if_true, if_false, ne_eq, Int.reduceEq, Int.reduceNeg, not_false_eq_true, not_true_eq_false, ↓reduceIte, Int.reduceLT, Int.reduceLE, and_self, or_true, true_or, or_false, false_or, false_and, and_false, ah_t_w, ah_m_w, ah_n_w, lst1_0, List.tail_cons, w32_i, zbd, lst2_0, mt_1036a hM, mt_1118a hM, mt_1118b hM, mf_112 hM, e113, hlt, zsq, zb_f]
  | succ j ih =>
    intro i hi
    have hlt : (i : Int) < w.length := by omega
    have hx := Stk_get (i := i) hS (by omega)
    have hl' : i < (w.reverse).length := by simp; omega
    have ed : (w.reverse).drop i = (w.reverse).getD i 0 :: (w.reverse).drop (i + 1) := by
      rw [List.getD_eq_getElem?_getD, List.getElem?_eq_getElem hl', Option.getD_some, List.drop_eq_getElem_cons hl']
    rw [ed]
    simp only [zsq]
    generalize (w.reverse).getD i 0 = v at *
    have ih := ih (i + 1) (by omega)
    rw [q_373_2]
    by_cases g : v = 25
    · simp (disch := omega) only [b_373_2, q_373_23, b_373_23, ↓w_iconst, ↓w_bipush, ↓w_aload_n_0, ↓w_iload_n_1, ↓w_iinc_1, ↓w_getfield, ↓w_iaload, ↓w_goto, ↓w_if_icmp_ne, ↓w_if_icmp_ge, ↓w_ireturn1, stw_0, stw_i, stw_l, stw_r, ofK0, ofK1, ofK2, lst1, lst2, lkill, kont_none, kont_some, Int.reduceToNat, List.length_cons, List.length_nil, Nat.reduceAdd, Nat.reduceLeDiff, Nat.zero_le, true_and, and_true, if_true, if_false, ne_eq, Int.reduceEq, Int.reduceNeg, not_false_eq_true, not_true_eq_false, ↓reduceIte, Int.reduceLT, Int.reduceLE, and_self, or_true, true_or, or_false, false_or, false_and, and_false, ah_t_w, ah_m_w, ah_n_w, lst1_0, List.tail_cons, w32_i, zbd, lst2_0, mt_1036a hM, mt_1118a hM, mt_1118b hM, mf_112 hM, e113, hlt, hx, g, zb_t]
    · rw [if_neg g]
      simp (disch := omega) only [b_373_2, q_373_23, b_373_23, ↓w_iconst, ↓w_bipush, ↓w_aload_n_0, ↓w_iload_n_1, ↓w_iinc_1, ↓w_getfield, ↓w_iaload, ↓w_goto, ↓w_if_icmp_ne, ↓w_if_icmp_ge, ↓w_ireturn1, stw_0, stw_i, stw_l, stw_r, ofK0, ofK1, ofK2, lst1, lst2, lkill, kont_none, kont_some, Int.reduceToNat, List.length_cons, List.length_nil, Nat.reduceAdd, Nat.reduceLeDiff, Nat.zero_le, true_and, and_true, if_true, if_false, ne_eq, Int.reduceEq, Int.reduceNeg, not_false_eq_true, not_true_eq_false, ↓reduceIte, Int.reduceLT, Int.reduceLE, and_self, or_true, true_or, or_false, false_or, false_and, and_false, ah_t_w, ah_m_w, ah_n_w, lst1_0, List.tail_cons, w32_i, zbd, lst2_0, mt_1036a hM, mt_1118a hM, mt_1118b hM, mf_112 hM, e113, hlt, hx, g]
      exact ih
theorem c_373 (hQ : MQs false t n k [] w cs o h) (hl : (w.length : Int) ≤ 1690) : wpC (d + 1) 373 [.inr (.inr 1036)] h Q ↔ Q (.inl (some (.inl (zb (zsq w))))) h := by
  obtain ⟨a0, a1, a2, a3, a4, a5, a6, a7⟩ := hQ
  rw [List.append_nil] at a1 a2
  apply CT_iff; apply CT_of; rw [wpC_B]; refine ⟨⟨Nat.zero_lt_succ _, Nat.le_of_ble_eq_true rfl⟩, ?_⟩; simp only [lent]
  simp (disch := omega) only [q_373_0, b_373_0, ↓w_iconst, ↓w_istore_n_1, ↓w_nop, stw_0, stw_i, stw_l, stw_r, ofK0, ofK1, ofK2, lst1, lst2, lkill, kont_none, kont_some, Int.reduceToNat, List.length_cons, List.length_nil, Nat.reduceAdd, Nat.reduceLeDiff, Nat.zero_le, true_and, and_true, if_true, if_false, ne_eq, Int.reduceEq, Int.reduceNeg, not_false_eq_true, not_true_eq_false, ↓reduceIte, Int.reduceLT, Int.reduceLE, and_self, or_true, true_or, or_false, false_or, false_and, and_false, ah_t_w, ah_m_w, ah_n_w, lst1_0, List.tail_cons, w32_i, zbd, lst2_0]
  have := l_373 (d := d) a0.1 a1 a2 hl w.length 0 (by omega)
  have e : zsq ((w.reverse).drop 0) = zsq w := by
    rw [List.drop_zero]
    have h1 := zsq_mem w.reverse
    have h2 := zsq_mem w
    rw [List.mem_reverse] at h1
    cases q : zsq w <;> cases q2 : zsq w.reverse <;> simp_all
  rw [e] at this
  exact this
end TQ2
