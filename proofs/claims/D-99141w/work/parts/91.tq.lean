/-! ===== M: facts, tests ===== -/
def z12 : List Int → List Int × List Int
  | [] => ([], [])
  | v :: w => if v = 12 then (v :: (z12 w).1, (z12 w).2) else ([], v :: w)
def MTb (w cs : List Int) (k o : Int) : Prop := (cs.length : Int) + w.length ≤ k ∧ zoc w ≤ o ∧ o ≤ 6 ∧ ∀ v ∈ w, 10 ≤ v
/-- a fact without brackets or not -/
def zfc (t : Int → Int) (n k o : Int) : (Int × Int) ⊕ (Int × List Int) :=
  if zhw t n (zsk t n k) zwall = true then .inr (zsk t n k + 3, [13])
  else match zex false t n (zF n) 0 k o with
    | .inl e => .inl e
    | .inr (k1, c1) => if zB t n (zsk t n k1) = 60 ∨ zB t n (zsk t n k1) = 62 ∨ zB t n (zsk t n k1) = 61 then (match zex false t n (zF n) 0 (zsk t n k1 + 1) o with
        | .inl e => .inl e
        | .inr (k2, c2) => .inr (k2, c1 ++ (c2 ++ [if zB t n (zsk t n k1) = 60 then 7 else if zB t n (zsk t n k1) = 62 then 8 else 9])))
      else .inl (1, zsk t n k1)
section TQ
variable {d : Nat} {h h0 : AH} {Q : QQ} {x y z m k s l a b c v n p r o : Int} {t : Int → Int} {hm : Bool} {w0 w cs W : List Int}
set_option maxHeartbeats 4000000
theorem MQ_Z : MQs hm t n k [] w cs o h ↔ MZ hm t n k w cs o 0 h := by
  unfold MQs MZ; rw [List.append_nil]; exact Iff.rfl
theorem zex_sk (h0 : 0 ≤ k) (h1 : k ≤ n) : ∀ (f : Nat) (o : Int), zex hm t n f 0 (zsk t n k) o = zex hm t n f 0 k o ∧ zex hm t n f 1 (zsk t n k) o = zex hm t n f 1 k o ∧ zex hm t n f 2 (zsk t n k) o = zex hm t n f 2 k o := by
  have hs : zsk t n (zsk t n k) = zsk t n k := zsk_zsk h0 h1
  have hn : znum t n (zsk t n k) 0 9999 = znum t n k 0 9999 := by unfold znum; rw [hs]
  intro f
  induction f with
  | zero => intro o; exact ⟨rfl, rfl, rfl⟩
  | succ f ih =>
    intro o
    obtain ⟨i0, i1, i2⟩ := ih o
    refine ⟨?_, ?_, ?_⟩
    · simp only [zex, if_true]; rw [i1]
    · simp only [zex, if_true, if_false, Int.reduceEq]; rw [i2]
    · simp only [zex, if_false, Int.reduceEq]; rw [hs, hn]
theorem ntw_of (hw : ∀ v ∈ w, 10 ≤ v) : ntw w := by
  match w, hw with
  | [], _ => trivial
  | v :: _, hw => exact (by have := hw v List.mem_cons_self; omega : 4 < v)
theorem c_370 (hQ : MQs false t n k [] w cs o h) (hb : MTb w cs k o)
    (hq0 : ∀ h' kk pp, zfc t n k o = .inl (kk, pp) → BX kk pp h' → Off WZ h h' → Q (.inl none) h')
    (hq1 : ∀ h' k1 c1, zfc t n k o = .inr (k1, c1) → MQs false t n k1 [] w (cs ++ c1) o h' → Off WZ h h' → Q (.inl none) h') : wpC (d + 8) 370 [.inr (.inr 1036)] h Q := by
  have hX := hQ.1
  have hM := hX.1
  have hbk := hX.2.2.2.2.2.1
  have hzc := zct_nn w
  have ho := hb.2
  have hl := hb.1
  have hss : zsk t n (zsk t n k) = zsk t n k := zsk_zsk hbk.1 hbk.2.1
  have hsl := @zsk_le k n t hbk.2.1
  unfold zfc at hq0 hq1
  rw [wpC_B]; refine ⟨⟨Nat.zero_lt_succ _, Nat.le_of_ble_eq_true rfl⟩, ?_⟩; simp only [lent]
  simp (disch := omega) only [q_370_0, b_370_0, ↓w_bipush, ↓w_aload_n_0, ↓w_getfield, ↓w_ifCond_eq, ↓w_return, ↓w_invokevirtual_1, stw_0, stw_i, stw_l, stw_r, ofK0, ofK1, ofK2, lst1, lst2, lkill, kont_none, kont_some, Int.reduceToNat, List.length_cons, List.length_nil, Nat.reduceAdd, Nat.reduceLeDiff, Nat.zero_le, true_and, and_true, if_true, if_false, ne_eq, Int.reduceEq, Int.reduceNeg, not_false_eq_true, not_true_eq_false, ↓reduceIte, Int.reduceLT, Int.reduceLE, and_self, or_true, true_or, or_false, false_or, false_and, and_false, ah_t_w, ah_m_w, ah_n_w, lst1_0, List.tail_cons, w32_i, zbd, lst2_0, mt_1036a hM, mt_1103a hM, mt_1103b hM, mf_96 hM]
  refine c_239 hX (wb_1103 hM) (by decide) (by decide) (fun h1 e hX1 hO1 => ?_) (fun h1 e hX1 hO1 => ?_)
  · have e' : ¬ zhw t n (zsk t n k) zwall = true := by rw [show zhw t n (zsk t n k) zwall = false from e]; decide
    rw [if_neg e'] at hq0 hq1
    have hQ1 := MQ_lx hQ hX1 hO1 (fun r i w => Wat_lx w)
    have hO1' : Off WZ h h1 := Off_mono (fun r i w => Or.inl (Wat_Q w)) hO1
    simp (disch := omega) only [b_370_0, q_370_18, b_370_18, ↓w_bipush, ↓w_aload_n_0, ↓w_getfield, ↓w_ifCond_eq, ↓w_return, ↓w_invokevirtual_0, ↓w_invokevirtual_1, stw_0, stw_i, stw_l, stw_r, ofK0, ofK1, ofK2, lst1, lst2, lkill, kont_none, kont_some, Int.reduceToNat, List.length_cons, List.length_nil, Nat.reduceAdd, Nat.reduceLeDiff, Nat.zero_le, true_and, and_true, if_true, if_false, ne_eq, Int.reduceEq, Int.reduceNeg, not_false_eq_true, not_true_eq_false, ↓reduceIte, Int.reduceLT, Int.reduceLE, and_self, or_true, true_or, or_false, false_or, false_and, and_false, ah_t_w, ah_m_w, ah_n_w, lst1_0, List.tail_cons, w32_i, zbd, lst2_0, mt_1036a hX1.1, mt_1103a hX1.1, mt_1103b hX1.1, mf_96 hX1.1]
    refine c_261 (MQ_Z.1 hQ1) (ntw_of ho.2.2) (by omega) (by omega) (fun h2 kk pp e2 hB _ hO2 => ?_) (fun h2 k1 c1 e2 hZ2 hO2 => ?_)
    · rw [(zex_sk hbk.1 hbk.2.1 _ _).1] at e2
      have e5 := hB.2.1; have hk := hB.2.2.2
      simp (disch := omega) only [b_370_18, ↓w_aload_n_0, ↓w_getfield, ↓w_ifCond_eq, ↓w_return, ↓w_invokevirtual_0, stw_0, stw_i, stw_l, stw_r, ofK0, ofK1, ofK2, lst1, lst2, lkill, kont_none, kont_some, Int.reduceToNat, List.length_cons, List.length_nil, Nat.reduceAdd, Nat.reduceLeDiff, Nat.zero_le, true_and, and_true, if_true, if_false, ne_eq, Int.reduceEq, Int.reduceNeg, not_false_eq_true, not_true_eq_false, ↓reduceIte, Int.reduceLT, Int.reduceLE, and_self, or_true, true_or, or_false, false_or, false_and, and_false, ah_t_w, ah_m_w, ah_n_w, lst1_0, List.tail_cons, w32_i, zbd, lst2_0, mt_1036a hB.1, e5, hk]
      exact hq0 h2 kk pp (by rw [e2]) hB (Off_tr hO1' hO2)
    · rw [(zex_sk hbk.1 hbk.2.1 _ _).1] at e2
      rw [e2] at hq0 hq1
      simp only at hq0 hq1
      have hpr := (zex_pr (hm := false) (t := t) (n := n) (zF n) 0 k o hbk.1 hbk.2.1 (by omega) (by omega)).1 k1 c1 e2
      have hX2 := hZ2.1
      have h52 := hX2.2.2.2.2.1
      have hss2 : zsk t n (zsk t n k1) = zsk t n k1 := zsk_zsk (by omega) hpr.2.1
      have hsl2 := @zsk_le k1 n t hpr.2.1
      simp (disch := omega) only [b_370_18, q_370_30, b_370_30, ↓w_iconst, ↓w_bipush, ↓w_aload_n_0, ↓w_iload_n_1, ↓w_istore_n_1, ↓w_getfield, ↓w_ifCond_eq, ↓w_if_icmp_eq, ↓w_return, ↓w_invokevirtual_0, ↓w_invokevirtual_2, stw_0, stw_i, stw_l, stw_r, ofK0, ofK1, ofK2, lst1, lst2, lkill, kont_none, kont_some, Int.reduceToNat, List.length_cons, List.length_nil, Nat.reduceAdd, Nat.reduceLeDiff, Nat.zero_le, true_and, and_true, if_true, if_false, ne_eq, Int.reduceEq, Int.reduceNeg, not_false_eq_true, not_true_eq_false, ↓reduceIte, Int.reduceLT, Int.reduceLE, and_self, or_true, true_or, or_false, false_or, false_and, and_false, ah_t_w, ah_m_w, ah_n_w, lst1_0, List.tail_cons, w32_i, zbd, lst2_0, mt_1036a hX2.1, h52]
      refine c_241 hX2 (fun h3 hX3 hO3 => ?_)
      have hQ3 := MQ_lx (MQ_Z.2 hZ2) hX3 hO3 (fun r i w => Wat_lx w)
      have hO3' : Off WZ h h3 := Off_tr hO1' (Off_tr hO2 (Off_mono (fun r i w => Or.inl (Wat_Q w)) hO3))
      have e23 := hX3.2.2.2.1
      have h53 := hX3.2.2.2.2.1
      have hM3 := hX3.1
      by_cases g : zB t n (zsk t n k1) = 60 ∨ zB t n (zsk t n k1) = 62 ∨ zB t n (zsk t n k1) = 61
      · rw [if_pos g] at hq0 hq1
        have hlt := zskn (t := t) hpr.2.1 (by omega)
        have hX4 := LX_adv hX3 hlt (by rcases g with q | q | q <;> rw [q] <;> decide)
        have hQ4 := MQ_lx (W := Wat) hQ3 hX4 (Off_w Off_rfl (by unfold Wat; omega)) (fun r i w => Wat_lx w)
        have hO4 : Off WZ h (ah_w h3 1036 2 (zsk t n k1 + 1)) := Off_w hO3' (by unfold WZ WQ; omega)
        have go : wpB (d + 7) 370 63 [some (.inr (.inr 1036)), some (.inl (zB t n (zsk t n k1)))] [] h3 Q := by
          simp (disch := omega) only [q_370_63, b_370_63, ↓w_iconst, ↓w_bipush, ↓w_aload_n_0, ↓w_iload_n_1, ↓w_dup_i, ↓w_dup_a, ↓w_iadd, ↓w_getfield, ↓w_putfield_0, ↓w_goto, ↓w_if_icmp_ne, ↓w_invokevirtual_0, stw_0, stw_i, stw_l, stw_r, ofK0, ofK1, ofK2, lst1, lst2, lkill, kont_none, kont_some, Int.reduceToNat, List.length_cons, List.length_nil, Nat.reduceAdd, Nat.reduceLeDiff, Nat.zero_le, true_and, and_true, if_true, if_false, ne_eq, Int.reduceEq, Int.reduceNeg, not_false_eq_true, not_true_eq_false, ↓reduceIte, Int.reduceLT, Int.reduceLE, and_self, or_true, true_or, or_false, false_or, false_and, and_false, ah_t_w, ah_m_w, ah_n_w, lst1_0, List.tail_cons, w32_i, zbd, lst2_0, mt_1036a hM3, e23]
          have cod : ∀ h5 C, ah_m h5 1036 111 = (C : List Int).length → MI h5 → (C.length : Int) ≤ 1690 → (∀ v, v = (if zB t n (zsk t n k1) = 60 then (7 : Int) else if zB t n (zsk t n k1) = 62 then 8 else 9) → Q (.inl none) (ah_w (ah_w h5 1117 C.length v) 1036 111 (C.length + 1))) → wpL (d + 7) 370 (b_370_63.drop 8) [some (.inr (.inr 1036)), some (.inl (zB t n (zsk t n k1)))] [] h5 Q := by
            intro h5 C e111 hM5 hlc hv
            by_cases g0 : zB t n (zsk t n k1) = 60
            · rw [if_pos g0] at hv
              simp (disch := omega) only [b_370_63, q_370_102, b_370_102, ↓w_iconst, ↓w_bipush, ↓w_aload_n_0, ↓w_iload_n_1, ↓w_dup_i, ↓w_dup_a, ↓w_iadd, ↓w_getfield, ↓w_putfield_0, ↓w_goto, ↓w_if_icmp_ne, ↓w_return, ↓w_invokevirtual_0, ↓w_invokevirtual_1, stw_0, stw_i, stw_l, stw_r, ofK0, ofK1, ofK2, lst1, lst2, lkill, kont_none, kont_some, Int.reduceToNat, List.length_cons, List.length_nil, Nat.reduceAdd, Nat.reduceLeDiff, Nat.zero_le, true_and, and_true, if_true, if_false, ne_eq, Int.reduceEq, Int.reduceNeg, not_false_eq_true, not_true_eq_false, ↓reduceIte, Int.reduceLT, Int.reduceLE, and_self, or_true, true_or, or_false, false_or, false_and, and_false, ah_t_w, ah_m_w, ah_n_w, lst1_0, List.tail_cons, w32_i, zbd, lst2_0, mt_1036a hM5, List.drop, g0, c_268 hM5 e111]
              exact hv _ rfl
            · rw [if_neg g0] at hv
              by_cases g1 : zB t n (zsk t n k1) = 62
              · rw [if_pos g1] at hv
                simp (disch := omega) only [b_370_63, q_370_89, b_370_89, q_370_102, b_370_102, ↓w_iconst, ↓w_bipush, ↓w_aload_n_0, ↓w_iload_n_1, ↓w_dup_i, ↓w_dup_a, ↓w_iadd, ↓w_getfield, ↓w_putfield_0, ↓w_goto, ↓w_if_icmp_ne, ↓w_return, ↓w_invokevirtual_0, ↓w_invokevirtual_1, stw_0, stw_i, stw_l, stw_r, ofK0, ofK1, ofK2, lst1, lst2, lkill, kont_none, kont_some, Int.reduceToNat, List.length_cons, List.length_nil, Nat.reduceAdd, Nat.reduceLeDiff, Nat.zero_le, true_and, and_true, if_true, if_false, ne_eq, Int.reduceEq, Int.reduceNeg, not_false_eq_true, not_true_eq_false, ↓reduceIte, Int.reduceLT, Int.reduceLE, and_self, or_true, true_or, or_false, false_or, false_and, and_false, ah_t_w, ah_m_w, ah_n_w, lst1_0, List.tail_cons, w32_i, zbd, lst2_0, mt_1036a hM5, List.drop, g0, g1, Int.reduceEq, c_268 hM5 e111]
                exact hv _ rfl
              · rw [if_neg g1] at hv
                simp (disch := omega) only [b_370_63, q_370_89, b_370_89, q_370_100, b_370_100, q_370_102, b_370_102, ↓w_iconst, ↓w_bipush, ↓w_aload_n_0, ↓w_iload_n_1, ↓w_dup_i, ↓w_dup_a, ↓w_iadd, ↓w_getfield, ↓w_putfield_0, ↓w_nop, ↓w_goto, ↓w_if_icmp_ne, ↓w_return, ↓w_invokevirtual_0, ↓w_invokevirtual_1, stw_0, stw_i, stw_l, stw_r, ofK0, ofK1, ofK2, lst1, lst2, lkill, kont_none, kont_some, Int.reduceToNat, List.length_cons, List.length_nil, Nat.reduceAdd, Nat.reduceLeDiff, Nat.zero_le, true_and, and_true, if_true, if_false, ne_eq, Int.reduceEq, Int.reduceNeg, not_false_eq_true, not_true_eq_false, ↓reduceIte, Int.reduceLT, Int.reduceLE, and_self, or_true, true_or, or_false, false_or, false_and, and_false, ah_t_w, ah_m_w, ah_n_w, lst1_0, List.tail_cons, w32_i, zbd, lst2_0, mt_1036a hM5, List.drop, g0, g1, c_268 hM5 e111]
                exact hv _ rfl
          refine c_261 (MQ_Z.1 hQ4) (ntw_of ho.2.2) (by simp only [List.length_append]; omega) (by omega) (fun h5 kk pp e5 hB hC hO5 => ?_) (fun h5 k2 c2 e5 hZ5 hO5 => ?_)
          · rw [e5] at hq0
            simp only at hq0
            have hC2 := hC.2
            have hC1 := hC.1
            refine cod h5 (List.replicate (ah_m h5 1036 111).toNat 0) (by simp; omega) hB.1 (by simp; omega) (fun v _ => ?_)
            exact hq0 _ kk pp rfl (BX_w (BX_w hB (by omega)) (by omega)) (Off_w (Off_w (Off_tr hO4 hO5) (by unfold WZ WQ; omega)) (by unfold WZ WQ; omega))
          · rw [e5] at hq0 hq1
            simp only at hq0 hq1
            have hpr2 := (zex_pr (hm := false) (t := t) (n := n) (zF n) 0 (zsk t n k1 + 1) o (by omega) (by omega) (by omega) (by omega)).1 k2 c2 e5
            refine cod h5 (cs ++ c1 ++ c2) hZ5.2.2.2.2.2.1 hZ5.1.1 (by have := hZ5.1.2.2.2.2.2.1; simp only [List.length_append]; omega) (fun v ev => ?_)
            have hQ6 := MQ_code (v := v) (MQ_Z.2 hZ5)
            refine hq1 _ k2 _ rfl ?_ (Off_w (Off_w (Off_tr hO4 hO5) (by unfold WZ WQ; omega)) (by unfold WZ WQ; omega))
            rw [← ev]
            simp only [List.append_assoc] at hQ6 ⊢
            exact hQ6
        rcases g with q | q | q
        · simp (disch := omega) only [b_370_30, ↓w_iconst, ↓w_bipush, ↓w_aload_n_0, ↓w_iload_n_1, ↓w_istore_n_1, ↓w_getfield, ↓w_if_icmp_eq, ↓w_return, ↓w_invokevirtual_0, ↓w_invokevirtual_2, stw_0, stw_i, stw_l, stw_r, ofK0, ofK1, ofK2, lst1, lst2, lkill, kont_none, kont_some, Int.reduceToNat, List.length_cons, List.length_nil, Nat.reduceAdd, Nat.reduceLeDiff, Nat.zero_le, true_and, and_true, if_true, if_false, ne_eq, Int.reduceEq, Int.reduceNeg, not_false_eq_true, not_true_eq_false, ↓reduceIte, Int.reduceLT, Int.reduceLE, and_self, or_true, true_or, or_false, false_or, false_and, and_false, ah_t_w, ah_m_w, ah_n_w, lst1_0, List.tail_cons, w32_i, zbd, lst2_0, mt_1036a hM3, q]
          rw [q] at go; exact go
        · simp (disch := omega) only [b_370_30, ↓w_iconst, ↓w_bipush, ↓w_aload_n_0, ↓w_iload_n_1, ↓w_istore_n_1, ↓w_getfield, ↓w_if_icmp_eq, ↓w_return, ↓w_invokevirtual_0, ↓w_invokevirtual_2, stw_0, stw_i, stw_l, stw_r, ofK0, ofK1, ofK2, lst1, lst2, lkill, kont_none, kont_some, Int.reduceToNat, List.length_cons, List.length_nil, Nat.reduceAdd, Nat.reduceLeDiff, Nat.zero_le, true_and, and_true, if_true, if_false, ne_eq, Int.reduceEq, Int.reduceNeg, not_false_eq_true, not_true_eq_false, ↓reduceIte, Int.reduceLT, Int.reduceLE, and_self, or_true, true_or, or_false, false_or, false_and, and_false, ah_t_w, ah_m_w, ah_n_w, lst1_0, List.tail_cons, w32_i, zbd, lst2_0, mt_1036a hM3, q, Int.reduceEq]
          rw [q] at go; exact go
        · simp (disch := omega) only [b_370_30, ↓w_iconst, ↓w_bipush, ↓w_aload_n_0, ↓w_iload_n_1, ↓w_istore_n_1, ↓w_getfield, ↓w_if_icmp_eq, ↓w_return, ↓w_invokevirtual_0, ↓w_invokevirtual_2, stw_0, stw_i, stw_l, stw_r, ofK0, ofK1, ofK2, lst1, lst2, lkill, kont_none, kont_some, Int.reduceToNat, List.length_cons, List.length_nil, Nat.reduceAdd, Nat.reduceLeDiff, Nat.zero_le, true_and, and_true, if_true, if_false, ne_eq, Int.reduceEq, Int.reduceNeg, not_false_eq_true, not_true_eq_false, ↓reduceIte, Int.reduceLT, Int.reduceLE, and_self, or_true, true_or, or_false, false_or, false_and, and_false, ah_t_w, ah_m_w, ah_n_w, lst1_0, List.tail_cons, w32_i, zbd, lst2_0, mt_1036a hM3, q, Int.reduceEq]
          rw [q] at go; exact go
      · rw [if_neg g] at hq0
        have n1 : ¬ zB t n (zsk t n k1) = 60 := fun q => g (Or.inl q)
        have n2 : ¬ zB t n (zsk t n k1) = 62 := fun q => g (Or.inr (Or.inl q))
        have n3 : ¬ zB t n (zsk t n k1) = 61 := fun q => g (Or.inr (Or.inr q))
        simp (disch := omega) only [b_370_30, ↓w_iconst, ↓w_bipush, ↓w_aload_n_0, ↓w_iload_n_1, ↓w_istore_n_1, ↓w_getfield, ↓w_if_icmp_eq, ↓w_return, ↓w_invokevirtual_0, ↓w_invokevirtual_2, stw_0, stw_i, stw_l, stw_r, ofK0, ofK1, ofK2, lst1, lst2, lkill, kont_none, kont_some, Int.reduceToNat, List.length_cons, List.length_nil, Nat.reduceAdd, Nat.reduceLeDiff, Nat.zero_le, true_and, and_true, if_true, if_false, ne_eq, Int.reduceEq, Int.reduceNeg, not_false_eq_true, not_true_eq_false, ↓reduceIte, Int.reduceLT, Int.reduceLE, and_self, or_true, true_or, or_false, false_or, false_and, and_false, ah_t_w, ah_m_w, ah_n_w, lst1_0, List.tail_cons, w32_i, zbd, lst2_0, mt_1036a hM3, n1, n2, n3, e23, c_243 hM3 h53]
        exact hq0 _ 1 (zsk t n k1) rfl (BX_fail hM3 (by decide)) (Off_w (Off_w hO3' (by unfold WZ WQ; omega)) (by unfold WZ WQ; omega))
  · have e' : zhw t n (zsk t n k) zwall = true := e
    rw [if_pos e'] at hq1
    have hQ1 := MQ_lx hQ hX1 hO1 (fun r i w => w)
    have e111 := hQ1.2.2.2.2.2.1
    simp (disch := omega) only [b_370_0, ↓w_bipush, ↓w_aload_n_0, ↓w_getfield, ↓w_ifCond_eq, ↓w_return, ↓w_invokevirtual_1, stw_0, stw_i, stw_l, stw_r, ofK0, ofK1, ofK2, lst1, lst2, lkill, kont_none, kont_some, Int.reduceToNat, List.length_cons, List.length_nil, Nat.reduceAdd, Nat.reduceLeDiff, Nat.zero_le, true_and, and_true, if_true, if_false, ne_eq, Int.reduceEq, Int.reduceNeg, not_false_eq_true, not_true_eq_false, ↓reduceIte, Int.reduceLT, Int.reduceLE, and_self, or_true, true_or, or_false, false_or, false_and, and_false, ah_t_w, ah_m_w, ah_n_w, lst1_0, List.tail_cons, w32_i, zbd, lst2_0, mt_1036a hX1.1, mt_1103a hX1.1, mt_1103b hX1.1, mf_96 hX1.1, c_268 hX1.1 e111]
    exact hq1 _ _ _ rfl (MQ_code hQ1) (Off_w (Off_w (Off_mono (fun r i w => Or.inl (Wlx_Q w)) hO1) (by unfold WZ WQ; omega)) (by unfold WZ WQ; omega))
end TQ
