/-! ===== M: a whole test ===== -/
section TQ4
variable {d : Nat} {h h0 : AH} {Q : QQ} {x y z m k s l a b c v n p r o : Int} {t : Int → Int} {hm : Bool} {w0 w cs W : List Int} {K2 : Int → QQ} {R : (Int × Int) ⊕ (Int × List Int)}
set_option maxHeartbeats 4000000
theorem At_bad {tl : ALoc} {kk pp : Int} (hB : BX kk pp h) (hF : Q (.inl none) h) (z1 : Int) : wpB (d + 9) 369 2 (some (.inr (.inr 1036)) :: some (.inl z1) :: tl) [] h Q := by
  have e := hB.2.1; have hk := hB.2.2.2
  by_cases g : z1 = 0
  · simp (disch := omega) only [q_369_2, b_369_2, q_369_110, b_369_110, q_369_131, b_369_131, ↓w_iconst, ↓w_bipush, ↓w_aload_n_0, ↓w_iload_n_1, ↓w_iload_n_2, ↓w_istore_n_2, ↓w_dup_i, ↓w_dup_a, ↓w_iadd, ↓w_getfield, ↓w_putfield_0, ↓w_goto, ↓w_ifCond_eq, ↓w_ifCond_ne, ↓w_if_icmp_ne, ↓w_ifCond_le, ↓w_return, ↓w_invokevirtual_0, ↓w_invokevirtual_2, stw_0, stw_i, stw_l, stw_r, ofK0, ofK1, ofK2, lst1, lst2, lkill, kont_none, kont_some, Int.reduceToNat, List.length_cons, List.length_nil, Nat.reduceAdd, Nat.reduceLeDiff, Nat.zero_le, true_and, and_true, if_true, if_false, ne_eq, Int.reduceEq, Int.reduceNeg, not_false_eq_true, not_true_eq_false, ↓reduceIte, Int.reduceLT, Int.reduceLE, and_self, or_true, true_or, or_false, false_or, false_and, and_false, ah_t_w, ah_m_w, ah_n_w, lst1_0, List.tail_cons, w32_i, zbd, lst2_0, mt_1036a hB.1, e, hk, g]
    exact hF
  · simp (disch := omega) only [q_369_2, b_369_2, q_369_110, b_369_110, q_369_131, b_369_131, ↓w_iconst, ↓w_bipush, ↓w_aload_n_0, ↓w_iload_n_1, ↓w_iload_n_2, ↓w_istore_n_2, ↓w_dup_i, ↓w_dup_a, ↓w_iadd, ↓w_getfield, ↓w_putfield_0, ↓w_goto, ↓w_ifCond_eq, ↓w_ifCond_ne, ↓w_if_icmp_ne, ↓w_ifCond_le, ↓w_return, ↓w_invokevirtual_0, ↓w_invokevirtual_2, stw_0, stw_i, stw_l, stw_r, ofK0, ofK1, ofK2, lst1, lst2, lkill, kont_none, kont_some, Int.reduceToNat, List.length_cons, List.length_nil, Nat.reduceAdd, Nat.reduceLeDiff, Nat.zero_le, true_and, and_true, if_true, if_false, ne_eq, Int.reduceEq, Int.reduceNeg, not_false_eq_true, not_true_eq_false, ↓reduceIte, Int.reduceLT, Int.reduceLE, and_self, or_true, true_or, or_false, false_or, false_and, and_false, ah_t_w, ah_m_w, ah_n_w, lst1_0, List.tail_cons, w32_i, zbd, lst2_0, mt_1036a hB.1, e, hk, g]
    exact hF
theorem sAt (hFL : ∀ z2 a b h, FFt Q R h0 a b → BX a b h → Off WZ h0 h → wpB (d + 9) 369 105 [some (.inr (.inr 1036)), some (.inl 1), some (.inl z2)] [] h Q) :
    ∀ k w cs o, 0 ≤ k → k ≤ n → SAt t n (PAt t n d Q h0) (PEt t n d (fun z2 => kont (d + 9) 369 (b_369_79.drop 9) 0 [some (.inr (.inr 1036)), some (.inl 1), some (.inl z2)] [] Q) h0) (FFt Q R h0) k w cs o → PAt t n d Q h0 k w cs o := by
  intro k w cs o h0' h1' hS hb h tl hQ hO htl
  have hX := hQ.1
  have hM := hX.1
  have h5 := hX.2.2.2.2.1
  have hbk := hX.2.2.2.2.2.1
  have hzc := zct_nn w
  have hle := hb.1
  have ho := hb.2
  have htl2 : ∀ v : AV, lst1 tl 0 v = [some v] := by
    intro v; rw [lst1_0]
    have : tl.tail = [] := List.eq_nil_of_length_eq_zero (by rw [List.length_tail]; omega)
    rw [this]
  rw [q_369_2]
  simp (disch := omega) only [b_369_2, ↓w_iconst, ↓w_bipush, ↓w_aload_n_0, ↓w_iload_n_1, ↓w_iload_n_2, ↓w_istore_n_2, ↓w_dup_i, ↓w_dup_a, ↓w_iadd, ↓w_getfield, ↓w_putfield_0, ↓w_goto, ↓w_ifCond_eq, ↓w_ifCond_ne, ↓w_if_icmp_ne, ↓w_invokevirtual_0, ↓w_invokevirtual_2, stw_0, stw_i, stw_l, stw_r, ofK0, ofK1, ofK2, lst1, lst2, lkill, kont_none, kont_some, Int.reduceToNat, List.length_cons, List.length_nil, Nat.reduceAdd, Nat.reduceLeDiff, Nat.zero_le, true_and, and_true, if_true, if_false, ne_eq, Int.reduceEq, Int.reduceNeg, not_false_eq_true, not_true_eq_false, ↓reduceIte, Int.reduceLT, Int.reduceLE, and_self, or_true, true_or, or_false, false_or, false_and, and_false, ah_t_w, ah_m_w, ah_n_w, mt_1036a hM, h5]
  refine c_241 hX (fun h1 hX1 hO1 => ?_)
  have hQ1 := MQ_lx hQ hX1 hO1 (fun r i w => Wat_lx w)
  have hO1' : Off WZ h0 h1 := Off_tr hO (Off_mono (fun r i w => Or.inl (Wat_Q w)) hO1)
  have hs : zsk t n (zsk t n k) = zsk t n k := zsk_zsk h0' h1'
  have hsl := @zsk_le k n t h1'
  have hM1 := hX1.1
  have e2 := hX1.2.2.2.1
  unfold SAt at hS
  by_cases g1 : zB t n (zsk t n k) = 91
  · rw [if_pos g1] at hS
    have hlt := zskn (t := t) h1' (by rw [g1]; decide)
    simp (disch := omega) only [b_369_2, ↓w_iconst, ↓w_bipush, ↓w_aload_n_0, ↓w_iload_n_1, ↓w_iload_n_2, ↓w_istore_n_2, ↓w_dup_i, ↓w_dup_a, ↓w_iadd, ↓w_getfield, ↓w_putfield_0, ↓w_goto, ↓w_ifCond_eq, ↓w_ifCond_ne, ↓w_if_icmp_ne, ↓w_invokevirtual_0, ↓w_invokevirtual_2, stw_0, stw_i, stw_l, stw_r, ofK0, ofK1, ofK2, lst1, lst2, lkill, kont_none, kont_some, Int.reduceToNat, List.length_cons, List.length_nil, Nat.reduceAdd, Nat.reduceLeDiff, Nat.zero_le, true_and, and_true, if_true, if_false, ne_eq, Int.reduceEq, Int.reduceNeg, not_false_eq_true, not_true_eq_false, ↓reduceIte, Int.reduceLT, Int.reduceLE, and_self, or_true, true_or, or_false, false_or, false_and, and_false, ah_t_w, ah_m_w, ah_n_w, mt_1036a hM1, htl2, g1, e2]
    refine c_266 hQ1 (by simp; omega) (by omega) (fun e6 => ?_) (fun h2 e6 hQ2 hO2 => ?_)
    · rw [if_pos e6] at hS
      have hB := BX_fail (k := 4) (p := zsk t n k) hM1 (by decide)
      have hB2 := BX_w (r := 1036) (i := 2) (z := zsk t n k + 1) hB (by omega)
      simp (disch := omega) only [b_369_2, ↓w_iconst, ↓w_bipush, ↓w_aload_n_0, ↓w_iload_n_1, ↓w_iload_n_2, ↓w_istore_n_2, ↓w_dup_i, ↓w_dup_a, ↓w_iadd, ↓w_getfield, ↓w_putfield_0, ↓w_goto, ↓w_ifCond_eq, ↓w_ifCond_ne, ↓w_if_icmp_ne, ↓w_invokevirtual_0, ↓w_invokevirtual_2, stw_0, stw_i, stw_l, stw_r, ofK0, ofK1, ofK2, lst1, lst2, lkill, kont_none, kont_some, Int.reduceToNat, List.length_cons, List.length_nil, Nat.reduceAdd, Nat.reduceLeDiff, Nat.zero_le, true_and, and_true, if_true, if_false, ne_eq, Int.reduceEq, Int.reduceNeg, not_false_eq_true, not_true_eq_false, ↓reduceIte, Int.reduceLT, Int.reduceLE, and_self, or_true, true_or, or_false, false_or, false_and, and_false, ah_t_w, ah_m_w, ah_n_w, lst1_0, List.tail_cons, w32_i, zbd, lst2_0, mt_1036a hM1, e2]
      refine At_bad hB2 (hS.2 _ hB2 (Off_w (Off_w (Off_w hO1' (by unfold WZ WQ; omega)) (by unfold WZ WQ; omega)) (by unfold WZ WQ; omega))) _
    · rw [if_neg e6] at hS
      have e2' := hQ2.1.2.2.2.1
      simp (disch := omega) only [b_369_2, ↓w_iconst, ↓w_bipush, ↓w_aload_n_0, ↓w_iload_n_1, ↓w_iload_n_2, ↓w_istore_n_2, ↓w_dup_i, ↓w_dup_a, ↓w_iadd, ↓w_getfield, ↓w_putfield_0, ↓w_goto, ↓w_ifCond_eq, ↓w_ifCond_ne, ↓w_if_icmp_ne, ↓w_invokevirtual_0, ↓w_invokevirtual_2, stw_0, stw_i, stw_l, stw_r, ofK0, ofK1, ofK2, lst1, lst2, lkill, kont_none, kont_some, Int.reduceToNat, List.length_cons, List.length_nil, Nat.reduceAdd, Nat.reduceLeDiff, Nat.zero_le, true_and, and_true, if_true, if_false, ne_eq, Int.reduceEq, Int.reduceNeg, not_false_eq_true, not_true_eq_false, ↓reduceIte, Int.reduceLT, Int.reduceLE, and_self, or_true, true_or, or_false, false_or, false_and, and_false, ah_t_w, ah_m_w, ah_n_w, lst1_0, List.tail_cons, w32_i, zbd, lst2_0, mt_1036a hQ2.1.1, e2']
      have hX3 := LX_adv hQ2.1 hlt (by rw [g1]; decide)
      have hQ3 := MQ_lx (W := Wat) hQ2 hX3 (Off_w Off_rfl (by unfold Wat; omega)) (fun r i w => Wat_lx w)
      refine hS ⟨by simp only [List.length_cons]; omega, ?_, by omega, ?_⟩ _ _ hQ3 (Off_w (Off_tr hO1' (Off_mono (fun r i w => Or.inl w) hO2)) (by unfold WZ WQ; omega)) (by simp)
      · simp only [zoc]; rw [if_pos (by decide)]; omega
      · intro v hv
        rcases List.mem_cons.1 hv with q | q
        · omega
        · exact ho.2.2 v q
  · rw [if_neg g1] at hS
    have c40 := fun {Q} => @c_240n (d + 7) h1 Q (zsk t n k) n 1100 t zwnot hX1 (wb_1100 hM1) (by decide) hs
    by_cases g2 : zhw t n (zsk t n k) zwnot = true
    · rw [if_pos g2] at hS
      have hw3 : zsk t n k + 3 ≤ n := (zhw_r hsl.2 g2).1
      simp (disch := omega) only [b_369_2, q_369_47, b_369_47, ↓w_iconst, ↓w_bipush, ↓w_aload_n_0, ↓w_iload_n_1, ↓w_iload_n_2, ↓w_istore_n_2, ↓w_dup_i, ↓w_dup_a, ↓w_iadd, ↓w_getfield, ↓w_putfield_0, ↓w_goto, ↓w_ifCond_eq, ↓w_ifCond_ne, ↓w_if_icmp_ne, ↓w_invokevirtual_0, ↓w_invokevirtual_1, ↓w_invokevirtual_2, stw_0, stw_i, stw_l, stw_r, ofK0, ofK1, ofK2, lst1, lst2, lkill, kont_none, kont_some, Int.reduceToNat, List.length_cons, List.length_nil, Nat.reduceAdd, Nat.reduceLeDiff, Nat.zero_le, true_and, and_true, if_true, if_false, ne_eq, Int.reduceEq, Int.reduceNeg, not_false_eq_true, not_true_eq_false, ↓reduceIte, Int.reduceLT, Int.reduceLE, and_self, or_true, true_or, or_false, false_or, false_and, and_false, ah_t_w, ah_m_w, ah_n_w, mt_1036a hM1, mt_1100a hM1, mt_1100b hM1, mf_93 hM1, htl2, g1, e2, c40, g2, zb_t]
      refine c_266 hQ1 (by simp; omega) (by omega) (fun e6 => ?_) (fun h2 e6 hQ2 hO2 => ?_)
      · rw [if_pos e6] at hS
        have hB := BX_fail (k := 4) (p := zsk t n k) hM1 (by decide)
        simp (disch := omega) only [b_369_47, ↓w_bipush, ↓w_aload_n_0, ↓w_getfield, ↓w_goto, ↓w_ifCond_eq, ↓w_invokevirtual_1, ↓w_invokevirtual_2, stw_0, stw_i, stw_l, stw_r, ofK0, ofK1, ofK2, lst1, lst2, lkill, kont_none, kont_some, Int.reduceToNat, List.length_cons, List.length_nil, Nat.reduceAdd, Nat.reduceLeDiff, Nat.zero_le, true_and, and_true, if_true, if_false, ne_eq, Int.reduceEq, Int.reduceNeg, not_false_eq_true, not_true_eq_false, ↓reduceIte, Int.reduceLT, Int.reduceLE, and_self, or_true, true_or, or_false, false_or, false_and, and_false, ah_t_w, ah_m_w, ah_n_w, lst1_0, List.tail_cons, w32_i, zbd, lst2_0, mt_1036a hM1, mt_1100a hM1, mt_1100b hM1, mf_93 hM1, b_238 hB]
        exact At_bad hB (hS.2 _ hB (Off_w (Off_w hO1' (by unfold WZ WQ; omega)) (by unfold WZ WQ; omega))) _
      · rw [if_neg e6] at hS
        simp (disch := omega) only [b_369_47, ↓w_bipush, ↓w_aload_n_0, ↓w_getfield, ↓w_goto, ↓w_ifCond_eq, ↓w_invokevirtual_1, ↓w_invokevirtual_2, stw_0, stw_i, stw_l, stw_r, ofK0, ofK1, ofK2, lst1, lst2, lkill, kont_none, kont_some, Int.reduceToNat, List.length_cons, List.length_nil, Nat.reduceAdd, Nat.reduceLeDiff, Nat.zero_le, true_and, and_true, if_true, if_false, ne_eq, Int.reduceEq, Int.reduceNeg, not_false_eq_true, not_true_eq_false, ↓reduceIte, Int.reduceLT, Int.reduceLE, and_self, or_true, true_or, or_false, false_or, false_and, and_false, ah_t_w, ah_m_w, ah_n_w, lst1_0, List.tail_cons, w32_i, zbd, lst2_0, mt_1036a hQ2.1.1, mt_1100a hQ2.1.1, mt_1100b hQ2.1.1, mf_93 hQ2.1.1]
        refine c_238 hQ2.1 (wb_1100 hQ2.1.1) (by decide) (by decide) (fun h3 e _ _ => by rw [hs] at e; rw [show zhw t n (zsk t n k) [110, 111, 116] = true from g2] at e; cases e) (fun h3 e hX3 hO3 => ?_)
        rw [hs] at hX3
        have hQ3 : MQs false t n (zsk t n k + 3) [] (12 :: w) cs (o + 1) h3 := MQ_lx hQ2 hX3 hO3 (fun r i w => w)
        simp (disch := omega) only [b_369_47, ↓w_bipush, ↓w_aload_n_0, ↓w_getfield, ↓w_goto, ↓w_ifCond_eq, ↓w_invokevirtual_1, ↓w_invokevirtual_2, stw_0, stw_i, stw_l, stw_r, ofK0, ofK1, ofK2, lst1, lst2, lkill, kont_none, kont_some, Int.reduceToNat, List.length_cons, List.length_nil, Nat.reduceAdd, Nat.reduceLeDiff, Nat.zero_le, true_and, and_true, if_true, if_false, ne_eq, Int.reduceEq, Int.reduceNeg, not_false_eq_true, not_true_eq_false, ↓reduceIte, Int.reduceLT, Int.reduceLE, and_self, or_true, true_or, or_false, false_or, false_and, and_false, ah_t_w, ah_m_w, ah_n_w, lst1_0, List.tail_cons, w32_i, zbd, lst2_0]
        refine hS ⟨by simp only [List.length_cons]; omega, ?_, by omega, ?_⟩ _ _ hQ3 (Off_tr hO1' (Off_tr (Off_mono (fun r i w => Or.inl w) hO2) (Off_mono (fun r i w => Or.inl (Wlx_Q w)) hO3))) (by simp)
        · simp only [zoc]; rw [if_pos (by decide)]; omega
        · intro v hv
          rcases List.mem_cons.1 hv with q | q
          · omega
          · exact ho.2.2 v q
    · rw [if_neg g2] at hS
      have g2' : zhw t n (zsk t n k) zwnot = false := by simpa using g2
      simp (disch := omega) only [b_369_2, q_369_47, b_369_47, q_369_79, b_369_79, ↓w_iconst, ↓w_bipush, ↓w_aload_n_0, ↓w_iload_n_1, ↓w_iload_n_2, ↓w_istore_n_2, ↓w_dup_i, ↓w_dup_a, ↓w_iadd, ↓w_getfield, ↓w_putfield_0, ↓w_goto, ↓w_ifCond_eq, ↓w_ifCond_ne, ↓w_if_icmp_ne, ↓w_invokevirtual_0, ↓w_invokevirtual_1, ↓w_invokevirtual_2, stw_0, stw_i, stw_l, stw_r, ofK0, ofK1, ofK2, lst1, lst2, lkill, kont_none, kont_some, Int.reduceToNat, List.length_cons, List.length_nil, Nat.reduceAdd, Nat.reduceLeDiff, Nat.zero_le, true_and, and_true, if_true, if_false, ne_eq, Int.reduceEq, Int.reduceNeg, not_false_eq_true, not_true_eq_false, ↓reduceIte, Int.reduceLT, Int.reduceLE, and_self, or_true, true_or, or_false, false_or, false_and, and_false, ah_t_w, ah_m_w, ah_n_w, mt_1036a hM1, mt_1100a hM1, mt_1100b hM1, mf_93 hM1, htl2, g1, c40, g2', zb_f]
      have hfz : zfc t n (zsk t n k) o = zfc t n k o := by
        unfold zfc; rw [hs, (zex_sk h0' h1' _ _).1]
      have hres : match zfc t n k o with | .inl e => FFt Q R h0 e.1 e.2 | .inr q => PEt t n d (fun z2 => kont (d + 9) 369 (b_369_79.drop 9) 0 [some (.inr (.inr 1036)), some (.inl 1), some (.inl z2)] [] Q) h0 q.1 w (cs ++ q.2) o := by
        unfold zfc
        by_cases g3 : zhw t n (zsk t n k) zwall = true
        · rw [if_pos g3] at hS ⊢; exact hS
        · rw [if_neg g3] at hS ⊢
          cases e1 : zex false t n (zF n) 0 k o with
          | inl x => rw [e1] at hS; exact hS
          | inr x =>
            obtain ⟨ka, ca⟩ := x
            rw [e1] at hS
            simp only at hS ⊢
            by_cases g5 : zB t n (zsk t n ka) = 60 ∨ zB t n (zsk t n ka) = 62 ∨ zB t n (zsk t n ka) = 61
            · rw [if_pos g5] at hS ⊢
              cases e3 : zex false t n (zF n) 0 (zsk t n ka + 1) o with
              | inl x => rw [e3] at hS; exact hS
              | inr x => rw [e3] at hS; exact hS
            · rw [if_neg g5] at hS ⊢; exact hS
      refine c_370 hQ1 ⟨by omega, ho⟩ (fun h2 kk pp e hB hO2 => ?_) (fun h2 k1 c1 e hQ2 hO2 => ?_)
      · rw [hfz] at e
        rw [e] at hres
        simp only at hres
        have hO2' : Off WZ h0 h2 := Off_tr hO1' hO2
        have e5 := hB.2.1; have hk := hB.2.2.2
        simp (disch := omega) only [b_369_79, ↓w_iconst, ↓w_aload_n_0, ↓w_getfield, ↓w_goto, ↓w_ifCond_eq, ↓w_ifCond_ne, ↓w_invokevirtual_0, stw_0, stw_i, stw_l, stw_r, ofK0, ofK1, ofK2, lst1, lst2, lkill, kont_none, kont_some, Int.reduceToNat, List.length_cons, List.length_nil, Nat.reduceAdd, Nat.reduceLeDiff, Nat.zero_le, true_and, and_true, if_true, if_false, ne_eq, Int.reduceEq, Int.reduceNeg, not_false_eq_true, not_true_eq_false, ↓reduceIte, Int.reduceLT, Int.reduceLE, and_self, or_true, true_or, or_false, false_or, false_and, and_false, ah_t_w, ah_m_w, ah_n_w, mt_1036a hB.1, b_371 hB, e5, hk]
        exact hFL _ kk pp h2 hres hB hO2'
      · rw [hfz] at e
        rw [e] at hres
        simp only at hres
        have hO2' : Off WZ h0 h2 := Off_tr hO1' hO2
        have hb2 := hQ2.1.2.2.2.2.2.1
        have hc := z12_ct w
        have hz := zct_nn (z12 w).2
        have hlen : (c1.length : Int) ≤ k1 - k := by
          unfold zfc at e
          by_cases g3 : zhw t n (zsk t n k) zwall = true
          · rw [if_pos g3] at e
            simp only [Sum.inr.injEq, Prod.mk.injEq] at e
            rw [← e.1, ← e.2]; simp; omega
          · rw [if_neg g3] at e
            cases e1 : zex false t n (zF n) 0 k o with
            | inl x => rw [e1] at e; cases e
            | inr x =>
              obtain ⟨ka, ca⟩ := x
              have p1 := (zex_pr (hm := false) (t := t) (n := n) (zF n) 0 k o h0' h1' (by omega) (by omega)).1 ka ca e1
              have s1 := @zsk_le ka n t p1.2.1
              rw [e1] at e
              simp only at e
              by_cases g5 : zB t n (zsk t n ka) = 60 ∨ zB t n (zsk t n ka) = 62 ∨ zB t n (zsk t n ka) = 61
              · rw [if_pos g5] at e
                have hlt := zskn (t := t) p1.2.1 (by omega)
                cases e3 : zex false t n (zF n) 0 (zsk t n ka + 1) o with
                | inl x => rw [e3] at e; cases e
                | inr x =>
                  obtain ⟨kb, cb⟩ := x
                  have p2 := (zex_pr (hm := false) (t := t) (n := n) (zF n) 0 (zsk t n ka + 1) o (by omega) (by omega) (by omega) (by omega)).1 kb cb e3
                  rw [e3] at e
                  simp only [Sum.inr.injEq, Prod.mk.injEq] at e
                  rw [← e.1, ← e.2]
                  simp only [List.length_append, List.length_cons, List.length_nil]; omega
              · rw [if_neg g5] at e; cases e
        simp (disch := omega) only [b_369_79, ↓w_iconst, ↓w_aload_n_0, ↓w_getfield, ↓w_goto, ↓w_ifCond_eq, ↓w_ifCond_ne, ↓w_invokevirtual_0, stw_0, stw_i, stw_l, stw_r, ofK0, ofK1, ofK2, lst1, lst2, lkill, kont_none, kont_some, Int.reduceToNat, List.length_cons, List.length_nil, Nat.reduceAdd, Nat.reduceLeDiff, Nat.zero_le, true_and, and_true, if_true, if_false, ne_eq, Int.reduceEq, Int.reduceNeg, not_false_eq_true, not_true_eq_false, ↓reduceIte, Int.reduceLT, Int.reduceLE, and_self, or_true, true_or, or_false, false_or, false_and, and_false, ah_t_w, ah_m_w, ah_n_w, mt_1036a hQ2.1.1]
        refine c_371 hQ2 (by simp only [List.length_append]; omega) (by omega) (by omega) (fun h3 hQ3 hO3 => ?_)
        have h53 := hQ3.1.2.2.2.2.1
        simp (disch := omega) only [b_369_79, ↓w_iconst, ↓w_aload_n_0, ↓w_getfield, ↓w_goto, ↓w_ifCond_eq, ↓w_ifCond_ne, ↓w_invokevirtual_0, stw_0, stw_i, stw_l, stw_r, ofK0, ofK1, ofK2, lst1, lst2, lkill, kont_none, kont_some, Int.reduceToNat, List.length_cons, List.length_nil, Nat.reduceAdd, Nat.reduceLeDiff, Nat.zero_le, true_and, and_true, if_true, if_false, ne_eq, Int.reduceEq, Int.reduceNeg, not_false_eq_true, not_true_eq_false, ↓reduceIte, Int.reduceLT, Int.reduceLE, and_self, or_true, true_or, or_false, false_or, false_and, and_false, ah_t_w, ah_m_w, ah_n_w, mt_1036a hQ3.1.1, h53]
        have hO3' := Off_tr hO2' hO3
        have hb3 : MTb (z12 w).2 (cs ++ c1 ++ (z12 w).1) k1 (o - (z12 w).1.length) := ⟨by simp only [List.length_append]; omega, by omega, by omega, fun v hv => ho.2.2 v (hc.2.2 v hv)⟩
        rw [wpC_B]; refine ⟨⟨Nat.zero_lt_succ _, Nat.le_of_ble_eq_true rfl⟩, ?_⟩; simp only [lent]
        exact hres hb3 _ h3 hQ3 hO3'
theorem l_369z {C : List Int} {L : ALoc} (hq : ∀ h', MQs false t n k [] [] C o h' → Off WZ h h' → Q (.inl none) h') : ∀ (w cs : List Int) h', MQs false t n k [] w cs o h' → Off WZ h h' → (cs.length : Int) + w.length ≤ 1690 → cs ++ w = C → wpB (d + 9) 369 110 (some (.inr (.inr 1036)) :: L) [] h' Q := by
  intro w
  induction w with
  | nil =>
    intro cs h' hQ hO hl e2
    have hQ' := hQ
    obtain ⟨a0, a1, a2, a3, a4, a5, a6, a7⟩ := hQ
    have h5 := a0.2.2.2.2.1
    have hM := a0.1
    simp only [List.append_nil] at e2
    simp only [List.nil_append, List.length_nil, Int.natCast_zero, Int.cast_ofNat_Int] at a2
    rw [← e2] at hq
    simp (disch := omega) only [q_369_110, b_369_110, q_369_131, b_369_131, ↓w_aload_n_0, ↓w_getfield, ↓w_goto, ↓w_ifCond_ne, ↓w_ifCond_le, ↓w_return, ↓w_invokevirtual_0, stw_0, stw_i, stw_l, stw_r, ofK0, ofK1, ofK2, lst1, lst2, lkill, kont_none, kont_some, Int.reduceToNat, List.length_cons, List.length_nil, Nat.reduceAdd, Nat.reduceLeDiff, Nat.zero_le, true_and, and_true, if_true, if_false, ne_eq, Int.reduceEq, Int.reduceNeg, not_false_eq_true, not_true_eq_false, ↓reduceIte, Int.reduceLT, Int.reduceLE, and_self, or_true, true_or, or_false, false_or, false_and, and_false, ah_t_w, ah_m_w, ah_n_w, lst1_0, List.tail_cons, w32_i, zbd, lst2_0, mt_1036a hM, h5, a2]
    exact hq _ hQ' hO
  | cons x w ih =>
    intro cs h' hQ hO hl e2
    have hQ' := hQ
    obtain ⟨a0, a1, a2, a3, a4, a5, a6, a7⟩ := hQ
    have h5 := a0.2.2.2.2.1
    have hM := a0.1
    have hl2 : ((x :: w ++ []).length : Int) = w.length + 1 := by simp
    have hlt : 0 < ((x :: w ++ []).length : Int) := by omega
    simp only [List.length_cons] at hl
    rw [q_369_110]
    simp (disch := omega) only [b_369_110, ↓w_aload_n_0, ↓w_getfield, ↓w_goto, ↓w_ifCond_ne, ↓w_ifCond_le, ↓w_invokevirtual_0, stw_0, stw_i, stw_l, stw_r, ofK0, ofK1, ofK2, lst1, lst2, lkill, kont_none, kont_some, Int.reduceToNat, List.length_cons, List.length_nil, Nat.reduceAdd, Nat.reduceLeDiff, Nat.zero_le, true_and, and_true, if_true, if_false, ne_eq, Int.reduceEq, Int.reduceNeg, not_false_eq_true, not_true_eq_false, ↓reduceIte, Int.reduceLT, Int.reduceLE, and_self, or_true, true_or, or_false, false_or, false_and, and_false, ah_t_w, ah_m_w, ah_n_w, lst1_0, List.tail_cons, w32_i, zbd, lst2_0, mt_1036a hM, h5, a2, hlt]
    refine c_270 hQ' (by simp only [List.length_cons, List.length_nil]; omega) (fun h2 hQ2 hO2 => ?_)
    simp (disch := omega) only [b_369_110, ↓w_aload_n_0, ↓w_getfield, ↓w_goto, ↓w_ifCond_ne, ↓w_ifCond_le, ↓w_invokevirtual_0, stw_0, stw_i, stw_l, stw_r, ofK0, ofK1, ofK2, lst1, lst2, lkill, kont_none, kont_some, Int.reduceToNat, List.length_cons, List.length_nil, Nat.reduceAdd, Nat.reduceLeDiff, Nat.zero_le, true_and, and_true, if_true, if_false, ne_eq, Int.reduceEq, Int.reduceNeg, not_false_eq_true, not_true_eq_false, ↓reduceIte, Int.reduceLT, Int.reduceLE, and_self, or_true, true_or, or_false, false_or, false_and, and_false, ah_t_w, ah_m_w, ah_n_w, lst1_0, List.tail_cons, w32_i, zbd, lst2_0]
    refine ih (cs ++ [x]) h2 hQ2 (Off_tr hO (Off_mono (fun r i w => Or.inl w) hO2)) (by simp only [List.length_append, List.length_cons, List.length_nil]; omega) ?_
    rw [← e2]; simp
/-- a test is told: at fault; told; or something lies behind it that is at fault -/
theorem c_369 (hQ : MQs false t n k [] [] [] 0 h)
    (hq0 : ∀ h' kk pp, zxt t n (zF n) 0 k 0 = .inl (kk, pp) → BX kk pp h' → Off WZ h h' → Q (.inl none) h')
    (hq1 : ∀ h' k1 c1, zxt t n (zF n) 0 k 0 = .inr (k1, c1) → MQs false t n k1 [] [] c1 0 h' → Off WZ h h' → Q (.inl none) h')
    (hqz : ∀ h' p, zxt t n (zF n) 0 k 0 = .inl (1, p) → zsk t n p = p → zB t n p ≠ -1 → LX t n p h' → Off WZ h h' → Q (.inl none) h') : wpC (d + 10) 369 [.inr (.inr 1036)] h Q := by
  have hbk := hQ.1.2.2.2.2.2.1
  rw [wpC_B]; refine ⟨⟨Nat.zero_lt_succ _, Nat.le_of_ble_eq_true rfl⟩, ?_⟩; simp only [lent]
  simp (disch := omega) only [q_369_0, b_369_0, ↓w_iconst, ↓w_istore_n_1, ↓w_nop, stw_0, stw_i, stw_l, stw_r, ofK0, ofK1, ofK2, lst1, lst2, lkill, kont_none, kont_some, Int.reduceToNat, List.length_cons, List.length_nil, Nat.reduceAdd, Nat.reduceLeDiff, Nat.zero_le, true_and, and_true, if_true, if_false, ne_eq, Int.reduceEq, Int.reduceNeg, not_false_eq_true, not_true_eq_false, ↓reduceIte, Int.reduceLT, Int.reduceLE, and_self, or_true, true_or, or_false, false_or, false_and, and_false, ah_t_w, ah_m_w, ah_n_w, lst1_0, List.tail_cons, w32_i, zbd, lst2_0]
  have f105 : ∀ z2 a b h', FFt Q (zxt t n (zF n) 0 k 0) h a b → BX a b h' → Off WZ h h' → wpB (d + 9) 369 105 [some (.inr (.inr 1036)), some (.inl 1), some (.inl z2)] [] h' Q := by
    intro z2 a b h' hF hB hO
    simp (disch := omega) only [q_369_105, b_369_105, q_369_106, b_369_106, ↓w_iconst, ↓w_istore_n_1, ↓w_nop, ↓w_goto, stw_0, stw_i, stw_l, stw_r, ofK0, ofK1, ofK2, lst1, lst2, lkill, kont_none, kont_some, Int.reduceToNat, List.length_cons, List.length_nil, Nat.reduceAdd, Nat.reduceLeDiff, Nat.zero_le, true_and, and_true, if_true, if_false, ne_eq, Int.reduceEq, Int.reduceNeg, not_false_eq_true, not_true_eq_false, ↓reduceIte, Int.reduceLT, Int.reduceLE, and_self, or_true, true_or, or_false, false_or, false_and, and_false, ah_t_w, ah_m_w, ah_n_w, lst1_0, List.tail_cons, w32_i, zbd, lst2_0]
    exact At_bad hB (hF.2 h' hB hO) 0
  have hA := sAt (d := d) (t := t) (n := n) (h0 := h) f105
  have hG := sGt (d := d) (t := t) (n := n) (h0 := h) (Q := Q) (R := zxt t n (zF n) 0 k 0) (K2 := fun z2 => kont (d + 9) 369 (b_369_79.drop 9) 0 [some (.inr (.inr 1036)), some (.inl 1), some (.inl z2)] [] Q)
    (fun z2 k w cs o h' hb hQ' hO hP => by
      show wpL (d + 9) 369 (b_369_79.drop 9) [some (.inr (.inr 1036)), some (.inl 1), some (.inl z2)] [.inl 1] h' Q
      simp (disch := omega) only [b_369_79, q_369_106, b_369_106, ↓w_iconst, ↓w_aload_n_0, ↓w_istore_n_1, ↓w_getfield, ↓w_goto, ↓w_ifCond_eq, ↓w_ifCond_ne, ↓w_invokevirtual_0, stw_0, stw_i, stw_l, stw_r, ofK0, ofK1, ofK2, lst1, lst2, lkill, kont_none, kont_some, Int.reduceToNat, List.length_cons, List.length_nil, Nat.reduceAdd, Nat.reduceLeDiff, Nat.zero_le, true_and, and_true, if_true, if_false, ne_eq, Int.reduceEq, Int.reduceNeg, not_false_eq_true, not_true_eq_false, ↓reduceIte, Int.reduceLT, Int.reduceLE, and_self, or_true, true_or, or_false, false_or, false_and, and_false, ah_t_w, ah_m_w, ah_n_w, lst1_0, List.tail_cons, w32_i, zbd, lst2_0, List.drop]
      exact hP _ (by simp))
    (fun z2 a b h' hF hB hO => by
      show wpL (d + 9) 369 (b_369_79.drop 9) [some (.inr (.inr 1036)), some (.inl 1), some (.inl z2)] [.inl 0] h' Q
      simp (disch := omega) only [b_369_79, ↓w_iconst, ↓w_aload_n_0, ↓w_getfield, ↓w_goto, ↓w_ifCond_eq, ↓w_ifCond_ne, ↓w_invokevirtual_0, stw_0, stw_i, stw_l, stw_r, ofK0, ofK1, ofK2, lst1, lst2, lkill, kont_none, kont_some, Int.reduceToNat, List.length_cons, List.length_nil, Nat.reduceAdd, Nat.reduceLeDiff, Nat.zero_le, true_and, and_true, if_true, if_false, ne_eq, Int.reduceEq, Int.reduceNeg, not_false_eq_true, not_true_eq_false, ↓reduceIte, Int.reduceLT, Int.reduceLE, and_self, or_true, true_or, or_false, false_or, false_and, and_false, ah_t_w, ah_m_w, ah_n_w, lst1_0, List.tail_cons, w32_i, zbd, lst2_0, List.drop]
      exact f105 z2 a b h' hF hB hO)
    (fun z2 p w cs o h' hZ hb hQ' hO => by
      show wpL (d + 9) 369 (b_369_79.drop 9) [some (.inr (.inr 1036)), some (.inl 1), some (.inl z2)] [.inl 0] h' Q
      simp (disch := omega) only [b_369_79, q_369_2, b_369_2, q_369_105, b_369_105, q_369_106, b_369_106, ↓w_iconst, ↓w_bipush, ↓w_aload_n_0, ↓w_iload_n_1, ↓w_iload_n_2, ↓w_istore_n_1, ↓w_istore_n_2, ↓w_dup_i, ↓w_dup_a, ↓w_iadd, ↓w_getfield, ↓w_putfield_0, ↓w_nop, ↓w_goto, ↓w_ifCond_eq, ↓w_ifCond_ne, ↓w_if_icmp_ne, ↓w_invokevirtual_0, ↓w_invokevirtual_2, stw_0, stw_i, stw_l, stw_r, ofK0, ofK1, ofK2, lst1, lst2, lkill, kont_none, kont_some, Int.reduceToNat, List.length_cons, List.length_nil, Nat.reduceAdd, Nat.reduceLeDiff, Nat.zero_le, true_and, and_true, if_true, if_false, ne_eq, Int.reduceEq, Int.reduceNeg, not_false_eq_true, not_true_eq_false, ↓reduceIte, Int.reduceLT, Int.reduceLE, and_self, or_true, true_or, or_false, false_or, false_and, and_false, ah_t_w, ah_m_w, ah_n_w, lst1_0, List.tail_cons, w32_i, zbd, lst2_0, List.drop]
      have hb1 := hb.1
      have hbk' := hQ'.1.2.2.2.2.2.1
      exact l_369z (h := h') (fun h2 hQ2 hO2 => hZ (by simp only [List.length_append]; omega) h2 hQ2 (Off_tr hO hO2)) w cs h' hQ' Off_rfl (by omega) rfl)
  have hz : ∀ p c o, zsk t n p = p → zB t n p ≠ -1 → FFt Q (zxt t n (zF n) 0 k 0) h 1 p → PZt t n Q h p c o := by
    intro p c o hs hB hF hl h' hQ' hO
    exact hqz h' p hF.1 hs hB hQ'.1 hO
  have hsum := (zsimt hz hA (sEt (t := t) (n := n)) hG (zF n)).2.2.1 k [] [] 0 hbk.1 hbk.2.1 trivial
  have hpr := zxt_pr (t := t) (n := n) (zF n) 0 k 0 hbk.1 hbk.2.1 (by omega) (by omega)
  refine hsum ?_ ⟨by simp; omega, by simp [zoc], by omega, by simp⟩ h [] hQ Off_rfl (by simp)
  cases e : zxt t n (zF n) 0 k 0 with
  | inl x =>
    obtain ⟨kk, pp⟩ := x
    refine ⟨fun q => ?_, ⟨rfl, fun h' hB hO => hq0 h' kk pp e hB hO⟩⟩
    have q : kk = 99 := q
    exact hpr.2 (by simp [zrk, zF]; omega) pp (by rw [e, q])
  | inr x =>
    obtain ⟨k1, c1⟩ := x
    have hj := hpr.1 k1 c1 e
    have jn := hj.2.2.2.2.2.1 rfl
    show SGt t n _ _ _ _ k1 [] ([] ++ c1) 0
    unfold SGt
    have eb : zsq [] = false := rfl
    unfold zopa zopo at jn
    rw [eb, if_neg (fun q => by cases q.2), if_neg jn.1, if_neg jn.2.1, if_neg (by decide)]
    intro hl h' hQ' hO
    rw [jn.2.2] at hQ'
    simp only [List.nil_append, List.append_nil] at hQ'
    exact hq1 h' k1 c1 e hQ' hO
end TQ4
