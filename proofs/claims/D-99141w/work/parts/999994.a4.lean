/-! ===== X: chance ===== -/
def Wch (r i : Int) : Prop := Wac r i ∨ (r = 1 ∧ i = 21)
section A4
variable {W : Int → Int → Prop} {d : Nat} {h h' h1 h0 : AH} {Q : QQ} {x y z m k s l w a b v n p r o i f D0 D1 rm fr R : Int} {S T T' : Int → Int → Int} {t nw nw' pt of tp sr hm g : Int → Int} {tl : ALoc} {c : Int × Int × Int} {ul : List (Int → Int)}
set_option maxHeartbeats 4000000
theorem XA_off (hA : XA T nw h) (h40 : nw 24 ≤ 40) (hO : Off W h h') (hW : ∀ r i, W r i → (¬ fix r i ∧ ¬ BRr r ∧ ¬ (r = 1 ∧ i = 0)) ∧ r < 1121 ∧ (r < 25 ∨ (115 ≤ r ∧ r ≤ 119) ∨ 1020 ≤ r)) : XA T nw h' :=
  ⟨XG_off hA.1 hO (fun r i w => (hW r i w).1), XS_off hA.2.1 h40 hO (fun r i w => by have := (hW r i w).2; omega), XH_off hA.2.2.1 hA.1.2.1 hO (fun r i w => ⟨(hW r i w).2.1, (hW r i w).1.2⟩), fun s hs => RP_off (hA.2.2.2 s hs) hO (fun r i w => by have := (hW r i w).2; unfold isS at hs; omega)⟩
theorem ok21 : ∀ r i, (r = 1 ∧ i = 21) → (¬ fix r i ∧ ¬ BRr r ∧ ¬ (r = 1 ∧ i = 0)) ∧ r < 1121 ∧ (r < 25 ∨ (115 ≤ r ∧ r ≤ 119) ∨ 1020 ≤ r) := fun r i w => by
  unfold fix BRr isS isV; omega
theorem l_138 (hL : LV T) (hn : n ≤ 30) (hU : XU T ul h) {R : (Int → Int) × Int × Int} (hQ : ∀ h', XA T R.1 h' → XU T ul h' → ah_m h' 1 21 = R.2.1 → Off Wch h h' → Q (.inl (some (.inl R.2.2))) h') :
    ∀ (j : Nat) (k a s : Int) (nw : Int → Int) tl h', 0 ≤ k → k + j = n → (0 ≤ a ∧ a ≤ k) → XA T nw h' → NX T nw → FV nw → nw 0 + j ≤ 999 → ah_m h' 1 21 = s → (0 ≤ s ∧ s < 2147483648) → Off Wch h h' → zchn T (T 1074 6) (T 1074 7) j nw s a = R → wpB (d + 45) 138 25 (some (.inr (.inr 1)) :: some (.inl n) :: some (.inl a) :: some (.inl k) :: tl) [] h' Q := by
  have l1 := hL.1; have l2 := hL.2
  have hV19 : isV 19 := by unfold isV; omega
  have hV22 : isV 22 := by unfold isV; omega
  intro j
  induction j with
  | zero =>
    intro k a s nw tl h' k0 k1 ha hA hX hF hd es hs hO hR
    have hlt : ¬ k < n := by omega
    simp (disch := omega) only [q_138_25, b_138_25, q_138_115, b_138_115, ↓w_iconst, ↓w_bipush, ↓w_aload_n_0, ↓w_iload_n_1, ↓w_iload_n_2, ↓w_iinc_2, ↓w_iload_n_3, ↓w_istore, ↓w_getfield, ↓w_goto, ↓w_ifCond_ne, ↓w_if_icmp_ge, ↓w_ireturn0, ↓w_invokevirtual_0, ↓w_invokevirtual_1, stw_0, stw_i, stw_l, stw_r, ofK0, ofK1, ofK2, lst1, lst2, lkill, kont_none, kont_some, Int.reduceToNat, List.length_cons, List.length_nil, Nat.reduceAdd, Nat.reduceLeDiff, Nat.zero_le, true_and, and_true, if_true, if_false, ne_eq, Int.reduceEq, Int.reduceNeg, not_false_eq_true, not_true_eq_false, ↓reduceIte, Int.reduceLT, Int.reduceLE, and_self, or_true, true_or, or_false, false_or, false_and, and_false, ah_t_w, ah_m_w, ah_n_w, lst1_0, List.tail_cons, w32_i, zbd, lst2_0, hlt]
    simp only [zchn] at hR
    subst hR
    exact hQ h' hA (XU_off hU hO (fun r i w => by unfold Wch at w; rcases w with w | w; have := w.1; omega; omega)) es hO
  | succ j ih =>
    intro k a s nw tl h' k0 k1 ha hA hX hF hd es hs hO hR
    have hlt : k < n := by omega
    have hK := hA.1
    have hS := hA.2.1
    have h40 := hF.2.2.2
    have d0 := hF.1
    have hT := NX_T hX
    have hC := hK.2.2.2.2.2.1
    have hsl := hK.2.2.2.2.2.2.2.2.2.2.2.1
    have hside := (NX_N hX).2.2.2
    simp only [zchn] at hR
    -- the day passes
    have day : ∀ (c : Int × Int × Int) (s2 : Int) (b2 : Bool) h2 tl, zcd T (T 1074 6) (T 1074 7) nw s = (c, s2, b2) → zcpk T nw c → XA T nw h2 → ah_m h2 1 21 = s2 → (0 ≤ s2 ∧ s2 < 2147483648) → Off Wch h h2 → wpB (d + 45) 138 99 (some (.inr (.inr 1)) :: some (.inl n) :: some (.inl (if b2 = true then a + 1 else a)) :: some (.inl k) :: some (.inl c.1) :: tl) [] h2 Q := by
      intro c s2 b2 h2 tl ec hcp hA2 es2 hs2 hO2
      rw [ec] at hR
      have hv := zcpk_v hT hcp
      have hK2 := hA2.1
      have tS := sz_t hK2 is25
      simp (disch := omega) only [q_138_99, b_138_99, ↓w_aload_n_0, ↓w_iinc_3, ↓w_iload_4, ↓w_pop_i, ↓w_pop_a, ↓w_getfield, ↓w_goto, ↓w_invokevirtual_1, stw_0, stw_i, stw_l, stw_r, ofK0, ofK1, ofK2, lst1, lst2, lkill, kont_none, kont_some, Int.reduceToNat, List.length_cons, List.length_nil, Nat.reduceAdd, Nat.reduceLeDiff, Nat.zero_le, true_and, and_true, if_true, if_false, ne_eq, Int.reduceEq, Int.reduceNeg, not_false_eq_true, not_true_eq_false, ↓reduceIte, Int.reduceLT, Int.reduceLE, and_self, or_true, true_or, or_false, false_or, false_and, and_false, ah_t_w, ah_m_w, ah_n_w, lst1_0, List.tail_cons, w32_i, zbd, lst2_0, xt_1a hK2, xf_1_12 hK2, tS]
      refine c_230 (d := d + 2) hK2 hA2.2.1 hX hA2.2.2.1 hF (by omega) hcp (fun h3 hK3 hS3 hH3 hO3 _ => ?_)
      have hO3' := Off_mono Wac_ps hO3
      simp (disch := omega) only [b_138_99, ↓w_aload_n_0, ↓w_iinc_3, ↓w_iload_4, ↓w_pop_i, ↓w_pop_a, ↓w_getfield, ↓w_goto, ↓w_invokevirtual_1, stw_0, stw_i, stw_l, stw_r, ofK0, ofK1, ofK2, lst1, lst2, lkill, kont_none, kont_some, Int.reduceToNat, List.length_cons, List.length_nil, Nat.reduceAdd, Nat.reduceLeDiff, Nat.zero_le, true_and, and_true, if_true, if_false, ne_eq, Int.reduceEq, Int.reduceNeg, not_false_eq_true, not_true_eq_false, ↓reduceIte, Int.reduceLT, Int.reduceLE, and_self, or_true, true_or, or_false, false_or, false_and, and_false, ah_t_w, ah_m_w, ah_n_w, lst1_0, List.tail_cons, w32_i, zbd, lst2_0]
      exact ih (k + 1) _ s2 _ _ h3 (by omega) (by omega) (by split <;> omega) (XA_ac hA2 hO3' hS3) (NX_dy hX hF hv) (FV_dy hX hF hv (by omega)) (by rw [(zdy_i hX hF hv).1]; omega) (by rw [hO3'.2 _ _ (fun w => by have := w.1; omega)]; exact es2) hs2 (Off_tr hO2 (Off_mono (fun r i w => Or.inl w) hO3')) hR
    -- by habit
    have habit : ∀ (s2 : Int) h2 tl, zcd T (T 1074 6) (T 1074 7) nw s = (zto T (T 1074 6) (T 1074 7) nw, s2, false) → XA T nw h2 → ah_m h2 1 21 = s2 → (0 ≤ s2 ∧ s2 < 2147483648) → Off Wch h h2 → wpB (d + 45) 138 75 (some (.inr (.inr 1)) :: some (.inl n) :: some (.inl a) :: some (.inl k) :: tl) [] h2 Q := by
      intro s2 h2 tl ec hA2 es2 hs2 hO2
      have hK2 := hA2.1
      have hS2 := hA2.2.1
      have go : ∀ D, (1 ≤ D ∧ D ≤ 2) → D = (if nw 1 = 0 then T 1074 6 else T 1074 7) → ∀ tl, wpC (d + 45) 227 [.inr (.inr 25), .inl D] h2 (kont (d + 45) 138 [(.istore 4, 0, 0, []), (.nop, 99, 0, [])] 0 (some (.inr (.inr 1)) :: some (.inl n) :: some (.inl a) :: some (.inl k) :: tl) [] Q) := by
        intro D hD eD tl
        obtain ⟨u, hu⟩ : ∃ u : Nat, D = u + 1 := ⟨(D - 1).toNat, by omega⟩
        have eto : zto T (T 1074 6) (T 1074 7) nw = zbe T nw u 0 0 := by unfold zto; rw [← eD, hu]; congr 1; omega
        subst hu
        refine wpC_deep (c_227 (d := d) (j := u) (by omega) hK2 hS2 hX h40 (fun h3 hK3 hS3 hO3 => ?_)) (by omega)
        rw [← eto]
        have hO3' : Off Wac h2 h3 := Off_mono (fun r i w => Wac_be r i (Wbe_le (by omega) r i w)) hO3
        have dy := day (zto T (T 1074 6) (T 1074 7) nw) s2 false h3 tl.tail ec zbe_cp (XA_ac hA2 hO3' hS3) (by rw [hO3'.2 _ _ (fun w => by have := w.1; omega)]; exact es2) hs2 (Off_tr hO2 (Off_mono (fun r i w => Or.inl w) hO3'))
        rw [if_neg (by decide)] at dy
        simp (disch := omega) only [b_138_75, ↓w_aload_n_0, ↓w_istore, ↓w_getfield, ↓w_iaload, ↓w_nop, ↓w_invokevirtual_1, stw_0, stw_i, stw_l, stw_r, ofK0, ofK1, ofK2, lst1, lst2, lkill, kont_none, kont_some, Int.reduceToNat, List.length_cons, List.length_nil, Nat.reduceAdd, Nat.reduceLeDiff, Nat.zero_le, true_and, and_true, if_true, if_false, ne_eq, Int.reduceEq, Int.reduceNeg, not_false_eq_true, not_true_eq_false, ↓reduceIte, Int.reduceLT, Int.reduceLE, and_self, or_true, true_or, or_false, false_or, false_and, and_false, ah_t_w, ah_m_w, ah_n_w, lst1_0, List.tail_cons, w32_i, zbd, lst2_0]
        exact dy
      rcases hside with e | e
      · have g0 := go (T 1074 6) (by omega) (by rw [if_pos e])
        simp (disch := omega) only [q_138_75, b_138_75, ↓w_aload_n_0, ↓w_istore, ↓w_getfield, ↓w_iaload, ↓w_nop, ↓w_invokevirtual_1, stw_0, stw_i, stw_l, stw_r, ofK0, ofK1, ofK2, lst1, lst2, lkill, kont_none, kont_some, Int.reduceToNat, List.length_cons, List.length_nil, Nat.reduceAdd, Nat.reduceLeDiff, Nat.zero_le, true_and, and_true, if_true, if_false, ne_eq, Int.reduceEq, Int.reduceNeg, not_false_eq_true, not_true_eq_false, ↓reduceIte, Int.reduceLT, Int.reduceLE, and_self, or_true, true_or, or_false, false_or, false_and, and_false, ah_t_w, ah_m_w, ah_n_w, lst1_0, List.tail_cons, w32_i, zbd, lst2_0, xt_1a hK2, x_0, xf_1_12 hK2, xb_t hK2, x_lk, xlk_a hK2, xlk_b hK2, xlk_0 hK2, xlk_1 hK2, s_t hK2 hS2, s_1 hS2, e]
        exact g0 _
      · have g0 := go (T 1074 7) (by omega) (by rw [if_neg (by omega)])
        simp (disch := omega) only [q_138_75, b_138_75, ↓w_aload_n_0, ↓w_istore, ↓w_getfield, ↓w_iaload, ↓w_nop, ↓w_invokevirtual_1, stw_0, stw_i, stw_l, stw_r, ofK0, ofK1, ofK2, lst1, lst2, lkill, kont_none, kont_some, Int.reduceToNat, List.length_cons, List.length_nil, Nat.reduceAdd, Nat.reduceLeDiff, Nat.zero_le, true_and, and_true, if_true, if_false, ne_eq, Int.reduceEq, Int.reduceNeg, not_false_eq_true, not_true_eq_false, ↓reduceIte, Int.reduceLT, Int.reduceLE, and_self, or_true, true_or, or_false, false_or, false_and, and_false, ah_t_w, ah_m_w, ah_n_w, lst1_0, List.tail_cons, w32_i, zbd, lst2_0, xt_1a hK2, x_0, xf_1_12 hK2, xb_t hK2, x_lk, xlk_a hK2, xlk_b hK2, xlk_0 hK2, xlk_1 hK2, s_t hK2 hS2, s_1 hS2, e]
        exact g0 _
    rw [q_138_25]
    simp (disch := omega) only [b_138_25, ↓w_iconst, ↓w_bipush, ↓w_aload_n_0, ↓w_iload_n_1, ↓w_iinc_2, ↓w_iload_n_3, ↓w_istore, ↓w_getfield, ↓w_goto, ↓w_ifCond_ne, ↓w_if_icmp_ge, ↓w_invokevirtual_0, ↓w_invokevirtual_1, stw_0, stw_i, stw_l, stw_r, ofK0, ofK1, ofK2, lst1, lst2, lkill, kont_none, kont_some, Int.reduceToNat, List.length_cons, List.length_nil, Nat.reduceAdd, Nat.reduceLeDiff, Nat.zero_le, true_and, and_true, if_true, if_false, ne_eq, Int.reduceEq, Int.reduceNeg, not_false_eq_true, not_true_eq_false, ↓reduceIte, Int.reduceLT, Int.reduceLE, and_self, or_true, true_or, or_false, false_or, false_and, and_false, ah_t_w, ah_m_w, ah_n_w, lst1_0, List.tail_cons, w32_i, zbd, lst2_0, xt_1a hK, x_0, xf_1_12 hK, xb_t hK, xb_4 hK, s_t hK hS, hlt]
    refine c_214 (d := d + 37) hK hS hX h40 (fun h1 hK1 hS1 hx1 hO1 => ?_)
    have hA1 := XA_mv hA h40 hV19 hO1
    have hO1' := Off_tr hO (Off_mono (fun r i w => Or.inl (Wac_mv hV19 r i w)) hO1)
    have es1 : ah_m h1 1 21 = s := by rw [hO1.2 _ _ (by unfold Wmv; omega)]; exact es
    cases e8 : (zcr T nw || (zmv T nw).isEmpty) with
    | true =>
      have ec : zcd T (T 1074 6) (T 1074 7) nw s = (zto T (T 1074 6) (T 1074 7) nw, s, false) := by unfold zcd; rw [if_pos e8]
      simp (disch := omega) only [b_138_25, ↓w_iconst, ↓w_bipush, ↓w_aload_n_0, ↓w_iload_n_1, ↓w_iinc_2, ↓w_iload_n_3, ↓w_istore, ↓w_getfield, ↓w_goto, ↓w_ifCond_ne, ↓w_if_icmp_ge, ↓w_invokevirtual_0, ↓w_invokevirtual_1, stw_0, stw_i, stw_l, stw_r, ofK0, ofK1, ofK2, lst1, lst2, lkill, kont_none, kont_some, Int.reduceToNat, List.length_cons, List.length_nil, Nat.reduceAdd, Nat.reduceLeDiff, Nat.zero_le, true_and, and_true, if_true, if_false, ne_eq, Int.reduceEq, Int.reduceNeg, not_false_eq_true, not_true_eq_false, ↓reduceIte, Int.reduceLT, Int.reduceLE, and_self, or_true, true_or, or_false, false_or, false_and, and_false, ah_t_w, ah_m_w, ah_n_w, lst1_0, List.tail_cons, w32_i, zbd, lst2_0, zb_t]
      exact habit s h1 _ ec hA1 es1 hs hO1'
    | false =>
      have zb := @zsd_b s
      have p0 : 0 ≤ zsd s / 64 % 100 := Int.emod_nonneg _ (by decide)
      simp (disch := omega) only [b_138_25, ↓w_iconst, ↓w_bipush, ↓w_aload_n_0, ↓w_iload_n_1, ↓w_iinc_2, ↓w_iload_n_3, ↓w_istore, ↓w_getfield, ↓w_goto, ↓w_ifCond_ne, ↓w_if_icmp_ge, ↓w_invokevirtual_0, ↓w_invokevirtual_1, stw_0, stw_i, stw_l, stw_r, ofK0, ofK1, ofK2, lst1, lst2, lkill, kont_none, kont_some, Int.reduceToNat, List.length_cons, List.length_nil, Nat.reduceAdd, Nat.reduceLeDiff, Nat.zero_le, true_and, and_true, if_true, if_false, ne_eq, Int.reduceEq, Int.reduceNeg, not_false_eq_true, not_true_eq_false, ↓reduceIte, Int.reduceLT, Int.reduceLE, and_self, or_true, true_or, or_false, false_or, false_and, and_false, ah_t_w, ah_m_w, ah_n_w, lst1_0, List.tail_cons, w32_i, zbd, lst2_0, xt_1a hK1, x_0, xf_1_12 hK1, xb_t hK1, xb_4 hK1, zb_f]
      refine (c_139 (d := d + 44) hK1 es1 hs (n := 100) (by omega)).2 ?_
      have hO2 : Off (fun r i => r = 1 ∧ i = 21) h1 (ah_w h1 1 21 (zsd s)) := Off_w Off_rfl ⟨rfl, rfl⟩
      have hA2 := XA_off hA1 h40 hO2 ok21
      have hO2' := Off_tr hO1' (Off_mono (fun r i w => Or.inr w) hO2)
      have es2 : ah_m (ah_w h1 1 21 (zsd s)) 1 21 = zsd s := by rw [ah_m_w, if_pos ⟨rfl, rfl⟩]
      generalize hg2 : ah_w h1 1 21 (zsd s) = g2 at *
      have hK2 := hA2.1
      by_cases gs : zsd s / 64 % 100 < T 1079 3
      · have ne : zmv T nw ≠ [] := fun q => by rw [q] at e8; simp at e8
        have gcr : zcr T nw = false := by
          cases q : zcr T nw with
          | true => rw [q] at e8; simp at e8
          | false => rfl
        have hall : zall T nw = (zmv T nw).length := by unfold zall; rw [gcr, if_neg (by decide)]
        have hpos : 0 < (zall T nw : Int) := by
          rw [hall]; have := List.length_pos_iff.mpr ne; omega
        have ec : zcd T (T 1074 6) (T 1074 7) nw s = (zpc T nw (zsd (zsd s) / 64 % (zall T nw : Int)) 0 0, zsd (zsd s), true) := by
          unfold zcd; rw [e8, if_neg (by decide), if_pos gs]
        simp (disch := omega) only [b_138_25, ↓w_iconst, ↓w_bipush, ↓w_aload_n_0, ↓w_iload_n_1, ↓w_iinc_2, ↓w_iload_n_3, ↓w_istore, ↓w_getfield, ↓w_goto, ↓w_ifCond_ne, ↓w_if_icmp_ge, ↓w_invokevirtual_0, ↓w_invokevirtual_1, stw_0, stw_i, stw_l, stw_r, ofK0, ofK1, ofK2, lst1, lst2, lkill, kont_none, kont_some, Int.reduceToNat, List.length_cons, List.length_nil, Nat.reduceAdd, Nat.reduceLeDiff, Nat.zero_le, true_and, and_true, if_true, if_false, ne_eq, Int.reduceEq, Int.reduceNeg, not_false_eq_true, not_true_eq_false, ↓reduceIte, Int.reduceLT, Int.reduceLE, and_self, or_true, true_or, or_false, false_or, false_and, and_false, ah_t_w, ah_m_w, ah_n_w, lst1_0, List.tail_cons, w32_i, zbd, lst2_0, xt_1a hK2, x_0, xf_1_12 hK2, xb_t hK2, xb_4 hK2, gs]
        refine c_108 (d := d + 37) hA2 hX h40 (fun h3 hA3 hx3 hlen hO3 => ?_)
        have hK3 := hA3.1
        have es3 : ah_m h3 1 21 = zsd s := by rw [hO3.2 _ _ (by unfold Wmv; omega)]; exact es2
        have hlen' : (zall T nw : Int) ≤ 200 := by rw [← @zav_len T nw]; exact hlen
        have m0 : 0 ≤ zsd (zsd s) / 64 % (zall T nw : Int) := Int.emod_nonneg _ (by omega)
        have m1 : zsd (zsd s) / 64 % (zall T nw : Int) < zall T nw := Int.emod_lt_of_pos _ hpos
        have e1 := zpc_1 (T := T) (nw := nw) m0 m1
        have hO4 : Off (fun r i => r = 1 ∧ i = 21) h3 (ah_w h3 1 21 (zsd (zsd s))) := Off_w Off_rfl ⟨rfl, rfl⟩
        have hA4 := XA_off hA3 h40 hO4 ok21
        have dy := day _ _ _ (ah_w h3 1 21 (zsd (zsd s))) (tl.tail) ec zpc_cp hA4 (by rw [ah_m_w, if_pos ⟨rfl, rfl⟩]) zsd_b (Off_tr hO2' (Off_tr (Off_mono (fun r i w => Or.inl (Wac_mv hV22 r i w)) hO3) (Off_mono (fun r i w => Or.inr w) hO4)))
        rw [if_pos rfl, e1] at dy
        simp (disch := omega) only [b_138_25, ↓w_iconst, ↓w_bipush, ↓w_aload_n_0, ↓w_iload_n_1, ↓w_iinc_2, ↓w_iload_n_3, ↓w_istore, ↓w_getfield, ↓w_goto, ↓w_ifCond_ne, ↓w_if_icmp_ge, ↓w_invokevirtual_0, ↓w_invokevirtual_1, stw_0, stw_i, stw_l, stw_r, ofK0, ofK1, ofK2, lst1, lst2, lkill, kont_none, kont_some, Int.reduceToNat, List.length_cons, List.length_nil, Nat.reduceAdd, Nat.reduceLeDiff, Nat.zero_le, true_and, and_true, if_true, if_false, ne_eq, Int.reduceEq, Int.reduceNeg, not_false_eq_true, not_true_eq_false, ↓reduceIte, Int.reduceLT, Int.reduceLE, and_self, or_true, true_or, or_false, false_or, false_and, and_false, ah_t_w, ah_m_w, ah_n_w, lst1_0, List.tail_cons, w32_i, zbd, lst2_0, xt_1a hK3, x_0, xf_1_12 hK3, xb_t hK3, xb_4 hK3, c_139 hK3 es3 zb (n := zall T nw) (by omega)]
        exact dy
      · have ec : zcd T (T 1074 6) (T 1074 7) nw s = (zto T (T 1074 6) (T 1074 7) nw, zsd s, false) := by
          unfold zcd; rw [e8, if_neg (by decide), if_neg gs]
        simp (disch := omega) only [b_138_25, ↓w_iconst, ↓w_bipush, ↓w_aload_n_0, ↓w_iload_n_1, ↓w_iinc_2, ↓w_iload_n_3, ↓w_istore, ↓w_getfield, ↓w_goto, ↓w_ifCond_ne, ↓w_if_icmp_ge, ↓w_invokevirtual_0, ↓w_invokevirtual_1, stw_0, stw_i, stw_l, stw_r, ofK0, ofK1, ofK2, lst1, lst2, lkill, kont_none, kont_some, Int.reduceToNat, List.length_cons, List.length_nil, Nat.reduceAdd, Nat.reduceLeDiff, Nat.zero_le, true_and, and_true, if_true, if_false, ne_eq, Int.reduceEq, Int.reduceNeg, not_false_eq_true, not_true_eq_false, ↓reduceIte, Int.reduceLT, Int.reduceLE, and_self, or_true, true_or, or_false, false_or, false_and, and_false, ah_t_w, ah_m_w, ah_n_w, lst1_0, List.tail_cons, w32_i, zbd, lst2_0, xt_1a hK2, x_0, xf_1_12 hK2, xb_t hK2, xb_4 hK2, gs]
        exact habit (zsd s) g2 _ ec hA2 es2 zb hO2'
theorem c_138 (hA : XA T nw h) (hX : NX T nw) (hF : FV nw) (hL : 0 < T 1074 4 → LV T) (hU : XU T ul h) (hn : -2147483648 ≤ n ∧ n < 2147483648) (es : ah_m h 1 21 = s) (hs : 0 ≤ s ∧ s < 2147483648)
    (hQ0 : ¬ (0 < T 1074 4 ∧ (1 ≤ n ∧ n ≤ 30) ∧ nw 0 + n ≤ 999) → Q (.inl (some (.inl (-1)))) (ah_w h 17 3 (w32 (ah_m h 17 3 + 1))))
    (hQ1 : ∀ h', (0 < T 1074 4 ∧ (1 ≤ n ∧ n ≤ 30) ∧ nw 0 + n ≤ 999) → XA T (zchn T (T 1074 6) (T 1074 7) n.toNat nw s 0).1 h' → XU T ((nw :: ul).take 20) h' → ah_m h' 1 21 = (zchn T (T 1074 6) (T 1074 7) n.toNat nw s 0).2.1 → Off (fun r i => Wch r i ∨ Wkp r i) h h' → Q (.inl (some (.inl (zchn T (T 1074 6) (T 1074 7) n.toNat nw s 0).2.2))) h') : wpC (d + 46) 138 [.inr (.inr 1), .inl n] h Q := by
  have hK := hA.1
  rw [wpC_B]; refine ⟨⟨Nat.zero_lt_succ _, Nat.le_of_ble_eq_true rfl⟩, ?_⟩; simp only [lent]
  by_cases g : 0 < T 1074 4 ∧ (1 ≤ n ∧ n ≤ 30) ∧ nw 0 + n ≤ 999
  · simp (disch := omega) only [q_138_0, b_138_0, q_138_17, b_138_17, ↓w_iconst, ↓w_bipush, ↓w_aload_n_0, ↓w_iload_n_1, ↓w_istore_n_2, ↓w_istore_n_3, ↓w_nop, ↓w_ifCond_ne, ↓w_ireturn0, ↓w_invokevirtual_0, ↓w_invokevirtual_1, ↓w_invokevirtual_3, stw_0, stw_i, stw_l, stw_r, ofK0, ofK1, ofK2, lst1, lst2, lkill, kont_none, kont_some, Int.reduceToNat, List.length_cons, List.length_nil, Nat.reduceAdd, Nat.reduceLeDiff, Nat.zero_le, true_and, and_true, if_true, if_false, ne_eq, Int.reduceEq, Int.reduceNeg, not_false_eq_true, not_true_eq_false, ↓reduceIte, Int.reduceLT, Int.reduceLE, and_self, or_true, true_or, or_false, false_or, false_and, and_false, ah_t_w, ah_m_w, ah_n_w, lst1_0, List.tail_cons, w32_i, zbd, lst2_0, xt_1a hK, ahd_1 hA hF hn (by decide) (by decide) g]
    refine c_135 (d := d + 43) hA hF hU (fun h1 hA1 hU1 hO1 => ?_)
    simp (disch := omega) only [b_138_17, ↓w_iconst, ↓w_aload_n_0, ↓w_istore_n_2, ↓w_istore_n_3, ↓w_nop, ↓w_invokevirtual_0, stw_0, stw_i, stw_l, stw_r, ofK0, ofK1, ofK2, lst1, lst2, lkill, kont_none, kont_some, Int.reduceToNat, List.length_cons, List.length_nil, Nat.reduceAdd, Nat.reduceLeDiff, Nat.zero_le, true_and, and_true, if_true, if_false, ne_eq, Int.reduceEq, Int.reduceNeg, not_false_eq_true, not_true_eq_false, ↓reduceIte, Int.reduceLT, Int.reduceLE, and_self, or_true, true_or, or_false, false_or, false_and, and_false, ah_t_w, ah_m_w, ah_n_w, lst1_0, List.tail_cons, w32_i, zbd, lst2_0]
    exact l_138 (d := d) (h := h1) (hL g.1) (by omega) hU1 (fun h2 a b c hO2 => hQ1 h2 g a b c (Off_tr (Off_mono (fun r i w => Or.inr w) hO1) (Off_mono (fun r i w => Or.inl w) hO2))) n.toNat 0 0 s nw _ h1 (by omega) (by omega) (by omega) hA1 hX hF (by omega) (by rw [hO1.2 _ _ (by unfold Wkp; omega)]; exact es) hs Off_rfl rfl
  · simp (disch := omega) only [q_138_0, b_138_0, ↓w_iconst, ↓w_bipush, ↓w_aload_n_0, ↓w_iload_n_1, ↓w_ifCond_ne, ↓w_ireturn0, ↓w_invokevirtual_1, ↓w_invokevirtual_3, stw_0, stw_i, stw_l, stw_r, ofK0, ofK1, ofK2, lst1, lst2, lkill, kont_none, kont_some, Int.reduceToNat, List.length_cons, List.length_nil, Nat.reduceAdd, Nat.reduceLeDiff, Nat.zero_le, true_and, and_true, if_true, if_false, ne_eq, Int.reduceEq, Int.reduceNeg, not_false_eq_true, not_true_eq_false, ↓reduceIte, Int.reduceLT, Int.reduceLE, and_self, or_true, true_or, or_false, false_or, false_and, and_false, ah_t_w, ah_m_w, ah_n_w, lst1_0, List.tail_cons, w32_i, zbd, lst2_0, xt_1a hK, ahd_0 hA hF hn (by decide) (by decide) g, c_85 hK]
    exact hQ0 g
end A4
