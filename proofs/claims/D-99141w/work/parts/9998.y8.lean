/-! ===== X: days ===== -/
def Wdy (s r i : Int) : Prop := Wps s r i ∨ Wbe 3 s r i
section Y8
variable {W : Int → Int → Prop} {d : Nat} {h h' h1 h0 : AH} {Q : QQ} {x y z m k s l w a b v n p r o i f D0 D1 : Int} {S T T' : Int → Int → Int} {t nw nw' pt of : Int → Int} {tl : ALoc} {c : Int × Int × Int}
set_option maxHeartbeats 4000000
theorem Wbe_le {j j' : Int} (hj : j ≤ j') : ∀ r i, Wbe j s r i → Wbe j' s r i := fun r i w => w.elim (fun q => Or.inl (Wva_le hj r i q)) Or.inr
theorem Wbe_ok (hZ : isS s) : ∀ r i, Wbe 3 s r i → ¬ fix r i ∧ ¬ BRr r ∧ ¬ (r = 1 ∧ i = 0) := fun r i w => w.elim (fun q => Wva_ok (by omega) hZ r i q) (fun q => Wmv_ok (by unfold isV; omega) r i q)
theorem Wdy_ok (hZ : isS s) : ∀ r i, Wdy s r i → ¬ fix r i ∧ ¬ BRr r ∧ ¬ (r = 1 ∧ i = 0) := fun r i w => w.elim (Wps_ok hZ r i) (Wbe_ok hZ r i)
theorem Wbe_H (hZ : isS s) : ∀ r i, Wbe 3 s r i → r < 1121 ∧ ¬ BRr r ∧ ¬ (r = 1 ∧ i = 0) := fun r i w => ⟨by unfold Wbe Wva WSs Wmv at w; unfold isS at hZ; omega, (Wbe_ok hZ r i w).2⟩
theorem Wdy_H (hZ : isS s) : ∀ r i, Wdy s r i → r < 1121 ∧ ¬ BRr r ∧ ¬ (r = 1 ∧ i = 0) := fun r i w => w.elim (Wps_H hZ r i) (Wbe_H hZ r i)
theorem zdc_1 : ∀ (j : Nat) (nw : Int → Int) (a : Int), (zdc T D0 D1 j nw a).1 = zds T 0 D0 D1 j nw := by
  intro j
  induction j with
  | zero => intro nw a; rfl
  | succ j ih => intro nw a; simp only [zdc, zds]; exact ih _ _
theorem l_229 (hZ : isS s) (h0 : 1 ≤ D0 ∧ D0 ≤ 3) (h1 : 1 ≤ D1 ∧ D1 ≤ 3) (hn : n ≤ 1000) {R : (Int → Int) × Int} (hQ : ∀ h', XG T h' → XS T R.1 s h' → XH T h' → NX T R.1 → FV R.1 → Off (Wdy s) h h' → Q (.inl (some (.inl R.2))) h') :
    ∀ (j : Nat) (k a : Int) (nw : Int → Int) tl h', 0 ≤ k → k + j = n → (0 ≤ a ∧ a ≤ k) → XG T h' → XS T nw s h' → XH T h' → NX T nw → FV nw → nw 0 + j ≤ 5000 → Off (Wdy s) h h' → zdc T D0 D1 j nw a = R → wpB (d + 43) 229 6 (some (.inr (.inr s)) :: some (.inl n) :: some (.inl D0) :: some (.inl D1) :: some (.inl a) :: some (.inl k) :: tl) [] h' Q := by
  intro j
  induction j with
  | zero =>
    intro k a nw tl h' k0 k1 ha hK hS hH hX hF hd hO hR
    have hlt : ¬ k < n := by omega
    simp (disch := omega) only [q_229_6, b_229_6, q_229_59, b_229_59, ↓w_aload_n_0, ↓w_iload_n_1, ↓w_iload_n_2, ↓w_iload_4, ↓w_iload_5, ↓w_getfield, ↓w_goto, ↓w_ifCond_ne, ↓w_if_icmp_ge, ↓w_ireturn0, stw_0, stw_i, stw_l, stw_r, ofK0, ofK1, ofK2, lst1, lst2, lkill, kont_none, kont_some, Int.reduceToNat, List.length_cons, List.length_nil, Nat.reduceAdd, Nat.reduceLeDiff, Nat.zero_le, true_and, and_true, if_true, if_false, ne_eq, Int.reduceEq, Int.reduceNeg, not_false_eq_true, not_true_eq_false, ↓reduceIte, Int.reduceLT, Int.reduceLE, and_self, or_true, true_or, or_false, false_or, false_and, and_false, ah_t_w, ah_m_w, ah_n_w, lst1_0, List.tail_cons, w32_i, zbd, lst2_0, s_t hK hS, s_1 hS, hlt]
    simp only [zdc] at hR
    subst hR
    exact hQ h' hK hS hH hX hF hO
  | succ j ih =>
    intro k a nw tl h' k0 k1 ha hK hS hH hX hF hd hO hR
    have hlt : k < n := by omega
    have hside := (NX_N hX).2.2.2
    have ht : zcpk T nw (zto T D0 D1 nw) := zbe_cp
    have hv := zcpk_v (NX_T hX) ht
    have best : ∀ D, (1 ≤ D ∧ D ≤ 3) → D = (if nw 1 = 0 then D0 else D1) → ∀ tl, wpB (d + 43) 229 25 (some (.inr (.inr s)) :: some (.inl n) :: some (.inl D0) :: some (.inl D1) :: some (.inl a) :: some (.inl k) :: tl) [.inl D, .inr (.inr s)] h' Q := by
      intro D hD eD tl
      obtain ⟨u, hu⟩ : ∃ u : Nat, D = u + 1 := ⟨(D - 1).toNat, by omega⟩
      have eto : zto T D0 D1 nw = zbe T nw u 0 0 := by unfold zto; rw [← eD, hu]; congr 1; omega
      subst hu
      have tS := s_t hK hS
      simp (disch := omega) only [q_229_25, b_229_25, ↓w_iconst, ↓w_iload_4, ↓w_iload_6, ↓w_istore, ↓w_goto, ↓w_if_icmp_ne, ↓w_invokevirtual_1, stw_0, stw_i, stw_l, stw_r, ofK0, ofK1, ofK2, lst1, lst2, lkill, kont_none, kont_some, Int.reduceToNat, List.length_cons, List.length_nil, Nat.reduceAdd, Nat.reduceLeDiff, Nat.zero_le, true_and, and_true, if_true, if_false, ne_eq, Int.reduceEq, Int.reduceNeg, not_false_eq_true, not_true_eq_false, ↓reduceIte, Int.reduceLT, Int.reduceLE, and_self, or_true, true_or, or_false, false_or, false_and, and_false, ah_t_w, ah_m_w, ah_n_w, lst1_0, List.tail_cons, w32_i, zbd, lst2_0, s_t hK hS]
      refine wpC_deep (c_227 (d := d) (j := u) (by omega) hK hS hX hF.2.2.2 (fun h2 hK2 hS2 hO2 => ?_)) (by omega)
      rw [← eto]
      have hO2' : Off (Wbe 3 s) h' h2 := Off_mono (Wbe_le (by omega)) hO2
      have hH2 := XH_off hH hK.2.1 hO2' (Wbe_H hZ)
      simp only [zdc] at hR
      have tS2 := s_t hK2 hS2
      have nxt : ∀ a2 tl2, (0 ≤ a2 ∧ a2 ≤ k + 1) → zdc T D0 D1 j (zdy T nw 0 (zto T D0 D1 nw)) a2 = R → wpC (d + 43) 230 [.inr (.inr s), .inl (zto T D0 D1 nw).1] h2 (kont (d + 43) 229 [(.pop, 0, 0, []), (.iinc 5 1, 0, 0, []), (.goto (-50), 6, 0, [])] 0 (some (.inr (.inr s)) :: some (.inl n) :: some (.inl D0) :: some (.inl D1) :: some (.inl a2) :: some (.inl k) :: tl2) [] Q) := by
        intro a2 tl2 ha2 hR2
        refine c_230 (d := d) hK2 hS2 hX hH2 hF (by omega) ht (fun h3 hK3 hS3 hH3 hO3 _ => ?_)
        simp (disch := omega) only [kont_some, ↓w_pop_i, ↓w_iinc_5, ↓w_goto, lst1, lkill, w32_i, Int.reduceToNat]
        exact ih (k + 1) a2 _ tl2 h3 (by omega) (by omega) ha2 hK3 hS3 hH3 (NX_dy hX hF hv) (FV_dy hX hF hv (by omega)) (by rw [(zdy_i hX hF hv).1]; omega) (Off_tr hO (Off_tr (Off_mono (fun r i w => Or.inr w) hO2') (Off_mono (fun r i w => Or.inl w) hO3))) hR2
      by_cases g : (zto T D0 D1 nw).1 = -1
      · rw [if_pos g] at hR
        have nx := nxt a (some (.inl (-1)) :: tl.tail) (by omega) hR
        rw [g] at nx
        simp (disch := omega) only [b_229_25, q_229_43, b_229_43, ↓w_iconst, ↓w_aload_n_0, ↓w_iload_4, ↓w_iinc_5, ↓w_iload_6, ↓w_istore, ↓w_pop_i, ↓w_pop_a, ↓w_iadd, ↓w_goto, ↓w_if_icmp_ne, ↓w_invokevirtual_1, stw_0, stw_i, stw_l, stw_r, ofK0, ofK1, ofK2, lst1, lst2, lkill, kont_none, kont_some, Int.reduceToNat, List.length_cons, List.length_nil, Nat.reduceAdd, Nat.reduceLeDiff, Nat.zero_le, true_and, and_true, if_true, if_false, ne_eq, Int.reduceEq, Int.reduceNeg, not_false_eq_true, not_true_eq_false, ↓reduceIte, Int.reduceLT, Int.reduceLE, and_self, or_true, true_or, or_false, false_or, false_and, and_false, ah_t_w, ah_m_w, ah_n_w, lst1_0, List.tail_cons, w32_i, zbd, lst2_0, g, Int.add_zero, tS2]
        exact nx
      · rw [if_neg g] at hR
        have nx := nxt (a + 1) (some (.inl (zto T D0 D1 nw).1) :: tl.tail) (by omega) hR
        simp (disch := omega) only [b_229_25, q_229_42, b_229_42, q_229_43, b_229_43, ↓w_iconst, ↓w_aload_n_0, ↓w_iload_4, ↓w_iinc_5, ↓w_iload_6, ↓w_istore, ↓w_pop_i, ↓w_pop_a, ↓w_iadd, ↓w_nop, ↓w_goto, ↓w_if_icmp_ne, ↓w_invokevirtual_1, stw_0, stw_i, stw_l, stw_r, ofK0, ofK1, ofK2, lst1, lst2, lkill, kont_none, kont_some, Int.reduceToNat, List.length_cons, List.length_nil, Nat.reduceAdd, Nat.reduceLeDiff, Nat.zero_le, true_and, and_true, if_true, if_false, ne_eq, Int.reduceEq, Int.reduceNeg, not_false_eq_true, not_true_eq_false, ↓reduceIte, Int.reduceLT, Int.reduceLE, and_self, or_true, true_or, or_false, false_or, false_and, and_false, ah_t_w, ah_m_w, ah_n_w, lst1_0, List.tail_cons, w32_i, zbd, lst2_0, g, tS2]
        exact nx
    rcases hside with e | e
    · simp (disch := omega) only [q_229_6, b_229_6, ↓w_aload_n_0, ↓w_iload_n_1, ↓w_iload_n_2, ↓w_iload_5, ↓w_getfield, ↓w_goto, ↓w_ifCond_ne, ↓w_if_icmp_ge, stw_0, stw_i, stw_l, stw_r, ofK0, ofK1, ofK2, lst1, lst2, lkill, kont_none, kont_some, Int.reduceToNat, List.length_cons, List.length_nil, Nat.reduceAdd, Nat.reduceLeDiff, Nat.zero_le, true_and, and_true, if_true, if_false, ne_eq, Int.reduceEq, Int.reduceNeg, not_false_eq_true, not_true_eq_false, ↓reduceIte, Int.reduceLT, Int.reduceLE, and_self, or_true, true_or, or_false, false_or, false_and, and_false, ah_t_w, ah_m_w, ah_n_w, lst1_0, List.tail_cons, w32_i, zbd, lst2_0, s_t hK hS, s_1 hS, hlt, e]
      exact best D0 h0 (by rw [if_pos e]) _
    · simp (disch := omega) only [q_229_6, b_229_6, q_229_24, b_229_24, ↓w_aload_n_0, ↓w_iload_n_1, ↓w_iload_n_2, ↓w_iload_n_3, ↓w_iload_5, ↓w_getfield, ↓w_nop, ↓w_goto, ↓w_ifCond_ne, ↓w_if_icmp_ge, stw_0, stw_i, stw_l, stw_r, ofK0, ofK1, ofK2, lst1, lst2, lkill, kont_none, kont_some, Int.reduceToNat, List.length_cons, List.length_nil, Nat.reduceAdd, Nat.reduceLeDiff, Nat.zero_le, true_and, and_true, if_true, if_false, ne_eq, Int.reduceEq, Int.reduceNeg, not_false_eq_true, not_true_eq_false, ↓reduceIte, Int.reduceLT, Int.reduceLE, and_self, or_true, true_or, or_false, false_or, false_and, and_false, ah_t_w, ah_m_w, ah_n_w, lst1_0, List.tail_cons, w32_i, zbd, lst2_0, s_t hK hS, s_1 hS, hlt, e]
      exact best D1 h1 (by rw [if_neg (by omega)]) _
theorem c_229 (hK : XG T h) (hS : XS T nw s h) (hX : NX T nw) (hH : XH T h) (hF : FV nw) (h0 : 1 ≤ D0 ∧ D0 ≤ 3) (h1 : 1 ≤ D1 ∧ D1 ≤ 3) (n0 : 0 ≤ n) (hn : n ≤ 1000) (hd : nw 0 + n ≤ 5000)
    (hQ : ∀ h', XG T h' → XS T (zds T 0 D0 D1 n.toNat nw) s h' → XH T h' → NX T (zds T 0 D0 D1 n.toNat nw) → FV (zds T 0 D0 D1 n.toNat nw) → Off (Wdy s) h h' → Q (.inl (some (.inl (zdc T D0 D1 n.toNat nw 0).2))) h') : wpC (d + 44) 229 [.inr (.inr s), .inl n, .inl D0, .inl D1] h Q := by
  rw [← zdc_1 (a := 0)] at hQ
  rw [wpC_B]; refine ⟨⟨Nat.zero_lt_succ _, Nat.le_of_ble_eq_true rfl⟩, ?_⟩; simp only [lent]
  simp (disch := omega) only [q_229_0, b_229_0, ↓w_iconst, ↓w_istore, ↓w_nop, stw_0, stw_i, stw_l, stw_r, ofK0, ofK1, ofK2, lst1, lst2, lkill, kont_none, kont_some, Int.reduceToNat, List.length_cons, List.length_nil, Nat.reduceAdd, Nat.reduceLeDiff, Nat.zero_le, true_and, and_true, if_true, if_false, ne_eq, Int.reduceEq, Int.reduceNeg, not_false_eq_true, not_true_eq_false, ↓reduceIte, Int.reduceLT, Int.reduceLE, and_self, or_true, true_or, or_false, false_or, false_and, and_false, ah_t_w, ah_m_w, ah_n_w, lst1_0, List.tail_cons, w32_i, zbd, lst2_0]
  exact l_229 hS.1 h0 h1 hn hQ n.toNat 0 0 nw _ h (by omega) (by omega) (by omega) hK hS hH hX hF (by omega) Off_rfl rfl
theorem c_228 (hK : XG T h) (hS : XS T nw s h) (hX : NX T nw) (hH : XH T h) (hF : FV nw) (hL : LV T) (n0 : 0 ≤ n) (hn : n ≤ 1000) (hd : nw 0 + n ≤ 5000)
    (hQ : ∀ h', XG T h' → XS T (zds T 0 (T 1074 6) (T 1074 7) n.toNat nw) s h' → XH T h' → NX T (zds T 0 (T 1074 6) (T 1074 7) n.toNat nw) → FV (zds T 0 (T 1074 6) (T 1074 7) n.toNat nw) → Off (Wdy s) h h' → Q (.inl (some (.inr (.inr s)))) h') : wpC (d + 45) 228 [.inr (.inr s), .inl n] h Q := by
  rw [wpC_B]; refine ⟨⟨Nat.zero_lt_succ _, Nat.le_of_ble_eq_true rfl⟩, ?_⟩; simp only [lent]
  simp (disch := omega) only [q_228_0, b_228_0, ↓w_iconst, ↓w_aload_n_0, ↓w_iload_n_1, ↓w_pop_i, ↓w_pop_a, ↓w_getfield, ↓w_iaload, ↓w_areturn, ↓w_invokevirtual_3, stw_0, stw_i, stw_l, stw_r, ofK0, ofK1, ofK2, lst1, lst2, lkill, kont_none, kont_some, Int.reduceToNat, List.length_cons, List.length_nil, Nat.reduceAdd, Nat.reduceLeDiff, Nat.zero_le, true_and, and_true, if_true, if_false, ne_eq, Int.reduceEq, Int.reduceNeg, not_false_eq_true, not_true_eq_false, ↓reduceIte, Int.reduceLT, Int.reduceLE, and_self, or_true, true_or, or_false, false_or, false_and, and_false, ah_t_w, ah_m_w, ah_n_w, lst1_0, List.tail_cons, w32_i, zbd, lst2_0, xt_1a hK, x_0, xb_t hK, x_lk, xlk_a hK, xlk_b hK, xlk_0 hK, xlk_1 hK, s_t hK hS, s_11 hK hS]
  have l1 := hL.1; have l2 := hL.2
  refine c_229 (d := d) hK hS hX hH hF (by omega) (by omega) n0 hn hd (fun h2 hK2 hS2 hH2 hX2 hF2 hO2 => ?_)
  simp (disch := omega) only [b_228_0, ↓w_iconst, ↓w_aload_n_0, ↓w_iload_n_1, ↓w_pop_i, ↓w_pop_a, ↓w_getfield, ↓w_iaload, ↓w_areturn, ↓w_invokevirtual_3, stw_0, stw_i, stw_l, stw_r, ofK0, ofK1, ofK2, lst1, lst2, lkill, kont_none, kont_some, Int.reduceToNat, List.length_cons, List.length_nil, Nat.reduceAdd, Nat.reduceLeDiff, Nat.zero_le, true_and, and_true, if_true, if_false, ne_eq, Int.reduceEq, Int.reduceNeg, not_false_eq_true, not_true_eq_false, ↓reduceIte, Int.reduceLT, Int.reduceLE, and_self, or_true, true_or, or_false, false_or, false_and, and_false, ah_t_w, ah_m_w, ah_n_w, lst1_0, List.tail_cons, w32_i, zbd, lst2_0]
  exact hQ h2 hK2 hS2 hH2 hX2 hF2 hO2
end Y8
