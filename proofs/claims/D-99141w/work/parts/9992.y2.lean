/-! ===== X: over, best ===== -/
section Y2
variable {W : Int → Int → Prop} {d : Nat} {h h' h0 : AH} {Q : QQ} {x y z m k s l w a b c v n p r o i f : Int} {S T T' : Int → Int → Int} {t nw nw' : Int → Int}
set_option maxHeartbeats 4000000
theorem c_214 (hK : XG T h) (hS : XS T nw s h) (hX : NX T nw) (h40 : nw 24 ≤ 40) (hQ : ∀ h', XG T h' → XS T nw s h' → XM T 19 (zmv T nw) h' → Off (Wmv 19) h h' → Q (.inl (some (.inl (zb (zcr T nw || (zmv T nw).isEmpty))))) h') : wpC (d + 8) 214 [.inr (.inr s)] h Q := by
  have hVv : isV 19 := by unfold isV; omega
  have hN := NX_N hX
  have hz := @zcn_z T nw (zn T) 0
  rw [wpC_B]; refine ⟨⟨Nat.zero_lt_succ _, Nat.le_of_ble_eq_true rfl⟩, ?_⟩; simp only [lent]
  simp (disch := omega) only [q_214_0, b_214_0, ↓w_aload_n_0, ↓w_getfield, ↓w_nop, ↓w_ifCond_ne, ↓w_ifCond_gt, ↓w_invokevirtual_2, stw_0, stw_i, stw_l, stw_r, ofK0, ofK1, ofK2, lst1, lst2, lkill, kont_none, kont_some, Int.reduceToNat, List.length_cons, List.length_nil, Nat.reduceAdd, Nat.reduceLeDiff, Nat.zero_le, true_and, and_true, if_true, if_false, ne_eq, Int.reduceEq, Int.reduceNeg, not_false_eq_true, not_true_eq_false, ↓reduceIte, Int.reduceLT, Int.reduceLE, and_self, or_true, true_or, or_false, false_or, false_and, and_false, ah_t_w, ah_m_w, ah_n_w, lst1_0, List.tail_cons, w32_i, zbd, lst2_0, xt_1a hK, xf_1_10 hK, s_t hK hS, s_1 hS, s_7 hS, s_11 hK hS]
  refine c_215 (d := d) hK hS h40 hN hVv (fun h1 hx hlen hO1 => ?_)
  have hx : XM T 19 (zmv T nw) h1 := hx
  have hK1 := XG_off hK hO1 (Wmv_ok hVv)
  have hS1 := XS_off hS h40 hO1 (Wmv_S hVv hS.1)
  have hQ := hQ h1 hK1 hS1 hx hO1
  have hx2 := hx.1
  by_cases g : zcr T nw = true
  · have g1 : 0 < zcn T nw (zn T) 0 := hz.1 g
    rw [g, Bool.true_or] at hQ
    simp (disch := omega) only [b_214_0, q_214_35, b_214_35, q_214_40, b_214_40, ↓w_iconst, ↓w_aload_n_0, ↓w_getfield, ↓w_nop, ↓w_goto, ↓w_ifCond_ne, ↓w_ifCond_gt, ↓w_ireturn1, ↓w_invokevirtual_2, stw_0, stw_i, stw_l, stw_r, ofK0, ofK1, ofK2, lst1, lst2, lkill, kont_none, kont_some, Int.reduceToNat, List.length_cons, List.length_nil, Nat.reduceAdd, Nat.reduceLeDiff, Nat.zero_le, true_and, and_true, if_true, if_false, ne_eq, Int.reduceEq, Int.reduceNeg, not_false_eq_true, not_true_eq_false, ↓reduceIte, Int.reduceLT, Int.reduceLE, and_self, or_true, true_or, or_false, false_or, false_and, and_false, ah_t_w, ah_m_w, ah_n_w, lst1_0, List.tail_cons, w32_i, zbd, lst2_0, xt_1a hK1, xf_1_10 hK1, vv_t hK1 hVv, s_t hK1 hS1, s_1 hS1, s_7 hS1, s_11 hK1 hS1, g1]
    exact hQ
  · have g1 : ¬ 0 < zcn T nw (zn T) 0 := fun z => g (hz.2 z)
    have g' : zcr T nw = false := by simpa using g
    rw [g', Bool.false_or] at hQ
    cases e : zmv T nw with
    | nil =>
      rw [e] at hx2 hQ
      have hx3 : ah_m h1 19 2 = 0 := hx2
      simp (disch := omega) only [b_214_0, q_214_35, b_214_35, q_214_40, b_214_40, ↓w_iconst, ↓w_aload_n_0, ↓w_getfield, ↓w_nop, ↓w_goto, ↓w_ifCond_ne, ↓w_ifCond_gt, ↓w_ireturn1, ↓w_invokevirtual_2, stw_0, stw_i, stw_l, stw_r, ofK0, ofK1, ofK2, lst1, lst2, lkill, kont_none, kont_some, Int.reduceToNat, List.length_cons, List.length_nil, Nat.reduceAdd, Nat.reduceLeDiff, Nat.zero_le, true_and, and_true, if_true, if_false, ne_eq, Int.reduceEq, Int.reduceNeg, not_false_eq_true, not_true_eq_false, ↓reduceIte, Int.reduceLT, Int.reduceLE, and_self, or_true, true_or, or_false, false_or, false_and, and_false, ah_t_w, ah_m_w, ah_n_w, lst1_0, List.tail_cons, w32_i, zbd, lst2_0, xt_1a hK1, xf_1_10 hK1, vv_t hK1 hVv, s_t hK1 hS1, s_1 hS1, s_7 hS1, s_11 hK1 hS1, g1, hx3]
      exact hQ
    | cons q L =>
      rw [e] at hx2 hQ
      have hx3 : ¬ ah_m h1 19 2 = 0 := by rw [hx2]; simp; omega
      simp (disch := omega) only [b_214_0, q_214_39, b_214_39, q_214_40, b_214_40, ↓w_iconst, ↓w_aload_n_0, ↓w_getfield, ↓w_nop, ↓w_ifCond_ne, ↓w_ifCond_gt, ↓w_ireturn1, ↓w_invokevirtual_2, stw_0, stw_i, stw_l, stw_r, ofK0, ofK1, ofK2, lst1, lst2, lkill, kont_none, kont_some, Int.reduceToNat, List.length_cons, List.length_nil, Nat.reduceAdd, Nat.reduceLeDiff, Nat.zero_le, true_and, and_true, if_true, if_false, ne_eq, Int.reduceEq, Int.reduceNeg, not_false_eq_true, not_true_eq_false, ↓reduceIte, Int.reduceLT, Int.reduceLE, and_self, or_true, true_or, or_false, false_or, false_and, and_false, ah_t_w, ah_m_w, ah_n_w, lst1_0, List.tail_cons, w32_i, zbd, lst2_0, xt_1a hK1, xf_1_10 hK1, vv_t hK1 hVv, s_t hK1 hS1, s_1 hS1, s_7 hS1, s_11 hK1 hS1, g1, hx3]
      exact hQ
end Y2
section Y2b
variable {W : Int → Int → Prop} {d : Nat} {h h' h0 : AH} {Q : QQ} {x y z m k s l w a b c v n p r o i f : Int} {S T T' : Int → Int → Int} {t nw nw' : Int → Int}
set_option maxHeartbeats 4000000
theorem l_227_37 {j : Nat} (hL : VAL T s j) (hj : j ≤ 2) (hX : NX T nw) (h40 : nw 24 ≤ 40) (hlen : ((zmv T nw).length : Int) ≤ 200) {E : Int}
    (hQ : ∀ h', XG T h' → XS T nw s h' → Off (Wva (j + 1) s) h h' → Q (.inl (some (.inl E))) h') :
    ∀ (R : List (Int × Int)) (i b' most : Int) (c : Int × Int × Int) tl h', 0 ≤ i → i + R.length = (zmv T nw).length → (∀ q ∈ R, q ∈ zmv T nw) → XG T h' → XS T nw s h' → ah_m h' (1023 + 3 * j) 2 = (zmv T nw).length → XMl T (1023 + 3 * j) h' R i → ((c.1 = -1 ∧ most = -2147483648) ∨ (c.1 ≠ -1 ∧ most = b' ∧ -1000 ≤ b' ∧ b' ≤ 1000)) →
      (zcb (fun x => -zval T j (zdo T nw x.1 x.2)) R i b' c).1 = E → Off (Wva (j + 1) s) h h' →
      wpB (d + 9 + 2 * j) 227 37 (some (.inr (.inr s)) :: some (.inl (j + 1)) :: some (.inr (.inr (1023 + 3 * j))) :: some (.inl c.1) :: some (.inl most) :: some (.inl i) :: tl) [] h' Q := by
  have hVv : isV (1023 + 3 * j) := by unfold isV; omega
  intro R
  induction R with
  | nil =>
    intro i b' most c tl h' i0 i1 hR hK hS e2 hx ha e hO
    have hlt : ¬ i < (zmv T nw).length := by simp at i1; omega
    simp (disch := omega) only [q_227_37, b_227_37, q_227_79, b_227_79, ↓w_aload_n_0, ↓w_iload_n_1, ↓w_aload_n_2, ↓w_iload_n_3, ↓w_iload_4, ↓w_iload_5, ↓w_iload_6, ↓w_istore, ↓w_getfield, ↓w_goto, ↓w_if_icmp_ge, ↓w_if_icmp_gt, ↓w_ireturn0, ↓w_invokevirtual_3, stw_0, stw_i, stw_l, stw_r, ofK0, ofK1, ofK2, lst1, lst2, lkill, kont_none, kont_some, Int.reduceToNat, List.length_cons, List.length_nil, Nat.reduceAdd, Nat.reduceLeDiff, Nat.zero_le, true_and, and_true, if_true, if_false, ne_eq, Int.reduceEq, Int.reduceNeg, not_false_eq_true, not_true_eq_false, ↓reduceIte, Int.reduceLT, Int.reduceLE, and_self, or_true, true_or, or_false, false_or, false_and, and_false, ah_t_w, ah_m_w, ah_n_w, lst1_0, List.tail_cons, w32_i, zbd, lst2_0, vv_t hK hVv, s_t hK hS, e2, hlt]
    simp only [zcb] at e
    rw [e]
    exact hQ h' hK hS hO
  | cons q R ih =>
    intro i b' most c tl h' i0 i1 hR hK hS e2 hx ha e hO
    have hlt : i < (zmv T nw).length := by simp at i1; omega
    rw [q_227_37]
    simp (disch := omega) only [b_227_37, ↓w_aload_n_0, ↓w_iload_n_1, ↓w_aload_n_2, ↓w_iload_4, ↓w_iload_5, ↓w_iload_6, ↓w_istore, ↓w_getfield, ↓w_goto, ↓w_if_icmp_ge, ↓w_if_icmp_gt, ↓w_invokevirtual_3, stw_0, stw_i, stw_l, stw_r, ofK0, ofK1, ofK2, lst1, lst2, lkill, kont_none, kont_some, Int.reduceToNat, List.length_cons, List.length_nil, Nat.reduceAdd, Nat.reduceLeDiff, Nat.zero_le, true_and, and_true, if_true, if_false, ne_eq, Int.reduceEq, Int.reduceNeg, not_false_eq_true, not_true_eq_false, ↓reduceIte, Int.reduceLT, Int.reduceLE, and_self, or_true, true_or, or_false, false_or, false_and, and_false, ah_t_w, ah_m_w, ah_n_w, lst1_0, List.tail_cons, w32_i, zbd, lst2_0, vv_t hK hVv, s_t hK hS, e2, hlt]
    have hvb := zval_b hK.2.2 j (zdo T nw q.1 q.2)
    refine c_225 (d := d) hL (by omega) hK hS hX h40 (hR q (List.mem_cons_self)) hVv i0 (by omega) hx.1.1 hx.1.2 (fun h2 hK2 hS2 hO2 => ?_)
    have hx2 : XMl T (1023 + 3 * j) h2 R (i + 1) := XMl_off hO2 (fun r i w => by
      have hs := hS.1
      unfold Wva WSs at w; unfold isS at hs; omega) R (i + 1) hx.2
    have e2' : ah_m h2 (1023 + 3 * j) 2 = (zmv T nw).length := by
      rw [hO2.2 _ _ (by have hs := hS.1; unfold Wva WSs; unfold isS at hs; omega)]; exact e2
    have hO3 : Off (Wva (j + 1) s) h h2 := Off_tr hO (Off_mono (Wva_le (by omega)) hO2)
    have hR2 : ∀ q ∈ R, q ∈ zmv T nw := fun u hu => hR u (List.mem_cons_of_mem _ hu)
    simp only [zcb] at e
    by_cases g : c.1 = -1 ∨ b' < -zval T j (zdo T nw q.1 q.2)
    · rw [if_pos g] at e
      have g2 : most < -zval T j (zdo T nw q.1 q.2) := by omega
      simp (disch := omega) only [b_227_37, q_227_66, b_227_66, q_227_73, b_227_73, ↓w_aload_n_0, ↓w_iload_n_1, ↓w_aload_n_2, ↓w_iload_4, ↓w_iload_5, ↓w_iinc_5, ↓w_iload_6, ↓w_istore, ↓w_istore_n_3, ↓w_getfield, ↓w_nop, ↓w_goto, ↓w_if_icmp_ge, ↓w_if_icmp_gt, ↓w_invokevirtual_3, stw_0, stw_i, stw_l, stw_r, ofK0, ofK1, ofK2, lst1, lst2, lkill, kont_none, kont_some, Int.reduceToNat, List.length_cons, List.length_nil, Nat.reduceAdd, Nat.reduceLeDiff, Nat.zero_le, true_and, and_true, if_true, if_false, ne_eq, Int.reduceEq, Int.reduceNeg, not_false_eq_true, not_true_eq_false, ↓reduceIte, Int.reduceLT, Int.reduceLE, and_self, or_true, true_or, or_false, false_or, false_and, and_false, ah_t_w, ah_m_w, ah_n_w, lst1_0, List.tail_cons, w32_i, zbd, lst2_0, g2]
      exact ih (i + 1) _ _ (i, q.1, q.2) _ h2 (by omega) (by simp at i1; omega) hR2 hK2 hS2 e2' hx2 (Or.inr ⟨by omega, rfl, by omega, by omega⟩) e hO3
    · rw [if_neg g] at e
      have g2 : ¬ most < -zval T j (zdo T nw q.1 q.2) := by omega
      simp (disch := omega) only [b_227_37, q_227_73, b_227_73, ↓w_aload_n_0, ↓w_iload_n_1, ↓w_aload_n_2, ↓w_iload_4, ↓w_iload_5, ↓w_iinc_5, ↓w_iload_6, ↓w_istore, ↓w_getfield, ↓w_goto, ↓w_if_icmp_ge, ↓w_if_icmp_gt, ↓w_invokevirtual_3, stw_0, stw_i, stw_l, stw_r, ofK0, ofK1, ofK2, lst1, lst2, lkill, kont_none, kont_some, Int.reduceToNat, List.length_cons, List.length_nil, Nat.reduceAdd, Nat.reduceLeDiff, Nat.zero_le, true_and, and_true, if_true, if_false, ne_eq, Int.reduceEq, Int.reduceNeg, not_false_eq_true, not_true_eq_false, ↓reduceIte, Int.reduceLT, Int.reduceLE, and_self, or_true, true_or, or_false, false_or, false_and, and_false, ah_t_w, ah_m_w, ah_n_w, lst1_0, List.tail_cons, w32_i, zbd, lst2_0, g2]
      exact ih (i + 1) b' most c _ h2 (by omega) (by simp at i1; omega) hR2 hK2 hS2 e2' hx2 (Or.inr (by omega)) e hO3
def Wbe (j s r i : Int) : Prop := Wva j s r i ∨ Wmv 19 r i
theorem VAL_all : ∀ j : Nat, j ≤ 3 → VAL T s j := by
  intro j
  induction j with
  | zero => intro _; exact VAL_0
  | succ j ih => intro hj; exact VAL_s (ih (by omega)) (by omega)
theorem c_227 {j : Nat} (hj : j ≤ 2) (hK : XG T h) (hS : XS T nw s h) (hX : NX T nw) (h40 : nw 24 ≤ 40) (hQ : ∀ h', XG T h' → XS T nw s h' → Off (Wbe (j + 1) s) h h' → Q (.inl (some (.inl (zbe T nw j 0 0).1))) h') : wpC (d + 10 + 2 * j) 227 [.inr (.inr s), .inl (j + 1)] h Q := by
  have hL : VAL T s j := VAL_all j (by omega)
  have hVv : isV (1023 + 3 * j) := by unfold isV; omega
  have hN := NX_N hX
  rw [show d + 10 + 2 * j = (d + 9 + 2 * j) + 1 by omega]
  rw [wpC_B]; refine ⟨⟨Nat.zero_lt_succ _, Nat.le_of_ble_eq_true rfl⟩, ?_⟩; simp only [lent]
  simp (disch := omega) only [q_227_0, b_227_0, ↓w_iconst, ↓w_aload_n_0, ↓w_ifCond_eq, ↓w_ireturn0, ↓w_invokevirtual_0, stw_0, stw_i, stw_l, stw_r, ofK0, ofK1, ofK2, lst1, lst2, lkill, kont_none, kont_some, Int.reduceToNat, List.length_cons, List.length_nil, Nat.reduceAdd, Nat.reduceLeDiff, Nat.zero_le, true_and, and_true, if_true, if_false, ne_eq, Int.reduceEq, Int.reduceNeg, not_false_eq_true, not_true_eq_false, ↓reduceIte, Int.reduceLT, Int.reduceLE, and_self, or_true, true_or, or_false, false_or, false_and, and_false, ah_t_w, ah_m_w, ah_n_w, lst1_0, List.tail_cons, w32_i, zbd, lst2_0, s_t hK hS]
  refine c_214 (d := d + 1 + 2 * j) hK hS hX h40 (fun h1 hK1 hS1 hx1 hO1 => ?_) |> cast (by rw [show d + 1 + 2 * j + 8 = d + 9 + 2 * j by omega])
  have hO1' : Off (Wbe (j + 1) s) h h1 := Off_mono (fun r i w => Or.inr w) hO1
  unfold zbe at hQ
  by_cases g : zcr T nw = true
  · rw [if_pos g] at hQ
    simp (disch := omega) only [b_227_0, ↓w_iconst, ↓w_aload_n_0, ↓w_ifCond_eq, ↓w_ireturn0, ↓w_invokevirtual_0, stw_0, stw_i, stw_l, stw_r, ofK0, ofK1, ofK2, lst1, lst2, lkill, kont_none, kont_some, Int.reduceToNat, List.length_cons, List.length_nil, Nat.reduceAdd, Nat.reduceLeDiff, Nat.zero_le, true_and, and_true, if_true, if_false, ne_eq, Int.reduceEq, Int.reduceNeg, not_false_eq_true, not_true_eq_false, ↓reduceIte, Int.reduceLT, Int.reduceLE, and_self, or_true, true_or, or_false, false_or, false_and, and_false, ah_t_w, ah_m_w, ah_n_w, lst1_0, List.tail_cons, w32_i, zbd, lst2_0, s_t hK1 hS1, g, Bool.true_or, zb]
    exact hQ h1 hK1 hS1 hO1'
  · rw [if_neg g] at hQ
    have g' : zcr T nw = false := by simpa using g
    cases e : zmv T nw with
    | nil =>
      rw [e] at hQ
      simp (disch := omega) only [b_227_0, ↓w_iconst, ↓w_aload_n_0, ↓w_ifCond_eq, ↓w_ireturn0, ↓w_invokevirtual_0, stw_0, stw_i, stw_l, stw_r, ofK0, ofK1, ofK2, lst1, lst2, lkill, kont_none, kont_some, Int.reduceToNat, List.length_cons, List.length_nil, Nat.reduceAdd, Nat.reduceLeDiff, Nat.zero_le, true_and, and_true, if_true, if_false, ne_eq, Int.reduceEq, Int.reduceNeg, not_false_eq_true, not_true_eq_false, ↓reduceIte, Int.reduceLT, Int.reduceLE, and_self, or_true, true_or, or_false, false_or, false_and, and_false, ah_t_w, ah_m_w, ah_n_w, lst1_0, List.tail_cons, w32_i, zbd, lst2_0, s_t hK1 hS1, g', Bool.false_or, List.isEmpty_nil, zb]
      exact hQ h1 hK1 hS1 hO1'
    | cons q0 L0 =>
      have mv : ah_m h1 18 (j + 1) = 1023 + 3 * j := by
        have : j = 0 ∨ j = 1 ∨ j = 2 := by omega
        rcases this with e | e | e <;> subst e
        · exact xf_18_1 hK1
        · exact xf_18_2 hK1
        · exact xf_18_3 hK1
      simp (disch := omega) only [b_227_0, q_227_9, b_227_9, ↓w_iconst, ↓w_ldc, ↓w_aload_n_0, ↓w_iload_n_1, ↓w_aload_n_2, ↓w_istore, ↓w_istore_n_3, ↓w_astore_n_2, ↓w_getfield, ↓w_aaload, ↓w_nop, ↓w_ifCond_eq, ↓w_ireturn0, ↓w_invokevirtual_0, ↓w_invokevirtual_2, stw_0, stw_i, stw_l, stw_r, ofK0, ofK1, ofK2, lst1, lst2, lkill, kont_none, kont_some, Int.reduceToNat, List.length_cons, List.length_nil, Nat.reduceAdd, Nat.reduceLeDiff, Nat.zero_le, true_and, and_true, if_true, if_false, ne_eq, Int.reduceEq, Int.reduceNeg, not_false_eq_true, not_true_eq_false, ↓reduceIte, Int.reduceLT, Int.reduceLE, and_self, or_true, true_or, or_false, false_or, false_and, and_false, ah_t_w, ah_m_w, ah_n_w, lst1_0, List.tail_cons, w32_i, zbd, lst2_0, xt_1a hK1, xf_1_9 hK1, xt_18a hK1, xt_18b hK1, s_t hK1 hS1, s_1 hS1, s_11 hK1 hS1, g', Bool.false_or, List.isEmpty_cons, zb, Bool.false_eq_true, mv]
      refine c_215 (d := d + 2 + 2 * j) hK1 hS1 h40 hN hVv (fun h2 hx hlen hO2 => ?_) |> cast (by rw [show d + 2 + 2 * j + 7 = d + 9 + 2 * j by omega])
      have hK2 := XG_off hK1 hO2 (Wmv_ok hVv)
      have hS2 := XS_off hS1 h40 hO2 (Wmv_S hVv hS.1)
      have hOv : Off (Wva (j + 1) s) h2 h2 := Off_rfl
      simp (disch := omega) only [b_227_9, ↓w_iconst, ↓w_ldc, ↓w_aload_n_0, ↓w_iload_n_1, ↓w_aload_n_2, ↓w_istore, ↓w_istore_n_3, ↓w_astore_n_2, ↓w_getfield, ↓w_aaload, ↓w_nop, ↓w_invokevirtual_2, stw_0, stw_i, stw_l, stw_r, ofK0, ofK1, ofK2, lst1, lst2, lkill, kont_none, kont_some, Int.reduceToNat, List.length_cons, List.length_nil, Nat.reduceAdd, Nat.reduceLeDiff, Nat.zero_le, true_and, and_true, if_true, if_false, ne_eq, Int.reduceEq, Int.reduceNeg, not_false_eq_true, not_true_eq_false, ↓reduceIte, Int.reduceLT, Int.reduceLE, and_self, or_true, true_or, or_false, false_or, false_and, and_false, ah_t_w, ah_m_w, ah_n_w, lst1_0, List.tail_cons, w32_i, zbd, lst2_0, xt_1a hK2, xf_1_9 hK2, xt_18a hK2, xt_18b hK2, s_t hK2 hS2, s_1 hS2, s_11 hK2 hS2]
      refine l_227_37 (h := h2) hL hj hX h40 hlen (fun h3 hK3 hS3 hO3 => hQ h3 hK3 hS3 (Off_tr hO1' (Off_tr (Off_mono (fun r i w => Or.inl (Or.inr (by unfold Wmv at w; omega))) hO2) (Off_mono (fun r i w => Or.inl w) hO3)))) (zmv T nw) 0 0 _ (-1, 0, 0) _ h2 (by omega) (by omega) (fun _ z => z) hK2 hS2 hx.1 hx.2 (Or.inl ⟨rfl, rfl⟩) rfl hOv
end Y2b
