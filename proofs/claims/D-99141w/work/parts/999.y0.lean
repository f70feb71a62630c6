/-! ===== X: what a move is worth ===== -/
/-- what looking so deep writes: the state, moves at depths 1..j -/
def Wva (j s r i : Int) : Prop := WSs s r i ∨ (1023 ≤ r ∧ r < 1023 + 3 * j ∧ ((r - 1020) % 3 = 0 → i = 2))
section Y0
variable {W : Int → Int → Prop} {d : Nat} {h h' h0 : AH} {Q : QQ} {x y z m k s l w a b c v n p r o i f : Int} {S T T' : Int → Int → Int} {t nw nw' : Int → Int}
set_option maxHeartbeats 4000000
/-- a move that is found can be done -/
theorem mv_ok {q : Int × Int} (hX : NX T nw) (hq : q ∈ zmv T nw) : (0 ≤ q.1 ∧ q.1 < T 1072 4) ∧ nw (2 + 2 * q.1) ≠ -1 ∧ (0 ≤ q.2 ∧ q.2 < zP T) ∧ zat T nw (q.2 % T 1074 4) (q.2 / T 1074 4) ≠ q.1 := by
  have h := zmv_mem (NX_T hX) hq
  refine ⟨⟨h.1, h.2.1⟩, ?_, ⟨h.2.2.2.1, h.2.2.2.2.1⟩, ?_⟩
  all_goals
    have hz := h.2.2.2.2.2
    unfold zG zgo at hz
    simp only [Bool.and_eq_true, decide_eq_true_eq] at hz
  · exact hz.1.1.1
  · intro e
    have hf := hz.2
    unfold zfree at hf
    have hf := of_decide_eq_true hf
    have e' : zman nw (q.2 % T 1074 4) (q.2 / T 1074 4) (T 1072 4).toNat 0 = q.1 := e
    rw [e'] at hf
    rcases hf with u | u
    · omega
    · exact u rfl
theorem Wva_ok {j : Int} (hj : j ≤ 4) (hs : isS s) : ∀ r i, Wva j s r i → ¬ fix r i ∧ ¬ BRr r ∧ ¬ (r = 1 ∧ i = 0) := by
  intro r i w
  rcases w with w | w
  · exact WSs_ok hs r i w
  · unfold fix BRr isS isV; omega
theorem Wva_le {j j' : Int} (hj : j ≤ j') : ∀ r i, Wva j s r i → Wva j' s r i := by
  intro r i w
  rcases w with w | w
  · exact Or.inl w
  · exact Or.inr ⟨w.1, by omega, w.2.2⟩
def VAL (T : Int → Int → Int) (s : Int) (j : Nat) : Prop := ∀ (d : Nat) (nw : Int → Int) (h : AH) (Q : QQ), XG T h → XS T nw s h → NX T nw → nw 24 ≤ 40 → (∀ h', XG T h' → XS T nw s h' → Off (Wva j s) h h' → Q (.inl (some (.inl (zval T j nw)))) h') → wpC (d + 8 + 2 * j) 224 [.inr (.inr s), .inl j] h Q
theorem WSs_va {j : Int} : ∀ r i, WSs s r i → Wva j s r i := fun r i w => Or.inl w
theorem c_225 {j : Nat} {q : Int × Int} (hL : VAL T s j) (hj : j ≤ 3) (hK : XG T h) (hS : XS T nw s h) (hX : NX T nw) (h40 : nw 24 ≤ 40) (hq : q ∈ zmv T nw) (hVv : isV v) (i0 : 0 ≤ i) (i1 : i < 200) (e1 : ah_m h (v + 1) i = q.1) (e2 : ah_m h (v + 2) i = zp5 T q.2)
    (hQ : ∀ h', XG T h' → XS T nw s h' → Off (Wva j s) h h' → Q (.inl (some (.inl (-zval T j (zdo T nw q.1 q.2))))) h') : wpC (d + 9 + 2 * j) 225 [.inr (.inr s), .inr (.inr v), .inl i, .inl (j + 1)] h Q := by
  have ho := mv_ok hX hq
  have hm := ho.1
  have n8 := hK.2.2.2.1
  have ep := sp hS hm.1 hm.2
  have hvb := zval_b hK.2.2 j (zdo T nw q.1 q.2)
  rw [show d + 9 + 2 * j = (d + 8 + 2 * j) + 1 by omega]
  rw [wpC_B]; refine ⟨⟨Nat.zero_lt_succ _, Nat.le_of_ble_eq_true rfl⟩, ?_⟩; simp only [lent]
  simp (disch := omega) only [q_225_0, b_225_0, ↓w_iconst, ↓w_aload_n_0, ↓w_aload_n_1, ↓w_iload_n_2, ↓w_iload_n_3, ↓w_iload_4, ↓w_iload_5, ↓w_iload_6, ↓w_iload_7, ↓w_istore, ↓w_isub, ↓w_ineg, ↓w_getfield, ↓w_iaload, ↓w_ireturn0, ↓w_invokevirtual_1, ↓w_invokevirtual_2, ↓w_invokevirtual_3, stw_0, stw_i, stw_l, stw_r, ofK0, ofK1, ofK2, lst1, lst2, lkill, kont_none, kont_some, Int.reduceToNat, List.length_cons, List.length_nil, Nat.reduceAdd, Nat.reduceLeDiff, Nat.zero_le, true_and, and_true, if_true, if_false, ne_eq, Int.reduceEq, Int.reduceNeg, not_false_eq_true, not_true_eq_false, ↓reduceIte, Int.reduceLT, Int.reduceLE, and_self, or_true, true_or, or_false, false_or, false_and, and_false, ah_t_w, ah_m_w, ah_n_w, lst1_0, List.tail_cons, w32_i, zbd, lst2_0, vv_t hK hVv, vv_0 hK hVv, vv_0a hK hVv, vv_0b hK hVv, vv_1 hK hVv, vv_1a hK hVv, vv_1b hK hVv, s_t hK hS, s_3 hK hS, s_3a hK hS, s_3b hK hS, e1, e2, ep]
  refine c_221 (d := d + 2 + 2 * j) hK hS hX h40 hm.1 hm.2 ho.2.1 ho.2.2.1.1 ho.2.2.1.2 ho.2.2.2 (fun h1 hK1 hS1 hO1 => ?_) |> cast (by rw [show d + 2 + 2 * j + 6 = d + 8 + 2 * j by omega])
  have h40' : zdo T nw q.1 q.2 24 ≤ 40 := by rw [zdo_r hX hm.1 hm.2 (by omega)]; exact h40
  simp (disch := omega) only [b_225_0, ↓w_iconst, ↓w_aload_n_0, ↓w_aload_n_1, ↓w_iload_n_2, ↓w_iload_n_3, ↓w_iload_4, ↓w_iload_5, ↓w_iload_6, ↓w_iload_7, ↓w_istore, ↓w_isub, ↓w_ineg, ↓w_getfield, ↓w_iaload, ↓w_ireturn0, ↓w_invokevirtual_1, ↓w_invokevirtual_2, ↓w_invokevirtual_3, stw_0, stw_i, stw_l, stw_r, ofK0, ofK1, ofK2, lst1, lst2, lkill, kont_none, kont_some, Int.reduceToNat, List.length_cons, List.length_nil, Nat.reduceAdd, Nat.reduceLeDiff, Nat.zero_le, true_and, and_true, if_true, if_false, ne_eq, Int.reduceEq, Int.reduceNeg, not_false_eq_true, not_true_eq_false, ↓reduceIte, Int.reduceLT, Int.reduceLE, and_self, or_true, true_or, or_false, false_or, false_and, and_false, ah_t_w, ah_m_w, ah_n_w, lst1_0, List.tail_cons, w32_i, zbd, lst2_0, s_t hK1 hS1, s_3 hK1 hS1, s_3a hK1 hS1, s_3b hK1 hS1, show (j : Int) + 1 - 1 = j by omega]
  refine hL d _ h1 _ hK1 hS1 (NX_do hX hm.1 hm.2 ho.2.2.1.1 ho.2.2.1.2) h40' (fun h2 hK2 hS2 hO2 => ?_)
  simp (disch := omega) only [b_225_0, ↓w_iconst, ↓w_aload_n_0, ↓w_aload_n_1, ↓w_iload_n_2, ↓w_iload_n_3, ↓w_iload_4, ↓w_iload_5, ↓w_iload_6, ↓w_iload_7, ↓w_istore, ↓w_isub, ↓w_ineg, ↓w_getfield, ↓w_iaload, ↓w_ireturn0, ↓w_invokevirtual_1, ↓w_invokevirtual_2, ↓w_invokevirtual_3, stw_0, stw_i, stw_l, stw_r, ofK0, ofK1, ofK2, lst1, lst2, lkill, kont_none, kont_some, Int.reduceToNat, List.length_cons, List.length_nil, Nat.reduceAdd, Nat.reduceLeDiff, Nat.zero_le, true_and, and_true, if_true, if_false, ne_eq, Int.reduceEq, Int.reduceNeg, not_false_eq_true, not_true_eq_false, ↓reduceIte, Int.reduceLT, Int.reduceLE, and_self, or_true, true_or, or_false, false_or, false_and, and_false, ah_t_w, ah_m_w, ah_n_w, lst1_0, List.tail_cons, w32_i, zbd, lst2_0, s_t hK2 hS2, s_3 hK2 hS2, s_3a hK2 hS2, s_3b hK2 hS2]
  refine c_226 (d := d + 2 + 2 * j) hK2 hS2 hX h40 hm.1 hm.2 ho.2.1 ho.2.2.1.1 ho.2.2.1.2 ho.2.2.2 (fun h3 hK3 hS3 hO3 => ?_) |> cast (by rw [show d + 2 + 2 * j + 6 = d + 8 + 2 * j by omega])
  simp (disch := omega) only [b_225_0, ↓w_iconst, ↓w_aload_n_0, ↓w_aload_n_1, ↓w_iload_n_2, ↓w_iload_n_3, ↓w_iload_4, ↓w_iload_5, ↓w_iload_6, ↓w_iload_7, ↓w_istore, ↓w_isub, ↓w_ineg, ↓w_getfield, ↓w_iaload, ↓w_ireturn0, ↓w_invokevirtual_1, ↓w_invokevirtual_2, ↓w_invokevirtual_3, stw_0, stw_i, stw_l, stw_r, ofK0, ofK1, ofK2, lst1, lst2, lkill, kont_none, kont_some, Int.reduceToNat, List.length_cons, List.length_nil, Nat.reduceAdd, Nat.reduceLeDiff, Nat.zero_le, true_and, and_true, if_true, if_false, ne_eq, Int.reduceEq, Int.reduceNeg, not_false_eq_true, not_true_eq_false, ↓reduceIte, Int.reduceLT, Int.reduceLE, and_self, or_true, true_or, or_false, false_or, false_and, and_false, ah_t_w, ah_m_w, ah_n_w, lst1_0, List.tail_cons, w32_i, zbd, lst2_0]
  exact hQ h3 hK3 hS3 (Off_tr (Off_mono WSs_va hO1) (Off_tr hO2 (Off_mono WSs_va hO3)))
end Y0
