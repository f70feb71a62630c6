/-! ===== X: value ===== -/
section Y1
variable {W : Int → Int → Prop} {d : Nat} {h h' h0 : AH} {Q : QQ} {x y z m k s l w a b c v n p r o i f : Int} {S T T' : Int → Int → Int} {t nw nw' : Int → Int}
set_option maxHeartbeats 4000000
theorem l_224_61 {j : Nat} (hL : VAL T s j) (hj : j ≤ 2) (hX : NX T nw) (h40 : nw 24 ≤ 40) (hlen : ((zmv T nw).length : Int) ≤ 200)
    (hQ : ∀ h', XG T h' → XS T nw s h' → Off (Wva (j + 1) s) h h' → Q (.inl (some (.inl (zbst (fun x => -zval T j (zdo T nw x.1 x.2)) (zmv T nw) (zbal T nw (nw 1)) false)))) h') :
    ∀ (R : List (Int × Int)) (i b' most : Int) (a : Bool) h', 0 ≤ i → i + R.length = (zmv T nw).length → (∀ q ∈ R, q ∈ zmv T nw) → XG T h' → XS T nw s h' → ah_m h' (1023 + 3 * j) 2 = (zmv T nw).length → XMl T (1023 + 3 * j) h' R i → ((a = true ∧ most = b' ∧ -1000 ≤ b' ∧ b' ≤ 1000) ∨ (a = false ∧ most = -2147483648 ∧ R ≠ [])) →
      zbst (fun x => -zval T j (zdo T nw x.1 x.2)) R b' a = zbst (fun x => -zval T j (zdo T nw x.1 x.2)) (zmv T nw) (zbal T nw (nw 1)) false → Off (Wva (j + 1) s) h h' →
      wpB (d + 9 + 2 * j) 224 61 [some (.inr (.inr s)), some (.inl (j + 1)), some (.inr (.inr (1023 + 3 * j))), some (.inl most), some (.inl i)] [] h' Q := by
  have hVv : isV (1023 + 3 * j) := by unfold isV; omega
  have c17 : ∀ {x y : Int} {h : AH} {Q : QQ}, wpC (d + 9 + 2 * j) 17 [.inl x, .inl y] h Q ↔ Q (.inl (some (.inl (if x < y then y else x)))) h := by
    intro x y h Q; rw [show d + 9 + 2 * j = (d + 8 + 2 * j) + 1 by omega]; exact c_17
  intro R
  induction R with
  | nil =>
    intro i b' most a h' i0 i1 hR hK hS e2 hx ha e hO
    have hlt : ¬ i < (zmv T nw).length := by simp at i1; omega
    have em : most = b' := by rcases ha with q | q; exact q.2.1; exact absurd rfl q.2.2
    simp (disch := omega) only [q_224_61, b_224_61, q_224_89, b_224_89, ↓w_aload_n_0, ↓w_iload_n_1, ↓w_aload_n_2, ↓w_iload_n_3, ↓w_iload_4, ↓w_iinc_4, ↓w_istore_n_3, ↓w_getfield, ↓w_goto, ↓w_if_icmp_ge, ↓w_ireturn0, ↓w_invokestatic_2, ↓w_invokevirtual_3, stw_0, stw_i, stw_l, stw_r, ofK0, ofK1, ofK2, lst1, lst2, lkill, kont_none, kont_some, Int.reduceToNat, List.length_cons, List.length_nil, Nat.reduceAdd, Nat.reduceLeDiff, Nat.zero_le, true_and, and_true, if_true, if_false, ne_eq, Int.reduceEq, Int.reduceNeg, not_false_eq_true, not_true_eq_false, ↓reduceIte, Int.reduceLT, Int.reduceLE, and_self, or_true, true_or, or_false, false_or, false_and, and_false, ah_t_w, ah_m_w, ah_n_w, lst1_0, List.tail_cons, w32_i, zbd, lst2_0, vv_t hK hVv, s_t hK hS, e2, hlt]
    simp only [zbst] at e
    rw [em, e]
    exact hQ h' hK hS hO
  | cons q R ih =>
    intro i b' most a h' i0 i1 hR hK hS e2 hx ha e hO
    have hlt : i < (zmv T nw).length := by simp at i1; omega
    rw [q_224_61]
    simp (disch := omega) only [b_224_61, ↓w_aload_n_0, ↓w_iload_n_1, ↓w_aload_n_2, ↓w_iload_n_3, ↓w_iload_4, ↓w_iinc_4, ↓w_istore_n_3, ↓w_getfield, ↓w_goto, ↓w_if_icmp_ge, ↓w_invokestatic_2, ↓w_invokevirtual_3, stw_0, stw_i, stw_l, stw_r, ofK0, ofK1, ofK2, lst1, lst2, lkill, kont_none, kont_some, Int.reduceToNat, List.length_cons, List.length_nil, Nat.reduceAdd, Nat.reduceLeDiff, Nat.zero_le, true_and, and_true, if_true, if_false, ne_eq, Int.reduceEq, Int.reduceNeg, not_false_eq_true, not_true_eq_false, ↓reduceIte, Int.reduceLT, Int.reduceLE, and_self, or_true, true_or, or_false, false_or, false_and, and_false, ah_t_w, ah_m_w, ah_n_w, lst1_0, List.tail_cons, w32_i, zbd, lst2_0, vv_t hK hVv, s_t hK hS, e2, hlt]
    have hvb := zval_b hK.2.2 j (zdo T nw q.1 q.2)
    refine c_225 (d := d) hL (by omega) hK hS hX h40 (hR q (List.mem_cons_self)) hVv i0 (by omega) hx.1.1 hx.1.2 (fun h2 hK2 hS2 hO2 => ?_)
    have hx2 : XMl T (1023 + 3 * j) h2 R (i + 1) := XMl_off hO2 (fun r i w => by
      have hs := hS.1
      unfold Wva WSs at w; unfold isS at hs; omega) R (i + 1) hx.2
    have e2' : ah_m h2 (1023 + 3 * j) 2 = (zmv T nw).length := by
      rw [hO2.2 _ _ (by have hs := hS.1; unfold Wva WSs; unfold isS at hs; omega)]; exact e2
    have hO3 : Off (Wva (j + 1) s) h h2 := Off_tr hO (Off_mono (Wva_le (by omega)) hO2)
    have hR2 : ∀ q ∈ R, q ∈ zmv T nw := fun u hu => hR u (List.mem_cons_of_mem _ hu)
    simp only [zbst] at e
    by_cases g : a = true ∧ -zval T j (zdo T nw q.1 q.2) ≤ b'
    · rw [if_pos g] at e
      have hm : most = b' ∧ -1000 ≤ b' ∧ b' ≤ 1000 := by
        rcases ha with u | u
        · exact u.2
        · rw [u.1] at g; exact absurd g.1 (by decide)
      have g2 : ¬ most < -zval T j (zdo T nw q.1 q.2) := by omega
      simp (disch := omega) only [b_224_61, ↓w_aload_n_0, ↓w_iload_n_1, ↓w_aload_n_2, ↓w_iload_n_3, ↓w_iload_4, ↓w_iinc_4, ↓w_istore_n_3, ↓w_getfield, ↓w_goto, ↓w_if_icmp_ge, ↓w_invokestatic_2, ↓w_invokevirtual_3, stw_0, stw_i, stw_l, stw_r, ofK0, ofK1, ofK2, lst1, lst2, lkill, kont_none, kont_some, Int.reduceToNat, List.length_cons, List.length_nil, Nat.reduceAdd, Nat.reduceLeDiff, Nat.zero_le, true_and, and_true, if_true, if_false, ne_eq, Int.reduceEq, Int.reduceNeg, not_false_eq_true, not_true_eq_false, ↓reduceIte, Int.reduceLT, Int.reduceLE, and_self, or_true, true_or, or_false, false_or, false_and, and_false, ah_t_w, ah_m_w, ah_n_w, lst1_0, List.tail_cons, w32_i, zbd, lst2_0, c17, g2]
      exact ih (i + 1) b' most a h2 (by omega) (by simp at i1; omega) hR2 hK2 hS2 e2' hx2 (Or.inl ⟨g.1, hm⟩) e hO3
    · rw [if_neg g] at e
      have g2 : most < -zval T j (zdo T nw q.1 q.2) := by
        rcases ha with u | u
        · have h3 : ¬ -zval T j (zdo T nw q.1 q.2) ≤ b' := fun z => g ⟨u.1, z⟩
          omega
        · omega
      simp (disch := omega) only [b_224_61, ↓w_aload_n_0, ↓w_iload_n_1, ↓w_aload_n_2, ↓w_iload_n_3, ↓w_iload_4, ↓w_iinc_4, ↓w_istore_n_3, ↓w_getfield, ↓w_goto, ↓w_if_icmp_ge, ↓w_invokestatic_2, ↓w_invokevirtual_3, stw_0, stw_i, stw_l, stw_r, ofK0, ofK1, ofK2, lst1, lst2, lkill, kont_none, kont_some, Int.reduceToNat, List.length_cons, List.length_nil, Nat.reduceAdd, Nat.reduceLeDiff, Nat.zero_le, true_and, and_true, if_true, if_false, ne_eq, Int.reduceEq, Int.reduceNeg, not_false_eq_true, not_true_eq_false, ↓reduceIte, Int.reduceLT, Int.reduceLE, and_self, or_true, true_or, or_false, false_or, false_and, and_false, ah_t_w, ah_m_w, ah_n_w, lst1_0, List.tail_cons, w32_i, zbd, lst2_0, c17, g2]
      exact ih (i + 1) _ _ true h2 (by omega) (by simp at i1; omega) hR2 hK2 hS2 e2' hx2 (Or.inl ⟨rfl, rfl, by omega, by omega⟩) e hO3
theorem VAL_0 : VAL T s 0 := by
  intro d nw h Q hK hS hX h40 hQ
  rw [show d + 8 + 2 * 0 = (d + 7) + 1 by omega]
  rw [wpC_B]; refine ⟨⟨Nat.zero_lt_succ _, Nat.le_of_ble_eq_true rfl⟩, ?_⟩; simp only [lent]
  have cb : ∀ {z : Int} {Q : QQ}, wpC (d + 7) 223 [.inr (.inr s), .inl z] h Q ↔ _ := fun {z Q} => c_223 (d := d + 1) (Q := Q) (z := z) hK hS (NX_N hX)
  have e0 : ((0 : Nat) : Int) = 0 := rfl
  simp (disch := omega) only [q_224_0, b_224_0, q_224_11, b_224_11, ↓w_aload_n_0, ↓w_iload_n_1, ↓w_getfield, ↓w_nop, ↓w_ifCond_eq, ↓w_ifCond_le, ↓w_ireturn0, ↓w_invokevirtual_1, stw_0, stw_i, stw_l, stw_r, ofK0, ofK1, ofK2, lst1, lst2, lkill, kont_none, kont_some, Int.reduceToNat, List.length_cons, List.length_nil, Nat.reduceAdd, Nat.reduceLeDiff, Nat.zero_le, true_and, and_true, if_true, if_false, ne_eq, Int.reduceEq, Int.reduceNeg, not_false_eq_true, not_true_eq_false, ↓reduceIte, Int.reduceLT, Int.reduceLE, and_self, or_true, true_or, or_false, false_or, false_and, and_false, ah_t_w, ah_m_w, ah_n_w, lst1_0, List.tail_cons, w32_i, zbd, lst2_0, s_t hK hS, s_1 hS, s_7 hS, e0, cb]
  exact hQ h hK hS Off_rfl
theorem VAL_s {j : Nat} (hL : VAL T s j) (hj : j ≤ 2) : VAL T s (j + 1) := by
  intro d nw h Q hK hS hX h40 hQ
  have hVv : isV (1023 + 3 * j) := by unfold isV; omega
  have hN := NX_N hX
  rw [show d + 8 + 2 * (j + 1) = (d + 9 + 2 * j) + 1 by omega]
  have ej : ((j + 1 : Nat) : Int) = (j : Int) + 1 := by omega
  rw [ej] at hQ ⊢
  have j0 : ¬ (j : Int) + 1 = 0 := by omega
  have cb : ∀ {h : AH} {z : Int} {Q : QQ}, XG T h → XS T nw s h → (wpC (d + 9 + 2 * j) 223 [.inr (.inr s), .inl z] h Q ↔ Q (.inl (some (.inl (zbal T nw z)))) h) := fun {h z Q} a b => by
    have := c_223 (d := d + 3 + 2 * j) (Q := Q) (z := z) a b hN
    rw [show d + 3 + 2 * j + 6 = d + 9 + 2 * j by omega] at this; exact this
  have hzc := @zcn_0 T nw (zn T) 0
  have hz := @zcn_z T nw (zn T) 0
  rw [wpC_B]; refine ⟨⟨Nat.zero_lt_succ _, Nat.le_of_ble_eq_true rfl⟩, ?_⟩; simp only [lent]
  simp only [zval] at hQ
  by_cases g : zcr T nw = true
  · rw [if_pos g] at hQ
    have g1 : 0 < zcn T nw (zn T) 0 := hz.1 g
    simp (disch := omega) only [q_224_0, b_224_0, q_224_11, b_224_11, ↓w_aload_n_0, ↓w_iload_n_1, ↓w_getfield, ↓w_nop, ↓w_ifCond_eq, ↓w_ifCond_le, ↓w_ireturn0, ↓w_invokevirtual_1, stw_0, stw_i, stw_l, stw_r, ofK0, ofK1, ofK2, lst1, lst2, lkill, kont_none, kont_some, Int.reduceToNat, List.length_cons, List.length_nil, Nat.reduceAdd, Nat.reduceLeDiff, Nat.zero_le, true_and, and_true, if_true, if_false, ne_eq, Int.reduceEq, Int.reduceNeg, not_false_eq_true, not_true_eq_false, ↓reduceIte, Int.reduceLT, Int.reduceLE, and_self, or_true, true_or, or_false, false_or, false_and, and_false, ah_t_w, ah_m_w, ah_n_w, lst1_0, List.tail_cons, w32_i, zbd, lst2_0, s_t hK hS, s_1 hS, s_7 hS, j0, g1, cb hK hS]
    exact hQ h hK hS Off_rfl
  · rw [if_neg g] at hQ
    have g1 : ¬ 0 < zcn T nw (zn T) 0 := fun z => g (hz.2 z)
    have mv : ah_m h 18 (j + 1) = 1023 + 3 * j := by
      have : j = 0 ∨ j = 1 ∨ j = 2 := by omega
      rcases this with e | e | e <;> subst e
      · exact xf_18_1 hK
      · exact xf_18_2 hK
      · exact xf_18_3 hK
    simp (disch := omega) only [q_224_0, b_224_0, q_224_20, b_224_20, ↓w_aload_n_0, ↓w_iload_n_1, ↓w_aload_n_2, ↓w_astore_n_2, ↓w_getfield, ↓w_aaload, ↓w_nop, ↓w_ifCond_eq, ↓w_ifCond_ne, ↓w_ifCond_le, ↓w_ireturn0, ↓w_invokevirtual_1, ↓w_invokevirtual_2, stw_0, stw_i, stw_l, stw_r, ofK0, ofK1, ofK2, lst1, lst2, lkill, kont_none, kont_some, Int.reduceToNat, List.length_cons, List.length_nil, Nat.reduceAdd, Nat.reduceLeDiff, Nat.zero_le, true_and, and_true, if_true, if_false, ne_eq, Int.reduceEq, Int.reduceNeg, not_false_eq_true, not_true_eq_false, ↓reduceIte, Int.reduceLT, Int.reduceLE, and_self, or_true, true_or, or_false, false_or, false_and, and_false, ah_t_w, ah_m_w, ah_n_w, lst1_0, List.tail_cons, w32_i, zbd, lst2_0, xt_1a hK, xf_1_9 hK, xt_18a hK, xt_18b hK, s_t hK hS, s_1 hS, s_7 hS, s_11 hK hS, j0, g1, mv]
    refine c_215 (d := d + 2 + 2 * j) hK hS h40 hN hVv (fun h1 hx hlen hO1 => ?_) |> cast (by rw [show d + 2 + 2 * j + 7 = d + 9 + 2 * j by omega])
    have hK1 := XG_off hK hO1 (Wmv_ok hVv)
    have hS1 := XS_off hS h40 hO1 (Wmv_S hVv hS.1)
    have hOv : Off (Wva (j + 1) s) h h1 := Off_mono (fun r i w => by unfold Wmv at w; exact Or.inr (by omega)) hO1
    by_cases g2 : ((zmv T nw).length : Int) = 0
    · have e : zmv T nw = [] := by cases hq : zmv T nw with | nil => rfl | cons a b => rw [hq] at g2; simp at g2; omega
      have hx1 : ah_m h1 (1023 + 3 * j) 2 = 0 := by rw [hx.1]; exact g2
      simp (disch := omega) only [b_224_20, ↓w_aload_n_0, ↓w_iload_n_1, ↓w_aload_n_2, ↓w_astore_n_2, ↓w_getfield, ↓w_aaload, ↓w_ifCond_ne, ↓w_ireturn0, ↓w_invokevirtual_1, ↓w_invokevirtual_2, stw_0, stw_i, stw_l, stw_r, ofK0, ofK1, ofK2, lst1, lst2, lkill, kont_none, kont_some, Int.reduceToNat, List.length_cons, List.length_nil, Nat.reduceAdd, Nat.reduceLeDiff, Nat.zero_le, true_and, and_true, if_true, if_false, ne_eq, Int.reduceEq, Int.reduceNeg, not_false_eq_true, not_true_eq_false, ↓reduceIte, Int.reduceLT, Int.reduceLE, and_self, or_true, true_or, or_false, false_or, false_and, and_false, ah_t_w, ah_m_w, ah_n_w, lst1_0, List.tail_cons, w32_i, zbd, lst2_0, xt_1a hK1, xf_1_9 hK1, xt_18a hK1, xt_18b hK1, vv_t hK1 hVv, s_t hK1 hS1, s_1 hS1, s_11 hK1 hS1, hx1, cb hK1 hS1]
      rw [e] at hQ
      exact hQ h1 hK1 hS1 hOv
    · have hx1 : ¬ ah_m h1 (1023 + 3 * j) 2 = 0 := by rw [hx.1]; exact g2
      simp (disch := omega) only [b_224_20, q_224_55, b_224_55, ↓w_iconst, ↓w_ldc, ↓w_aload_n_0, ↓w_iload_n_1, ↓w_aload_n_2, ↓w_istore, ↓w_istore_n_3, ↓w_astore_n_2, ↓w_getfield, ↓w_aaload, ↓w_nop, ↓w_ifCond_ne, ↓w_ireturn0, ↓w_invokevirtual_1, ↓w_invokevirtual_2, stw_0, stw_i, stw_l, stw_r, ofK0, ofK1, ofK2, lst1, lst2, lkill, kont_none, kont_some, Int.reduceToNat, List.length_cons, List.length_nil, Nat.reduceAdd, Nat.reduceLeDiff, Nat.zero_le, true_and, and_true, if_true, if_false, ne_eq, Int.reduceEq, Int.reduceNeg, not_false_eq_true, not_true_eq_false, ↓reduceIte, Int.reduceLT, Int.reduceLE, and_self, or_true, true_or, or_false, false_or, false_and, and_false, ah_t_w, ah_m_w, ah_n_w, lst1_0, List.tail_cons, w32_i, zbd, lst2_0, xt_1a hK1, xf_1_9 hK1, xt_18a hK1, xt_18b hK1, vv_t hK1 hVv, s_t hK1 hS1, s_1 hS1, s_11 hK1 hS1, hx1]
      exact l_224_61 hL hj hX h40 hlen hQ (zmv T nw) 0 _ _ false h1 (by omega) (by omega) (fun _ z => z) hK1 hS1 hx.1 hx.2 (Or.inr ⟨rfl, rfl, fun q => g2 (by rw [q]; rfl)⟩) rfl hOv
end Y1
