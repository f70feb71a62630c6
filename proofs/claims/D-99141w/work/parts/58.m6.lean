/-! ===== M: values (printed by gen_58.py) ===== -/
/-- the best value over moves: best so far, whether there was one -/
def zbst (f : Int × Int → Int) : List (Int × Int) → Int → Bool → Int
  | [], b, _ => b
  | x :: l, b, a => if a = true ∧ f x ≤ b then zbst f l b a else zbst f l (f x) true
def zval (T : Int → Int → Int) : Nat → (Int → Int) → Int
  | 0, nw => zbal T nw (nw 1)
  | j + 1, nw => if zcr T nw = true then zbal T nw (nw 1) else zbst (fun x => -zval T j (zdo T nw x.1 x.2)) (zmv T nw) (zbal T nw (nw 1)) false
section M6
variable {d : Nat} {h h0 : AH} {Q : QQ} {x y z m k s l : Int} {T : Int → Int → Int} {nw : Int → Int}
set_option maxHeartbeats 2000000
theorem zwo_bT (hT : TV T) (h1 : 0 ≤ m) (h2 : m < 8) : 0 ≤ zwo T m ∧ zwo T m ≤ 99 := by
  have a := (hT.2.2.2.2.2.1 m h1 h2).1
  exact (hT.2.2.2.2.2.2.1 _ a.1 a.2).2.2.1
theorem zbl_b (hT : TV T) : ∀ (j : Nat) (m a : Int), 0 ≤ m → m + j ≤ 8 → -(99 * m) ≤ a → a ≤ 99 * m → -792 ≤ zbl T nw s j m a ∧ zbl T nw s j m a ≤ 792 := by
  intro j
  induction j with
  | zero => intro m a h0 h1 h2 h3; unfold zbl; omega
  | succ j ih =>
    intro m a h0 h1 h2 h3
    have hw := zwo_bT hT h0 (by omega)
    unfold zbl
    refine ih _ _ (by omega) (by omega) ?_ ?_ <;> split <;> (try split) <;> omega
theorem zbal_b (hT : TV T) : -792 ≤ zbal T nw s ∧ zbal T nw s ≤ 792 := by
  have h8 := hT.2.1
  exact zbl_b hT _ _ _ (by omega) (by unfold zn; omega) (by omega) (by omega)
theorem zbst_b {f : Int × Int → Int} (hf : ∀ x, -1000 ≤ f x ∧ f x ≤ 1000) : ∀ (l : List (Int × Int)) (b : Int) (a : Bool), -1000 ≤ b ∧ b ≤ 1000 → -1000 ≤ zbst f l b a ∧ zbst f l b a ≤ 1000 := by
  intro l
  induction l with
  | nil => intro b a hb; exact hb
  | cons x l ih =>
    intro b a hb
    unfold zbst
    split
    · exact ih _ _ hb
    · exact ih _ _ (hf x)
theorem zval_b (hT : TV T) : ∀ (j : Nat) (nw : Int → Int), -1000 ≤ zval T j nw ∧ zval T j nw ≤ 1000 := by
  intro j
  induction j with
  | zero => intro nw; have := @zbal_b (nw 1) T nw hT; unfold zval; omega
  | succ j ih =>
    intro nw
    have := @zbal_b (nw 1) T nw hT
    unfold zval
    split
    · omega
    · exact zbst_b (fun x => by have := ih (zdo T nw x.1 x.2); omega) _ _ _ (by omega)
theorem v_0 (hG : MG T nw h) (hQ : ∀ h', MG T nw h' → Off (Wv 0) h h' → Q (.inl (some (.inl (zval T 0 nw)))) h') : wpC (d + 4) 318 [.inr (.inr 1036)] h Q := by
  rw [c_318 hG]; exact hQ h hG Off_rfl
theorem Wv_f {j r i : Int} (w : Wv j r i) : fre r i ∧ ¬ (1072 ≤ r ∧ r ≤ 1083) := by unfold Wv at w; unfold fre; omega
theorem zmm_s {j : Nat} : zmm T nw s (j + 1) m = (if zs T m = s then zmk T nw m (zP T) 0 else []) ++ zmm T nw s j (m + 1) := rfl

theorem l_319i {R c J : Int} {rest : List (Int × Int)} (hc : 0 ≤ c ∧ c < T 1072 4) (hJ : J = 1)
    (hout : ∀ tl best a h', MG T nw h' → Off (Wv 1) h h' → zbst (fun x => -zval T 0 (zdo T nw x.1 x.2)) rest best a = R → wpB (d + 4) 319 115 (some (.inr (.inr 1036)) :: some (.inl best) :: some (.inl (zb a)) :: some (.inl c) :: tl) [] h' Q) :
    ∀ (j : Nat) (k best : Int) (a : Bool) tl h', 0 ≤ k → k + j = zP T → MG T nw h' → Off (Wv 1) h h' → zbst (fun x => -zval T 0 (zdo T nw x.1 x.2)) ((if zs T c = nw 1 then zmk T nw c j k else []) ++ rest) best a = R → wpB (d + 4) 319 35 (some (.inr (.inr 1036)) :: some (.inl best) :: some (.inl (zb a)) :: some (.inl c) :: some (.inl k) :: tl) [] h' Q := by
  intro j
  induction j with
  | zero =>
    intro k best a tl h' h0 h1 hG hO hR
    have hlt : ¬ k < (zP T : Int) := by omega
    simp (disch := omega) only [q_319_35, b_319_35, ↓w_iconst, ↓w_aload_n_0, ↓w_iload_n_3, ↓w_iload_4, ↓w_getfield, ↓w_iaload, ↓w_goto, ↓w_ifCond_ne, ↓w_if_icmp_ne, ↓w_if_icmp_ge, ↓w_invokevirtual_0, ↓w_invokevirtual_1, ↓w_invokevirtual_2, stw_0, stw_i, stw_l, stw_r, ofK0, ofK1, ofK2, lst1, lst2, lkill, kont_none, kont_some, Int.reduceToNat, List.length_cons, List.length_nil, Nat.reduceAdd, Nat.reduceLeDiff, Nat.zero_le, true_and, and_true, if_true, if_false, ne_eq, Int.reduceEq, Int.reduceNeg, not_false_eq_true, not_true_eq_false, ↓reduceIte, Int.reduceLT, Int.reduceLE, and_self, or_true, true_or, or_false, false_or, false_and, and_false, ah_t_w, ah_m_w, ah_n_w, mt_1036a hG.1, mt_1083a hG.1, mt_1083b hG.1, mf_62 hG.1, c_289 hG, hlt]
    refine hout _ _ _ _ hG hO ?_
    rw [← hR]; split <;> rfl
  | succ j ih =>
    intro k best a tl h' h0 h1 hG hO hR
    have h8 := hG.2.2.2.1.2.1
    have hP := zP_b hG
    have hPi := zP_i hG
    have hlt : k < (zP T : Int) := by omega
    rw [q_319_35]
    by_cases e1 : zs T c = nw 1
    · simp only [e1, if_true] at hR ih
      cases e2 : zG T nw c k
      · simp (disch := omega) only [q_319_109, b_319_109, b_319_35, ↓w_iconst, ↓w_aload_n_0, ↓w_iload_n_3, ↓w_iload_4, ↓w_iinc_4, ↓w_getfield, ↓w_iaload, ↓w_goto, ↓w_ifCond_ne, ↓w_if_icmp_ne, ↓w_if_icmp_ge, ↓w_invokevirtual_0, ↓w_invokevirtual_1, ↓w_invokevirtual_2, stw_0, stw_i, stw_l, stw_r, ofK0, ofK1, ofK2, lst1, lst2, lkill, kont_none, kont_some, Int.reduceToNat, List.length_cons, List.length_nil, Nat.reduceAdd, Nat.reduceLeDiff, Nat.zero_le, true_and, and_true, if_true, if_false, ne_eq, Int.reduceEq, Int.reduceNeg, not_false_eq_true, not_true_eq_false, ↓reduceIte, Int.reduceLT, Int.reduceLE, and_self, or_true, true_or, or_false, false_or, false_and, and_false, ah_t_w, ah_m_w, ah_n_w, mt_1036a hG.1, mt_1083a hG.1, mt_1083b hG.1, mf_62 hG.1, g_1083 hG, c_289 hG, c_287 hG, c_290 hG, zb_f, hlt, e1, e2, w32_i]
        refine ih (k + 1) _ _ _ _ (by omega) (by omega) hG hO ?_
        rw [← hR]; simp [zmk, e2]
      · simp (disch := omega) only [q_319_71, b_319_71, b_319_35, ↓w_iconst, ↓w_aload_n_0, ↓w_iload_n_1, ↓w_iload_n_2, ↓w_iload_n_3, ↓w_iload_4, ↓w_iload_5, ↓w_istore, ↓w_ineg, ↓w_getfield, ↓w_iaload, ↓w_goto, ↓w_ifCond_eq, ↓w_ifCond_ne, ↓w_if_icmp_ne, ↓w_if_icmp_ge, ↓w_if_icmp_gt, ↓w_invokevirtual_0, ↓w_invokevirtual_1, ↓w_invokevirtual_2, ↓w_invokevirtual_3, stw_0, stw_i, stw_l, stw_r, ofK0, ofK1, ofK2, lst1, lst2, lkill, kont_none, kont_some, Int.reduceToNat, List.length_cons, List.length_nil, Nat.reduceAdd, Nat.reduceLeDiff, Nat.zero_le, true_and, and_true, if_true, if_false, ne_eq, Int.reduceEq, Int.reduceNeg, not_false_eq_true, not_true_eq_false, ↓reduceIte, Int.reduceLT, Int.reduceLE, and_self, or_true, true_or, or_false, false_or, false_and, and_false, ah_t_w, ah_m_w, ah_n_w, mt_1036a hG.1, mt_1083a hG.1, mt_1083b hG.1, mf_62 hG.1, g_1083 hG, c_289 hG, c_287 hG, c_290 hG, zb_t, hlt, e1, e2]
        refine c_309 hG hc.1 (by omega) h0 hlt (by decide) (by decide) (fun h1' hD => ?_)
        have hG1 := MG_do hG hc.1 hc.2 h0 hlt hD
        simp (disch := omega) only [b_319_71, ↓w_iconst, ↓w_aload_n_0, ↓w_iload_n_1, ↓w_iload_n_2, ↓w_iload_n_3, ↓w_iload_4, ↓w_iload_5, ↓w_istore, ↓w_ineg, ↓w_goto, ↓w_ifCond_eq, ↓w_if_icmp_gt, ↓w_invokevirtual_0, ↓w_invokevirtual_1, ↓w_invokevirtual_3, stw_0, stw_i, stw_l, stw_r, ofK0, ofK1, ofK2, lst1, lst2, lkill, kont_none, kont_some, Int.reduceToNat, List.length_cons, List.length_nil, Nat.reduceAdd, Nat.reduceLeDiff, Nat.zero_le, true_and, and_true, if_true, if_false, ne_eq, Int.reduceEq, Int.reduceNeg, not_false_eq_true, not_true_eq_false, ↓reduceIte, Int.reduceLT, Int.reduceLE, and_self, or_true, true_or, or_false, false_or, false_and, and_false, ah_t_w, ah_m_w, ah_n_w, mt_1036a hG1.1]
        refine v_0 hG1 (fun h2 hG2 hO2 => ?_)
        have hv := zval_b hG.2.2.2.1 0 (zdo T nw c k)
        simp (disch := omega) only [b_319_71, ↓w_iconst, ↓w_aload_n_0, ↓w_iload_n_1, ↓w_iload_n_2, ↓w_iload_n_3, ↓w_iload_4, ↓w_iload_5, ↓w_istore, ↓w_ineg, ↓w_goto, ↓w_ifCond_eq, ↓w_if_icmp_gt, ↓w_invokevirtual_0, ↓w_invokevirtual_1, ↓w_invokevirtual_3, stw_0, stw_i, stw_l, stw_r, ofK0, ofK1, ofK2, lst1, lst2, lkill, kont_none, kont_some, Int.reduceToNat, List.length_cons, List.length_nil, Nat.reduceAdd, Nat.reduceLeDiff, Nat.zero_le, true_and, and_true, if_true, if_false, ne_eq, Int.reduceEq, Int.reduceNeg, not_false_eq_true, not_true_eq_false, ↓reduceIte, Int.reduceLT, Int.reduceLE, and_self, or_true, true_or, or_false, false_or, false_and, and_false, ah_t_w, ah_m_w, ah_n_w, mt_1036a hG2.1, w32_i, lst1_0]
        have dd : ah_m h2 1085 1 = c ∧ ah_m h2 1088 1 = zat T nw (k % T 1074 4) (k / T 1074 4) := by
          rw [hO2.2 _ _ (by unfold Wv; omega), hO2.2 _ _ (by unfold Wv; omega)]
          exact ⟨hD.2.1, hD.2.2.2.2.1⟩
        have hb := @zat_b h' (k % T 1074 4) (k / T 1074 4) T nw hG
        refine c_311 hG2.1 (by decide) (by decide) (by rw [dd.1]; omega) (by rw [dd.2]; omega) (by rw [g_1083 hG2]; have := hG2.2.2.2.2.2.2.2; omega) (fun h3 e3 hO3 => ?_)
        obtain ⟨e4, hO4⟩ := DO_back hc.1 hD hO2 (fun i w => by unfold Wv at w; omega) (fun r w => by unfold Wv at w; omega) e3 hO3 (g_1083 hG)
        have hO5 : Off (Wv 1) h' h3 := Off_mono (fun r i w => by unfold Wv Wd at *; omega) hO4
        have hG3 : MG T nw h3 := MG_off hG hO5 (fun r i w => Wv_f w)
        have hO6 := Off_tr hO hO5
        simp only [zmk, e2, if_true, List.cons_append, zbst] at hR
        cases a
        · simp (disch := omega) only [q_319_104, b_319_104, q_319_109, b_319_109, b_319_71, ↓w_iconst, ↓w_aload_n_0, ↓w_iload_n_1, ↓w_iload_n_2, ↓w_iload_n_3, ↓w_iload_4, ↓w_iinc_4, ↓w_iload_5, ↓w_istore, ↓w_istore_n_1, ↓w_istore_n_2, ↓w_ineg, ↓w_nop, ↓w_goto, ↓w_ifCond_eq, ↓w_if_icmp_gt, ↓w_invokevirtual_0, ↓w_invokevirtual_1, ↓w_invokevirtual_3, stw_0, stw_i, stw_l, stw_r, ofK0, ofK1, ofK2, lst1, lst2, lkill, kont_none, kont_some, Int.reduceToNat, List.length_cons, List.length_nil, Nat.reduceAdd, Nat.reduceLeDiff, Nat.zero_le, true_and, and_true, if_true, if_false, ne_eq, Int.reduceEq, Int.reduceNeg, not_false_eq_true, not_true_eq_false, ↓reduceIte, Int.reduceLT, Int.reduceLE, and_self, or_true, true_or, or_false, false_or, false_and, and_false, ah_t_w, ah_m_w, ah_n_w, mt_1036a hG3.1, w32_i, zb_f]
          refine ih (k + 1) _ true _ _ (by omega) (by omega) hG3 hO6 ?_
          simpa using hR
        · by_cases e5 : best < -zval T 0 (zdo T nw c k)
          · simp (disch := omega) only [q_319_104, b_319_104, q_319_109, b_319_109, b_319_71, ↓w_iconst, ↓w_aload_n_0, ↓w_iload_n_1, ↓w_iload_n_2, ↓w_iload_n_3, ↓w_iload_4, ↓w_iinc_4, ↓w_iload_5, ↓w_istore, ↓w_istore_n_1, ↓w_istore_n_2, ↓w_ineg, ↓w_nop, ↓w_goto, ↓w_ifCond_eq, ↓w_if_icmp_gt, ↓w_invokevirtual_0, ↓w_invokevirtual_1, ↓w_invokevirtual_3, stw_0, stw_i, stw_l, stw_r, ofK0, ofK1, ofK2, lst1, lst2, lkill, kont_none, kont_some, Int.reduceToNat, List.length_cons, List.length_nil, Nat.reduceAdd, Nat.reduceLeDiff, Nat.zero_le, true_and, and_true, if_true, if_false, ne_eq, Int.reduceEq, Int.reduceNeg, not_false_eq_true, not_true_eq_false, ↓reduceIte, Int.reduceLT, Int.reduceLE, and_self, or_true, true_or, or_false, false_or, false_and, and_false, ah_t_w, ah_m_w, ah_n_w, mt_1036a hG3.1, w32_i, zb_t, e5]
            refine ih (k + 1) _ true _ _ (by omega) (by omega) hG3 hO6 ?_
            rw [if_neg (fun q => by have := q.2; omega)] at hR
            exact hR
          · simp (disch := omega) only [q_319_104, b_319_104, q_319_109, b_319_109, b_319_71, ↓w_iconst, ↓w_aload_n_0, ↓w_iload_n_1, ↓w_iload_n_2, ↓w_iload_n_3, ↓w_iload_4, ↓w_iinc_4, ↓w_iload_5, ↓w_istore, ↓w_istore_n_1, ↓w_istore_n_2, ↓w_ineg, ↓w_nop, ↓w_goto, ↓w_ifCond_eq, ↓w_if_icmp_gt, ↓w_invokevirtual_0, ↓w_invokevirtual_1, ↓w_invokevirtual_3, stw_0, stw_i, stw_l, stw_r, ofK0, ofK1, ofK2, lst1, lst2, lkill, kont_none, kont_some, Int.reduceToNat, List.length_cons, List.length_nil, Nat.reduceAdd, Nat.reduceLeDiff, Nat.zero_le, true_and, and_true, if_true, if_false, ne_eq, Int.reduceEq, Int.reduceNeg, not_false_eq_true, not_true_eq_false, ↓reduceIte, Int.reduceLT, Int.reduceLE, and_self, or_true, true_or, or_false, false_or, false_and, and_false, ah_t_w, ah_m_w, ah_n_w, mt_1036a hG3.1, w32_i, zb_t, e5]
            refine ih (k + 1) _ true _ _ (by omega) (by omega) hG3 hO6 ?_
            rw [if_pos ⟨rfl, by omega⟩] at hR
            exact hR
    · simp only [e1, if_false, List.nil_append] at hR ih
      simp (disch := omega) only [q_319_109, b_319_109, b_319_35, ↓w_iconst, ↓w_aload_n_0, ↓w_iload_n_3, ↓w_iload_4, ↓w_iinc_4, ↓w_getfield, ↓w_iaload, ↓w_goto, ↓w_ifCond_ne, ↓w_if_icmp_ne, ↓w_if_icmp_ge, ↓w_invokevirtual_0, ↓w_invokevirtual_1, ↓w_invokevirtual_2, stw_0, stw_i, stw_l, stw_r, ofK0, ofK1, ofK2, lst1, lst2, lkill, kont_none, kont_some, Int.reduceToNat, List.length_cons, List.length_nil, Nat.reduceAdd, Nat.reduceLeDiff, Nat.zero_le, true_and, and_true, if_true, if_false, ne_eq, Int.reduceEq, Int.reduceNeg, not_false_eq_true, not_true_eq_false, ↓reduceIte, Int.reduceLT, Int.reduceLE, and_self, or_true, true_or, or_false, false_or, false_and, and_false, ah_t_w, ah_m_w, ah_n_w, mt_1036a hG.1, mt_1083a hG.1, mt_1083b hG.1, mf_62 hG.1, g_1083 hG, c_289 hG, c_287 hG, hlt, e1, w32_i]
      exact ih (k + 1) _ _ _ _ (by omega) (by omega) hG hO hR
theorem l_319 {R : Int} (hQ : ∀ h', MG T nw h' → Off (Wv 1) h h' → Q (.inl (some (.inl R))) h') :
    ∀ (j : Nat) (c best : Int) (a : Bool) tl h', 0 ≤ c → c + j = T 1072 4 → MG T nw h' → Off (Wv 1) h h' → zbst (fun x => -zval T 0 (zdo T nw x.1 x.2)) (zmm T nw (nw 1) j c) best a = R → wpB (d + 4) 319 24 (some (.inr (.inr 1036)) :: some (.inl best) :: some (.inl (zb a)) :: some (.inl c) :: tl) [] h' Q := by
  intro j
  induction j with
  | zero =>
    intro c best a tl h' h0 h1 hG hO hR
    have hlt : ¬ c < T 1072 4 := by omega
    simp (disch := omega) only [q_319_24, b_319_24, q_319_121, b_319_121, ↓w_iconst, ↓w_aload_n_0, ↓w_iload_n_1, ↓w_iload_n_3, ↓w_istore, ↓w_nop, ↓w_if_icmp_ge, ↓w_ireturn0, ↓w_invokevirtual_0, stw_0, stw_i, stw_l, stw_r, ofK0, ofK1, ofK2, lst1, lst2, lkill, kont_none, kont_some, Int.reduceToNat, List.length_cons, List.length_nil, Nat.reduceAdd, Nat.reduceLeDiff, Nat.zero_le, true_and, and_true, if_true, if_false, ne_eq, Int.reduceEq, Int.reduceNeg, not_false_eq_true, not_true_eq_false, ↓reduceIte, Int.reduceLT, Int.reduceLE, and_self, or_true, true_or, or_false, false_or, false_and, and_false, ah_t_w, ah_m_w, ah_n_w, mt_1036a hG.1, c_281 hG, hlt]
    rw [← hR] at hQ; exact hQ _ hG hO
  | succ j ih =>
    intro c best a tl h' h0 h1 hG hO hR
    have h8 := hG.2.2.2.1.2.1
    have hPi := zP_i hG
    have hlt : c < T 1072 4 := by omega
    simp (disch := omega) only [q_319_24, b_319_24, ↓w_iconst, ↓w_aload_n_0, ↓w_iload_n_3, ↓w_istore, ↓w_nop, ↓w_if_icmp_ge, ↓w_invokevirtual_0, stw_0, stw_i, stw_l, stw_r, ofK0, ofK1, ofK2, lst1, lst2, lkill, kont_none, kont_some, Int.reduceToNat, List.length_cons, List.length_nil, Nat.reduceAdd, Nat.reduceLeDiff, Nat.zero_le, true_and, and_true, if_true, if_false, ne_eq, Int.reduceEq, Int.reduceNeg, not_false_eq_true, not_true_eq_false, ↓reduceIte, Int.reduceLT, Int.reduceLE, and_self, or_true, true_or, or_false, false_or, false_and, and_false, ah_t_w, ah_m_w, ah_n_w, mt_1036a hG.1, c_281 hG, hlt, lst1_0]
    refine l_319i (J := 1) ⟨h0, hlt⟩ rfl (fun tl best a h'' hG2 hO2 hR2 => ?_) (zP T) 0 _ _ _ _ (by omega) (by omega) hG hO hR
    simp (disch := omega) only [q_319_115, b_319_115, ↓w_iinc_3, ↓w_goto, stw_0, stw_i, stw_l, stw_r, ofK0, ofK1, ofK2, lst1, lst2, lkill, kont_none, kont_some, Int.reduceToNat, List.length_cons, List.length_nil, Nat.reduceAdd, Nat.reduceLeDiff, Nat.zero_le, true_and, and_true, if_true, if_false, ne_eq, Int.reduceEq, Int.reduceNeg, not_false_eq_true, not_true_eq_false, ↓reduceIte, Int.reduceLT, Int.reduceLE, and_self, or_true, true_or, or_false, false_or, false_and, and_false, ah_t_w, ah_m_w, ah_n_w, w32_i]
    exact ih (c + 1) _ _ _ _ (by omega) (by omega) hG2 hO2 hR2
theorem v_1 (hG : MG T nw h) (hQ : ∀ h', MG T nw h' → Off (Wv 1) h h' → Q (.inl (some (.inl (zval T 1 nw)))) h') : wpC (d + 5) 319 [.inr (.inr 1036)] h Q := by
  have hn := zn_i hG
  have h8 := hG.2.2.2.1.2.1
  rw [wpC_B]; refine ⟨⟨Nat.zero_lt_succ _, Nat.le_of_ble_eq_true rfl⟩, ?_⟩; simp only [lent]
  cases e : zcr T nw
  · simp (disch := omega) only [q_319_0, b_319_0, q_319_20, b_319_20, ↓w_iconst, ↓w_aload_n_0, ↓w_iload_n_1, ↓w_istore_n_1, ↓w_istore_n_2, ↓w_istore_n_3, ↓w_getfield, ↓w_iaload, ↓w_nop, ↓w_ifCond_eq, ↓w_ireturn0, ↓w_invokevirtual_0, ↓w_invokevirtual_1, stw_0, stw_i, stw_l, stw_r, ofK0, ofK1, ofK2, lst1, lst2, lkill, kont_none, kont_some, Int.reduceToNat, List.length_cons, List.length_nil, Nat.reduceAdd, Nat.reduceLeDiff, Nat.zero_le, true_and, and_true, if_true, if_false, ne_eq, Int.reduceEq, Int.reduceNeg, not_false_eq_true, not_true_eq_false, ↓reduceIte, Int.reduceLT, Int.reduceLE, and_self, or_true, true_or, or_false, false_or, false_and, and_false, ah_t_w, ah_m_w, ah_n_w, mt_1036a hG.1, mt_1083a hG.1, mt_1083b hG.1, mf_62 hG.1, g_1083 hG, c_314 hG, c_280 hG, e, zb_f]
    refine l_319 hQ (zn T) 0 _ false _ _ (by omega) (by omega) hG Off_rfl ?_
    simp only [zval, e]; rfl
  · simp (disch := omega) only [q_319_0, b_319_0, ↓w_iconst, ↓w_aload_n_0, ↓w_iload_n_1, ↓w_istore_n_1, ↓w_getfield, ↓w_iaload, ↓w_ifCond_eq, ↓w_ireturn0, ↓w_invokevirtual_0, ↓w_invokevirtual_1, stw_0, stw_i, stw_l, stw_r, ofK0, ofK1, ofK2, lst1, lst2, lkill, kont_none, kont_some, Int.reduceToNat, List.length_cons, List.length_nil, Nat.reduceAdd, Nat.reduceLeDiff, Nat.zero_le, true_and, and_true, if_true, if_false, ne_eq, Int.reduceEq, Int.reduceNeg, not_false_eq_true, not_true_eq_false, ↓reduceIte, Int.reduceLT, Int.reduceLE, and_self, or_true, true_or, or_false, false_or, false_and, and_false, ah_t_w, ah_m_w, ah_n_w, mt_1036a hG.1, mt_1083a hG.1, mt_1083b hG.1, mf_62 hG.1, g_1083 hG, c_314 hG, c_280 hG, e, zb_t]
    have e2 : zval T 1 nw = zbal T nw (nw 1) := by unfold zval; rw [if_pos e]
    rw [← e2]; exact hQ _ hG Off_rfl

theorem l_320i {R c J : Int} {rest : List (Int × Int)} (hc : 0 ≤ c ∧ c < T 1072 4) (hJ : J = 2)
    (hout : ∀ tl best a h', MG T nw h' → Off (Wv 2) h h' → zbst (fun x => -zval T 1 (zdo T nw x.1 x.2)) rest best a = R → wpB (d + 5) 320 115 (some (.inr (.inr 1036)) :: some (.inl best) :: some (.inl (zb a)) :: some (.inl c) :: tl) [] h' Q) :
    ∀ (j : Nat) (k best : Int) (a : Bool) tl h', 0 ≤ k → k + j = zP T → MG T nw h' → Off (Wv 2) h h' → zbst (fun x => -zval T 1 (zdo T nw x.1 x.2)) ((if zs T c = nw 1 then zmk T nw c j k else []) ++ rest) best a = R → wpB (d + 5) 320 35 (some (.inr (.inr 1036)) :: some (.inl best) :: some (.inl (zb a)) :: some (.inl c) :: some (.inl k) :: tl) [] h' Q := by
  intro j
  induction j with
  | zero =>
    intro k best a tl h' h0 h1 hG hO hR
    have hlt : ¬ k < (zP T : Int) := by omega
    simp (disch := omega) only [q_320_35, b_320_35, ↓w_iconst, ↓w_aload_n_0, ↓w_iload_n_3, ↓w_iload_4, ↓w_getfield, ↓w_iaload, ↓w_goto, ↓w_ifCond_ne, ↓w_if_icmp_ne, ↓w_if_icmp_ge, ↓w_invokevirtual_0, ↓w_invokevirtual_1, ↓w_invokevirtual_2, stw_0, stw_i, stw_l, stw_r, ofK0, ofK1, ofK2, lst1, lst2, lkill, kont_none, kont_some, Int.reduceToNat, List.length_cons, List.length_nil, Nat.reduceAdd, Nat.reduceLeDiff, Nat.zero_le, true_and, and_true, if_true, if_false, ne_eq, Int.reduceEq, Int.reduceNeg, not_false_eq_true, not_true_eq_false, ↓reduceIte, Int.reduceLT, Int.reduceLE, and_self, or_true, true_or, or_false, false_or, false_and, and_false, ah_t_w, ah_m_w, ah_n_w, mt_1036a hG.1, mt_1083a hG.1, mt_1083b hG.1, mf_62 hG.1, c_289 hG, hlt]
    refine hout _ _ _ _ hG hO ?_
    rw [← hR]; split <;> rfl
  | succ j ih =>
    intro k best a tl h' h0 h1 hG hO hR
    have h8 := hG.2.2.2.1.2.1
    have hP := zP_b hG
    have hPi := zP_i hG
    have hlt : k < (zP T : Int) := by omega
    rw [q_320_35]
    by_cases e1 : zs T c = nw 1
    · simp only [e1, if_true] at hR ih
      cases e2 : zG T nw c k
      · simp (disch := omega) only [q_320_109, b_320_109, b_320_35, ↓w_iconst, ↓w_aload_n_0, ↓w_iload_n_3, ↓w_iload_4, ↓w_iinc_4, ↓w_getfield, ↓w_iaload, ↓w_goto, ↓w_ifCond_ne, ↓w_if_icmp_ne, ↓w_if_icmp_ge, ↓w_invokevirtual_0, ↓w_invokevirtual_1, ↓w_invokevirtual_2, stw_0, stw_i, stw_l, stw_r, ofK0, ofK1, ofK2, lst1, lst2, lkill, kont_none, kont_some, Int.reduceToNat, List.length_cons, List.length_nil, Nat.reduceAdd, Nat.reduceLeDiff, Nat.zero_le, true_and, and_true, if_true, if_false, ne_eq, Int.reduceEq, Int.reduceNeg, not_false_eq_true, not_true_eq_false, ↓reduceIte, Int.reduceLT, Int.reduceLE, and_self, or_true, true_or, or_false, false_or, false_and, and_false, ah_t_w, ah_m_w, ah_n_w, mt_1036a hG.1, mt_1083a hG.1, mt_1083b hG.1, mf_62 hG.1, g_1083 hG, c_289 hG, c_287 hG, c_290 hG, zb_f, hlt, e1, e2, w32_i]
        refine ih (k + 1) _ _ _ _ (by omega) (by omega) hG hO ?_
        rw [← hR]; simp [zmk, e2]
      · simp (disch := omega) only [q_320_71, b_320_71, b_320_35, ↓w_iconst, ↓w_aload_n_0, ↓w_iload_n_1, ↓w_iload_n_2, ↓w_iload_n_3, ↓w_iload_4, ↓w_iload_5, ↓w_istore, ↓w_ineg, ↓w_getfield, ↓w_iaload, ↓w_goto, ↓w_ifCond_eq, ↓w_ifCond_ne, ↓w_if_icmp_ne, ↓w_if_icmp_ge, ↓w_if_icmp_gt, ↓w_invokevirtual_0, ↓w_invokevirtual_1, ↓w_invokevirtual_2, ↓w_invokevirtual_3, stw_0, stw_i, stw_l, stw_r, ofK0, ofK1, ofK2, lst1, lst2, lkill, kont_none, kont_some, Int.reduceToNat, List.length_cons, List.length_nil, Nat.reduceAdd, Nat.reduceLeDiff, Nat.zero_le, true_and, and_true, if_true, if_false, ne_eq, Int.reduceEq, Int.reduceNeg, not_false_eq_true, not_true_eq_false, ↓reduceIte, Int.reduceLT, Int.reduceLE, and_self, or_true, true_or, or_false, false_or, false_and, and_false, ah_t_w, ah_m_w, ah_n_w, mt_1036a hG.1, mt_1083a hG.1, mt_1083b hG.1, mf_62 hG.1, g_1083 hG, c_289 hG, c_287 hG, c_290 hG, zb_t, hlt, e1, e2]
        refine c_309 hG hc.1 (by omega) h0 hlt (by decide) (by decide) (fun h1' hD => ?_)
        have hG1 := MG_do hG hc.1 hc.2 h0 hlt hD
        simp (disch := omega) only [b_320_71, ↓w_iconst, ↓w_aload_n_0, ↓w_iload_n_1, ↓w_iload_n_2, ↓w_iload_n_3, ↓w_iload_4, ↓w_iload_5, ↓w_istore, ↓w_ineg, ↓w_goto, ↓w_ifCond_eq, ↓w_if_icmp_gt, ↓w_invokevirtual_0, ↓w_invokevirtual_1, ↓w_invokevirtual_3, stw_0, stw_i, stw_l, stw_r, ofK0, ofK1, ofK2, lst1, lst2, lkill, kont_none, kont_some, Int.reduceToNat, List.length_cons, List.length_nil, Nat.reduceAdd, Nat.reduceLeDiff, Nat.zero_le, true_and, and_true, if_true, if_false, ne_eq, Int.reduceEq, Int.reduceNeg, not_false_eq_true, not_true_eq_false, ↓reduceIte, Int.reduceLT, Int.reduceLE, and_self, or_true, true_or, or_false, false_or, false_and, and_false, ah_t_w, ah_m_w, ah_n_w, mt_1036a hG1.1]
        refine v_1 hG1 (fun h2 hG2 hO2 => ?_)
        have hv := zval_b hG.2.2.2.1 1 (zdo T nw c k)
        simp (disch := omega) only [b_320_71, ↓w_iconst, ↓w_aload_n_0, ↓w_iload_n_1, ↓w_iload_n_2, ↓w_iload_n_3, ↓w_iload_4, ↓w_iload_5, ↓w_istore, ↓w_ineg, ↓w_goto, ↓w_ifCond_eq, ↓w_if_icmp_gt, ↓w_invokevirtual_0, ↓w_invokevirtual_1, ↓w_invokevirtual_3, stw_0, stw_i, stw_l, stw_r, ofK0, ofK1, ofK2, lst1, lst2, lkill, kont_none, kont_some, Int.reduceToNat, List.length_cons, List.length_nil, Nat.reduceAdd, Nat.reduceLeDiff, Nat.zero_le, true_and, and_true, if_true, if_false, ne_eq, Int.reduceEq, Int.reduceNeg, not_false_eq_true, not_true_eq_false, ↓reduceIte, Int.reduceLT, Int.reduceLE, and_self, or_true, true_or, or_false, false_or, false_and, and_false, ah_t_w, ah_m_w, ah_n_w, mt_1036a hG2.1, w32_i, lst1_0]
        have dd : ah_m h2 1085 2 = c ∧ ah_m h2 1088 2 = zat T nw (k % T 1074 4) (k / T 1074 4) := by
          rw [hO2.2 _ _ (by unfold Wv; omega), hO2.2 _ _ (by unfold Wv; omega)]
          exact ⟨hD.2.1, hD.2.2.2.2.1⟩
        have hb := @zat_b h' (k % T 1074 4) (k / T 1074 4) T nw hG
        refine c_311 hG2.1 (by decide) (by decide) (by rw [dd.1]; omega) (by rw [dd.2]; omega) (by rw [g_1083 hG2]; have := hG2.2.2.2.2.2.2.2; omega) (fun h3 e3 hO3 => ?_)
        obtain ⟨e4, hO4⟩ := DO_back hc.1 hD hO2 (fun i w => by unfold Wv at w; omega) (fun r w => by unfold Wv at w; omega) e3 hO3 (g_1083 hG)
        have hO5 : Off (Wv 2) h' h3 := Off_mono (fun r i w => by unfold Wv Wd at *; omega) hO4
        have hG3 : MG T nw h3 := MG_off hG hO5 (fun r i w => Wv_f w)
        have hO6 := Off_tr hO hO5
        simp only [zmk, e2, if_true, List.cons_append, zbst] at hR
        cases a
        · simp (disch := omega) only [q_320_104, b_320_104, q_320_109, b_320_109, b_320_71, ↓w_iconst, ↓w_aload_n_0, ↓w_iload_n_1, ↓w_iload_n_2, ↓w_iload_n_3, ↓w_iload_4, ↓w_iinc_4, ↓w_iload_5, ↓w_istore, ↓w_istore_n_1, ↓w_istore_n_2, ↓w_ineg, ↓w_nop, ↓w_goto, ↓w_ifCond_eq, ↓w_if_icmp_gt, ↓w_invokevirtual_0, ↓w_invokevirtual_1, ↓w_invokevirtual_3, stw_0, stw_i, stw_l, stw_r, ofK0, ofK1, ofK2, lst1, lst2, lkill, kont_none, kont_some, Int.reduceToNat, List.length_cons, List.length_nil, Nat.reduceAdd, Nat.reduceLeDiff, Nat.zero_le, true_and, and_true, if_true, if_false, ne_eq, Int.reduceEq, Int.reduceNeg, not_false_eq_true, not_true_eq_false, ↓reduceIte, Int.reduceLT, Int.reduceLE, and_self, or_true, true_or, or_false, false_or, false_and, and_false, ah_t_w, ah_m_w, ah_n_w, mt_1036a hG3.1, w32_i, zb_f]
          refine ih (k + 1) _ true _ _ (by omega) (by omega) hG3 hO6 ?_
          simpa using hR
        · by_cases e5 : best < -zval T 1 (zdo T nw c k)
          · simp (disch := omega) only [q_320_104, b_320_104, q_320_109, b_320_109, b_320_71, ↓w_iconst, ↓w_aload_n_0, ↓w_iload_n_1, ↓w_iload_n_2, ↓w_iload_n_3, ↓w_iload_4, ↓w_iinc_4, ↓w_iload_5, ↓w_istore, ↓w_istore_n_1, ↓w_istore_n_2, ↓w_ineg, ↓w_nop, ↓w_goto, ↓w_ifCond_eq, ↓w_if_icmp_gt, ↓w_invokevirtual_0, ↓w_invokevirtual_1, ↓w_invokevirtual_3, stw_0, stw_i, stw_l, stw_r, ofK0, ofK1, ofK2, lst1, lst2, lkill, kont_none, kont_some, Int.reduceToNat, List.length_cons, List.length_nil, Nat.reduceAdd, Nat.reduceLeDiff, Nat.zero_le, true_and, and_true, if_true, if_false, ne_eq, Int.reduceEq, Int.reduceNeg, not_false_eq_true, not_true_eq_false, ↓reduceIte, Int.reduceLT, Int.reduceLE, and_self, or_true, true_or, or_false, false_or, false_and, and_false, ah_t_w, ah_m_w, ah_n_w, mt_1036a hG3.1, w32_i, zb_t, e5]
            refine ih (k + 1) _ true _ _ (by omega) (by omega) hG3 hO6 ?_
            rw [if_neg (fun q => by have := q.2; omega)] at hR
            exact hR
          · simp (disch := omega) only [q_320_104, b_320_104, q_320_109, b_320_109, b_320_71, ↓w_iconst, ↓w_aload_n_0, ↓w_iload_n_1, ↓w_iload_n_2, ↓w_iload_n_3, ↓w_iload_4, ↓w_iinc_4, ↓w_iload_5, ↓w_istore, ↓w_istore_n_1, ↓w_istore_n_2, ↓w_ineg, ↓w_nop, ↓w_goto, ↓w_ifCond_eq, ↓w_if_icmp_gt, ↓w_invokevirtual_0, ↓w_invokevirtual_1, ↓w_invokevirtual_3, stw_0, stw_i, stw_l, stw_r, ofK0, ofK1, ofK2, lst1, lst2, lkill, kont_none, kont_some, Int.reduceToNat, List.length_cons, List.length_nil, Nat.reduceAdd, Nat.reduceLeDiff, Nat.zero_le, true_and, and_true, if_true, if_false, ne_eq, Int.reduceEq, Int.reduceNeg, not_false_eq_true, not_true_eq_false, ↓reduceIte, Int.reduceLT, Int.reduceLE, and_self, or_true, true_or, or_false, false_or, false_and, and_false, ah_t_w, ah_m_w, ah_n_w, mt_1036a hG3.1, w32_i, zb_t, e5]
            refine ih (k + 1) _ true _ _ (by omega) (by omega) hG3 hO6 ?_
            rw [if_pos ⟨rfl, by omega⟩] at hR
            exact hR
    · simp only [e1, if_false, List.nil_append] at hR ih
      simp (disch := omega) only [q_320_109, b_320_109, b_320_35, ↓w_iconst, ↓w_aload_n_0, ↓w_iload_n_3, ↓w_iload_4, ↓w_iinc_4, ↓w_getfield, ↓w_iaload, ↓w_goto, ↓w_ifCond_ne, ↓w_if_icmp_ne, ↓w_if_icmp_ge, ↓w_invokevirtual_0, ↓w_invokevirtual_1, ↓w_invokevirtual_2, stw_0, stw_i, stw_l, stw_r, ofK0, ofK1, ofK2, lst1, lst2, lkill, kont_none, kont_some, Int.reduceToNat, List.length_cons, List.length_nil, Nat.reduceAdd, Nat.reduceLeDiff, Nat.zero_le, true_and, and_true, if_true, if_false, ne_eq, Int.reduceEq, Int.reduceNeg, not_false_eq_true, not_true_eq_false, ↓reduceIte, Int.reduceLT, Int.reduceLE, and_self, or_true, true_or, or_false, false_or, false_and, and_false, ah_t_w, ah_m_w, ah_n_w, mt_1036a hG.1, mt_1083a hG.1, mt_1083b hG.1, mf_62 hG.1, g_1083 hG, c_289 hG, c_287 hG, hlt, e1, w32_i]
      exact ih (k + 1) _ _ _ _ (by omega) (by omega) hG hO hR
theorem l_320 {R : Int} (hQ : ∀ h', MG T nw h' → Off (Wv 2) h h' → Q (.inl (some (.inl R))) h') :
    ∀ (j : Nat) (c best : Int) (a : Bool) tl h', 0 ≤ c → c + j = T 1072 4 → MG T nw h' → Off (Wv 2) h h' → zbst (fun x => -zval T 1 (zdo T nw x.1 x.2)) (zmm T nw (nw 1) j c) best a = R → wpB (d + 5) 320 24 (some (.inr (.inr 1036)) :: some (.inl best) :: some (.inl (zb a)) :: some (.inl c) :: tl) [] h' Q := by
  intro j
  induction j with
  | zero =>
    intro c best a tl h' h0 h1 hG hO hR
    have hlt : ¬ c < T 1072 4 := by omega
    simp (disch := omega) only [q_320_24, b_320_24, q_320_121, b_320_121, ↓w_iconst, ↓w_aload_n_0, ↓w_iload_n_1, ↓w_iload_n_3, ↓w_istore, ↓w_nop, ↓w_if_icmp_ge, ↓w_ireturn0, ↓w_invokevirtual_0, stw_0, stw_i, stw_l, stw_r, ofK0, ofK1, ofK2, lst1, lst2, lkill, kont_none, kont_some, Int.reduceToNat, List.length_cons, List.length_nil, Nat.reduceAdd, Nat.reduceLeDiff, Nat.zero_le, true_and, and_true, if_true, if_false, ne_eq, Int.reduceEq, Int.reduceNeg, not_false_eq_true, not_true_eq_false, ↓reduceIte, Int.reduceLT, Int.reduceLE, and_self, or_true, true_or, or_false, false_or, false_and, and_false, ah_t_w, ah_m_w, ah_n_w, mt_1036a hG.1, c_281 hG, hlt]
    rw [← hR] at hQ; exact hQ _ hG hO
  | succ j ih =>
    intro c best a tl h' h0 h1 hG hO hR
    have h8 := hG.2.2.2.1.2.1
    have hPi := zP_i hG
    have hlt : c < T 1072 4 := by omega
    simp (disch := omega) only [q_320_24, b_320_24, ↓w_iconst, ↓w_aload_n_0, ↓w_iload_n_3, ↓w_istore, ↓w_nop, ↓w_if_icmp_ge, ↓w_invokevirtual_0, stw_0, stw_i, stw_l, stw_r, ofK0, ofK1, ofK2, lst1, lst2, lkill, kont_none, kont_some, Int.reduceToNat, List.length_cons, List.length_nil, Nat.reduceAdd, Nat.reduceLeDiff, Nat.zero_le, true_and, and_true, if_true, if_false, ne_eq, Int.reduceEq, Int.reduceNeg, not_false_eq_true, not_true_eq_false, ↓reduceIte, Int.reduceLT, Int.reduceLE, and_self, or_true, true_or, or_false, false_or, false_and, and_false, ah_t_w, ah_m_w, ah_n_w, mt_1036a hG.1, c_281 hG, hlt, lst1_0]
    refine l_320i (J := 2) ⟨h0, hlt⟩ rfl (fun tl best a h'' hG2 hO2 hR2 => ?_) (zP T) 0 _ _ _ _ (by omega) (by omega) hG hO hR
    simp (disch := omega) only [q_320_115, b_320_115, ↓w_iinc_3, ↓w_goto, stw_0, stw_i, stw_l, stw_r, ofK0, ofK1, ofK2, lst1, lst2, lkill, kont_none, kont_some, Int.reduceToNat, List.length_cons, List.length_nil, Nat.reduceAdd, Nat.reduceLeDiff, Nat.zero_le, true_and, and_true, if_true, if_false, ne_eq, Int.reduceEq, Int.reduceNeg, not_false_eq_true, not_true_eq_false, ↓reduceIte, Int.reduceLT, Int.reduceLE, and_self, or_true, true_or, or_false, false_or, false_and, and_false, ah_t_w, ah_m_w, ah_n_w, w32_i]
    exact ih (c + 1) _ _ _ _ (by omega) (by omega) hG2 hO2 hR2
theorem v_2 (hG : MG T nw h) (hQ : ∀ h', MG T nw h' → Off (Wv 2) h h' → Q (.inl (some (.inl (zval T 2 nw)))) h') : wpC (d + 6) 320 [.inr (.inr 1036)] h Q := by
  have hn := zn_i hG
  have h8 := hG.2.2.2.1.2.1
  rw [wpC_B]; refine ⟨⟨Nat.zero_lt_succ _, Nat.le_of_ble_eq_true rfl⟩, ?_⟩; simp only [lent]
  cases e : zcr T nw
  · simp (disch := omega) only [q_320_0, b_320_0, q_320_20, b_320_20, ↓w_iconst, ↓w_aload_n_0, ↓w_iload_n_1, ↓w_istore_n_1, ↓w_istore_n_2, ↓w_istore_n_3, ↓w_getfield, ↓w_iaload, ↓w_nop, ↓w_ifCond_eq, ↓w_ireturn0, ↓w_invokevirtual_0, ↓w_invokevirtual_1, stw_0, stw_i, stw_l, stw_r, ofK0, ofK1, ofK2, lst1, lst2, lkill, kont_none, kont_some, Int.reduceToNat, List.length_cons, List.length_nil, Nat.reduceAdd, Nat.reduceLeDiff, Nat.zero_le, true_and, and_true, if_true, if_false, ne_eq, Int.reduceEq, Int.reduceNeg, not_false_eq_true, not_true_eq_false, ↓reduceIte, Int.reduceLT, Int.reduceLE, and_self, or_true, true_or, or_false, false_or, false_and, and_false, ah_t_w, ah_m_w, ah_n_w, mt_1036a hG.1, mt_1083a hG.1, mt_1083b hG.1, mf_62 hG.1, g_1083 hG, c_314 hG, c_280 hG, e, zb_f]
    refine l_320 hQ (zn T) 0 _ false _ _ (by omega) (by omega) hG Off_rfl ?_
    simp only [zval, e]; rfl
  · simp (disch := omega) only [q_320_0, b_320_0, ↓w_iconst, ↓w_aload_n_0, ↓w_iload_n_1, ↓w_istore_n_1, ↓w_getfield, ↓w_iaload, ↓w_ifCond_eq, ↓w_ireturn0, ↓w_invokevirtual_0, ↓w_invokevirtual_1, stw_0, stw_i, stw_l, stw_r, ofK0, ofK1, ofK2, lst1, lst2, lkill, kont_none, kont_some, Int.reduceToNat, List.length_cons, List.length_nil, Nat.reduceAdd, Nat.reduceLeDiff, Nat.zero_le, true_and, and_true, if_true, if_false, ne_eq, Int.reduceEq, Int.reduceNeg, not_false_eq_true, not_true_eq_false, ↓reduceIte, Int.reduceLT, Int.reduceLE, and_self, or_true, true_or, or_false, false_or, false_and, and_false, ah_t_w, ah_m_w, ah_n_w, mt_1036a hG.1, mt_1083a hG.1, mt_1083b hG.1, mf_62 hG.1, g_1083 hG, c_314 hG, c_280 hG, e, zb_t]
    have e2 : zval T 2 nw = zbal T nw (nw 1) := by unfold zval; rw [if_pos e]
    rw [← e2]; exact hQ _ hG Off_rfl

theorem l_321i {R c J : Int} {rest : List (Int × Int)} (hc : 0 ≤ c ∧ c < T 1072 4) (hJ : J = 3)
    (hout : ∀ tl best a h', MG T nw h' → Off (Wv 3) h h' → zbst (fun x => -zval T 2 (zdo T nw x.1 x.2)) rest best a = R → wpB (d + 6) 321 115 (some (.inr (.inr 1036)) :: some (.inl best) :: some (.inl (zb a)) :: some (.inl c) :: tl) [] h' Q) :
    ∀ (j : Nat) (k best : Int) (a : Bool) tl h', 0 ≤ k → k + j = zP T → MG T nw h' → Off (Wv 3) h h' → zbst (fun x => -zval T 2 (zdo T nw x.1 x.2)) ((if zs T c = nw 1 then zmk T nw c j k else []) ++ rest) best a = R → wpB (d + 6) 321 35 (some (.inr (.inr 1036)) :: some (.inl best) :: some (.inl (zb a)) :: some (.inl c) :: some (.inl k) :: tl) [] h' Q := by
  intro j
  induction j with
  | zero =>
    intro k best a tl h' h0 h1 hG hO hR
    have hlt : ¬ k < (zP T : Int) := by omega
    simp (disch := omega) only [q_321_35, b_321_35, ↓w_iconst, ↓w_aload_n_0, ↓w_iload_n_3, ↓w_iload_4, ↓w_getfield, ↓w_iaload, ↓w_goto, ↓w_ifCond_ne, ↓w_if_icmp_ne, ↓w_if_icmp_ge, ↓w_invokevirtual_0, ↓w_invokevirtual_1, ↓w_invokevirtual_2, stw_0, stw_i, stw_l, stw_r, ofK0, ofK1, ofK2, lst1, lst2, lkill, kont_none, kont_some, Int.reduceToNat, List.length_cons, List.length_nil, Nat.reduceAdd, Nat.reduceLeDiff, Nat.zero_le, true_and, and_true, if_true, if_false, ne_eq, Int.reduceEq, Int.reduceNeg, not_false_eq_true, not_true_eq_false, ↓reduceIte, Int.reduceLT, Int.reduceLE, and_self, or_true, true_or, or_false, false_or, false_and, and_false, ah_t_w, ah_m_w, ah_n_w, mt_1036a hG.1, mt_1083a hG.1, mt_1083b hG.1, mf_62 hG.1, c_289 hG, hlt]
    refine hout _ _ _ _ hG hO ?_
    rw [← hR]; split <;> rfl
  | succ j ih =>
    intro k best a tl h' h0 h1 hG hO hR
    have h8 := hG.2.2.2.1.2.1
    have hP := zP_b hG
    have hPi := zP_i hG
    have hlt : k < (zP T : Int) := by omega
    rw [q_321_35]
    by_cases e1 : zs T c = nw 1
    · simp only [e1, if_true] at hR ih
      cases e2 : zG T nw c k
      · simp (disch := omega) only [q_321_109, b_321_109, b_321_35, ↓w_iconst, ↓w_aload_n_0, ↓w_iload_n_3, ↓w_iload_4, ↓w_iinc_4, ↓w_getfield, ↓w_iaload, ↓w_goto, ↓w_ifCond_ne, ↓w_if_icmp_ne, ↓w_if_icmp_ge, ↓w_invokevirtual_0, ↓w_invokevirtual_1, ↓w_invokevirtual_2, stw_0, stw_i, stw_l, stw_r, ofK0, ofK1, ofK2, lst1, lst2, lkill, kont_none, kont_some, Int.reduceToNat, List.length_cons, List.length_nil, Nat.reduceAdd, Nat.reduceLeDiff, Nat.zero_le, true_and, and_true, if_true, if_false, ne_eq, Int.reduceEq, Int.reduceNeg, not_false_eq_true, not_true_eq_false, ↓reduceIte, Int.reduceLT, Int.reduceLE, and_self, or_true, true_or, or_false, false_or, false_and, and_false, ah_t_w, ah_m_w, ah_n_w, mt_1036a hG.1, mt_1083a hG.1, mt_1083b hG.1, mf_62 hG.1, g_1083 hG, c_289 hG, c_287 hG, c_290 hG, zb_f, hlt, e1, e2, w32_i]
        refine ih (k + 1) _ _ _ _ (by omega) (by omega) hG hO ?_
        rw [← hR]; simp [zmk, e2]
      · simp (disch := omega) only [q_321_71, b_321_71, b_321_35, ↓w_iconst, ↓w_aload_n_0, ↓w_iload_n_1, ↓w_iload_n_2, ↓w_iload_n_3, ↓w_iload_4, ↓w_iload_5, ↓w_istore, ↓w_ineg, ↓w_getfield, ↓w_iaload, ↓w_goto, ↓w_ifCond_eq, ↓w_ifCond_ne, ↓w_if_icmp_ne, ↓w_if_icmp_ge, ↓w_if_icmp_gt, ↓w_invokevirtual_0, ↓w_invokevirtual_1, ↓w_invokevirtual_2, ↓w_invokevirtual_3, stw_0, stw_i, stw_l, stw_r, ofK0, ofK1, ofK2, lst1, lst2, lkill, kont_none, kont_some, Int.reduceToNat, List.length_cons, List.length_nil, Nat.reduceAdd, Nat.reduceLeDiff, Nat.zero_le, true_and, and_true, if_true, if_false, ne_eq, Int.reduceEq, Int.reduceNeg, not_false_eq_true, not_true_eq_false, ↓reduceIte, Int.reduceLT, Int.reduceLE, and_self, or_true, true_or, or_false, false_or, false_and, and_false, ah_t_w, ah_m_w, ah_n_w, mt_1036a hG.1, mt_1083a hG.1, mt_1083b hG.1, mf_62 hG.1, g_1083 hG, c_289 hG, c_287 hG, c_290 hG, zb_t, hlt, e1, e2]
        refine c_309 hG hc.1 (by omega) h0 hlt (by decide) (by decide) (fun h1' hD => ?_)
        have hG1 := MG_do hG hc.1 hc.2 h0 hlt hD
        simp (disch := omega) only [b_321_71, ↓w_iconst, ↓w_aload_n_0, ↓w_iload_n_1, ↓w_iload_n_2, ↓w_iload_n_3, ↓w_iload_4, ↓w_iload_5, ↓w_istore, ↓w_ineg, ↓w_goto, ↓w_ifCond_eq, ↓w_if_icmp_gt, ↓w_invokevirtual_0, ↓w_invokevirtual_1, ↓w_invokevirtual_3, stw_0, stw_i, stw_l, stw_r, ofK0, ofK1, ofK2, lst1, lst2, lkill, kont_none, kont_some, Int.reduceToNat, List.length_cons, List.length_nil, Nat.reduceAdd, Nat.reduceLeDiff, Nat.zero_le, true_and, and_true, if_true, if_false, ne_eq, Int.reduceEq, Int.reduceNeg, not_false_eq_true, not_true_eq_false, ↓reduceIte, Int.reduceLT, Int.reduceLE, and_self, or_true, true_or, or_false, false_or, false_and, and_false, ah_t_w, ah_m_w, ah_n_w, mt_1036a hG1.1]
        refine v_2 hG1 (fun h2 hG2 hO2 => ?_)
        have hv := zval_b hG.2.2.2.1 2 (zdo T nw c k)
        simp (disch := omega) only [b_321_71, ↓w_iconst, ↓w_aload_n_0, ↓w_iload_n_1, ↓w_iload_n_2, ↓w_iload_n_3, ↓w_iload_4, ↓w_iload_5, ↓w_istore, ↓w_ineg, ↓w_goto, ↓w_ifCond_eq, ↓w_if_icmp_gt, ↓w_invokevirtual_0, ↓w_invokevirtual_1, ↓w_invokevirtual_3, stw_0, stw_i, stw_l, stw_r, ofK0, ofK1, ofK2, lst1, lst2, lkill, kont_none, kont_some, Int.reduceToNat, List.length_cons, List.length_nil, Nat.reduceAdd, Nat.reduceLeDiff, Nat.zero_le, true_and, and_true, if_true, if_false, ne_eq, Int.reduceEq, Int.reduceNeg, not_false_eq_true, not_true_eq_false, ↓reduceIte, Int.reduceLT, Int.reduceLE, and_self, or_true, true_or, or_false, false_or, false_and, and_false, ah_t_w, ah_m_w, ah_n_w, mt_1036a hG2.1, w32_i, lst1_0]
        have dd : ah_m h2 1085 3 = c ∧ ah_m h2 1088 3 = zat T nw (k % T 1074 4) (k / T 1074 4) := by
          rw [hO2.2 _ _ (by unfold Wv; omega), hO2.2 _ _ (by unfold Wv; omega)]
          exact ⟨hD.2.1, hD.2.2.2.2.1⟩
        have hb := @zat_b h' (k % T 1074 4) (k / T 1074 4) T nw hG
        refine c_311 hG2.1 (by decide) (by decide) (by rw [dd.1]; omega) (by rw [dd.2]; omega) (by rw [g_1083 hG2]; have := hG2.2.2.2.2.2.2.2; omega) (fun h3 e3 hO3 => ?_)
        obtain ⟨e4, hO4⟩ := DO_back hc.1 hD hO2 (fun i w => by unfold Wv at w; omega) (fun r w => by unfold Wv at w; omega) e3 hO3 (g_1083 hG)
        have hO5 : Off (Wv 3) h' h3 := Off_mono (fun r i w => by unfold Wv Wd at *; omega) hO4
        have hG3 : MG T nw h3 := MG_off hG hO5 (fun r i w => Wv_f w)
        have hO6 := Off_tr hO hO5
        simp only [zmk, e2, if_true, List.cons_append, zbst] at hR
        cases a
        · simp (disch := omega) only [q_321_104, b_321_104, q_321_109, b_321_109, b_321_71, ↓w_iconst, ↓w_aload_n_0, ↓w_iload_n_1, ↓w_iload_n_2, ↓w_iload_n_3, ↓w_iload_4, ↓w_iinc_4, ↓w_iload_5, ↓w_istore, ↓w_istore_n_1, ↓w_istore_n_2, ↓w_ineg, ↓w_nop, ↓w_goto, ↓w_ifCond_eq, ↓w_if_icmp_gt, ↓w_invokevirtual_0, ↓w_invokevirtual_1, ↓w_invokevirtual_3, stw_0, stw_i, stw_l, stw_r, ofK0, ofK1, ofK2, lst1, lst2, lkill, kont_none, kont_some, Int.reduceToNat, List.length_cons, List.length_nil, Nat.reduceAdd, Nat.reduceLeDiff, Nat.zero_le, true_and, and_true, if_true, if_false, ne_eq, Int.reduceEq, Int.reduceNeg, not_false_eq_true, not_true_eq_false, ↓reduceIte, Int.reduceLT, Int.reduceLE, and_self, or_true, true_or, or_false, false_or, false_and, and_false, ah_t_w, ah_m_w, ah_n_w, mt_1036a hG3.1, w32_i, zb_f]
          refine ih (k + 1) _ true _ _ (by omega) (by omega) hG3 hO6 ?_
          simpa using hR
        · by_cases e5 : best < -zval T 2 (zdo T nw c k)
          · simp (disch := omega) only [q_321_104, b_321_104, q_321_109, b_321_109, b_321_71, ↓w_iconst, ↓w_aload_n_0, ↓w_iload_n_1, ↓w_iload_n_2, ↓w_iload_n_3, ↓w_iload_4, ↓w_iinc_4, ↓w_iload_5, ↓w_istore, ↓w_istore_n_1, ↓w_istore_n_2, ↓w_ineg, ↓w_nop, ↓w_goto, ↓w_ifCond_eq, ↓w_if_icmp_gt, ↓w_invokevirtual_0, ↓w_invokevirtual_1, ↓w_invokevirtual_3, stw_0, stw_i, stw_l, stw_r, ofK0, ofK1, ofK2, lst1, lst2, lkill, kont_none, kont_some, Int.reduceToNat, List.length_cons, List.length_nil, Nat.reduceAdd, Nat.reduceLeDiff, Nat.zero_le, true_and, and_true, if_true, if_false, ne_eq, Int.reduceEq, Int.reduceNeg, not_false_eq_true, not_true_eq_false, ↓reduceIte, Int.reduceLT, Int.reduceLE, and_self, or_true, true_or, or_false, false_or, false_and, and_false, ah_t_w, ah_m_w, ah_n_w, mt_1036a hG3.1, w32_i, zb_t, e5]
            refine ih (k + 1) _ true _ _ (by omega) (by omega) hG3 hO6 ?_
            rw [if_neg (fun q => by have := q.2; omega)] at hR
            exact hR
          · simp (disch := omega) only [q_321_104, b_321_104, q_321_109, b_321_109, b_321_71, ↓w_iconst, ↓w_aload_n_0, ↓w_iload_n_1, ↓w_iload_n_2, ↓w_iload_n_3, ↓w_iload_4, ↓w_iinc_4, ↓w_iload_5, ↓w_istore, ↓w_istore_n_1, ↓w_istore_n_2, ↓w_ineg, ↓w_nop, ↓w_goto, ↓w_ifCond_eq, ↓w_if_icmp_gt, ↓w_invokevirtual_0, ↓w_invokevirtual_1, ↓w_invokevirtual_3, stw_0, stw_i, stw_l, stw_r, ofK0, ofK1, ofK2, lst1, lst2, lkill, kont_none, kont_some, Int.reduceToNat, List.length_cons, List.length_nil, Nat.reduceAdd, Nat.reduceLeDiff, Nat.zero_le, true_and, and_true, if_true, if_false, ne_eq, Int.reduceEq, Int.reduceNeg, not_false_eq_true, not_true_eq_false, ↓reduceIte, Int.reduceLT, Int.reduceLE, and_self, or_true, true_or, or_false, false_or, false_and, and_false, ah_t_w, ah_m_w, ah_n_w, mt_1036a hG3.1, w32_i, zb_t, e5]
            refine ih (k + 1) _ true _ _ (by omega) (by omega) hG3 hO6 ?_
            rw [if_pos ⟨rfl, by omega⟩] at hR
            exact hR
    · simp only [e1, if_false, List.nil_append] at hR ih
      simp (disch := omega) only [q_321_109, b_321_109, b_321_35, ↓w_iconst, ↓w_aload_n_0, ↓w_iload_n_3, ↓w_iload_4, ↓w_iinc_4, ↓w_getfield, ↓w_iaload, ↓w_goto, ↓w_ifCond_ne, ↓w_if_icmp_ne, ↓w_if_icmp_ge, ↓w_invokevirtual_0, ↓w_invokevirtual_1, ↓w_invokevirtual_2, stw_0, stw_i, stw_l, stw_r, ofK0, ofK1, ofK2, lst1, lst2, lkill, kont_none, kont_some, Int.reduceToNat, List.length_cons, List.length_nil, Nat.reduceAdd, Nat.reduceLeDiff, Nat.zero_le, true_and, and_true, if_true, if_false, ne_eq, Int.reduceEq, Int.reduceNeg, not_false_eq_true, not_true_eq_false, ↓reduceIte, Int.reduceLT, Int.reduceLE, and_self, or_true, true_or, or_false, false_or, false_and, and_false, ah_t_w, ah_m_w, ah_n_w, mt_1036a hG.1, mt_1083a hG.1, mt_1083b hG.1, mf_62 hG.1, g_1083 hG, c_289 hG, c_287 hG, hlt, e1, w32_i]
      exact ih (k + 1) _ _ _ _ (by omega) (by omega) hG hO hR
theorem l_321 {R : Int} (hQ : ∀ h', MG T nw h' → Off (Wv 3) h h' → Q (.inl (some (.inl R))) h') :
    ∀ (j : Nat) (c best : Int) (a : Bool) tl h', 0 ≤ c → c + j = T 1072 4 → MG T nw h' → Off (Wv 3) h h' → zbst (fun x => -zval T 2 (zdo T nw x.1 x.2)) (zmm T nw (nw 1) j c) best a = R → wpB (d + 6) 321 24 (some (.inr (.inr 1036)) :: some (.inl best) :: some (.inl (zb a)) :: some (.inl c) :: tl) [] h' Q := by
  intro j
  induction j with
  | zero =>
    intro c best a tl h' h0 h1 hG hO hR
    have hlt : ¬ c < T 1072 4 := by omega
    simp (disch := omega) only [q_321_24, b_321_24, q_321_121, b_321_121, ↓w_iconst, ↓w_aload_n_0, ↓w_iload_n_1, ↓w_iload_n_3, ↓w_istore, ↓w_nop, ↓w_if_icmp_ge, ↓w_ireturn0, ↓w_invokevirtual_0, stw_0, stw_i, stw_l, stw_r, ofK0, ofK1, ofK2, lst1, lst2, lkill, kont_none, kont_some, Int.reduceToNat, List.length_cons, List.length_nil, Nat.reduceAdd, Nat.reduceLeDiff, Nat.zero_le, true_and, and_true, if_true, if_false, ne_eq, Int.reduceEq, Int.reduceNeg, not_false_eq_true, not_true_eq_false, ↓reduceIte, Int.reduceLT, Int.reduceLE, and_self, or_true, true_or, or_false, false_or, false_and, and_false, ah_t_w, ah_m_w, ah_n_w, mt_1036a hG.1, c_281 hG, hlt]
    rw [← hR] at hQ; exact hQ _ hG hO
  | succ j ih =>
    intro c best a tl h' h0 h1 hG hO hR
    have h8 := hG.2.2.2.1.2.1
    have hPi := zP_i hG
    have hlt : c < T 1072 4 := by omega
    simp (disch := omega) only [q_321_24, b_321_24, ↓w_iconst, ↓w_aload_n_0, ↓w_iload_n_3, ↓w_istore, ↓w_nop, ↓w_if_icmp_ge, ↓w_invokevirtual_0, stw_0, stw_i, stw_l, stw_r, ofK0, ofK1, ofK2, lst1, lst2, lkill, kont_none, kont_some, Int.reduceToNat, List.length_cons, List.length_nil, Nat.reduceAdd, Nat.reduceLeDiff, Nat.zero_le, true_and, and_true, if_true, if_false, ne_eq, Int.reduceEq, Int.reduceNeg, not_false_eq_true, not_true_eq_false, ↓reduceIte, Int.reduceLT, Int.reduceLE, and_self, or_true, true_or, or_false, false_or, false_and, and_false, ah_t_w, ah_m_w, ah_n_w, mt_1036a hG.1, c_281 hG, hlt, lst1_0]
    refine l_321i (J := 3) ⟨h0, hlt⟩ rfl (fun tl best a h'' hG2 hO2 hR2 => ?_) (zP T) 0 _ _ _ _ (by omega) (by omega) hG hO hR
    simp (disch := omega) only [q_321_115, b_321_115, ↓w_iinc_3, ↓w_goto, stw_0, stw_i, stw_l, stw_r, ofK0, ofK1, ofK2, lst1, lst2, lkill, kont_none, kont_some, Int.reduceToNat, List.length_cons, List.length_nil, Nat.reduceAdd, Nat.reduceLeDiff, Nat.zero_le, true_and, and_true, if_true, if_false, ne_eq, Int.reduceEq, Int.reduceNeg, not_false_eq_true, not_true_eq_false, ↓reduceIte, Int.reduceLT, Int.reduceLE, and_self, or_true, true_or, or_false, false_or, false_and, and_false, ah_t_w, ah_m_w, ah_n_w, w32_i]
    exact ih (c + 1) _ _ _ _ (by omega) (by omega) hG2 hO2 hR2
theorem v_3 (hG : MG T nw h) (hQ : ∀ h', MG T nw h' → Off (Wv 3) h h' → Q (.inl (some (.inl (zval T 3 nw)))) h') : wpC (d + 7) 321 [.inr (.inr 1036)] h Q := by
  have hn := zn_i hG
  have h8 := hG.2.2.2.1.2.1
  rw [wpC_B]; refine ⟨⟨Nat.zero_lt_succ _, Nat.le_of_ble_eq_true rfl⟩, ?_⟩; simp only [lent]
  cases e : zcr T nw
  · simp (disch := omega) only [q_321_0, b_321_0, q_321_20, b_321_20, ↓w_iconst, ↓w_aload_n_0, ↓w_iload_n_1, ↓w_istore_n_1, ↓w_istore_n_2, ↓w_istore_n_3, ↓w_getfield, ↓w_iaload, ↓w_nop, ↓w_ifCond_eq, ↓w_ireturn0, ↓w_invokevirtual_0, ↓w_invokevirtual_1, stw_0, stw_i, stw_l, stw_r, ofK0, ofK1, ofK2, lst1, lst2, lkill, kont_none, kont_some, Int.reduceToNat, List.length_cons, List.length_nil, Nat.reduceAdd, Nat.reduceLeDiff, Nat.zero_le, true_and, and_true, if_true, if_false, ne_eq, Int.reduceEq, Int.reduceNeg, not_false_eq_true, not_true_eq_false, ↓reduceIte, Int.reduceLT, Int.reduceLE, and_self, or_true, true_or, or_false, false_or, false_and, and_false, ah_t_w, ah_m_w, ah_n_w, mt_1036a hG.1, mt_1083a hG.1, mt_1083b hG.1, mf_62 hG.1, g_1083 hG, c_314 hG, c_280 hG, e, zb_f]
    refine l_321 hQ (zn T) 0 _ false _ _ (by omega) (by omega) hG Off_rfl ?_
    simp only [zval, e]; rfl
  · simp (disch := omega) only [q_321_0, b_321_0, ↓w_iconst, ↓w_aload_n_0, ↓w_iload_n_1, ↓w_istore_n_1, ↓w_getfield, ↓w_iaload, ↓w_ifCond_eq, ↓w_ireturn0, ↓w_invokevirtual_0, ↓w_invokevirtual_1, stw_0, stw_i, stw_l, stw_r, ofK0, ofK1, ofK2, lst1, lst2, lkill, kont_none, kont_some, Int.reduceToNat, List.length_cons, List.length_nil, Nat.reduceAdd, Nat.reduceLeDiff, Nat.zero_le, true_and, and_true, if_true, if_false, ne_eq, Int.reduceEq, Int.reduceNeg, not_false_eq_true, not_true_eq_false, ↓reduceIte, Int.reduceLT, Int.reduceLE, and_self, or_true, true_or, or_false, false_or, false_and, and_false, ah_t_w, ah_m_w, ah_n_w, mt_1036a hG.1, mt_1083a hG.1, mt_1083b hG.1, mf_62 hG.1, g_1083 hG, c_314 hG, c_280 hG, e, zb_t]
    have e2 : zval T 3 nw = zbal T nw (nw 1) := by unfold zval; rw [if_pos e]
    rw [← e2]; exact hQ _ hG Off_rfl

theorem v_by {D : Int} {n : Nat} (hG : MG T nw h) (hD : D = n) (hn : n ≤ 3) (hQ : ∀ h', MG T nw h' → Off (Wv 3) h h' → Q (.inl (some (.inl (zval T n nw)))) h') : wpC (d + 8) 317 [.inr (.inr 1036), .inl D] h Q := by
  have mono : ∀ (j : Int) h', j ≤ 3 → Off (Wv j) h h' → Off (Wv 3) h h' := fun j h' hj ho => Off_mono (fun r i w => by unfold Wv at *; omega) ho
  rw [wpC_B]; refine ⟨⟨Nat.zero_lt_succ _, Nat.le_of_ble_eq_true rfl⟩, ?_⟩; simp only [lent]
  have : n = 0 ∨ n = 1 ∨ n = 2 ∨ n = 3 := by omega
  rcases this with e | e | e | e <;> subst e <;> subst hD
  · have e0 : ((0 : Nat) : Int) = 0 := rfl
    simp (disch := omega) only [q_317_0, b_317_0, ↓w_aload_n_0, ↓w_iload_n_1, ↓w_goto, ↓w_ifCond_ne, ↓w_invokevirtual_0, stw_0, stw_i, stw_l, stw_r, ofK0, ofK1, ofK2, lst1, lst2, lkill, kont_none, kont_some, Int.reduceToNat, List.length_cons, List.length_nil, Nat.reduceAdd, Nat.reduceLeDiff, Nat.zero_le, true_and, and_true, if_true, if_false, ne_eq, Int.reduceEq, Int.reduceNeg, not_false_eq_true, not_true_eq_false, ↓reduceIte, Int.reduceLT, Int.reduceLE, and_self, or_true, true_or, or_false, false_or, false_and, and_false, ah_t_w, ah_m_w, ah_n_w, mt_1036a hG.1, e0]
    refine v_0 hG (fun h' a b => ?_)
    simp (disch := omega) only [q_317_0, b_317_0, q_317_39, b_317_39, ↓w_aload_n_0, ↓w_iload_n_1, ↓w_goto, ↓w_ifCond_ne, ↓w_ireturn0, ↓w_invokevirtual_0, stw_0, stw_i, stw_l, stw_r, ofK0, ofK1, ofK2, lst1, lst2, lkill, kont_none, kont_some, Int.reduceToNat, List.length_cons, List.length_nil, Nat.reduceAdd, Nat.reduceLeDiff, Nat.zero_le, true_and, and_true, if_true, if_false, ne_eq, Int.reduceEq, Int.reduceNeg, not_false_eq_true, not_true_eq_false, ↓reduceIte, Int.reduceLT, Int.reduceLE, and_self, or_true, true_or, or_false, false_or, false_and, and_false, ah_t_w, ah_m_w, ah_n_w]
    exact hQ h' a (mono 0 _ (by decide) b)
  · have e0 : ((1 : Nat) : Int) = 1 := rfl
    simp (disch := omega) only [q_317_0, b_317_0, q_317_11, b_317_11, ↓w_iconst, ↓w_aload_n_0, ↓w_iload_n_1, ↓w_goto, ↓w_ifCond_ne, ↓w_if_icmp_ne, ↓w_invokevirtual_0, stw_0, stw_i, stw_l, stw_r, ofK0, ofK1, ofK2, lst1, lst2, lkill, kont_none, kont_some, Int.reduceToNat, List.length_cons, List.length_nil, Nat.reduceAdd, Nat.reduceLeDiff, Nat.zero_le, true_and, and_true, if_true, if_false, ne_eq, Int.reduceEq, Int.reduceNeg, not_false_eq_true, not_true_eq_false, ↓reduceIte, Int.reduceLT, Int.reduceLE, and_self, or_true, true_or, or_false, false_or, false_and, and_false, ah_t_w, ah_m_w, ah_n_w, mt_1036a hG.1, e0]
    refine v_1 hG (fun h' a b => ?_)
    simp (disch := omega) only [q_317_0, b_317_0, q_317_11, b_317_11, q_317_39, b_317_39, ↓w_iconst, ↓w_aload_n_0, ↓w_iload_n_1, ↓w_goto, ↓w_ifCond_ne, ↓w_if_icmp_ne, ↓w_ireturn0, ↓w_invokevirtual_0, stw_0, stw_i, stw_l, stw_r, ofK0, ofK1, ofK2, lst1, lst2, lkill, kont_none, kont_some, Int.reduceToNat, List.length_cons, List.length_nil, Nat.reduceAdd, Nat.reduceLeDiff, Nat.zero_le, true_and, and_true, if_true, if_false, ne_eq, Int.reduceEq, Int.reduceNeg, not_false_eq_true, not_true_eq_false, ↓reduceIte, Int.reduceLT, Int.reduceLE, and_self, or_true, true_or, or_false, false_or, false_and, and_false, ah_t_w, ah_m_w, ah_n_w]
    exact hQ h' a (mono 1 _ (by decide) b)
  · have e0 : ((2 : Nat) : Int) = 2 := rfl
    simp (disch := omega) only [q_317_0, b_317_0, q_317_11, b_317_11, q_317_23, b_317_23, ↓w_iconst, ↓w_aload_n_0, ↓w_iload_n_1, ↓w_goto, ↓w_ifCond_ne, ↓w_if_icmp_ne, ↓w_invokevirtual_0, stw_0, stw_i, stw_l, stw_r, ofK0, ofK1, ofK2, lst1, lst2, lkill, kont_none, kont_some, Int.reduceToNat, List.length_cons, List.length_nil, Nat.reduceAdd, Nat.reduceLeDiff, Nat.zero_le, true_and, and_true, if_true, if_false, ne_eq, Int.reduceEq, Int.reduceNeg, not_false_eq_true, not_true_eq_false, ↓reduceIte, Int.reduceLT, Int.reduceLE, and_self, or_true, true_or, or_false, false_or, false_and, and_false, ah_t_w, ah_m_w, ah_n_w, mt_1036a hG.1, e0]
    refine v_2 hG (fun h' a b => ?_)
    simp (disch := omega) only [q_317_0, b_317_0, q_317_11, b_317_11, q_317_23, b_317_23, q_317_39, b_317_39, ↓w_iconst, ↓w_aload_n_0, ↓w_iload_n_1, ↓w_goto, ↓w_ifCond_ne, ↓w_if_icmp_ne, ↓w_ireturn0, ↓w_invokevirtual_0, stw_0, stw_i, stw_l, stw_r, ofK0, ofK1, ofK2, lst1, lst2, lkill, kont_none, kont_some, Int.reduceToNat, List.length_cons, List.length_nil, Nat.reduceAdd, Nat.reduceLeDiff, Nat.zero_le, true_and, and_true, if_true, if_false, ne_eq, Int.reduceEq, Int.reduceNeg, not_false_eq_true, not_true_eq_false, ↓reduceIte, Int.reduceLT, Int.reduceLE, and_self, or_true, true_or, or_false, false_or, false_and, and_false, ah_t_w, ah_m_w, ah_n_w]
    exact hQ h' a (mono 2 _ (by decide) b)
  · have e0 : ((3 : Nat) : Int) = 3 := rfl
    simp (disch := omega) only [q_317_0, b_317_0, q_317_11, b_317_11, q_317_23, b_317_23, q_317_35, b_317_35, ↓w_iconst, ↓w_aload_n_0, ↓w_iload_n_1, ↓w_nop, ↓w_goto, ↓w_ifCond_ne, ↓w_if_icmp_ne, ↓w_invokevirtual_0, stw_0, stw_i, stw_l, stw_r, ofK0, ofK1, ofK2, lst1, lst2, lkill, kont_none, kont_some, Int.reduceToNat, List.length_cons, List.length_nil, Nat.reduceAdd, Nat.reduceLeDiff, Nat.zero_le, true_and, and_true, if_true, if_false, ne_eq, Int.reduceEq, Int.reduceNeg, not_false_eq_true, not_true_eq_false, ↓reduceIte, Int.reduceLT, Int.reduceLE, and_self, or_true, true_or, or_false, false_or, false_and, and_false, ah_t_w, ah_m_w, ah_n_w, mt_1036a hG.1, e0]
    refine v_3 hG (fun h' a b => ?_)
    simp (disch := omega) only [q_317_0, b_317_0, q_317_11, b_317_11, q_317_23, b_317_23, q_317_35, b_317_35, q_317_39, b_317_39, ↓w_iconst, ↓w_aload_n_0, ↓w_iload_n_1, ↓w_nop, ↓w_goto, ↓w_ifCond_ne, ↓w_if_icmp_ne, ↓w_ireturn0, ↓w_invokevirtual_0, stw_0, stw_i, stw_l, stw_r, ofK0, ofK1, ofK2, lst1, lst2, lkill, kont_none, kont_some, Int.reduceToNat, List.length_cons, List.length_nil, Nat.reduceAdd, Nat.reduceLeDiff, Nat.zero_le, true_and, and_true, if_true, if_false, ne_eq, Int.reduceEq, Int.reduceNeg, not_false_eq_true, not_true_eq_false, ↓reduceIte, Int.reduceLT, Int.reduceLE, and_self, or_true, true_or, or_false, false_or, false_and, and_false, ah_t_w, ah_m_w, ah_n_w]
    exact hQ h' a b
end M6
