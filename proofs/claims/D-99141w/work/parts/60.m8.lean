/-! ===== M: ways, forced (printed by gen_60.py) ===== -/
section M8
variable {d : Nat} {h h0 : AH} {Q : QQ} {x y z m k s l : Int} {T : Int → Int → Int} {nw g : Int → Int}
set_option maxHeartbeats 2000000
theorem zmm_len {nw : Int → Int} : ∀ (j : Nat) (m : Int), (zmm T nw s j m).length ≤ j * zP T := by
  intro j
  induction j with
  | zero => intro m; simp [zmm]
  | succ j ih =>
    intro m
    have a := ih (m + 1)
    have b := @zmk_len m T nw (zP T) 0
    rw [zmm_s, List.length_append, Nat.succ_mul]
    split
    · omega
    · simp only [List.length_nil]; omega
theorem zP_bT (hT : TV T) : zP T ≤ 25 := by
  have h4 := hT.2.2.2.1; have h5 := hT.2.2.2.2.1
  have := Int.mul_le_mul h4.2 h5.2 h5.1 (by decide)
  unfold zP; omega
theorem zmv_len (hT : TV T) : (zmv T nw).length ≤ 200 := by
  have a := @zmm_len (nw 1) T nw (zn T) 0
  have h8 := hT.2.1
  have b : zn T ≤ 8 := by unfold zn; omega
  have c := Nat.mul_le_mul b (zP_bT hT)
  unfold zmv; omega
theorem zsm_b {f : Int × Int → Int} {B : Int} (hf : ∀ x, 0 ≤ f x ∧ f x ≤ B) : ∀ (l : List (Int × Int)) (a : Int), 0 ≤ a → 0 ≤ zsm f l a ∧ zsm f l a ≤ a + l.length * B := by
  intro l
  induction l with
  | nil => intro a ha; simp [zsm, ha]
  | cons x l ih =>
    intro a ha
    have h1 := hf x
    have := ih (a + f x) (by omega)
    simp only [zsm, List.length_cons]
    rw [Int.natCast_add, Int.add_mul]
    omega
theorem zwys_b (hT : TV T) : ∀ (j : Nat) (nw : Int → Int), 0 ≤ zwys T g j nw ∧ zwys T g j nw ≤ 200 ^ j := by
  intro j
  induction j with
  | zero => intro nw; unfold zwys zb; split <;> decide
  | succ j ih =>
    intro nw
    have p : (0 : Int) ≤ 200 ^ j := Int.pow_nonneg (by decide)
    unfold zwys
    rw [Int.pow_succ]
    split
    · omega
    · have a := zsm_b (f := fun x => zwys T g j (zdo T nw x.1 x.2)) (fun x => ih (zdo T nw x.1 x.2)) (zmv T nw) 0 (by decide)
      have b : ((zmv T nw).length : Int) * 200 ^ j ≤ 200 * 200 ^ j := Int.mul_le_mul_of_nonneg_right (by have := @zmv_len T nw hT; omega) p
      omega
theorem l_355 (hG : MG T nw h) (eg : ah_m h 1092 = g) : ∀ (j : Nat) (i : Int), 0 ≤ i → i + j = 2 * T 1072 4 → wpB (d + 1) 355 2 [some (.inr (.inr 1036)), some (.inl i)] [] h (fun o h1 => o = .inl (some (.inl (zb (zeqg nw g j i)))) ∧ h1 = h) := by
  have h8 := hG.2.2.2.1.2.1
  intro j
  induction j with
  | zero =>
    intro i h0 h1
    have hlt : ¬ i < 2 * T 1072 4 := by omega
    simp (disch := omega) only [q_355_2, b_355_2, q_355_37, b_355_37, ↓w_iconst, ↓w_aload_n_0, ↓w_iload_n_1, ↓w_iadd, ↓w_imul, ↓w_getfield, ↓w_iaload, ↓w_if_icmp_eq, ↓w_if_icmp_ge, ↓w_ireturn0, ↓w_invokevirtual_0, stw_0, stw_i, stw_l, stw_r, ofK0, ofK1, ofK2, lst1, lst2, lkill, kont_none, kont_some, Int.reduceToNat, List.length_cons, List.length_nil, Nat.reduceAdd, Nat.reduceLeDiff, Nat.zero_le, true_and, and_true, if_true, if_false, ne_eq, Int.reduceEq, Int.reduceNeg, not_false_eq_true, not_true_eq_false, ↓reduceIte, Int.reduceLT, Int.reduceLE, and_self, or_true, true_or, or_false, false_or, false_and, and_false, ah_t_w, ah_m_w, ah_n_w, mt_1036a hG.1, mt_1083a hG.1, mt_1083b hG.1, mf_62 hG.1, mt_1092a hG.1, mt_1092b hG.1, mf_82 hG.1, c_281 hG, w32_i, hlt, zeqg, zb_t]
  | succ j ih =>
    intro i h0 h1
    have ih := ih (i + 1) (by omega) (by omega)
    have hlt : i < 2 * T 1072 4 := by omega
    rw [q_355_2]
    by_cases e1 : nw (2 + i) = g i
    · simp (disch := omega) only [q_355_31, b_355_31, b_355_2, ↓w_iconst, ↓w_aload_n_0, ↓w_iload_n_1, ↓w_iinc_1, ↓w_iadd, ↓w_imul, ↓w_getfield, ↓w_iaload, ↓w_goto, ↓w_if_icmp_eq, ↓w_if_icmp_ge, ↓w_ireturn0, ↓w_invokevirtual_0, stw_0, stw_i, stw_l, stw_r, ofK0, ofK1, ofK2, lst1, lst2, lkill, kont_none, kont_some, Int.reduceToNat, List.length_cons, List.length_nil, Nat.reduceAdd, Nat.reduceLeDiff, Nat.zero_le, true_and, and_true, if_true, if_false, ne_eq, Int.reduceEq, Int.reduceNeg, not_false_eq_true, not_true_eq_false, ↓reduceIte, Int.reduceLT, Int.reduceLE, and_self, or_true, true_or, or_false, false_or, false_and, and_false, ah_t_w, ah_m_w, ah_n_w, mt_1036a hG.1, mt_1083a hG.1, mt_1083b hG.1, mf_62 hG.1, mt_1092a hG.1, mt_1092b hG.1, mf_82 hG.1, g_1083 hG, eg, c_281 hG, w32_i, hlt, zeqg, e1]
      exact ⟨by omega, by omega, ih⟩
    · simp (disch := omega) only [q_355_31, b_355_31, b_355_2, ↓w_iconst, ↓w_aload_n_0, ↓w_iload_n_1, ↓w_iinc_1, ↓w_iadd, ↓w_imul, ↓w_getfield, ↓w_iaload, ↓w_goto, ↓w_if_icmp_eq, ↓w_if_icmp_ge, ↓w_ireturn0, ↓w_invokevirtual_0, stw_0, stw_i, stw_l, stw_r, ofK0, ofK1, ofK2, lst1, lst2, lkill, kont_none, kont_some, Int.reduceToNat, List.length_cons, List.length_nil, Nat.reduceAdd, Nat.reduceLeDiff, Nat.zero_le, true_and, and_true, if_true, if_false, ne_eq, Int.reduceEq, Int.reduceNeg, not_false_eq_true, not_true_eq_false, ↓reduceIte, Int.reduceLT, Int.reduceLE, and_self, or_true, true_or, or_false, false_or, false_and, and_false, ah_t_w, ah_m_w, ah_n_w, mt_1036a hG.1, mt_1083a hG.1, mt_1083b hG.1, mf_62 hG.1, mt_1092a hG.1, mt_1092b hG.1, mf_82 hG.1, g_1083 hG, eg, c_281 hG, w32_i, hlt, zeqg, e1, zb]
      simp; omega
theorem u_0 (hG : MG T nw h) (eg : ah_m h 1092 = g) (hQ : ∀ h', MG T nw h' → Off (Wv 0) h h' → Q (.inl (some (.inl (zwys T g 0 nw)))) h') : wpC (d + 4) 355 [.inr (.inr 1036)] h Q := by
  have h8 := hG.2.2.2.1.2.1
  have hn := zn_i hG
  have ct : wpC (d + 4) 355 [.inr (.inr 1036)] h Q ↔ Q (.inl (some (.inl (zwys T g 0 nw)))) h := by
    apply CT_iff; apply CT_of; rw [wpC_B]; refine ⟨⟨Nat.zero_lt_succ _, Nat.le_of_ble_eq_true rfl⟩, ?_⟩; simp only [lent]
    simp (disch := omega) only [q_355_0, b_355_0, ↓w_iconst, ↓w_istore_n_1, ↓w_nop, stw_0, stw_i, stw_l, stw_r, ofK0, ofK1, ofK2, lst1, lst2, lkill, kont_none, kont_some, Int.reduceToNat, List.length_cons, List.length_nil, Nat.reduceAdd, Nat.reduceLeDiff, Nat.zero_le, true_and, and_true, if_true, if_false, ne_eq, Int.reduceEq, Int.reduceNeg, not_false_eq_true, not_true_eq_false, ↓reduceIte, Int.reduceLT, Int.reduceLE, and_self, or_true, true_or, or_false, false_or, false_and, and_false, ah_t_w, ah_m_w, ah_n_w]
    exact l_355 hG eg _ 0 (by omega) (by omega)
  rw [ct]; exact hQ h hG Off_rfl

theorem l_356i {R c : Int} {rest : List (Int × Int)} (hc : 0 ≤ c ∧ c < T 1072 4)
    (hout : ∀ tl a h', 0 ≤ a → a ≤ 25 * (c + 1) * 1 → MG T nw h' → ah_m h' 1092 = g → Off (Wv 1) h h' → zsm (fun x => zwys T g 0 (zdo T nw x.1 x.2)) rest a = R → wpB (d + 4) 356 82 (some (.inr (.inr 1036)) :: some (.inl a) :: some (.inl c) :: tl) [] h' Q) :
    ∀ (j : Nat) (k a : Int) tl h', 0 ≤ k → k + j = zP T → 0 ≤ a → a ≤ (25 * c + k) * 1 → MG T nw h' → ah_m h' 1092 = g → Off (Wv 1) h h' → zsm (fun x => zwys T g 0 (zdo T nw x.1 x.2)) ((if zs T c = nw 1 then zmk T nw c j k else []) ++ rest) a = R → wpB (d + 4) 356 23 (some (.inr (.inr 1036)) :: some (.inl a) :: some (.inl c) :: some (.inl k) :: tl) [] h' Q := by
  intro j
  induction j with
  | zero =>
    intro k a tl h' h0 h1 a1 a2 hG eg hO hR
    have hlt : ¬ k < (zP T : Int) := by omega
    have hP := zP_b hG
    have hPi := zP_i hG
    simp (disch := omega) only [q_356_23, b_356_23, ↓w_iconst, ↓w_aload_n_0, ↓w_iload_n_2, ↓w_iload_n_3, ↓w_getfield, ↓w_iaload, ↓w_goto, ↓w_ifCond_ne, ↓w_if_icmp_ne, ↓w_if_icmp_ge, ↓w_invokevirtual_0, ↓w_invokevirtual_1, ↓w_invokevirtual_2, stw_0, stw_i, stw_l, stw_r, ofK0, ofK1, ofK2, lst1, lst2, lkill, kont_none, kont_some, Int.reduceToNat, List.length_cons, List.length_nil, Nat.reduceAdd, Nat.reduceLeDiff, Nat.zero_le, true_and, and_true, if_true, if_false, ne_eq, Int.reduceEq, Int.reduceNeg, not_false_eq_true, not_true_eq_false, ↓reduceIte, Int.reduceLT, Int.reduceLE, and_self, or_true, true_or, or_false, false_or, false_and, and_false, ah_t_w, ah_m_w, ah_n_w, mt_1036a hG.1, mt_1083a hG.1, mt_1083b hG.1, mf_62 hG.1, c_289 hG, hlt]
    refine hout _ _ _ a1 (by omega) hG eg hO ?_
    rw [← hR]; split <;> rfl
  | succ j ih =>
    intro k a tl h' h0 h1 a1 a2 hG eg hO hR
    have h8 := hG.2.2.2.1.2.1
    have hP := zP_b hG
    have hPi := zP_i hG
    have hlt : k < (zP T : Int) := by omega
    rw [q_356_23]
    by_cases e1 : zs T c = nw 1
    · simp only [e1, if_true] at hR ih
      cases e2 : zG T nw c k
      · simp (disch := omega) only [q_356_76, b_356_76, b_356_23, ↓w_iconst, ↓w_aload_n_0, ↓w_iload_n_2, ↓w_iload_n_3, ↓w_iinc_3, ↓w_getfield, ↓w_iaload, ↓w_goto, ↓w_ifCond_ne, ↓w_if_icmp_ne, ↓w_if_icmp_ge, ↓w_invokevirtual_0, ↓w_invokevirtual_1, ↓w_invokevirtual_2, stw_0, stw_i, stw_l, stw_r, ofK0, ofK1, ofK2, lst1, lst2, lkill, kont_none, kont_some, Int.reduceToNat, List.length_cons, List.length_nil, Nat.reduceAdd, Nat.reduceLeDiff, Nat.zero_le, true_and, and_true, if_true, if_false, ne_eq, Int.reduceEq, Int.reduceNeg, not_false_eq_true, not_true_eq_false, ↓reduceIte, Int.reduceLT, Int.reduceLE, and_self, or_true, true_or, or_false, false_or, false_and, and_false, ah_t_w, ah_m_w, ah_n_w, mt_1036a hG.1, mt_1083a hG.1, mt_1083b hG.1, mf_62 hG.1, g_1083 hG, c_289 hG, c_287 hG, c_290 hG, zb_f, hlt, e1, e2, w32_i]
        refine ih (k + 1) _ _ _ (by omega) (by omega) a1 (by omega) hG eg hO ?_
        rw [← hR]; simp [zmk, e2]
      · simp (disch := omega) only [q_356_57, b_356_57, b_356_23, ↓w_iconst, ↓w_aload_n_0, ↓w_iload_n_1, ↓w_iload_n_2, ↓w_iload_n_3, ↓w_istore_n_1, ↓w_iadd, ↓w_getfield, ↓w_iaload, ↓w_nop, ↓w_goto, ↓w_ifCond_ne, ↓w_if_icmp_ne, ↓w_if_icmp_ge, ↓w_invokevirtual_0, ↓w_invokevirtual_1, ↓w_invokevirtual_2, ↓w_invokevirtual_3, stw_0, stw_i, stw_l, stw_r, ofK0, ofK1, ofK2, lst1, lst2, lkill, kont_none, kont_some, Int.reduceToNat, List.length_cons, List.length_nil, Nat.reduceAdd, Nat.reduceLeDiff, Nat.zero_le, true_and, and_true, if_true, if_false, ne_eq, Int.reduceEq, Int.reduceNeg, not_false_eq_true, not_true_eq_false, ↓reduceIte, Int.reduceLT, Int.reduceLE, and_self, or_true, true_or, or_false, false_or, false_and, and_false, ah_t_w, ah_m_w, ah_n_w, mt_1036a hG.1, mt_1083a hG.1, mt_1083b hG.1, mf_62 hG.1, g_1083 hG, c_289 hG, c_287 hG, c_290 hG, zb_t, hlt, e1, e2]
        refine c_309 hG hc.1 (by omega) h0 hlt (by decide) (by decide) (fun h1' hD => ?_)
        have hG1 := MG_do hG hc.1 hc.2 h0 hlt hD
        have eg1 : ah_m h1' 1092 = g := (Off_r hD.2.2.2.2.2 (fun i w => by unfold Wd at w; omega)).trans eg
        simp (disch := omega) only [b_356_57, ↓w_iconst, ↓w_aload_n_0, ↓w_iload_n_1, ↓w_iload_n_2, ↓w_iload_n_3, ↓w_istore_n_1, ↓w_iadd, ↓w_nop, ↓w_invokevirtual_0, ↓w_invokevirtual_1, ↓w_invokevirtual_3, stw_0, stw_i, stw_l, stw_r, ofK0, ofK1, ofK2, lst1, lst2, lkill, kont_none, kont_some, Int.reduceToNat, List.length_cons, List.length_nil, Nat.reduceAdd, Nat.reduceLeDiff, Nat.zero_le, true_and, and_true, if_true, if_false, ne_eq, Int.reduceEq, Int.reduceNeg, not_false_eq_true, not_true_eq_false, ↓reduceIte, Int.reduceLT, Int.reduceLE, and_self, or_true, true_or, or_false, false_or, false_and, and_false, ah_t_w, ah_m_w, ah_n_w, mt_1036a hG1.1]
        refine u_0 hG1 eg1 (fun h2 hG2 hO2 => ?_)
        have hv := @zwys_b T g hG.2.2.2.1 0 (zdo T nw c k)
        have hv2 : (200 : Int) ^ 0 = 1 := by decide
        rw [hv2] at hv
        simp (disch := omega) only [b_356_57, ↓w_iconst, ↓w_aload_n_0, ↓w_iload_n_1, ↓w_iload_n_2, ↓w_iload_n_3, ↓w_istore_n_1, ↓w_iadd, ↓w_nop, ↓w_invokevirtual_0, ↓w_invokevirtual_1, ↓w_invokevirtual_3, stw_0, stw_i, stw_l, stw_r, ofK0, ofK1, ofK2, lst1, lst2, lkill, kont_none, kont_some, Int.reduceToNat, List.length_cons, List.length_nil, Nat.reduceAdd, Nat.reduceLeDiff, Nat.zero_le, true_and, and_true, if_true, if_false, ne_eq, Int.reduceEq, Int.reduceNeg, not_false_eq_true, not_true_eq_false, ↓reduceIte, Int.reduceLT, Int.reduceLE, and_self, or_true, true_or, or_false, false_or, false_and, and_false, ah_t_w, ah_m_w, ah_n_w, mt_1036a hG2.1, w32_i, lst1_0]
        have dd : ah_m h2 1085 1 = c ∧ ah_m h2 1088 1 = zat T nw (k % T 1074 4) (k / T 1074 4) := by
          rw [hO2.2 _ _ (by unfold Wv; omega), hO2.2 _ _ (by unfold Wv; omega)]
          exact ⟨hD.2.1, hD.2.2.2.2.1⟩
        have hb := @zat_b h' (k % T 1074 4) (k / T 1074 4) T nw hG
        refine c_311 hG2.1 (by decide) (by decide) (by rw [dd.1]; omega) (by rw [dd.2]; omega) (by rw [g_1083 hG2]; have := hG2.2.2.2.2.2.2.2; omega) (fun h3 e3 hO3 => ?_)
        obtain ⟨e4, hO4⟩ := DO_back hc.1 hD hO2 (fun i w => by unfold Wv at w; omega) (fun r w => by unfold Wv at w; omega) e3 hO3 (g_1083 hG)
        have hO5 : Off (Wv 1) h' h3 := Off_mono (fun r i w => by unfold Wv Wd at *; omega) hO4
        have hG3 : MG T nw h3 := MG_off hG hO5 (fun r i w => Wv_f w)
        have eg3 : ah_m h3 1092 = g := (Off_r hO5 (fun i w => by unfold Wv at w; omega)).trans eg
        simp only [zmk, e2, if_true, List.cons_append, zsm] at hR
        simp (disch := omega) only [q_356_76, b_356_76, b_356_57, ↓w_iconst, ↓w_aload_n_0, ↓w_iload_n_1, ↓w_iload_n_2, ↓w_iload_n_3, ↓w_iinc_3, ↓w_istore_n_1, ↓w_iadd, ↓w_nop, ↓w_goto, ↓w_invokevirtual_0, ↓w_invokevirtual_1, ↓w_invokevirtual_3, stw_0, stw_i, stw_l, stw_r, ofK0, ofK1, ofK2, lst1, lst2, lkill, kont_none, kont_some, Int.reduceToNat, List.length_cons, List.length_nil, Nat.reduceAdd, Nat.reduceLeDiff, Nat.zero_le, true_and, and_true, if_true, if_false, ne_eq, Int.reduceEq, Int.reduceNeg, not_false_eq_true, not_true_eq_false, ↓reduceIte, Int.reduceLT, Int.reduceLE, and_self, or_true, true_or, or_false, false_or, false_and, and_false, ah_t_w, ah_m_w, ah_n_w, mt_1036a hG3.1, w32_i]
        exact ih (k + 1) _ _ _ (by omega) (by omega) (by omega) (by omega) hG3 eg3 (Off_tr hO hO5) hR
    · simp only [e1, if_false, List.nil_append] at hR ih
      simp (disch := omega) only [q_356_76, b_356_76, b_356_23, ↓w_iconst, ↓w_aload_n_0, ↓w_iload_n_2, ↓w_iload_n_3, ↓w_iinc_3, ↓w_getfield, ↓w_iaload, ↓w_goto, ↓w_ifCond_ne, ↓w_if_icmp_ne, ↓w_if_icmp_ge, ↓w_invokevirtual_0, ↓w_invokevirtual_1, ↓w_invokevirtual_2, stw_0, stw_i, stw_l, stw_r, ofK0, ofK1, ofK2, lst1, lst2, lkill, kont_none, kont_some, Int.reduceToNat, List.length_cons, List.length_nil, Nat.reduceAdd, Nat.reduceLeDiff, Nat.zero_le, true_and, and_true, if_true, if_false, ne_eq, Int.reduceEq, Int.reduceNeg, not_false_eq_true, not_true_eq_false, ↓reduceIte, Int.reduceLT, Int.reduceLE, and_self, or_true, true_or, or_false, false_or, false_and, and_false, ah_t_w, ah_m_w, ah_n_w, mt_1036a hG.1, mt_1083a hG.1, mt_1083b hG.1, mf_62 hG.1, g_1083 hG, c_289 hG, c_287 hG, hlt, e1, w32_i]
      exact ih (k + 1) _ _ _ (by omega) (by omega) a1 (by omega) hG eg hO hR
theorem l_356 {R : Int} (hQ : ∀ h', MG T nw h' → Off (Wv 1) h h' → Q (.inl (some (.inl R))) h') :
    ∀ (j : Nat) (c a : Int) tl h', 0 ≤ c → c + j = T 1072 4 → 0 ≤ a → a ≤ 25 * c * 1 → MG T nw h' → ah_m h' 1092 = g → Off (Wv 1) h h' → zsm (fun x => zwys T g 0 (zdo T nw x.1 x.2)) (zmm T nw (nw 1) j c) a = R → wpB (d + 4) 356 13 (some (.inr (.inr 1036)) :: some (.inl a) :: some (.inl c) :: tl) [] h' Q := by
  intro j
  induction j with
  | zero =>
    intro c a tl h' h0 h1 a1 a2 hG eg hO hR
    have hlt : ¬ c < T 1072 4 := by omega
    simp (disch := omega) only [q_356_13, b_356_13, q_356_88, b_356_88, ↓w_iconst, ↓w_aload_n_0, ↓w_iload_n_1, ↓w_iload_n_2, ↓w_istore_n_3, ↓w_nop, ↓w_if_icmp_ge, ↓w_ireturn0, ↓w_invokevirtual_0, stw_0, stw_i, stw_l, stw_r, ofK0, ofK1, ofK2, lst1, lst2, lkill, kont_none, kont_some, Int.reduceToNat, List.length_cons, List.length_nil, Nat.reduceAdd, Nat.reduceLeDiff, Nat.zero_le, true_and, and_true, if_true, if_false, ne_eq, Int.reduceEq, Int.reduceNeg, not_false_eq_true, not_true_eq_false, ↓reduceIte, Int.reduceLT, Int.reduceLE, and_self, or_true, true_or, or_false, false_or, false_and, and_false, ah_t_w, ah_m_w, ah_n_w, mt_1036a hG.1, c_281 hG, hlt]
    rw [← hR] at hQ; exact hQ _ hG hO
  | succ j ih =>
    intro c a tl h' h0 h1 a1 a2 hG eg hO hR
    have h8 := hG.2.2.2.1.2.1
    have hPi := zP_i hG
    have hlt : c < T 1072 4 := by omega
    simp (disch := omega) only [q_356_13, b_356_13, ↓w_iconst, ↓w_aload_n_0, ↓w_iload_n_2, ↓w_istore_n_3, ↓w_nop, ↓w_if_icmp_ge, ↓w_invokevirtual_0, stw_0, stw_i, stw_l, stw_r, ofK0, ofK1, ofK2, lst1, lst2, lkill, kont_none, kont_some, Int.reduceToNat, List.length_cons, List.length_nil, Nat.reduceAdd, Nat.reduceLeDiff, Nat.zero_le, true_and, and_true, if_true, if_false, ne_eq, Int.reduceEq, Int.reduceNeg, not_false_eq_true, not_true_eq_false, ↓reduceIte, Int.reduceLT, Int.reduceLE, and_self, or_true, true_or, or_false, false_or, false_and, and_false, ah_t_w, ah_m_w, ah_n_w, mt_1036a hG.1, c_281 hG, hlt, lst1_0]
    refine l_356i ⟨h0, hlt⟩ (fun tl a h'' a1 a2 hG2 eg2 hO2 hR2 => ?_) (zP T) 0 _ _ _ (by omega) (by omega) a1 (by omega) hG eg hO hR
    simp (disch := omega) only [q_356_82, b_356_82, ↓w_iinc_2, ↓w_goto, stw_0, stw_i, stw_l, stw_r, ofK0, ofK1, ofK2, lst1, lst2, lkill, kont_none, kont_some, Int.reduceToNat, List.length_cons, List.length_nil, Nat.reduceAdd, Nat.reduceLeDiff, Nat.zero_le, true_and, and_true, if_true, if_false, ne_eq, Int.reduceEq, Int.reduceNeg, not_false_eq_true, not_true_eq_false, ↓reduceIte, Int.reduceLT, Int.reduceLE, and_self, or_true, true_or, or_false, false_or, false_and, and_false, ah_t_w, ah_m_w, ah_n_w, w32_i]
    exact ih (c + 1) _ _ _ (by omega) (by omega) a1 (by omega) hG2 eg2 hO2 hR2
theorem u_1 (hG : MG T nw h) (eg : ah_m h 1092 = g) (hQ : ∀ h', MG T nw h' → Off (Wv 1) h h' → Q (.inl (some (.inl (zwys T g 1 nw)))) h') : wpC (d + 5) 356 [.inr (.inr 1036)] h Q := by
  have hn := zn_i hG
  have h8 := hG.2.2.2.1.2.1
  rw [wpC_B]; refine ⟨⟨Nat.zero_lt_succ _, Nat.le_of_ble_eq_true rfl⟩, ?_⟩; simp only [lent]
  cases e : zcr T nw
  · simp (disch := omega) only [q_356_0, b_356_0, q_356_11, b_356_11, ↓w_iconst, ↓w_aload_n_0, ↓w_istore_n_1, ↓w_istore_n_2, ↓w_nop, ↓w_ifCond_eq, ↓w_ireturn0, ↓w_invokevirtual_0, stw_0, stw_i, stw_l, stw_r, ofK0, ofK1, ofK2, lst1, lst2, lkill, kont_none, kont_some, Int.reduceToNat, List.length_cons, List.length_nil, Nat.reduceAdd, Nat.reduceLeDiff, Nat.zero_le, true_and, and_true, if_true, if_false, ne_eq, Int.reduceEq, Int.reduceNeg, not_false_eq_true, not_true_eq_false, ↓reduceIte, Int.reduceLT, Int.reduceLE, and_self, or_true, true_or, or_false, false_or, false_and, and_false, ah_t_w, ah_m_w, ah_n_w, mt_1036a hG.1, c_280 hG, e, zb_f]
    refine l_356 hQ (zn T) 0 _ _ _ (by omega) (by omega) (by omega) (by omega) hG eg Off_rfl ?_
    simp only [zwys, e]; rfl
  · simp (disch := omega) only [q_356_0, b_356_0, ↓w_iconst, ↓w_aload_n_0, ↓w_istore_n_1, ↓w_ifCond_eq, ↓w_ireturn0, ↓w_invokevirtual_0, stw_0, stw_i, stw_l, stw_r, ofK0, ofK1, ofK2, lst1, lst2, lkill, kont_none, kont_some, Int.reduceToNat, List.length_cons, List.length_nil, Nat.reduceAdd, Nat.reduceLeDiff, Nat.zero_le, true_and, and_true, if_true, if_false, ne_eq, Int.reduceEq, Int.reduceNeg, not_false_eq_true, not_true_eq_false, ↓reduceIte, Int.reduceLT, Int.reduceLE, and_self, or_true, true_or, or_false, false_or, false_and, and_false, ah_t_w, ah_m_w, ah_n_w, mt_1036a hG.1, c_280 hG, e, zb_t]
    have e2 : zwys T g 1 nw = 0 := by unfold zwys; rw [if_pos e]
    rw [← e2]; exact hQ _ hG Off_rfl

theorem l_357i {R c : Int} {rest : List (Int × Int)} (hc : 0 ≤ c ∧ c < T 1072 4)
    (hout : ∀ tl a h', 0 ≤ a → a ≤ 25 * (c + 1) * 200 → MG T nw h' → ah_m h' 1092 = g → Off (Wv 2) h h' → zsm (fun x => zwys T g 1 (zdo T nw x.1 x.2)) rest a = R → wpB (d + 5) 357 82 (some (.inr (.inr 1036)) :: some (.inl a) :: some (.inl c) :: tl) [] h' Q) :
    ∀ (j : Nat) (k a : Int) tl h', 0 ≤ k → k + j = zP T → 0 ≤ a → a ≤ (25 * c + k) * 200 → MG T nw h' → ah_m h' 1092 = g → Off (Wv 2) h h' → zsm (fun x => zwys T g 1 (zdo T nw x.1 x.2)) ((if zs T c = nw 1 then zmk T nw c j k else []) ++ rest) a = R → wpB (d + 5) 357 23 (some (.inr (.inr 1036)) :: some (.inl a) :: some (.inl c) :: some (.inl k) :: tl) [] h' Q := by
  intro j
  induction j with
  | zero =>
    intro k a tl h' h0 h1 a1 a2 hG eg hO hR
    have hlt : ¬ k < (zP T : Int) := by omega
    have hP := zP_b hG
    have hPi := zP_i hG
    simp (disch := omega) only [q_357_23, b_357_23, ↓w_iconst, ↓w_aload_n_0, ↓w_iload_n_2, ↓w_iload_n_3, ↓w_getfield, ↓w_iaload, ↓w_goto, ↓w_ifCond_ne, ↓w_if_icmp_ne, ↓w_if_icmp_ge, ↓w_invokevirtual_0, ↓w_invokevirtual_1, ↓w_invokevirtual_2, stw_0, stw_i, stw_l, stw_r, ofK0, ofK1, ofK2, lst1, lst2, lkill, kont_none, kont_some, Int.reduceToNat, List.length_cons, List.length_nil, Nat.reduceAdd, Nat.reduceLeDiff, Nat.zero_le, true_and, and_true, if_true, if_false, ne_eq, Int.reduceEq, Int.reduceNeg, not_false_eq_true, not_true_eq_false, ↓reduceIte, Int.reduceLT, Int.reduceLE, and_self, or_true, true_or, or_false, false_or, false_and, and_false, ah_t_w, ah_m_w, ah_n_w, mt_1036a hG.1, mt_1083a hG.1, mt_1083b hG.1, mf_62 hG.1, c_289 hG, hlt]
    refine hout _ _ _ a1 (by omega) hG eg hO ?_
    rw [← hR]; split <;> rfl
  | succ j ih =>
    intro k a tl h' h0 h1 a1 a2 hG eg hO hR
    have h8 := hG.2.2.2.1.2.1
    have hP := zP_b hG
    have hPi := zP_i hG
    have hlt : k < (zP T : Int) := by omega
    rw [q_357_23]
    by_cases e1 : zs T c = nw 1
    · simp only [e1, if_true] at hR ih
      cases e2 : zG T nw c k
      · simp (disch := omega) only [q_357_76, b_357_76, b_357_23, ↓w_iconst, ↓w_aload_n_0, ↓w_iload_n_2, ↓w_iload_n_3, ↓w_iinc_3, ↓w_getfield, ↓w_iaload, ↓w_goto, ↓w_ifCond_ne, ↓w_if_icmp_ne, ↓w_if_icmp_ge, ↓w_invokevirtual_0, ↓w_invokevirtual_1, ↓w_invokevirtual_2, stw_0, stw_i, stw_l, stw_r, ofK0, ofK1, ofK2, lst1, lst2, lkill, kont_none, kont_some, Int.reduceToNat, List.length_cons, List.length_nil, Nat.reduceAdd, Nat.reduceLeDiff, Nat.zero_le, true_and, and_true, if_true, if_false, ne_eq, Int.reduceEq, Int.reduceNeg, not_false_eq_true, not_true_eq_false, ↓reduceIte, Int.reduceLT, Int.reduceLE, and_self, or_true, true_or, or_false, false_or, false_and, and_false, ah_t_w, ah_m_w, ah_n_w, mt_1036a hG.1, mt_1083a hG.1, mt_1083b hG.1, mf_62 hG.1, g_1083 hG, c_289 hG, c_287 hG, c_290 hG, zb_f, hlt, e1, e2, w32_i]
        refine ih (k + 1) _ _ _ (by omega) (by omega) a1 (by omega) hG eg hO ?_
        rw [← hR]; simp [zmk, e2]
      · simp (disch := omega) only [q_357_57, b_357_57, b_357_23, ↓w_iconst, ↓w_aload_n_0, ↓w_iload_n_1, ↓w_iload_n_2, ↓w_iload_n_3, ↓w_istore_n_1, ↓w_iadd, ↓w_getfield, ↓w_iaload, ↓w_nop, ↓w_goto, ↓w_ifCond_ne, ↓w_if_icmp_ne, ↓w_if_icmp_ge, ↓w_invokevirtual_0, ↓w_invokevirtual_1, ↓w_invokevirtual_2, ↓w_invokevirtual_3, stw_0, stw_i, stw_l, stw_r, ofK0, ofK1, ofK2, lst1, lst2, lkill, kont_none, kont_some, Int.reduceToNat, List.length_cons, List.length_nil, Nat.reduceAdd, Nat.reduceLeDiff, Nat.zero_le, true_and, and_true, if_true, if_false, ne_eq, Int.reduceEq, Int.reduceNeg, not_false_eq_true, not_true_eq_false, ↓reduceIte, Int.reduceLT, Int.reduceLE, and_self, or_true, true_or, or_false, false_or, false_and, and_false, ah_t_w, ah_m_w, ah_n_w, mt_1036a hG.1, mt_1083a hG.1, mt_1083b hG.1, mf_62 hG.1, g_1083 hG, c_289 hG, c_287 hG, c_290 hG, zb_t, hlt, e1, e2]
        refine c_309 hG hc.1 (by omega) h0 hlt (by decide) (by decide) (fun h1' hD => ?_)
        have hG1 := MG_do hG hc.1 hc.2 h0 hlt hD
        have eg1 : ah_m h1' 1092 = g := (Off_r hD.2.2.2.2.2 (fun i w => by unfold Wd at w; omega)).trans eg
        simp (disch := omega) only [b_357_57, ↓w_iconst, ↓w_aload_n_0, ↓w_iload_n_1, ↓w_iload_n_2, ↓w_iload_n_3, ↓w_istore_n_1, ↓w_iadd, ↓w_nop, ↓w_invokevirtual_0, ↓w_invokevirtual_1, ↓w_invokevirtual_3, stw_0, stw_i, stw_l, stw_r, ofK0, ofK1, ofK2, lst1, lst2, lkill, kont_none, kont_some, Int.reduceToNat, List.length_cons, List.length_nil, Nat.reduceAdd, Nat.reduceLeDiff, Nat.zero_le, true_and, and_true, if_true, if_false, ne_eq, Int.reduceEq, Int.reduceNeg, not_false_eq_true, not_true_eq_false, ↓reduceIte, Int.reduceLT, Int.reduceLE, and_self, or_true, true_or, or_false, false_or, false_and, and_false, ah_t_w, ah_m_w, ah_n_w, mt_1036a hG1.1]
        refine u_1 hG1 eg1 (fun h2 hG2 hO2 => ?_)
        have hv := @zwys_b T g hG.2.2.2.1 1 (zdo T nw c k)
        have hv2 : (200 : Int) ^ 1 = 200 := by decide
        rw [hv2] at hv
        simp (disch := omega) only [b_357_57, ↓w_iconst, ↓w_aload_n_0, ↓w_iload_n_1, ↓w_iload_n_2, ↓w_iload_n_3, ↓w_istore_n_1, ↓w_iadd, ↓w_nop, ↓w_invokevirtual_0, ↓w_invokevirtual_1, ↓w_invokevirtual_3, stw_0, stw_i, stw_l, stw_r, ofK0, ofK1, ofK2, lst1, lst2, lkill, kont_none, kont_some, Int.reduceToNat, List.length_cons, List.length_nil, Nat.reduceAdd, Nat.reduceLeDiff, Nat.zero_le, true_and, and_true, if_true, if_false, ne_eq, Int.reduceEq, Int.reduceNeg, not_false_eq_true, not_true_eq_false, ↓reduceIte, Int.reduceLT, Int.reduceLE, and_self, or_true, true_or, or_false, false_or, false_and, and_false, ah_t_w, ah_m_w, ah_n_w, mt_1036a hG2.1, w32_i, lst1_0]
        have dd : ah_m h2 1085 2 = c ∧ ah_m h2 1088 2 = zat T nw (k % T 1074 4) (k / T 1074 4) := by
          rw [hO2.2 _ _ (by unfold Wv; omega), hO2.2 _ _ (by unfold Wv; omega)]
          exact ⟨hD.2.1, hD.2.2.2.2.1⟩
        have hb := @zat_b h' (k % T 1074 4) (k / T 1074 4) T nw hG
        refine c_311 hG2.1 (by decide) (by decide) (by rw [dd.1]; omega) (by rw [dd.2]; omega) (by rw [g_1083 hG2]; have := hG2.2.2.2.2.2.2.2; omega) (fun h3 e3 hO3 => ?_)
        obtain ⟨e4, hO4⟩ := DO_back hc.1 hD hO2 (fun i w => by unfold Wv at w; omega) (fun r w => by unfold Wv at w; omega) e3 hO3 (g_1083 hG)
        have hO5 : Off (Wv 2) h' h3 := Off_mono (fun r i w => by unfold Wv Wd at *; omega) hO4
        have hG3 : MG T nw h3 := MG_off hG hO5 (fun r i w => Wv_f w)
        have eg3 : ah_m h3 1092 = g := (Off_r hO5 (fun i w => by unfold Wv at w; omega)).trans eg
        simp only [zmk, e2, if_true, List.cons_append, zsm] at hR
        simp (disch := omega) only [q_357_76, b_357_76, b_357_57, ↓w_iconst, ↓w_aload_n_0, ↓w_iload_n_1, ↓w_iload_n_2, ↓w_iload_n_3, ↓w_iinc_3, ↓w_istore_n_1, ↓w_iadd, ↓w_nop, ↓w_goto, ↓w_invokevirtual_0, ↓w_invokevirtual_1, ↓w_invokevirtual_3, stw_0, stw_i, stw_l, stw_r, ofK0, ofK1, ofK2, lst1, lst2, lkill, kont_none, kont_some, Int.reduceToNat, List.length_cons, List.length_nil, Nat.reduceAdd, Nat.reduceLeDiff, Nat.zero_le, true_and, and_true, if_true, if_false, ne_eq, Int.reduceEq, Int.reduceNeg, not_false_eq_true, not_true_eq_false, ↓reduceIte, Int.reduceLT, Int.reduceLE, and_self, or_true, true_or, or_false, false_or, false_and, and_false, ah_t_w, ah_m_w, ah_n_w, mt_1036a hG3.1, w32_i]
        exact ih (k + 1) _ _ _ (by omega) (by omega) (by omega) (by omega) hG3 eg3 (Off_tr hO hO5) hR
    · simp only [e1, if_false, List.nil_append] at hR ih
      simp (disch := omega) only [q_357_76, b_357_76, b_357_23, ↓w_iconst, ↓w_aload_n_0, ↓w_iload_n_2, ↓w_iload_n_3, ↓w_iinc_3, ↓w_getfield, ↓w_iaload, ↓w_goto, ↓w_ifCond_ne, ↓w_if_icmp_ne, ↓w_if_icmp_ge, ↓w_invokevirtual_0, ↓w_invokevirtual_1, ↓w_invokevirtual_2, stw_0, stw_i, stw_l, stw_r, ofK0, ofK1, ofK2, lst1, lst2, lkill, kont_none, kont_some, Int.reduceToNat, List.length_cons, List.length_nil, Nat.reduceAdd, Nat.reduceLeDiff, Nat.zero_le, true_and, and_true, if_true, if_false, ne_eq, Int.reduceEq, Int.reduceNeg, not_false_eq_true, not_true_eq_false, ↓reduceIte, Int.reduceLT, Int.reduceLE, and_self, or_true, true_or, or_false, false_or, false_and, and_false, ah_t_w, ah_m_w, ah_n_w, mt_1036a hG.1, mt_1083a hG.1, mt_1083b hG.1, mf_62 hG.1, g_1083 hG, c_289 hG, c_287 hG, hlt, e1, w32_i]
      exact ih (k + 1) _ _ _ (by omega) (by omega) a1 (by omega) hG eg hO hR
theorem l_357 {R : Int} (hQ : ∀ h', MG T nw h' → Off (Wv 2) h h' → Q (.inl (some (.inl R))) h') :
    ∀ (j : Nat) (c a : Int) tl h', 0 ≤ c → c + j = T 1072 4 → 0 ≤ a → a ≤ 25 * c * 200 → MG T nw h' → ah_m h' 1092 = g → Off (Wv 2) h h' → zsm (fun x => zwys T g 1 (zdo T nw x.1 x.2)) (zmm T nw (nw 1) j c) a = R → wpB (d + 5) 357 13 (some (.inr (.inr 1036)) :: some (.inl a) :: some (.inl c) :: tl) [] h' Q := by
  intro j
  induction j with
  | zero =>
    intro c a tl h' h0 h1 a1 a2 hG eg hO hR
    have hlt : ¬ c < T 1072 4 := by omega
    simp (disch := omega) only [q_357_13, b_357_13, q_357_88, b_357_88, ↓w_iconst, ↓w_aload_n_0, ↓w_iload_n_1, ↓w_iload_n_2, ↓w_istore_n_3, ↓w_nop, ↓w_if_icmp_ge, ↓w_ireturn0, ↓w_invokevirtual_0, stw_0, stw_i, stw_l, stw_r, ofK0, ofK1, ofK2, lst1, lst2, lkill, kont_none, kont_some, Int.reduceToNat, List.length_cons, List.length_nil, Nat.reduceAdd, Nat.reduceLeDiff, Nat.zero_le, true_and, and_true, if_true, if_false, ne_eq, Int.reduceEq, Int.reduceNeg, not_false_eq_true, not_true_eq_false, ↓reduceIte, Int.reduceLT, Int.reduceLE, and_self, or_true, true_or, or_false, false_or, false_and, and_false, ah_t_w, ah_m_w, ah_n_w, mt_1036a hG.1, c_281 hG, hlt]
    rw [← hR] at hQ; exact hQ _ hG hO
  | succ j ih =>
    intro c a tl h' h0 h1 a1 a2 hG eg hO hR
    have h8 := hG.2.2.2.1.2.1
    have hPi := zP_i hG
    have hlt : c < T 1072 4 := by omega
    simp (disch := omega) only [q_357_13, b_357_13, ↓w_iconst, ↓w_aload_n_0, ↓w_iload_n_2, ↓w_istore_n_3, ↓w_nop, ↓w_if_icmp_ge, ↓w_invokevirtual_0, stw_0, stw_i, stw_l, stw_r, ofK0, ofK1, ofK2, lst1, lst2, lkill, kont_none, kont_some, Int.reduceToNat, List.length_cons, List.length_nil, Nat.reduceAdd, Nat.reduceLeDiff, Nat.zero_le, true_and, and_true, if_true, if_false, ne_eq, Int.reduceEq, Int.reduceNeg, not_false_eq_true, not_true_eq_false, ↓reduceIte, Int.reduceLT, Int.reduceLE, and_self, or_true, true_or, or_false, false_or, false_and, and_false, ah_t_w, ah_m_w, ah_n_w, mt_1036a hG.1, c_281 hG, hlt, lst1_0]
    refine l_357i ⟨h0, hlt⟩ (fun tl a h'' a1 a2 hG2 eg2 hO2 hR2 => ?_) (zP T) 0 _ _ _ (by omega) (by omega) a1 (by omega) hG eg hO hR
    simp (disch := omega) only [q_357_82, b_357_82, ↓w_iinc_2, ↓w_goto, stw_0, stw_i, stw_l, stw_r, ofK0, ofK1, ofK2, lst1, lst2, lkill, kont_none, kont_some, Int.reduceToNat, List.length_cons, List.length_nil, Nat.reduceAdd, Nat.reduceLeDiff, Nat.zero_le, true_and, and_true, if_true, if_false, ne_eq, Int.reduceEq, Int.reduceNeg, not_false_eq_true, not_true_eq_false, ↓reduceIte, Int.reduceLT, Int.reduceLE, and_self, or_true, true_or, or_false, false_or, false_and, and_false, ah_t_w, ah_m_w, ah_n_w, w32_i]
    exact ih (c + 1) _ _ _ (by omega) (by omega) a1 (by omega) hG2 eg2 hO2 hR2
theorem u_2 (hG : MG T nw h) (eg : ah_m h 1092 = g) (hQ : ∀ h', MG T nw h' → Off (Wv 2) h h' → Q (.inl (some (.inl (zwys T g 2 nw)))) h') : wpC (d + 6) 357 [.inr (.inr 1036)] h Q := by
  have hn := zn_i hG
  have h8 := hG.2.2.2.1.2.1
  rw [wpC_B]; refine ⟨⟨Nat.zero_lt_succ _, Nat.le_of_ble_eq_true rfl⟩, ?_⟩; simp only [lent]
  cases e : zcr T nw
  · simp (disch := omega) only [q_357_0, b_357_0, q_357_11, b_357_11, ↓w_iconst, ↓w_aload_n_0, ↓w_istore_n_1, ↓w_istore_n_2, ↓w_nop, ↓w_ifCond_eq, ↓w_ireturn0, ↓w_invokevirtual_0, stw_0, stw_i, stw_l, stw_r, ofK0, ofK1, ofK2, lst1, lst2, lkill, kont_none, kont_some, Int.reduceToNat, List.length_cons, List.length_nil, Nat.reduceAdd, Nat.reduceLeDiff, Nat.zero_le, true_and, and_true, if_true, if_false, ne_eq, Int.reduceEq, Int.reduceNeg, not_false_eq_true, not_true_eq_false, ↓reduceIte, Int.reduceLT, Int.reduceLE, and_self, or_true, true_or, or_false, false_or, false_and, and_false, ah_t_w, ah_m_w, ah_n_w, mt_1036a hG.1, c_280 hG, e, zb_f]
    refine l_357 hQ (zn T) 0 _ _ _ (by omega) (by omega) (by omega) (by omega) hG eg Off_rfl ?_
    simp only [zwys, e]; rfl
  · simp (disch := omega) only [q_357_0, b_357_0, ↓w_iconst, ↓w_aload_n_0, ↓w_istore_n_1, ↓w_ifCond_eq, ↓w_ireturn0, ↓w_invokevirtual_0, stw_0, stw_i, stw_l, stw_r, ofK0, ofK1, ofK2, lst1, lst2, lkill, kont_none, kont_some, Int.reduceToNat, List.length_cons, List.length_nil, Nat.reduceAdd, Nat.reduceLeDiff, Nat.zero_le, true_and, and_true, if_true, if_false, ne_eq, Int.reduceEq, Int.reduceNeg, not_false_eq_true, not_true_eq_false, ↓reduceIte, Int.reduceLT, Int.reduceLE, and_self, or_true, true_or, or_false, false_or, false_and, and_false, ah_t_w, ah_m_w, ah_n_w, mt_1036a hG.1, c_280 hG, e, zb_t]
    have e2 : zwys T g 2 nw = 0 := by unfold zwys; rw [if_pos e]
    rw [← e2]; exact hQ _ hG Off_rfl

theorem l_358i {R c : Int} {rest : List (Int × Int)} (hc : 0 ≤ c ∧ c < T 1072 4)
    (hout : ∀ tl a h', 0 ≤ a → a ≤ 25 * (c + 1) * 40000 → MG T nw h' → ah_m h' 1092 = g → Off (Wv 3) h h' → zsm (fun x => zwys T g 2 (zdo T nw x.1 x.2)) rest a = R → wpB (d + 6) 358 82 (some (.inr (.inr 1036)) :: some (.inl a) :: some (.inl c) :: tl) [] h' Q) :
    ∀ (j : Nat) (k a : Int) tl h', 0 ≤ k → k + j = zP T → 0 ≤ a → a ≤ (25 * c + k) * 40000 → MG T nw h' → ah_m h' 1092 = g → Off (Wv 3) h h' → zsm (fun x => zwys T g 2 (zdo T nw x.1 x.2)) ((if zs T c = nw 1 then zmk T nw c j k else []) ++ rest) a = R → wpB (d + 6) 358 23 (some (.inr (.inr 1036)) :: some (.inl a) :: some (.inl c) :: some (.inl k) :: tl) [] h' Q := by
  intro j
  induction j with
  | zero =>
    intro k a tl h' h0 h1 a1 a2 hG eg hO hR
    have hlt : ¬ k < (zP T : Int) := by omega
    have hP := zP_b hG
    have hPi := zP_i hG
    simp (disch := omega) only [q_358_23, b_358_23, ↓w_iconst, ↓w_aload_n_0, ↓w_iload_n_2, ↓w_iload_n_3, ↓w_getfield, ↓w_iaload, ↓w_goto, ↓w_ifCond_ne, ↓w_if_icmp_ne, ↓w_if_icmp_ge, ↓w_invokevirtual_0, ↓w_invokevirtual_1, ↓w_invokevirtual_2, stw_0, stw_i, stw_l, stw_r, ofK0, ofK1, ofK2, lst1, lst2, lkill, kont_none, kont_some, Int.reduceToNat, List.length_cons, List.length_nil, Nat.reduceAdd, Nat.reduceLeDiff, Nat.zero_le, true_and, and_true, if_true, if_false, ne_eq, Int.reduceEq, Int.reduceNeg, not_false_eq_true, not_true_eq_false, ↓reduceIte, Int.reduceLT, Int.reduceLE, and_self, or_true, true_or, or_false, false_or, false_and, and_false, ah_t_w, ah_m_w, ah_n_w, mt_1036a hG.1, mt_1083a hG.1, mt_1083b hG.1, mf_62 hG.1, c_289 hG, hlt]
    refine hout _ _ _ a1 (by omega) hG eg hO ?_
    rw [← hR]; split <;> rfl
  | succ j ih =>
    intro k a tl h' h0 h1 a1 a2 hG eg hO hR
    have h8 := hG.2.2.2.1.2.1
    have hP := zP_b hG
    have hPi := zP_i hG
    have hlt : k < (zP T : Int) := by omega
    rw [q_358_23]
    by_cases e1 : zs T c = nw 1
    · simp only [e1, if_true] at hR ih
      cases e2 : zG T nw c k
      · simp (disch := omega) only [q_358_76, b_358_76, b_358_23, ↓w_iconst, ↓w_aload_n_0, ↓w_iload_n_2, ↓w_iload_n_3, ↓w_iinc_3, ↓w_getfield, ↓w_iaload, ↓w_goto, ↓w_ifCond_ne, ↓w_if_icmp_ne, ↓w_if_icmp_ge, ↓w_invokevirtual_0, ↓w_invokevirtual_1, ↓w_invokevirtual_2, stw_0, stw_i, stw_l, stw_r, ofK0, ofK1, ofK2, lst1, lst2, lkill, kont_none, kont_some, Int.reduceToNat, List.length_cons, List.length_nil, Nat.reduceAdd, Nat.reduceLeDiff, Nat.zero_le, true_and, and_true, if_true, if_false, ne_eq, Int.reduceEq, Int.reduceNeg, not_false_eq_true, not_true_eq_false, ↓reduceIte, Int.reduceLT, Int.reduceLE, and_self, or_true, true_or, or_false, false_or, false_and, and_false, ah_t_w, ah_m_w, ah_n_w, mt_1036a hG.1, mt_1083a hG.1, mt_1083b hG.1, mf_62 hG.1, g_1083 hG, c_289 hG, c_287 hG, c_290 hG, zb_f, hlt, e1, e2, w32_i]
        refine ih (k + 1) _ _ _ (by omega) (by omega) a1 (by omega) hG eg hO ?_
        rw [← hR]; simp [zmk, e2]
      · simp (disch := omega) only [q_358_57, b_358_57, b_358_23, ↓w_iconst, ↓w_aload_n_0, ↓w_iload_n_1, ↓w_iload_n_2, ↓w_iload_n_3, ↓w_istore_n_1, ↓w_iadd, ↓w_getfield, ↓w_iaload, ↓w_nop, ↓w_goto, ↓w_ifCond_ne, ↓w_if_icmp_ne, ↓w_if_icmp_ge, ↓w_invokevirtual_0, ↓w_invokevirtual_1, ↓w_invokevirtual_2, ↓w_invokevirtual_3, stw_0, stw_i, stw_l, stw_r, ofK0, ofK1, ofK2, lst1, lst2, lkill, kont_none, kont_some, Int.reduceToNat, List.length_cons, List.length_nil, Nat.reduceAdd, Nat.reduceLeDiff, Nat.zero_le, true_and, and_true, if_true, if_false, ne_eq, Int.reduceEq, Int.reduceNeg, not_false_eq_true, not_true_eq_false, ↓reduceIte, Int.reduceLT, Int.reduceLE, and_self, or_true, true_or, or_false, false_or, false_and, and_false, ah_t_w, ah_m_w, ah_n_w, mt_1036a hG.1, mt_1083a hG.1, mt_1083b hG.1, mf_62 hG.1, g_1083 hG, c_289 hG, c_287 hG, c_290 hG, zb_t, hlt, e1, e2]
        refine c_309 hG hc.1 (by omega) h0 hlt (by decide) (by decide) (fun h1' hD => ?_)
        have hG1 := MG_do hG hc.1 hc.2 h0 hlt hD
        have eg1 : ah_m h1' 1092 = g := (Off_r hD.2.2.2.2.2 (fun i w => by unfold Wd at w; omega)).trans eg
        simp (disch := omega) only [b_358_57, ↓w_iconst, ↓w_aload_n_0, ↓w_iload_n_1, ↓w_iload_n_2, ↓w_iload_n_3, ↓w_istore_n_1, ↓w_iadd, ↓w_nop, ↓w_invokevirtual_0, ↓w_invokevirtual_1, ↓w_invokevirtual_3, stw_0, stw_i, stw_l, stw_r, ofK0, ofK1, ofK2, lst1, lst2, lkill, kont_none, kont_some, Int.reduceToNat, List.length_cons, List.length_nil, Nat.reduceAdd, Nat.reduceLeDiff, Nat.zero_le, true_and, and_true, if_true, if_false, ne_eq, Int.reduceEq, Int.reduceNeg, not_false_eq_true, not_true_eq_false, ↓reduceIte, Int.reduceLT, Int.reduceLE, and_self, or_true, true_or, or_false, false_or, false_and, and_false, ah_t_w, ah_m_w, ah_n_w, mt_1036a hG1.1]
        refine u_2 hG1 eg1 (fun h2 hG2 hO2 => ?_)
        have hv := @zwys_b T g hG.2.2.2.1 2 (zdo T nw c k)
        have hv2 : (200 : Int) ^ 2 = 40000 := by decide
        rw [hv2] at hv
        simp (disch := omega) only [b_358_57, ↓w_iconst, ↓w_aload_n_0, ↓w_iload_n_1, ↓w_iload_n_2, ↓w_iload_n_3, ↓w_istore_n_1, ↓w_iadd, ↓w_nop, ↓w_invokevirtual_0, ↓w_invokevirtual_1, ↓w_invokevirtual_3, stw_0, stw_i, stw_l, stw_r, ofK0, ofK1, ofK2, lst1, lst2, lkill, kont_none, kont_some, Int.reduceToNat, List.length_cons, List.length_nil, Nat.reduceAdd, Nat.reduceLeDiff, Nat.zero_le, true_and, and_true, if_true, if_false, ne_eq, Int.reduceEq, Int.reduceNeg, not_false_eq_true, not_true_eq_false, ↓reduceIte, Int.reduceLT, Int.reduceLE, and_self, or_true, true_or, or_false, false_or, false_and, and_false, ah_t_w, ah_m_w, ah_n_w, mt_1036a hG2.1, w32_i, lst1_0]
        have dd : ah_m h2 1085 3 = c ∧ ah_m h2 1088 3 = zat T nw (k % T 1074 4) (k / T 1074 4) := by
          rw [hO2.2 _ _ (by unfold Wv; omega), hO2.2 _ _ (by unfold Wv; omega)]
          exact ⟨hD.2.1, hD.2.2.2.2.1⟩
        have hb := @zat_b h' (k % T 1074 4) (k / T 1074 4) T nw hG
        refine c_311 hG2.1 (by decide) (by decide) (by rw [dd.1]; omega) (by rw [dd.2]; omega) (by rw [g_1083 hG2]; have := hG2.2.2.2.2.2.2.2; omega) (fun h3 e3 hO3 => ?_)
        obtain ⟨e4, hO4⟩ := DO_back hc.1 hD hO2 (fun i w => by unfold Wv at w; omega) (fun r w => by unfold Wv at w; omega) e3 hO3 (g_1083 hG)
        have hO5 : Off (Wv 3) h' h3 := Off_mono (fun r i w => by unfold Wv Wd at *; omega) hO4
        have hG3 : MG T nw h3 := MG_off hG hO5 (fun r i w => Wv_f w)
        have eg3 : ah_m h3 1092 = g := (Off_r hO5 (fun i w => by unfold Wv at w; omega)).trans eg
        simp only [zmk, e2, if_true, List.cons_append, zsm] at hR
        simp (disch := omega) only [q_358_76, b_358_76, b_358_57, ↓w_iconst, ↓w_aload_n_0, ↓w_iload_n_1, ↓w_iload_n_2, ↓w_iload_n_3, ↓w_iinc_3, ↓w_istore_n_1, ↓w_iadd, ↓w_nop, ↓w_goto, ↓w_invokevirtual_0, ↓w_invokevirtual_1, ↓w_invokevirtual_3, stw_0, stw_i, stw_l, stw_r, ofK0, ofK1, ofK2, lst1, lst2, lkill, kont_none, kont_some, Int.reduceToNat, List.length_cons, List.length_nil, Nat.reduceAdd, Nat.reduceLeDiff, Nat.zero_le, true_and, and_true, if_true, if_false, ne_eq, Int.reduceEq, Int.reduceNeg, not_false_eq_true, not_true_eq_false, ↓reduceIte, Int.reduceLT, Int.reduceLE, and_self, or_true, true_or, or_false, false_or, false_and, and_false, ah_t_w, ah_m_w, ah_n_w, mt_1036a hG3.1, w32_i]
        exact ih (k + 1) _ _ _ (by omega) (by omega) (by omega) (by omega) hG3 eg3 (Off_tr hO hO5) hR
    · simp only [e1, if_false, List.nil_append] at hR ih
      simp (disch := omega) only [q_358_76, b_358_76, b_358_23, ↓w_iconst, ↓w_aload_n_0, ↓w_iload_n_2, ↓w_iload_n_3, ↓w_iinc_3, ↓w_getfield, ↓w_iaload, ↓w_goto, ↓w_ifCond_ne, ↓w_if_icmp_ne, ↓w_if_icmp_ge, ↓w_invokevirtual_0, ↓w_invokevirtual_1, ↓w_invokevirtual_2, stw_0, stw_i, stw_l, stw_r, ofK0, ofK1, ofK2, lst1, lst2, lkill, kont_none, kont_some, Int.reduceToNat, List.length_cons, List.length_nil, Nat.reduceAdd, Nat.reduceLeDiff, Nat.zero_le, true_and, and_true, if_true, if_false, ne_eq, Int.reduceEq, Int.reduceNeg, not_false_eq_true, not_true_eq_false, ↓reduceIte, Int.reduceLT, Int.reduceLE, and_self, or_true, true_or, or_false, false_or, false_and, and_false, ah_t_w, ah_m_w, ah_n_w, mt_1036a hG.1, mt_1083a hG.1, mt_1083b hG.1, mf_62 hG.1, g_1083 hG, c_289 hG, c_287 hG, hlt, e1, w32_i]
      exact ih (k + 1) _ _ _ (by omega) (by omega) a1 (by omega) hG eg hO hR
theorem l_358 {R : Int} (hQ : ∀ h', MG T nw h' → Off (Wv 3) h h' → Q (.inl (some (.inl R))) h') :
    ∀ (j : Nat) (c a : Int) tl h', 0 ≤ c → c + j = T 1072 4 → 0 ≤ a → a ≤ 25 * c * 40000 → MG T nw h' → ah_m h' 1092 = g → Off (Wv 3) h h' → zsm (fun x => zwys T g 2 (zdo T nw x.1 x.2)) (zmm T nw (nw 1) j c) a = R → wpB (d + 6) 358 13 (some (.inr (.inr 1036)) :: some (.inl a) :: some (.inl c) :: tl) [] h' Q := by
  intro j
  induction j with
  | zero =>
    intro c a tl h' h0 h1 a1 a2 hG eg hO hR
    have hlt : ¬ c < T 1072 4 := by omega
    simp (disch := omega) only [q_358_13, b_358_13, q_358_88, b_358_88, ↓w_iconst, ↓w_aload_n_0, ↓w_iload_n_1, ↓w_iload_n_2, ↓w_istore_n_3, ↓w_nop, ↓w_if_icmp_ge, ↓w_ireturn0, ↓w_invokevirtual_0, stw_0, stw_i, stw_l, stw_r, ofK0, ofK1, ofK2, lst1, lst2, lkill, kont_none, kont_some, Int.reduceToNat, List.length_cons, List.length_nil, Nat.reduceAdd, Nat.reduceLeDiff, Nat.zero_le, true_and, and_true, if_true, if_false, ne_eq, Int.reduceEq, Int.reduceNeg, not_false_eq_true, not_true_eq_false, ↓reduceIte, Int.reduceLT, Int.reduceLE, and_self, or_true, true_or, or_false, false_or, false_and, and_false, ah_t_w, ah_m_w, ah_n_w, mt_1036a hG.1, c_281 hG, hlt]
    rw [← hR] at hQ; exact hQ _ hG hO
  | succ j ih =>
    intro c a tl h' h0 h1 a1 a2 hG eg hO hR
    have h8 := hG.2.2.2.1.2.1
    have hPi := zP_i hG
    have hlt : c < T 1072 4 := by omega
    simp (disch := omega) only [q_358_13, b_358_13, ↓w_iconst, ↓w_aload_n_0, ↓w_iload_n_2, ↓w_istore_n_3, ↓w_nop, ↓w_if_icmp_ge, ↓w_invokevirtual_0, stw_0, stw_i, stw_l, stw_r, ofK0, ofK1, ofK2, lst1, lst2, lkill, kont_none, kont_some, Int.reduceToNat, List.length_cons, List.length_nil, Nat.reduceAdd, Nat.reduceLeDiff, Nat.zero_le, true_and, and_true, if_true, if_false, ne_eq, Int.reduceEq, Int.reduceNeg, not_false_eq_true, not_true_eq_false, ↓reduceIte, Int.reduceLT, Int.reduceLE, and_self, or_true, true_or, or_false, false_or, false_and, and_false, ah_t_w, ah_m_w, ah_n_w, mt_1036a hG.1, c_281 hG, hlt, lst1_0]
    refine l_358i ⟨h0, hlt⟩ (fun tl a h'' a1 a2 hG2 eg2 hO2 hR2 => ?_) (zP T) 0 _ _ _ (by omega) (by omega) a1 (by omega) hG eg hO hR
    simp (disch := omega) only [q_358_82, b_358_82, ↓w_iinc_2, ↓w_goto, stw_0, stw_i, stw_l, stw_r, ofK0, ofK1, ofK2, lst1, lst2, lkill, kont_none, kont_some, Int.reduceToNat, List.length_cons, List.length_nil, Nat.reduceAdd, Nat.reduceLeDiff, Nat.zero_le, true_and, and_true, if_true, if_false, ne_eq, Int.reduceEq, Int.reduceNeg, not_false_eq_true, not_true_eq_false, ↓reduceIte, Int.reduceLT, Int.reduceLE, and_self, or_true, true_or, or_false, false_or, false_and, and_false, ah_t_w, ah_m_w, ah_n_w, w32_i]
    exact ih (c + 1) _ _ _ (by omega) (by omega) a1 (by omega) hG2 eg2 hO2 hR2
theorem u_3 (hG : MG T nw h) (eg : ah_m h 1092 = g) (hQ : ∀ h', MG T nw h' → Off (Wv 3) h h' → Q (.inl (some (.inl (zwys T g 3 nw)))) h') : wpC (d + 7) 358 [.inr (.inr 1036)] h Q := by
  have hn := zn_i hG
  have h8 := hG.2.2.2.1.2.1
  rw [wpC_B]; refine ⟨⟨Nat.zero_lt_succ _, Nat.le_of_ble_eq_true rfl⟩, ?_⟩; simp only [lent]
  cases e : zcr T nw
  · simp (disch := omega) only [q_358_0, b_358_0, q_358_11, b_358_11, ↓w_iconst, ↓w_aload_n_0, ↓w_istore_n_1, ↓w_istore_n_2, ↓w_nop, ↓w_ifCond_eq, ↓w_ireturn0, ↓w_invokevirtual_0, stw_0, stw_i, stw_l, stw_r, ofK0, ofK1, ofK2, lst1, lst2, lkill, kont_none, kont_some, Int.reduceToNat, List.length_cons, List.length_nil, Nat.reduceAdd, Nat.reduceLeDiff, Nat.zero_le, true_and, and_true, if_true, if_false, ne_eq, Int.reduceEq, Int.reduceNeg, not_false_eq_true, not_true_eq_false, ↓reduceIte, Int.reduceLT, Int.reduceLE, and_self, or_true, true_or, or_false, false_or, false_and, and_false, ah_t_w, ah_m_w, ah_n_w, mt_1036a hG.1, c_280 hG, e, zb_f]
    refine l_358 hQ (zn T) 0 _ _ _ (by omega) (by omega) (by omega) (by omega) hG eg Off_rfl ?_
    simp only [zwys, e]; rfl
  · simp (disch := omega) only [q_358_0, b_358_0, ↓w_iconst, ↓w_aload_n_0, ↓w_istore_n_1, ↓w_ifCond_eq, ↓w_ireturn0, ↓w_invokevirtual_0, stw_0, stw_i, stw_l, stw_r, ofK0, ofK1, ofK2, lst1, lst2, lkill, kont_none, kont_some, Int.reduceToNat, List.length_cons, List.length_nil, Nat.reduceAdd, Nat.reduceLeDiff, Nat.zero_le, true_and, and_true, if_true, if_false, ne_eq, Int.reduceEq, Int.reduceNeg, not_false_eq_true, not_true_eq_false, ↓reduceIte, Int.reduceLT, Int.reduceLE, and_self, or_true, true_or, or_false, false_or, false_and, and_false, ah_t_w, ah_m_w, ah_n_w, mt_1036a hG.1, c_280 hG, e, zb_t]
    have e2 : zwys T g 3 nw = 0 := by unfold zwys; rw [if_pos e]
    rw [← e2]; exact hQ _ hG Off_rfl

/-! forced -/
theorem c_325 (hG : MG T nw h) : wpC (d + 6) 325 [.inr (.inr 1036)] h Q ↔ Q (.inl (some (.inl (zb (ztc T nw))))) h := by
  have hs := hG.2.2.2.2.2.2.2
  apply CT_iff; apply CT_of; rw [wpC_B]; refine ⟨⟨Nat.zero_lt_succ _, Nat.le_of_ble_eq_true rfl⟩, ?_⟩; simp only [lent]
  simp (disch := omega) only [q_325_0, b_325_0, ↓w_iconst, ↓w_aload_n_0, ↓w_isub, ↓w_getfield, ↓w_iaload, ↓w_ireturn1, ↓w_invokevirtual_1, stw_0, stw_i, stw_l, stw_r, ofK0, ofK1, ofK2, lst1, lst2, lkill, kont_none, kont_some, Int.reduceToNat, List.length_cons, List.length_nil, Nat.reduceAdd, Nat.reduceLeDiff, Nat.zero_le, true_and, and_true, if_true, if_false, ne_eq, Int.reduceEq, Int.reduceNeg, not_false_eq_true, not_true_eq_false, ↓reduceIte, Int.reduceLT, Int.reduceLE, and_self, or_true, true_or, or_false, false_or, false_and, and_false, ah_t_w, ah_m_w, ah_n_w, mt_1036a hG.1, mt_1083a hG.1, mt_1083b hG.1, mf_62 hG.1, g_1083 hG, c_310 hG, w32_i]
  unfold ztc; cases zchk T nw (1 - nw 1) <;> simp [zb]
theorem zb_e {b : Bool} : zb b = if b = true then 1 else 0 := rfl
theorem l_326i {c : Int} {rest : List (Int × Int)} {f : Int × Int → Bool} (ef : f = fun x => !zcr T (zdo T nw x.1 x.2) && ztc T (zdo T nw x.1 x.2)) {R : Bool} (hc : 0 ≤ c ∧ c < T 1072 4)
    (hf : ∀ h', MG T nw h' → Off (Wv 1) h h' → R = false → Q (.inl (some (.inl 0))) h')
    (hout : ∀ tl (a : Bool) h', MG T nw h' → Off (Wv 1) h h' → ((a || !rest.isEmpty) && rest.all f) = R → wpB (d + 6) 326 96 (some (.inr (.inr 1036)) :: some (.inl (zb a)) :: some (.inl c) :: tl) [] h' Q) :
    ∀ (j : Nat) (k : Int) (a : Bool) tl h', 0 ≤ k → k + j = zP T → MG T nw h' → Off (Wv 1) h h' → ((a || !((if zs T c = nw 1 then zmk T nw c j k else []) ++ rest).isEmpty) && ((if zs T c = nw 1 then zmk T nw c j k else []) ++ rest).all f) = R → wpB (d + 6) 326 14 (some (.inr (.inr 1036)) :: some (.inl (zb a)) :: some (.inl c) :: some (.inl k) :: tl) [] h' Q := by
  intro j
  induction j with
  | zero =>
    intro k a tl h' h0 h1 hG hO hR
    have hlt : ¬ k < (zP T : Int) := by omega
    simp (disch := omega) only [q_326_14, b_326_14, ↓w_iconst, ↓w_aload_n_0, ↓w_iload_n_2, ↓w_iload_n_3, ↓w_getfield, ↓w_iaload, ↓w_goto, ↓w_ifCond_ne, ↓w_if_icmp_ne, ↓w_if_icmp_ge, ↓w_invokevirtual_0, ↓w_invokevirtual_1, ↓w_invokevirtual_2, stw_0, stw_i, stw_l, stw_r, ofK0, ofK1, ofK2, lst1, lst2, lkill, kont_none, kont_some, Int.reduceToNat, List.length_cons, List.length_nil, Nat.reduceAdd, Nat.reduceLeDiff, Nat.zero_le, true_and, and_true, if_true, if_false, ne_eq, Int.reduceEq, Int.reduceNeg, not_false_eq_true, not_true_eq_false, ↓reduceIte, Int.reduceLT, Int.reduceLE, and_self, or_true, true_or, or_false, false_or, false_and, and_false, ah_t_w, ah_m_w, ah_n_w, mt_1036a hG.1, mt_1083a hG.1, mt_1083b hG.1, mf_62 hG.1, c_289 hG, hlt]
    refine hout _ _ _ hG hO ?_
    rw [← hR]; split <;> rfl
  | succ j ih =>
    intro k a tl h' h0 h1 hG hO hR
    have h8 := hG.2.2.2.1.2.1
    have hP := zP_b hG
    have hPi := zP_i hG
    have hlt : k < (zP T : Int) := by omega
    rw [q_326_14]
    by_cases e1 : zs T c = nw 1
    · simp only [e1, if_true] at hR ih
      cases e2 : zG T nw c k
      · simp (disch := omega) only [q_326_90, b_326_90, b_326_14, ↓w_iconst, ↓w_aload_n_0, ↓w_iload_n_2, ↓w_iload_n_3, ↓w_iinc_3, ↓w_getfield, ↓w_iaload, ↓w_goto, ↓w_ifCond_ne, ↓w_if_icmp_ne, ↓w_if_icmp_ge, ↓w_invokevirtual_0, ↓w_invokevirtual_1, ↓w_invokevirtual_2, stw_0, stw_i, stw_l, stw_r, ofK0, ofK1, ofK2, lst1, lst2, lkill, kont_none, kont_some, Int.reduceToNat, List.length_cons, List.length_nil, Nat.reduceAdd, Nat.reduceLeDiff, Nat.zero_le, true_and, and_true, if_true, if_false, ne_eq, Int.reduceEq, Int.reduceNeg, not_false_eq_true, not_true_eq_false, ↓reduceIte, Int.reduceLT, Int.reduceLE, and_self, or_true, true_or, or_false, false_or, false_and, and_false, ah_t_w, ah_m_w, ah_n_w, mt_1036a hG.1, mt_1083a hG.1, mt_1083b hG.1, mf_62 hG.1, g_1083 hG, c_289 hG, c_287 hG, c_290 hG, zb_f, hlt, e1, e2, w32_i]
        refine ih (k + 1) _ _ _ (by omega) (by omega) hG hO ?_
        rw [← hR]; simp [zmk, e2]
      · simp (disch := omega) only [q_326_48, b_326_48, b_326_14, ↓w_iconst, ↓w_aload_n_0, ↓w_iload_n_2, ↓w_iload_n_3, ↓w_istore_n_1, ↓w_getfield, ↓w_iaload, ↓w_goto, ↓w_ifCond_eq, ↓w_ifCond_ne, ↓w_if_icmp_ne, ↓w_if_icmp_ge, ↓w_invokevirtual_0, ↓w_invokevirtual_1, ↓w_invokevirtual_2, ↓w_invokevirtual_3, stw_0, stw_i, stw_l, stw_r, ofK0, ofK1, ofK2, lst1, lst2, lkill, kont_none, kont_some, Int.reduceToNat, List.length_cons, List.length_nil, Nat.reduceAdd, Nat.reduceLeDiff, Nat.zero_le, true_and, and_true, if_true, if_false, ne_eq, Int.reduceEq, Int.reduceNeg, not_false_eq_true, not_true_eq_false, ↓reduceIte, Int.reduceLT, Int.reduceLE, and_self, or_true, true_or, or_false, false_or, false_and, and_false, ah_t_w, ah_m_w, ah_n_w, mt_1036a hG.1, mt_1083a hG.1, mt_1083b hG.1, mf_62 hG.1, g_1083 hG, c_289 hG, c_287 hG, c_290 hG, zb_t, hlt, e1, e2]
        refine c_309 hG hc.1 (by omega) h0 hlt (by decide) (by decide) (fun h1' hD => ?_)
        have hG1 := MG_do hG hc.1 hc.2 h0 hlt hD
        have hb := @zat_b h' (k % T 1074 4) (k / T 1074 4) T nw hG
        simp only [zmk, e2, if_true, List.cons_append, List.isEmpty_cons, List.all_cons, Bool.not_false, Bool.or_true, Bool.true_and] at hR
        have fin : ∀ tl, wpB (d + 6) 326 76 (some (.inr (.inr 1036)) :: some (.inl 1) :: some (.inl c) :: some (.inl k) :: tl) [.inl (zb (f (c, k)))] h1' Q := by
          intro tl
          simp (disch := omega) only [q_326_76, b_326_76, ↓w_iconst, ↓w_aload_n_0, ↓w_iload_4, ↓w_istore, ↓w_ifCond_ne, ↓w_ireturn1, ↓w_invokevirtual_1, stw_0, stw_i, stw_l, stw_r, ofK0, ofK1, ofK2, lst1, lst2, lkill, kont_none, kont_some, Int.reduceToNat, List.length_cons, List.length_nil, Nat.reduceAdd, Nat.reduceLeDiff, Nat.zero_le, true_and, and_true, if_true, if_false, ne_eq, Int.reduceEq, Int.reduceNeg, not_false_eq_true, not_true_eq_false, ↓reduceIte, Int.reduceLT, Int.reduceLE, and_self, or_true, true_or, or_false, false_or, false_and, and_false, ah_t_w, ah_m_w, ah_n_w, mt_1036a hG1.1, lst1_0]
          refine c_311 hG1.1 (by decide) (by decide) (by rw [hD.2.1]; omega) (by rw [hD.2.2.2.2.1]; omega) (by rw [g_1083 hG1]; have := hG1.2.2.2.2.2.2.2; omega) (fun h3 e3 hO3 => ?_)
          obtain ⟨e4, hO4⟩ := DO_back (Wb := Wv 0) hc.1 hD Off_rfl (fun i w => by unfold Wv at w; omega) (fun r w => by unfold Wv at w; omega) e3 hO3 (g_1083 hG)
          have hO5 : Off (Wv 1) h' h3 := Off_mono (fun r i w => by unfold Wv Wd at *; omega) hO4
          have hG3 : MG T nw h3 := MG_off hG hO5 (fun r i w => Wv_f w)
          cases e5 : f (c, k)
          · rw [e5, Bool.false_and] at hR
            simp (disch := omega) only [b_326_76, ↓w_iconst, ↓w_aload_n_0, ↓w_iload_4, ↓w_istore, ↓w_ifCond_ne, ↓w_ireturn1, ↓w_invokevirtual_1, stw_0, stw_i, stw_l, stw_r, ofK0, ofK1, ofK2, lst1, lst2, lkill, kont_none, kont_some, Int.reduceToNat, List.length_cons, List.length_nil, Nat.reduceAdd, Nat.reduceLeDiff, Nat.zero_le, true_and, and_true, if_true, if_false, ne_eq, Int.reduceEq, Int.reduceNeg, not_false_eq_true, not_true_eq_false, ↓reduceIte, Int.reduceLT, Int.reduceLE, and_self, or_true, true_or, or_false, false_or, false_and, and_false, ah_t_w, ah_m_w, ah_n_w, mt_1036a hG3.1, w32_i, zb_f]
            exact hf _ hG3 (Off_tr hO hO5) hR.symm
          · rw [e5, Bool.true_and] at hR
            simp (disch := omega) only [q_326_90, b_326_90, b_326_76, ↓w_iconst, ↓w_aload_n_0, ↓w_iinc_3, ↓w_iload_4, ↓w_istore, ↓w_goto, ↓w_ifCond_ne, ↓w_ireturn1, ↓w_invokevirtual_1, stw_0, stw_i, stw_l, stw_r, ofK0, ofK1, ofK2, lst1, lst2, lkill, kont_none, kont_some, Int.reduceToNat, List.length_cons, List.length_nil, Nat.reduceAdd, Nat.reduceLeDiff, Nat.zero_le, true_and, and_true, if_true, if_false, ne_eq, Int.reduceEq, Int.reduceNeg, not_false_eq_true, not_true_eq_false, ↓reduceIte, Int.reduceLT, Int.reduceLE, and_self, or_true, true_or, or_false, false_or, false_and, and_false, ah_t_w, ah_m_w, ah_n_w, mt_1036a hG3.1, w32_i, zb_t]
            refine ih (k + 1) true _ _ (by omega) (by omega) hG3 (Off_tr hO hO5) ?_
            simpa using hR
        have ef1 : f (c, k) = (!zcr T (zdo T nw c k) && ztc T (zdo T nw c k)) := by rw [ef]
        cases e5 : zcr T (zdo T nw c k)
        · cases e6 : ztc T (zdo T nw c k)
          · rw [e5, e6] at ef1
            rw [ef1] at fin
            simp (disch := omega) only [q_326_75, b_326_75, b_326_48, ↓w_iconst, ↓w_aload_n_0, ↓w_iload_n_2, ↓w_iload_n_3, ↓w_istore_n_1, ↓w_nop, ↓w_goto, ↓w_ifCond_eq, ↓w_ifCond_ne, ↓w_invokevirtual_0, ↓w_invokevirtual_3, stw_0, stw_i, stw_l, stw_r, ofK0, ofK1, ofK2, lst1, lst2, lkill, kont_none, kont_some, Int.reduceToNat, List.length_cons, List.length_nil, Nat.reduceAdd, Nat.reduceLeDiff, Nat.zero_le, true_and, and_true, if_true, if_false, ne_eq, Int.reduceEq, Int.reduceNeg, not_false_eq_true, not_true_eq_false, ↓reduceIte, Int.reduceLT, Int.reduceLE, and_self, or_true, true_or, or_false, false_or, false_and, and_false, ah_t_w, ah_m_w, ah_n_w, mt_1036a hG1.1, w32_i, c_280 hG1, c_325 hG1, e5, e6, zb_t, zb_f]
            exact fin _
          · rw [e5, e6] at ef1
            rw [ef1] at fin
            simp (disch := omega) only [q_326_75, b_326_75, b_326_48, ↓w_iconst, ↓w_aload_n_0, ↓w_iload_n_2, ↓w_iload_n_3, ↓w_istore_n_1, ↓w_nop, ↓w_goto, ↓w_ifCond_eq, ↓w_ifCond_ne, ↓w_invokevirtual_0, ↓w_invokevirtual_3, stw_0, stw_i, stw_l, stw_r, ofK0, ofK1, ofK2, lst1, lst2, lkill, kont_none, kont_some, Int.reduceToNat, List.length_cons, List.length_nil, Nat.reduceAdd, Nat.reduceLeDiff, Nat.zero_le, true_and, and_true, if_true, if_false, ne_eq, Int.reduceEq, Int.reduceNeg, not_false_eq_true, not_true_eq_false, ↓reduceIte, Int.reduceLT, Int.reduceLE, and_self, or_true, true_or, or_false, false_or, false_and, and_false, ah_t_w, ah_m_w, ah_n_w, mt_1036a hG1.1, w32_i, c_280 hG1, c_325 hG1, e5, e6, zb_t, zb_f]
            exact fin _
        · rw [e5] at ef1
          rw [ef1] at fin
          simp (disch := omega) only [q_326_75, b_326_75, b_326_48, ↓w_iconst, ↓w_aload_n_0, ↓w_iload_n_2, ↓w_iload_n_3, ↓w_istore_n_1, ↓w_nop, ↓w_goto, ↓w_ifCond_eq, ↓w_ifCond_ne, ↓w_invokevirtual_0, ↓w_invokevirtual_3, stw_0, stw_i, stw_l, stw_r, ofK0, ofK1, ofK2, lst1, lst2, lkill, kont_none, kont_some, Int.reduceToNat, List.length_cons, List.length_nil, Nat.reduceAdd, Nat.reduceLeDiff, Nat.zero_le, true_and, and_true, if_true, if_false, ne_eq, Int.reduceEq, Int.reduceNeg, not_false_eq_true, not_true_eq_false, ↓reduceIte, Int.reduceLT, Int.reduceLE, and_self, or_true, true_or, or_false, false_or, false_and, and_false, ah_t_w, ah_m_w, ah_n_w, mt_1036a hG1.1, w32_i, c_280 hG1, c_325 hG1, e5, zb_t, zb_f]
          exact fin _
    · simp only [e1, if_false, List.nil_append] at hR ih
      simp (disch := omega) only [q_326_90, b_326_90, b_326_14, ↓w_iconst, ↓w_aload_n_0, ↓w_iload_n_2, ↓w_iload_n_3, ↓w_iinc_3, ↓w_getfield, ↓w_iaload, ↓w_goto, ↓w_ifCond_ne, ↓w_if_icmp_ne, ↓w_if_icmp_ge, ↓w_invokevirtual_0, ↓w_invokevirtual_1, ↓w_invokevirtual_2, stw_0, stw_i, stw_l, stw_r, ofK0, ofK1, ofK2, lst1, lst2, lkill, kont_none, kont_some, Int.reduceToNat, List.length_cons, List.length_nil, Nat.reduceAdd, Nat.reduceLeDiff, Nat.zero_le, true_and, and_true, if_true, if_false, ne_eq, Int.reduceEq, Int.reduceNeg, not_false_eq_true, not_true_eq_false, ↓reduceIte, Int.reduceLT, Int.reduceLE, and_self, or_true, true_or, or_false, false_or, false_and, and_false, ah_t_w, ah_m_w, ah_n_w, mt_1036a hG.1, mt_1083a hG.1, mt_1083b hG.1, mf_62 hG.1, g_1083 hG, c_289 hG, c_287 hG, hlt, e1, w32_i]
      exact ih (k + 1) _ _ _ (by omega) (by omega) hG hO hR
theorem l_326 {R : Bool} {f : Int × Int → Bool} (ef : f = fun x => !zcr T (zdo T nw x.1 x.2) && ztc T (zdo T nw x.1 x.2)) (hQ : ∀ h', MG T nw h' → Off (Wv 1) h h' → Q (.inl (some (.inl (zb R)))) h') :
    ∀ (j : Nat) (c : Int) (a : Bool) tl h', 0 ≤ c → c + j = T 1072 4 → MG T nw h' → Off (Wv 1) h h' → ((a || !(zmm T nw (nw 1) j c).isEmpty) && (zmm T nw (nw 1) j c).all f) = R → wpB (d + 6) 326 4 (some (.inr (.inr 1036)) :: some (.inl (zb a)) :: some (.inl c) :: tl) [] h' Q := by
  intro j
  induction j with
  | zero =>
    intro c a tl h' h0 h1 hG hO hR
    have hlt : ¬ c < T 1072 4 := by omega
    simp (disch := omega) only [q_326_4, b_326_4, q_326_102, b_326_102, ↓w_iconst, ↓w_aload_n_0, ↓w_iload_n_1, ↓w_iload_n_2, ↓w_istore_n_3, ↓w_nop, ↓w_if_icmp_ge, ↓w_ireturn1, ↓w_invokevirtual_0, stw_0, stw_i, stw_l, stw_r, ofK0, ofK1, ofK2, lst1, lst2, lkill, kont_none, kont_some, Int.reduceToNat, List.length_cons, List.length_nil, Nat.reduceAdd, Nat.reduceLeDiff, Nat.zero_le, true_and, and_true, if_true, if_false, ne_eq, Int.reduceEq, Int.reduceNeg, not_false_eq_true, not_true_eq_false, ↓reduceIte, Int.reduceLT, Int.reduceLE, and_self, or_true, true_or, or_false, false_or, false_and, and_false, ah_t_w, ah_m_w, ah_n_w, mt_1036a hG.1, c_281 hG, hlt]
    simp [zmm] at hR
    rw [← hR] at hQ
    have := hQ _ hG hO
    cases a <;> exact ⟨by decide, this⟩
  | succ j ih =>
    intro c a tl h' h0 h1 hG hO hR
    have h8 := hG.2.2.2.1.2.1
    have hPi := zP_i hG
    have hlt : c < T 1072 4 := by omega
    simp (disch := omega) only [q_326_4, b_326_4, ↓w_iconst, ↓w_aload_n_0, ↓w_iload_n_2, ↓w_istore_n_3, ↓w_nop, ↓w_if_icmp_ge, ↓w_invokevirtual_0, stw_0, stw_i, stw_l, stw_r, ofK0, ofK1, ofK2, lst1, lst2, lkill, kont_none, kont_some, Int.reduceToNat, List.length_cons, List.length_nil, Nat.reduceAdd, Nat.reduceLeDiff, Nat.zero_le, true_and, and_true, if_true, if_false, ne_eq, Int.reduceEq, Int.reduceNeg, not_false_eq_true, not_true_eq_false, ↓reduceIte, Int.reduceLT, Int.reduceLE, and_self, or_true, true_or, or_false, false_or, false_and, and_false, ah_t_w, ah_m_w, ah_n_w, mt_1036a hG.1, c_281 hG, hlt, lst1_0]
    refine l_326i ef ⟨h0, hlt⟩ (fun h' a b e => by rw [e] at hQ; exact hQ _ a b) (fun tl a h'' hG2 hO2 hR2 => ?_) (zP T) 0 _ _ _ (by omega) (by omega) hG hO hR
    simp (disch := omega) only [q_326_96, b_326_96, ↓w_iinc_2, ↓w_goto, stw_0, stw_i, stw_l, stw_r, ofK0, ofK1, ofK2, lst1, lst2, lkill, kont_none, kont_some, Int.reduceToNat, List.length_cons, List.length_nil, Nat.reduceAdd, Nat.reduceLeDiff, Nat.zero_le, true_and, and_true, if_true, if_false, ne_eq, Int.reduceEq, Int.reduceNeg, not_false_eq_true, not_true_eq_false, ↓reduceIte, Int.reduceLT, Int.reduceLE, and_self, or_true, true_or, or_false, false_or, false_and, and_false, ah_t_w, ah_m_w, ah_n_w, w32_i]
    exact ih (c + 1) _ _ _ (by omega) (by omega) hG2 hO2 hR2
theorem c_326 (hG : MG T nw h) (hQ : ∀ h', MG T nw h' → Off (Wv 1) h h' → Q (.inl (some (.inl (zb (zfn T nw))))) h') : wpC (d + 7) 326 [.inr (.inr 1036)] h Q := by
  have hn := zn_i hG
  have h8 := hG.2.2.2.1.2.1
  rw [wpC_B]; refine ⟨⟨Nat.zero_lt_succ _, Nat.le_of_ble_eq_true rfl⟩, ?_⟩; simp only [lent]
  simp (disch := omega) only [q_326_0, b_326_0, ↓w_iconst, ↓w_istore_n_1, ↓w_istore_n_2, ↓w_nop, stw_0, stw_i, stw_l, stw_r, ofK0, ofK1, ofK2, lst1, lst2, lkill, kont_none, kont_some, Int.reduceToNat, List.length_cons, List.length_nil, Nat.reduceAdd, Nat.reduceLeDiff, Nat.zero_le, true_and, and_true, if_true, if_false, ne_eq, Int.reduceEq, Int.reduceNeg, not_false_eq_true, not_true_eq_false, ↓reduceIte, Int.reduceLT, Int.reduceLE, and_self, or_true, true_or, or_false, false_or, false_and, and_false, ah_t_w, ah_m_w, ah_n_w]
  exact l_326 rfl hQ (zn T) 0 false _ _ (by omega) (by omega) hG Off_rfl rfl
end M8
