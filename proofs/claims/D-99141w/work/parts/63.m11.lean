/-! ===== M: forced, option, letter, seeds, what is put aside ===== -/
def zfor (T : Int → Int → Int) (nw : Int → Int) (isb : Int) : Int := if isb = 0 ∨ (zcr T nw || (zmv T nw).isEmpty) = true then -1 else if ztc T nw = true then 1 else if zfo T nw = true then 2 else -1
section M11
variable {d : Nat} {h h0 : AH} {Q : QQ} {x y z m k s l w a b : Int} {T : Int → Int → Int} {nw g : Int → Int}
set_option maxHeartbeats 2000000
theorem l_324i {c : Int} {rest : List (Int × Int)} {f : Int × Int → Bool} (ef : f = fun x => !zcr T (zdo T nw x.1 x.2) && zfn T (zdo T nw x.1 x.2)) {R : Bool} (hc : 0 ≤ c ∧ c < T 1072 4)
    (hfin : ∀ tl c h', MG T nw h' → Off Wc h h' → R = true → -1 ≤ c → c ≤ 100 → wpB (d + 8) 324 29 (some (.inr (.inr 1036)) :: some (.inl 1) :: some (.inl c) :: tl) [] h' Q)
    (hout : ∀ tl h', MG T nw h' → Off Wc h h' → rest.any f = R → wpB (d + 8) 324 119 (some (.inr (.inr 1036)) :: some (.inl 0) :: some (.inl c) :: tl) [] h' Q) :
    ∀ (j : Nat) (k : Int) tl h', 0 ≤ k → k + j = zP T → MG T nw h' → Off Wc h h' → ((if zs T c = nw 1 then zmk T nw c j k else []) ++ rest).any f = R → wpB (d + 8) 324 43 (some (.inr (.inr 1036)) :: some (.inl 0) :: some (.inl c) :: some (.inl k) :: tl) [] h' Q := by
  intro j
  induction j with
  | zero =>
    intro k tl h' h0 h1 hG hO hR
    have hlt : ¬ k < (zP T : Int) := by omega
    simp (disch := omega) only [q_324_43, b_324_43, ↓w_iconst, ↓w_aload_n_0, ↓w_iload_n_1, ↓w_iload_n_2, ↓w_iload_n_3, ↓w_getfield, ↓w_iaload, ↓w_goto, ↓w_ifCond_ne, ↓w_if_icmp_ne, ↓w_if_icmp_ge, ↓w_invokevirtual_0, ↓w_invokevirtual_1, ↓w_invokevirtual_2, stw_0, stw_i, stw_l, stw_r, ofK0, ofK1, ofK2, lst1, lst2, lkill, kont_none, kont_some, Int.reduceToNat, List.length_cons, List.length_nil, Nat.reduceAdd, Nat.reduceLeDiff, Nat.zero_le, true_and, and_true, if_true, if_false, ne_eq, Int.reduceEq, Int.reduceNeg, not_false_eq_true, not_true_eq_false, ↓reduceIte, Int.reduceLT, Int.reduceLE, and_self, or_true, true_or, or_false, false_or, false_and, and_false, ah_t_w, ah_m_w, ah_n_w, lst1_0, List.tail_cons, w32_i, mt_1036a hG.1, mt_1083a hG.1, mt_1083b hG.1, mf_62 hG.1, g_1083 hG, c_287 hG, c_289 hG, c_290 hG, hlt]
    refine hout _ _ hG hO ?_
    rw [← hR]; split <;> rfl
  | succ j ih =>
    intro k tl h' h0 h1 hG hO hR
    have h8 := hG.2.2.2.1.2.1
    have hP := zP_b hG
    have hPi := zP_i hG
    have hlt : k < (zP T : Int) := by omega
    rw [q_324_43]
    by_cases e1 : zs T c = nw 1
    · simp only [e1, if_true] at hR ih
      cases e2 : zG T nw c k
      · simp (disch := omega) only [b_324_43, q_324_113, b_324_113, ↓w_iconst, ↓w_aload_n_0, ↓w_iload_n_1, ↓w_iload_n_2, ↓w_iload_n_3, ↓w_iinc_3, ↓w_getfield, ↓w_iaload, ↓w_goto, ↓w_ifCond_ne, ↓w_if_icmp_ne, ↓w_if_icmp_ge, ↓w_invokevirtual_0, ↓w_invokevirtual_1, ↓w_invokevirtual_2, stw_0, stw_i, stw_l, stw_r, ofK0, ofK1, ofK2, lst1, lst2, lkill, kont_none, kont_some, Int.reduceToNat, List.length_cons, List.length_nil, Nat.reduceAdd, Nat.reduceLeDiff, Nat.zero_le, true_and, and_true, if_true, if_false, ne_eq, Int.reduceEq, Int.reduceNeg, not_false_eq_true, not_true_eq_false, ↓reduceIte, Int.reduceLT, Int.reduceLE, and_self, or_true, true_or, or_false, false_or, false_and, and_false, ah_t_w, ah_m_w, ah_n_w, lst1_0, List.tail_cons, w32_i, mt_1036a hG.1, mt_1083a hG.1, mt_1083b hG.1, mf_62 hG.1, g_1083 hG, c_287 hG, c_289 hG, c_290 hG, hlt, e1, e2, zb_f]
        refine ih (k + 1) _ _ (by omega) (by omega) hG hO ?_
        rw [← hR]; simp [zmk, e2]
      · simp (disch := omega) only [b_324_43, q_324_81, b_324_81, ↓w_iconst, ↓w_aload_n_0, ↓w_iload_n_1, ↓w_iload_n_2, ↓w_iload_n_3, ↓w_getfield, ↓w_iaload, ↓w_goto, ↓w_ifCond_eq, ↓w_ifCond_ne, ↓w_if_icmp_ne, ↓w_if_icmp_ge, ↓w_invokevirtual_0, ↓w_invokevirtual_1, ↓w_invokevirtual_2, ↓w_invokevirtual_3, stw_0, stw_i, stw_l, stw_r, ofK0, ofK1, ofK2, lst1, lst2, lkill, kont_none, kont_some, Int.reduceToNat, List.length_cons, List.length_nil, Nat.reduceAdd, Nat.reduceLeDiff, Nat.zero_le, true_and, and_true, if_true, if_false, ne_eq, Int.reduceEq, Int.reduceNeg, not_false_eq_true, not_true_eq_false, ↓reduceIte, Int.reduceLT, Int.reduceLE, and_self, or_true, true_or, or_false, false_or, false_and, and_false, ah_t_w, ah_m_w, ah_n_w, lst1_0, List.tail_cons, w32_i, mt_1036a hG.1, mt_1083a hG.1, mt_1083b hG.1, mf_62 hG.1, g_1083 hG, c_280 hG, c_287 hG, c_289 hG, c_290 hG, hlt, e1, e2, zb_t]
        refine c_309 hG hc.1 (by omega) h0 hlt (by decide) (by decide) (fun h1' hD => ?_)
        have hG1 := MG_do hG hc.1 hc.2 h0 hlt hD
        have hb := @zat_b h' (k % T 1074 4) (k / T 1074 4) T nw hG
        simp only [zmk, e2, if_true, List.cons_append, List.any_cons] at hR
        have fin : ∀ tl h2, MG T (zdo T nw c k) h2 → Off (Wv 1) h1' h2 → wpB (d + 8) 324 107 (some (.inr (.inr 1036)) :: some (.inl 0) :: some (.inl c) :: some (.inl k) :: tl) [.inl (zb (f (c, k)))] h2 Q := by
          intro tl h2 hG2 hO2
          have dd : ah_m h2 1085 0 = c ∧ ah_m h2 1088 0 = zat T nw (k % T 1074 4) (k / T 1074 4) := by
            rw [hO2.2 _ _ (by unfold Wv; omega), hO2.2 _ _ (by unfold Wv; omega)]
            exact ⟨hD.2.1, hD.2.2.2.2.1⟩
          simp (disch := omega) only [q_324_107, b_324_107, ↓w_iconst, ↓w_aload_n_0, ↓w_istore_n_1, ↓w_nop, ↓w_invokevirtual_1, stw_0, stw_i, stw_l, stw_r, ofK0, ofK1, ofK2, lst1, lst2, lkill, kont_none, kont_some, Int.reduceToNat, List.length_cons, List.length_nil, Nat.reduceAdd, Nat.reduceLeDiff, Nat.zero_le, true_and, and_true, if_true, if_false, ne_eq, Int.reduceEq, Int.reduceNeg, not_false_eq_true, not_true_eq_false, ↓reduceIte, Int.reduceLT, Int.reduceLE, and_self, or_true, true_or, or_false, false_or, false_and, and_false, ah_t_w, ah_m_w, ah_n_w, lst1_0, List.tail_cons, w32_i, mt_1036a hG2.1]
          refine c_311 hG2.1 (by decide) (by decide) (by rw [dd.1]; omega) (by rw [dd.2]; omega) (by rw [g_1083 hG2]; have := hG2.2.2.2.2.2.2.2; omega) (fun h3 e3 hO3 => ?_)
          obtain ⟨e4, hO4⟩ := DO_back hc.1 hD hO2 (fun i w => by unfold Wv at w; omega) (fun r w => by unfold Wv at w; omega) e3 hO3 (g_1083 hG)
          have hO5 : Off Wc h' h3 := Off_mono (fun r i w => by unfold Wv Wd at w; unfold Wc; omega) hO4
          have hG3 : MG T nw h3 := MG_off hG hO5 (fun r i w => Wc_f w)
          cases e5 : f (c, k)
          · rw [e5, Bool.false_or] at hR
            simp (disch := omega) only [b_324_107, q_324_113, b_324_113, ↓w_iconst, ↓w_aload_n_0, ↓w_iinc_3, ↓w_istore_n_1, ↓w_nop, ↓w_goto, ↓w_invokevirtual_1, stw_0, stw_i, stw_l, stw_r, ofK0, ofK1, ofK2, lst1, lst2, lkill, kont_none, kont_some, Int.reduceToNat, List.length_cons, List.length_nil, Nat.reduceAdd, Nat.reduceLeDiff, Nat.zero_le, true_and, and_true, if_true, if_false, ne_eq, Int.reduceEq, Int.reduceNeg, not_false_eq_true, not_true_eq_false, ↓reduceIte, Int.reduceLT, Int.reduceLE, and_self, or_true, true_or, or_false, false_or, false_and, and_false, ah_t_w, ah_m_w, ah_n_w, lst1_0, List.tail_cons, w32_i, mt_1036a hG3.1, zb_f]
            exact ih (k + 1) _ _ (by omega) (by omega) hG3 (Off_tr hO hO5) hR
          · rw [e5, Bool.true_or] at hR
            simp (disch := omega) only [b_324_107, q_324_113, b_324_113, ↓w_iconst, ↓w_aload_n_0, ↓w_iinc_3, ↓w_istore_n_1, ↓w_nop, ↓w_goto, ↓w_invokevirtual_1, stw_0, stw_i, stw_l, stw_r, ofK0, ofK1, ofK2, lst1, lst2, lkill, kont_none, kont_some, Int.reduceToNat, List.length_cons, List.length_nil, Nat.reduceAdd, Nat.reduceLeDiff, Nat.zero_le, true_and, and_true, if_true, if_false, ne_eq, Int.reduceEq, Int.reduceNeg, not_false_eq_true, not_true_eq_false, ↓reduceIte, Int.reduceLT, Int.reduceLE, and_self, or_true, true_or, or_false, false_or, false_and, and_false, ah_t_w, ah_m_w, ah_n_w, lst1_0, List.tail_cons, w32_i, mt_1036a hG3.1, zb_t]
            rw [q_324_43]
            by_cases e6 : k + 1 < (zP T : Int)
            · simp (disch := omega) only [b_324_43, q_324_119, b_324_119, ↓w_iconst, ↓w_aload_n_0, ↓w_iload_n_1, ↓w_iload_n_2, ↓w_iinc_2, ↓w_iload_n_3, ↓w_getfield, ↓w_iaload, ↓w_goto, ↓w_ifCond_ne, ↓w_if_icmp_ne, ↓w_if_icmp_ge, ↓w_invokevirtual_0, ↓w_invokevirtual_1, ↓w_invokevirtual_2, stw_0, stw_i, stw_l, stw_r, ofK0, ofK1, ofK2, lst1, lst2, lkill, kont_none, kont_some, Int.reduceToNat, List.length_cons, List.length_nil, Nat.reduceAdd, Nat.reduceLeDiff, Nat.zero_le, true_and, and_true, if_true, if_false, ne_eq, Int.reduceEq, Int.reduceNeg, not_false_eq_true, not_true_eq_false, ↓reduceIte, Int.reduceLT, Int.reduceLE, and_self, or_true, true_or, or_false, false_or, false_and, and_false, ah_t_w, ah_m_w, ah_n_w, lst1_0, List.tail_cons, w32_i, mt_1036a hG3.1, mt_1083a hG3.1, mt_1083b hG3.1, mf_62 hG3.1, g_1083 hG3, c_287 hG3, c_289 hG3, c_290 hG3, e6]
              exact hfin _ _ _ hG3 (Off_tr hO hO5) hR.symm (by omega) (by omega)
            · simp (disch := omega) only [b_324_43, q_324_119, b_324_119, ↓w_iconst, ↓w_aload_n_0, ↓w_iload_n_1, ↓w_iload_n_2, ↓w_iinc_2, ↓w_iload_n_3, ↓w_getfield, ↓w_iaload, ↓w_goto, ↓w_ifCond_ne, ↓w_if_icmp_ne, ↓w_if_icmp_ge, ↓w_invokevirtual_0, ↓w_invokevirtual_1, ↓w_invokevirtual_2, stw_0, stw_i, stw_l, stw_r, ofK0, ofK1, ofK2, lst1, lst2, lkill, kont_none, kont_some, Int.reduceToNat, List.length_cons, List.length_nil, Nat.reduceAdd, Nat.reduceLeDiff, Nat.zero_le, true_and, and_true, if_true, if_false, ne_eq, Int.reduceEq, Int.reduceNeg, not_false_eq_true, not_true_eq_false, ↓reduceIte, Int.reduceLT, Int.reduceLE, and_self, or_true, true_or, or_false, false_or, false_and, and_false, ah_t_w, ah_m_w, ah_n_w, lst1_0, List.tail_cons, w32_i, mt_1036a hG3.1, mt_1083a hG3.1, mt_1083b hG3.1, mf_62 hG3.1, g_1083 hG3, c_287 hG3, c_289 hG3, c_290 hG3, e6]
              exact hfin _ _ _ hG3 (Off_tr hO hO5) hR.symm (by omega) (by omega)
        have ef1 : f (c, k) = (!zcr T (zdo T nw c k) && zfn T (zdo T nw c k)) := by rw [ef]
        cases e5 : zcr T (zdo T nw c k)
        · simp (disch := omega) only [b_324_81, ↓w_iconst, ↓w_aload_n_0, ↓w_iload_n_2, ↓w_iload_n_3, ↓w_goto, ↓w_ifCond_eq, ↓w_ifCond_ne, ↓w_invokevirtual_0, ↓w_invokevirtual_3, stw_0, stw_i, stw_l, stw_r, ofK0, ofK1, ofK2, lst1, lst2, lkill, kont_none, kont_some, Int.reduceToNat, List.length_cons, List.length_nil, Nat.reduceAdd, Nat.reduceLeDiff, Nat.zero_le, true_and, and_true, if_true, if_false, ne_eq, Int.reduceEq, Int.reduceNeg, not_false_eq_true, not_true_eq_false, ↓reduceIte, Int.reduceLT, Int.reduceLE, and_self, or_true, true_or, or_false, false_or, false_and, and_false, ah_t_w, ah_m_w, ah_n_w, lst1_0, List.tail_cons, w32_i, mt_1036a hG1.1, c_280 hG1, e5, zb_f]
          refine c_326 hG1 (fun h2 hG2 hO2 => ?_)
          cases e6 : zfn T (zdo T nw c k)
          · rw [e5, e6] at ef1
            rw [ef1] at fin
            simp (disch := omega) only [b_324_81, q_324_106, b_324_106, ↓w_iconst, ↓w_aload_n_0, ↓w_iload_n_2, ↓w_iload_n_3, ↓w_nop, ↓w_goto, ↓w_ifCond_eq, ↓w_ifCond_ne, ↓w_invokevirtual_0, ↓w_invokevirtual_3, stw_0, stw_i, stw_l, stw_r, ofK0, ofK1, ofK2, lst1, lst2, lkill, kont_none, kont_some, Int.reduceToNat, List.length_cons, List.length_nil, Nat.reduceAdd, Nat.reduceLeDiff, Nat.zero_le, true_and, and_true, if_true, if_false, ne_eq, Int.reduceEq, Int.reduceNeg, not_false_eq_true, not_true_eq_false, ↓reduceIte, Int.reduceLT, Int.reduceLE, and_self, or_true, true_or, or_false, false_or, false_and, and_false, ah_t_w, ah_m_w, ah_n_w, lst1_0, List.tail_cons, w32_i, mt_1036a hG2.1, c_280 hG2, zb_f]
            exact fin _ _ hG2 hO2
          · rw [e5, e6] at ef1
            rw [ef1] at fin
            simp (disch := omega) only [b_324_81, q_324_106, b_324_106, ↓w_iconst, ↓w_aload_n_0, ↓w_iload_n_2, ↓w_iload_n_3, ↓w_nop, ↓w_goto, ↓w_ifCond_eq, ↓w_ifCond_ne, ↓w_invokevirtual_0, ↓w_invokevirtual_3, stw_0, stw_i, stw_l, stw_r, ofK0, ofK1, ofK2, lst1, lst2, lkill, kont_none, kont_some, Int.reduceToNat, List.length_cons, List.length_nil, Nat.reduceAdd, Nat.reduceLeDiff, Nat.zero_le, true_and, and_true, if_true, if_false, ne_eq, Int.reduceEq, Int.reduceNeg, not_false_eq_true, not_true_eq_false, ↓reduceIte, Int.reduceLT, Int.reduceLE, and_self, or_true, true_or, or_false, false_or, false_and, and_false, ah_t_w, ah_m_w, ah_n_w, lst1_0, List.tail_cons, w32_i, mt_1036a hG2.1, c_280 hG2, zb_t]
            exact fin _ _ hG2 hO2
        · rw [e5] at ef1
          rw [ef1] at fin
          simp (disch := omega) only [b_324_81, q_324_106, b_324_106, ↓w_iconst, ↓w_aload_n_0, ↓w_iload_n_2, ↓w_iload_n_3, ↓w_nop, ↓w_goto, ↓w_ifCond_eq, ↓w_ifCond_ne, ↓w_invokevirtual_0, ↓w_invokevirtual_3, stw_0, stw_i, stw_l, stw_r, ofK0, ofK1, ofK2, lst1, lst2, lkill, kont_none, kont_some, Int.reduceToNat, List.length_cons, List.length_nil, Nat.reduceAdd, Nat.reduceLeDiff, Nat.zero_le, true_and, and_true, if_true, if_false, ne_eq, Int.reduceEq, Int.reduceNeg, not_false_eq_true, not_true_eq_false, ↓reduceIte, Int.reduceLT, Int.reduceLE, and_self, or_true, true_or, or_false, false_or, false_and, and_false, ah_t_w, ah_m_w, ah_n_w, lst1_0, List.tail_cons, w32_i, mt_1036a hG1.1, c_280 hG1, e5, zb_t]
          exact fin _ _ hG1 Off_rfl
    · simp only [e1, if_false, List.nil_append] at hR ih
      simp (disch := omega) only [b_324_43, q_324_113, b_324_113, ↓w_iconst, ↓w_aload_n_0, ↓w_iload_n_1, ↓w_iload_n_2, ↓w_iload_n_3, ↓w_iinc_3, ↓w_getfield, ↓w_iaload, ↓w_goto, ↓w_ifCond_ne, ↓w_if_icmp_ne, ↓w_if_icmp_ge, ↓w_invokevirtual_0, ↓w_invokevirtual_1, ↓w_invokevirtual_2, stw_0, stw_i, stw_l, stw_r, ofK0, ofK1, ofK2, lst1, lst2, lkill, kont_none, kont_some, Int.reduceToNat, List.length_cons, List.length_nil, Nat.reduceAdd, Nat.reduceLeDiff, Nat.zero_le, true_and, and_true, if_true, if_false, ne_eq, Int.reduceEq, Int.reduceNeg, not_false_eq_true, not_true_eq_false, ↓reduceIte, Int.reduceLT, Int.reduceLE, and_self, or_true, true_or, or_false, false_or, false_and, and_false, ah_t_w, ah_m_w, ah_n_w, lst1_0, List.tail_cons, w32_i, mt_1036a hG.1, mt_1083a hG.1, mt_1083b hG.1, mf_62 hG.1, g_1083 hG, c_287 hG, c_289 hG, c_290 hG, hlt, e1]
      exact ih (k + 1) _ _ (by omega) (by omega) hG hO hR
theorem l_324 {R : Bool} {f : Int × Int → Bool} (ef : f = fun x => !zcr T (zdo T nw x.1 x.2) && zfn T (zdo T nw x.1 x.2)) (hQ : ∀ h', MG T nw h' → Off Wc h h' → Q (.inl (some (.inl (if R = true then 2 else -1)))) h') :
    ∀ (j : Nat) (c : Int) tl h', 0 ≤ c → c + j = T 1072 4 → MG T nw h' → Off Wc h h' → (zmm T nw (nw 1) j c).any f = R → wpB (d + 8) 324 29 (some (.inr (.inr 1036)) :: some (.inl 0) :: some (.inl c) :: tl) [] h' Q := by
  have hfin : ∀ tl c h', MG T nw h' → Off Wc h h' → R = true → -1 ≤ c → c ≤ 100 → wpB (d + 8) 324 29 (some (.inr (.inr 1036)) :: some (.inl 1) :: some (.inl c) :: tl) [] h' Q := by
    intro tl c h' hG hO hR c1 c2
    have := hQ _ hG hO
    rw [hR] at this
    by_cases e : c < T 1072 4 <;> (simp (disch := omega) only [q_324_29, b_324_29, q_324_125, b_324_125, q_324_133, b_324_133, q_324_134, b_324_134, ↓w_iconst, ↓w_aload_n_0, ↓w_iload_n_1, ↓w_iload_n_2, ↓w_istore_n_3, ↓w_nop, ↓w_goto, ↓w_ifCond_eq, ↓w_ifCond_ne, ↓w_if_icmp_ge, ↓w_ireturn0, ↓w_invokevirtual_0, stw_0, stw_i, stw_l, stw_r, ofK0, ofK1, ofK2, lst1, lst2, lkill, kont_none, kont_some, Int.reduceToNat, List.length_cons, List.length_nil, Nat.reduceAdd, Nat.reduceLeDiff, Nat.zero_le, true_and, and_true, if_true, if_false, ne_eq, Int.reduceEq, Int.reduceNeg, not_false_eq_true, not_true_eq_false, ↓reduceIte, Int.reduceLT, Int.reduceLE, and_self, or_true, true_or, or_false, false_or, false_and, and_false, ah_t_w, ah_m_w, ah_n_w, lst1_0, List.tail_cons, w32_i, mt_1036a hG.1, c_281 hG, e]; exact this)
  intro j
  induction j with
  | zero =>
    intro c tl h' h0 h1 hG hO hR
    have hlt : ¬ c < T 1072 4 := by omega
    have := hQ _ hG hO
    rw [← hR] at this
    simp (disch := omega) only [q_324_29, b_324_29, q_324_125, b_324_125, q_324_133, b_324_133, q_324_134, b_324_134, ↓w_iconst, ↓w_aload_n_0, ↓w_iload_n_1, ↓w_iload_n_2, ↓w_istore_n_3, ↓w_nop, ↓w_goto, ↓w_ifCond_eq, ↓w_ifCond_ne, ↓w_if_icmp_ge, ↓w_ireturn0, ↓w_invokevirtual_0, stw_0, stw_i, stw_l, stw_r, ofK0, ofK1, ofK2, lst1, lst2, lkill, kont_none, kont_some, Int.reduceToNat, List.length_cons, List.length_nil, Nat.reduceAdd, Nat.reduceLeDiff, Nat.zero_le, true_and, and_true, if_true, if_false, ne_eq, Int.reduceEq, Int.reduceNeg, not_false_eq_true, not_true_eq_false, ↓reduceIte, Int.reduceLT, Int.reduceLE, and_self, or_true, true_or, or_false, false_or, false_and, and_false, ah_t_w, ah_m_w, ah_n_w, lst1_0, List.tail_cons, w32_i, mt_1036a hG.1, c_281 hG, hlt]
    exact this
  | succ j ih =>
    intro c tl h' h0 h1 hG hO hR
    have h8 := hG.2.2.2.1.2.1
    have hPi := zP_i hG
    have hlt : c < T 1072 4 := by omega
    simp (disch := omega) only [q_324_29, b_324_29, ↓w_iconst, ↓w_aload_n_0, ↓w_iload_n_1, ↓w_iload_n_2, ↓w_istore_n_3, ↓w_nop, ↓w_ifCond_ne, ↓w_if_icmp_ge, ↓w_invokevirtual_0, stw_0, stw_i, stw_l, stw_r, ofK0, ofK1, ofK2, lst1, lst2, lkill, kont_none, kont_some, Int.reduceToNat, List.length_cons, List.length_nil, Nat.reduceAdd, Nat.reduceLeDiff, Nat.zero_le, true_and, and_true, if_true, if_false, ne_eq, Int.reduceEq, Int.reduceNeg, not_false_eq_true, not_true_eq_false, ↓reduceIte, Int.reduceLT, Int.reduceLE, and_self, or_true, true_or, or_false, false_or, false_and, and_false, ah_t_w, ah_m_w, ah_n_w, lst1_0, List.tail_cons, w32_i, mt_1036a hG.1, c_281 hG, hlt]
    refine l_324i ef ⟨h0, hlt⟩ hfin (fun tl h'' hG2 hO2 hR2 => ?_) (zP T) 0 _ _ (by omega) (by omega) hG hO hR
    simp (disch := omega) only [q_324_119, b_324_119, ↓w_iinc_2, ↓w_goto, stw_0, stw_i, stw_l, stw_r, ofK0, ofK1, ofK2, lst1, lst2, lkill, kont_none, kont_some, Int.reduceToNat, List.length_cons, List.length_nil, Nat.reduceAdd, Nat.reduceLeDiff, Nat.zero_le, true_and, and_true, if_true, if_false, ne_eq, Int.reduceEq, Int.reduceNeg, not_false_eq_true, not_true_eq_false, ↓reduceIte, Int.reduceLT, Int.reduceLE, and_self, or_true, true_or, or_false, false_or, false_and, and_false, ah_t_w, ah_m_w, ah_n_w, lst1_0, List.tail_cons, w32_i, mt_1036a hG.1]
    exact ih (c + 1) _ _ (by omega) (by omega) hG2 hO2 hR2
theorem c_324 (hG : MG T nw h) (hQ : ∀ h', MG T nw h' → Off Wc h h' → Q (.inl (some (.inl (zfor T nw (ah_m h 1036 58))))) h') : wpC (d + 9) 324 [.inr (.inr 1036)] h Q := by
  have hn := zn_i hG
  have h8 := hG.2.2.2.1.2.1
  unfold zfor at hQ
  rw [wpC_B]; refine ⟨⟨Nat.zero_lt_succ _, Nat.le_of_ble_eq_true rfl⟩, ?_⟩; simp only [lent]
  by_cases e0 : ah_m h 1036 58 = 0
  · simp (disch := omega) only [q_324_0, b_324_0, q_324_14, b_324_14, ↓w_iconst, ↓w_aload_n_0, ↓w_getfield, ↓w_nop, ↓w_ifCond_eq, ↓w_ireturn0, ↓w_invokevirtual_0, stw_0, stw_i, stw_l, stw_r, ofK0, ofK1, ofK2, lst1, lst2, lkill, kont_none, kont_some, Int.reduceToNat, List.length_cons, List.length_nil, Nat.reduceAdd, Nat.reduceLeDiff, Nat.zero_le, true_and, and_true, if_true, if_false, ne_eq, Int.reduceEq, Int.reduceNeg, not_false_eq_true, not_true_eq_false, ↓reduceIte, Int.reduceLT, Int.reduceLE, and_self, or_true, true_or, or_false, false_or, false_and, and_false, ah_t_w, ah_m_w, ah_n_w, lst1_0, List.tail_cons, w32_i, mt_1036a hG.1, c_279 hG, e0]
    simpa [e0] using hQ _ hG Off_rfl
  · cases e1 : (zcr T nw || (zmv T nw).isEmpty)
    · cases e2 : ztc T nw
      · simp only [e0, e1, e2, false_or, if_false, Bool.false_eq_true] at hQ
        simp (disch := omega) only [q_324_0, b_324_0, q_324_16, b_324_16, q_324_25, b_324_25, ↓w_iconst, ↓w_aload_n_0, ↓w_istore_n_1, ↓w_istore_n_2, ↓w_getfield, ↓w_nop, ↓w_ifCond_eq, ↓w_ireturn0, ↓w_invokevirtual_0, stw_0, stw_i, stw_l, stw_r, ofK0, ofK1, ofK2, lst1, lst2, lkill, kont_none, kont_some, Int.reduceToNat, List.length_cons, List.length_nil, Nat.reduceAdd, Nat.reduceLeDiff, Nat.zero_le, true_and, and_true, if_true, if_false, ne_eq, Int.reduceEq, Int.reduceNeg, not_false_eq_true, not_true_eq_false, ↓reduceIte, Int.reduceLT, Int.reduceLE, and_self, or_true, true_or, or_false, false_or, false_and, and_false, ah_t_w, ah_m_w, ah_n_w, lst1_0, List.tail_cons, w32_i, mt_1036a hG.1, c_279 hG, c_325 hG, e0, e1, e2, zb_f]
        exact l_324 rfl hQ (zn T) 0 _ _ (by omega) (by omega) hG Off_rfl rfl
      · simp only [e0, e1, e2, false_or, if_false, if_true, Bool.false_eq_true] at hQ
        simp (disch := omega) only [q_324_0, b_324_0, q_324_16, b_324_16, q_324_25, b_324_25, ↓w_iconst, ↓w_aload_n_0, ↓w_istore_n_1, ↓w_istore_n_2, ↓w_getfield, ↓w_nop, ↓w_ifCond_eq, ↓w_ireturn0, ↓w_invokevirtual_0, stw_0, stw_i, stw_l, stw_r, ofK0, ofK1, ofK2, lst1, lst2, lkill, kont_none, kont_some, Int.reduceToNat, List.length_cons, List.length_nil, Nat.reduceAdd, Nat.reduceLeDiff, Nat.zero_le, true_and, and_true, if_true, if_false, ne_eq, Int.reduceEq, Int.reduceNeg, not_false_eq_true, not_true_eq_false, ↓reduceIte, Int.reduceLT, Int.reduceLE, and_self, or_true, true_or, or_false, false_or, false_and, and_false, ah_t_w, ah_m_w, ah_n_w, lst1_0, List.tail_cons, w32_i, mt_1036a hG.1, c_279 hG, c_325 hG, e0, e1, e2, zb_f, zb_t]
        exact hQ _ hG Off_rfl
    · simp only [e1, or_true, if_true] at hQ
      simp (disch := omega) only [q_324_0, b_324_0, q_324_14, b_324_14, ↓w_iconst, ↓w_aload_n_0, ↓w_getfield, ↓w_nop, ↓w_ifCond_eq, ↓w_ireturn0, ↓w_invokevirtual_0, stw_0, stw_i, stw_l, stw_r, ofK0, ofK1, ofK2, lst1, lst2, lkill, kont_none, kont_some, Int.reduceToNat, List.length_cons, List.length_nil, Nat.reduceAdd, Nat.reduceLeDiff, Nat.zero_le, true_and, and_true, if_true, if_false, ne_eq, Int.reduceEq, Int.reduceNeg, not_false_eq_true, not_true_eq_false, ↓reduceIte, Int.reduceLT, Int.reduceLE, and_self, or_true, true_or, or_false, false_or, false_and, and_false, ah_t_w, ah_m_w, ah_n_w, lst1_0, List.tail_cons, w32_i, mt_1036a hG.1, c_279 hG, e0, e1, zb_t]
      exact hQ _ hG Off_rfl
end M11
