/-! ===== M: moves chosen, ways, forced (printed by gen_59.py) ===== -/
def zch (h : AH) : Int × Int × Int := (ah_m h 1036 68, ah_m h 1036 69, ah_m h 1036 70)
/-- the best move: its number, who, whither (n moves looked at, the most so far) -/
def zcb (f : Int × Int → Int) : List (Int × Int) → Int → Int → Int × Int × Int → Int × Int × Int
  | [], _, _, c => c
  | x :: l, n, b, c => if c.1 = -1 ∨ b < f x then zcb f l (n + 1) (f x) (n, x.1, x.2) else zcb f l (n + 1) b c
def zpk : List (Int × Int) → Int → Int → Option (Int × Int)
  | [], _, _ => none
  | x :: l, n, w => if n = w then some x else zpk l (n + 1) w
def zsm (f : Int × Int → Int) : List (Int × Int) → Int → Int
  | [], a => a
  | x :: l, a => zsm f l (a + f x)
def zeqg (nw g : Int → Int) : Nat → Int → Bool
  | 0, _ => true
  | j + 1, i => if nw (2 + i) = g i then zeqg nw g j (i + 1) else false
def zwys (T : Int → Int → Int) (g : Int → Int) : Nat → (Int → Int) → Int
  | 0, nw => zb (zeqg nw g (2 * zn T) 0)
  | j + 1, nw => if zcr T nw = true then 0 else zsm (fun x => zwys T g j (zdo T nw x.1 x.2)) (zmv T nw) 0
/-- a crown of the other side can be taken -/
def ztc (T : Int → Int → Int) (nw : Int → Int) : Bool := zchk T nw (1 - nw 1)
def zfn (T : Int → Int → Int) (nw : Int → Int) : Bool := !(zmv T nw).isEmpty && (zmv T nw).all (fun x => !zcr T (zdo T nw x.1 x.2) && ztc T (zdo T nw x.1 x.2))
def zfo (T : Int → Int → Int) (nw : Int → Int) : Bool := (zmv T nw).any (fun x => !zcr T (zdo T nw x.1 x.2) && zfn T (zdo T nw x.1 x.2))
def Wc (r i : Int) : Prop := (1085 ≤ r ∧ r ≤ 1088) ∨ (r = 1036 ∧ 68 ≤ i ∧ i ≤ 70)
section M7
variable {d : Nat} {h h0 : AH} {Q : QQ} {x y z m k s l : Int} {T : Int → Int → Int} {nw g : Int → Int}
set_option maxHeartbeats 2000000
theorem Wc_f {r i : Int} (w : Wc r i) : fre r i ∧ ¬ (1072 ≤ r ∧ r ≤ 1083) := by unfold Wc at w; unfold fre; omega
theorem MG_f (hG : MG T nw h) (hk : 68 ≤ k ∧ k ≤ 73 ∨ k = 75 ∨ 77 ≤ k ∧ k ≤ 80 ∨ 84 ≤ k ∧ k ≤ 86 ∨ 1 ≤ k ∧ k ≤ 8 ∨ k = 59 ∨ k = 117 ∨ k = 118 ∨ k = 119 ∨ k = 121) : MG T nw (ah_w h 1036 k z) := MG_w hG (by unfold fre; omega)
/-! the best move -/
theorem l_323i {deep c J : Int} {dn : Nat} {R : Int × Int × Int} {rest : List (Int × Int)} (hd : deep - 1 = dn) (hd2 : dn ≤ 3) (hc : 0 ≤ c ∧ c < T 1072 4)
    (hout : ∀ tl b n h', 0 ≤ n → n ≤ 25 * (c + 1) → MG T nw h' → Off Wc h h' → zcb (fun x => -zval T dn (zdo T nw x.1 x.2)) rest n b (zch h') = R → wpB (d + 8) 323 137 (some (.inr (.inr 1036)) :: some (.inl deep) :: some (.inl b) :: some (.inl n) :: some (.inl c) :: tl) [] h' Q) :
    ∀ (j : Nat) (k b n : Int) tl h', 0 ≤ k → k + j = zP T → 0 ≤ n → n ≤ 25 * c + k → MG T nw h' → Off Wc h h' → zcb (fun x => -zval T dn (zdo T nw x.1 x.2)) ((if zs T c = nw 1 then zmk T nw c j k else []) ++ rest) n b (zch h') = R → wpB (d + 8) 323 32 (some (.inr (.inr 1036)) :: some (.inl deep) :: some (.inl b) :: some (.inl n) :: some (.inl c) :: some (.inl k) :: tl) [] h' Q := by
  intro j
  induction j with
  | zero =>
    intro k b n tl h' h0 h1 n1 n2 hG hO hR
    have hlt : ¬ k < (zP T : Int) := by omega
    have hP := zP_b hG
    have hPi := zP_i hG
    simp (disch := omega) only [q_323_32, b_323_32, ↓w_iconst, ↓w_aload_n_0, ↓w_iload_4, ↓w_iload_5, ↓w_getfield, ↓w_iaload, ↓w_goto, ↓w_ifCond_ne, ↓w_if_icmp_ne, ↓w_if_icmp_ge, ↓w_invokevirtual_0, ↓w_invokevirtual_1, ↓w_invokevirtual_2, stw_0, stw_i, stw_l, stw_r, ofK0, ofK1, ofK2, lst1, lst2, lkill, kont_none, kont_some, Int.reduceToNat, List.length_cons, List.length_nil, Nat.reduceAdd, Nat.reduceLeDiff, Nat.zero_le, true_and, and_true, if_true, if_false, ne_eq, Int.reduceEq, Int.reduceNeg, not_false_eq_true, not_true_eq_false, ↓reduceIte, Int.reduceLT, Int.reduceLE, and_self, or_true, true_or, or_false, false_or, false_and, and_false, ah_t_w, ah_m_w, ah_n_w, mt_1036a hG.1, mt_1083a hG.1, mt_1083b hG.1, mf_62 hG.1, c_289 hG, hlt]
    refine hout _ _ _ _ n1 (by omega) hG hO ?_
    rw [← hR]; split <;> rfl
  | succ j ih =>
    intro k b n tl h' h0 h1 n1 n2 hG hO hR
    have h8 := hG.2.2.2.1.2.1
    have hP := zP_b hG
    have hPi := zP_i hG
    have hlt : k < (zP T : Int) := by omega
    rw [q_323_32]
    by_cases e1 : zs T c = nw 1
    · simp only [e1, if_true] at hR ih
      cases e2 : zG T nw c k
      · simp (disch := omega) only [q_323_131, b_323_131, b_323_32, ↓w_iconst, ↓w_aload_n_0, ↓w_iload_4, ↓w_iload_5, ↓w_iinc_5, ↓w_getfield, ↓w_iaload, ↓w_goto, ↓w_ifCond_ne, ↓w_if_icmp_ne, ↓w_if_icmp_ge, ↓w_invokevirtual_0, ↓w_invokevirtual_1, ↓w_invokevirtual_2, stw_0, stw_i, stw_l, stw_r, ofK0, ofK1, ofK2, lst1, lst2, lkill, kont_none, kont_some, Int.reduceToNat, List.length_cons, List.length_nil, Nat.reduceAdd, Nat.reduceLeDiff, Nat.zero_le, true_and, and_true, if_true, if_false, ne_eq, Int.reduceEq, Int.reduceNeg, not_false_eq_true, not_true_eq_false, ↓reduceIte, Int.reduceLT, Int.reduceLE, and_self, or_true, true_or, or_false, false_or, false_and, and_false, ah_t_w, ah_m_w, ah_n_w, mt_1036a hG.1, mt_1083a hG.1, mt_1083b hG.1, mf_62 hG.1, g_1083 hG, c_289 hG, c_287 hG, c_290 hG, zb_f, hlt, e1, e2, w32_i]
        refine ih (k + 1) _ _ _ _ (by omega) (by omega) n1 (by omega) hG hO ?_
        rw [← hR]; simp [zmk, e2]
      · simp (disch := omega) only [q_323_70, b_323_70, b_323_32, ↓w_iconst, ↓w_aload_n_0, ↓w_iload_n_1, ↓w_iload_n_2, ↓w_iload_4, ↓w_iload_5, ↓w_iload_6, ↓w_istore, ↓w_isub, ↓w_ineg, ↓w_getfield, ↓w_iaload, ↓w_nop, ↓w_goto, ↓w_if_icmp_eq, ↓w_ifCond_ne, ↓w_if_icmp_ne, ↓w_if_icmp_ge, ↓w_if_icmp_le, ↓w_invokevirtual_0, ↓w_invokevirtual_1, ↓w_invokevirtual_2, ↓w_invokevirtual_3, stw_0, stw_i, stw_l, stw_r, ofK0, ofK1, ofK2, lst1, lst2, lkill, kont_none, kont_some, Int.reduceToNat, List.length_cons, List.length_nil, Nat.reduceAdd, Nat.reduceLeDiff, Nat.zero_le, true_and, and_true, if_true, if_false, ne_eq, Int.reduceEq, Int.reduceNeg, not_false_eq_true, not_true_eq_false, ↓reduceIte, Int.reduceLT, Int.reduceLE, and_self, or_true, true_or, or_false, false_or, false_and, and_false, ah_t_w, ah_m_w, ah_n_w, mt_1036a hG.1, mt_1083a hG.1, mt_1083b hG.1, mf_62 hG.1, g_1083 hG, c_289 hG, c_287 hG, c_290 hG, zb_t, hlt, e1, e2]
        refine c_309 hG hc.1 (by omega) h0 hlt (by decide) (by decide) (fun h1' hD => ?_)
        have hG1 := MG_do hG hc.1 hc.2 h0 hlt hD
        simp (disch := omega) only [b_323_70, ↓w_iconst, ↓w_aload_n_0, ↓w_iload_n_1, ↓w_iload_n_2, ↓w_iload_4, ↓w_iload_5, ↓w_iload_6, ↓w_istore, ↓w_isub, ↓w_ineg, ↓w_getfield, ↓w_nop, ↓w_if_icmp_eq, ↓w_if_icmp_le, ↓w_invokevirtual_1, ↓w_invokevirtual_3, stw_0, stw_i, stw_l, stw_r, ofK0, ofK1, ofK2, lst1, lst2, lkill, kont_none, kont_some, Int.reduceToNat, List.length_cons, List.length_nil, Nat.reduceAdd, Nat.reduceLeDiff, Nat.zero_le, true_and, and_true, if_true, if_false, ne_eq, Int.reduceEq, Int.reduceNeg, not_false_eq_true, not_true_eq_false, ↓reduceIte, Int.reduceLT, Int.reduceLE, and_self, or_true, true_or, or_false, false_or, false_and, and_false, ah_t_w, ah_m_w, ah_n_w, mt_1036a hG1.1, w32_i]
        refine v_by hG1 hd hd2 (fun h2 hG2 hO2 => ?_)
        have hv := zval_b hG.2.2.2.1 dn (zdo T nw c k)
        simp (disch := omega) only [b_323_70, ↓w_iconst, ↓w_aload_n_0, ↓w_iload_n_1, ↓w_iload_n_2, ↓w_iload_4, ↓w_iload_5, ↓w_iload_6, ↓w_istore, ↓w_isub, ↓w_ineg, ↓w_getfield, ↓w_nop, ↓w_if_icmp_eq, ↓w_if_icmp_le, ↓w_invokevirtual_1, ↓w_invokevirtual_3, stw_0, stw_i, stw_l, stw_r, ofK0, ofK1, ofK2, lst1, lst2, lkill, kont_none, kont_some, Int.reduceToNat, List.length_cons, List.length_nil, Nat.reduceAdd, Nat.reduceLeDiff, Nat.zero_le, true_and, and_true, if_true, if_false, ne_eq, Int.reduceEq, Int.reduceNeg, not_false_eq_true, not_true_eq_false, ↓reduceIte, Int.reduceLT, Int.reduceLE, and_self, or_true, true_or, or_false, false_or, false_and, and_false, ah_t_w, ah_m_w, ah_n_w, mt_1036a hG2.1, w32_i, lst1_0]
        have dd : ah_m h2 1085 0 = c ∧ ah_m h2 1088 0 = zat T nw (k % T 1074 4) (k / T 1074 4) := by
          rw [hO2.2 _ _ (by unfold Wv; omega), hO2.2 _ _ (by unfold Wv; omega)]
          exact ⟨hD.2.1, hD.2.2.2.2.1⟩
        have hb := @zat_b h' (k % T 1074 4) (k / T 1074 4) T nw hG
        refine c_311 hG2.1 (by decide) (by decide) (by rw [dd.1]; omega) (by rw [dd.2]; omega) (by rw [g_1083 hG2]; have := hG2.2.2.2.2.2.2.2; omega) (fun h3 e3 hO3 => ?_)
        obtain ⟨e4, hO4⟩ := DO_back hc.1 hD hO2 (fun i w => by unfold Wv at w; omega) (fun r w => by unfold Wv at w; omega) e3 hO3 (g_1083 hG)
        have hO5 : Off Wc h' h3 := Off_mono (fun r i w => by unfold Wv Wd at w; unfold Wc; omega) hO4
        have hG3 : MG T nw h3 := MG_off hG hO5 (fun r i w => Wc_f w)
        have hO6 := Off_tr hO hO5
        have ech : ∀ i, ah_m h3 1036 i = ah_m h' 1036 i := fun i => hO4.2 _ _ (fun w => by unfold Wv Wd at w; omega)
        simp only [zmk, e2, if_true, List.cons_append, zcb] at hR
        have take : ((zch h').1 = -1 ∨ b < -zval T dn (zdo T nw c k)) → wpB (d + 8) 323 108 (some (Sum.inr (Sum.inr 1036)) :: some (Sum.inl deep) :: some (Sum.inl b) :: some (Sum.inl n) :: some (Sum.inl c) :: some (Sum.inl k) :: some (Sum.inl (-zval T dn (zdo T nw c k))) :: tl.tail) [] h3 Q := by
          intro hor
          simp (disch := omega) only [q_323_108, b_323_108, q_323_128, b_323_128, q_323_131, b_323_131, ↓w_aload_n_0, ↓w_iload_n_3, ↓w_iinc_3, ↓w_iload_4, ↓w_iload_5, ↓w_iinc_5, ↓w_iload_6, ↓w_istore_n_2, ↓w_putfield_0, ↓w_nop, ↓w_goto, stw_0, stw_i, stw_l, stw_r, ofK0, ofK1, ofK2, lst1, lst2, lkill, kont_none, kont_some, Int.reduceToNat, List.length_cons, List.length_nil, Nat.reduceAdd, Nat.reduceLeDiff, Nat.zero_le, true_and, and_true, if_true, if_false, ne_eq, Int.reduceEq, Int.reduceNeg, not_false_eq_true, not_true_eq_false, ↓reduceIte, Int.reduceLT, Int.reduceLE, and_self, or_true, true_or, or_false, false_or, false_and, and_false, ah_t_w, ah_m_w, ah_n_w, mt_1036a hG3.1, w32_i]
          refine ih (k + 1) _ _ _ _ (by omega) (by omega) (by omega) (by omega) (MG_f (MG_f (MG_f hG3 (by decide)) (by decide)) (by decide)) (Off_w (Off_w (Off_w hO6 (by unfold Wc; omega)) (by unfold Wc; omega)) (by unfold Wc; omega)) ?_
          rw [if_pos hor] at hR
          exact hR
        by_cases e5 : ah_m h' 1036 68 = -1
        · simp (disch := omega) only [b_323_70, ↓w_iconst, ↓w_aload_n_0, ↓w_iload_n_1, ↓w_iload_n_2, ↓w_iload_4, ↓w_iload_5, ↓w_iload_6, ↓w_istore, ↓w_isub, ↓w_ineg, ↓w_getfield, ↓w_nop, ↓w_if_icmp_eq, ↓w_if_icmp_le, ↓w_invokevirtual_1, ↓w_invokevirtual_3, stw_0, stw_i, stw_l, stw_r, ofK0, ofK1, ofK2, lst1, lst2, lkill, kont_none, kont_some, Int.reduceToNat, List.length_cons, List.length_nil, Nat.reduceAdd, Nat.reduceLeDiff, Nat.zero_le, true_and, and_true, if_true, if_false, ne_eq, Int.reduceEq, Int.reduceNeg, not_false_eq_true, not_true_eq_false, ↓reduceIte, Int.reduceLT, Int.reduceLE, and_self, or_true, true_or, or_false, false_or, false_and, and_false, ah_t_w, ah_m_w, ah_n_w, mt_1036a hG3.1, w32_i, ech, e5]
          exact take (Or.inl e5)
        · by_cases e6 : b < -zval T dn (zdo T nw c k)
          · simp (disch := omega) only [b_323_70, ↓w_iconst, ↓w_aload_n_0, ↓w_iload_n_1, ↓w_iload_n_2, ↓w_iload_4, ↓w_iload_5, ↓w_iload_6, ↓w_istore, ↓w_isub, ↓w_ineg, ↓w_getfield, ↓w_nop, ↓w_if_icmp_eq, ↓w_if_icmp_le, ↓w_invokevirtual_1, ↓w_invokevirtual_3, stw_0, stw_i, stw_l, stw_r, ofK0, ofK1, ofK2, lst1, lst2, lkill, kont_none, kont_some, Int.reduceToNat, List.length_cons, List.length_nil, Nat.reduceAdd, Nat.reduceLeDiff, Nat.zero_le, true_and, and_true, if_true, if_false, ne_eq, Int.reduceEq, Int.reduceNeg, not_false_eq_true, not_true_eq_false, ↓reduceIte, Int.reduceLT, Int.reduceLE, and_self, or_true, true_or, or_false, false_or, false_and, and_false, ah_t_w, ah_m_w, ah_n_w, mt_1036a hG3.1, w32_i, ech, e5, e6]
            exact take (Or.inr e6)
          · simp (disch := omega) only [q_323_128, b_323_128, q_323_131, b_323_131, b_323_70, ↓w_iconst, ↓w_aload_n_0, ↓w_iload_n_1, ↓w_iload_n_2, ↓w_iinc_3, ↓w_iload_4, ↓w_iload_5, ↓w_iinc_5, ↓w_iload_6, ↓w_istore, ↓w_isub, ↓w_ineg, ↓w_getfield, ↓w_nop, ↓w_goto, ↓w_if_icmp_eq, ↓w_if_icmp_le, ↓w_invokevirtual_1, ↓w_invokevirtual_3, stw_0, stw_i, stw_l, stw_r, ofK0, ofK1, ofK2, lst1, lst2, lkill, kont_none, kont_some, Int.reduceToNat, List.length_cons, List.length_nil, Nat.reduceAdd, Nat.reduceLeDiff, Nat.zero_le, true_and, and_true, if_true, if_false, ne_eq, Int.reduceEq, Int.reduceNeg, not_false_eq_true, not_true_eq_false, ↓reduceIte, Int.reduceLT, Int.reduceLE, and_self, or_true, true_or, or_false, false_or, false_and, and_false, ah_t_w, ah_m_w, ah_n_w, mt_1036a hG3.1, w32_i, ech, e5, e6]
            refine ih (k + 1) _ _ _ _ (by omega) (by omega) (by omega) (by omega) hG3 hO6 ?_
            rw [if_neg (fun q => q.elim e5 e6)] at hR
            have : zch h3 = zch h' := by unfold zch; rw [ech, ech, ech]
            rw [this]; exact hR
    · simp only [e1, if_false, List.nil_append] at hR ih
      simp (disch := omega) only [q_323_131, b_323_131, b_323_32, ↓w_iconst, ↓w_aload_n_0, ↓w_iload_4, ↓w_iload_5, ↓w_iinc_5, ↓w_getfield, ↓w_iaload, ↓w_goto, ↓w_ifCond_ne, ↓w_if_icmp_ne, ↓w_if_icmp_ge, ↓w_invokevirtual_0, ↓w_invokevirtual_1, ↓w_invokevirtual_2, stw_0, stw_i, stw_l, stw_r, ofK0, ofK1, ofK2, lst1, lst2, lkill, kont_none, kont_some, Int.reduceToNat, List.length_cons, List.length_nil, Nat.reduceAdd, Nat.reduceLeDiff, Nat.zero_le, true_and, and_true, if_true, if_false, ne_eq, Int.reduceEq, Int.reduceNeg, not_false_eq_true, not_true_eq_false, ↓reduceIte, Int.reduceLT, Int.reduceLE, and_self, or_true, true_or, or_false, false_or, false_and, and_false, ah_t_w, ah_m_w, ah_n_w, mt_1036a hG.1, mt_1083a hG.1, mt_1083b hG.1, mf_62 hG.1, g_1083 hG, c_289 hG, c_287 hG, hlt, e1, w32_i]
      exact ih (k + 1) _ _ _ _ (by omega) (by omega) n1 (by omega) hG hO hR
theorem l_323 {deep : Int} {dn : Nat} {R : Int × Int × Int} (hd : deep - 1 = dn) (hd2 : dn ≤ 3) (hQ : ∀ h', MG T nw h' → Off Wc h h' → zch h' = R → Q (.inl none) h') :
    ∀ (j : Nat) (c b n : Int) tl h', 0 ≤ c → c + j = T 1072 4 → 0 ≤ n → n ≤ 25 * c → MG T nw h' → Off Wc h h' → zcb (fun x => -zval T dn (zdo T nw x.1 x.2)) (zmm T nw (nw 1) j c) n b (zch h') = R → wpB (d + 8) 323 20 (some (.inr (.inr 1036)) :: some (.inl deep) :: some (.inl b) :: some (.inl n) :: some (.inl c) :: tl) [] h' Q := by
  intro j
  induction j with
  | zero =>
    intro c b n tl h' h0 h1 n1 n2 hG hO hR
    have hlt : ¬ c < T 1072 4 := by omega
    simp (disch := omega) only [q_323_20, b_323_20, q_323_143, b_323_143, ↓w_iconst, ↓w_aload_n_0, ↓w_iload_4, ↓w_istore, ↓w_nop, ↓w_if_icmp_ge, ↓w_return, ↓w_invokevirtual_0, stw_0, stw_i, stw_l, stw_r, ofK0, ofK1, ofK2, lst1, lst2, lkill, kont_none, kont_some, Int.reduceToNat, List.length_cons, List.length_nil, Nat.reduceAdd, Nat.reduceLeDiff, Nat.zero_le, true_and, and_true, if_true, if_false, ne_eq, Int.reduceEq, Int.reduceNeg, not_false_eq_true, not_true_eq_false, ↓reduceIte, Int.reduceLT, Int.reduceLE, and_self, or_true, true_or, or_false, false_or, false_and, and_false, ah_t_w, ah_m_w, ah_n_w, mt_1036a hG.1, c_281 hG, hlt]
    exact hQ _ hG hO hR
  | succ j ih =>
    intro c b n tl h' h0 h1 n1 n2 hG hO hR
    have h8 := hG.2.2.2.1.2.1
    have hPi := zP_i hG
    have hlt : c < T 1072 4 := by omega
    simp (disch := omega) only [q_323_20, b_323_20, ↓w_iconst, ↓w_aload_n_0, ↓w_iload_4, ↓w_istore, ↓w_nop, ↓w_if_icmp_ge, ↓w_invokevirtual_0, stw_0, stw_i, stw_l, stw_r, ofK0, ofK1, ofK2, lst1, lst2, lkill, kont_none, kont_some, Int.reduceToNat, List.length_cons, List.length_nil, Nat.reduceAdd, Nat.reduceLeDiff, Nat.zero_le, true_and, and_true, if_true, if_false, ne_eq, Int.reduceEq, Int.reduceNeg, not_false_eq_true, not_true_eq_false, ↓reduceIte, Int.reduceLT, Int.reduceLE, and_self, or_true, true_or, or_false, false_or, false_and, and_false, ah_t_w, ah_m_w, ah_n_w, mt_1036a hG.1, c_281 hG, hlt, lst1_0]
    refine l_323i (J := 0) hd hd2 ⟨h0, hlt⟩ (fun tl b n h'' n1 n2 hG2 hO2 hR2 => ?_) (zP T) 0 _ _ _ _ (by omega) (by omega) n1 (by omega) hG hO hR
    simp (disch := omega) only [q_323_137, b_323_137, ↓w_iinc_4, ↓w_goto, stw_0, stw_i, stw_l, stw_r, ofK0, ofK1, ofK2, lst1, lst2, lkill, kont_none, kont_some, Int.reduceToNat, List.length_cons, List.length_nil, Nat.reduceAdd, Nat.reduceLeDiff, Nat.zero_le, true_and, and_true, if_true, if_false, ne_eq, Int.reduceEq, Int.reduceNeg, not_false_eq_true, not_true_eq_false, ↓reduceIte, Int.reduceLT, Int.reduceLE, and_self, or_true, true_or, or_false, false_or, false_and, and_false, ah_t_w, ah_m_w, ah_n_w, w32_i]
    exact ih (c + 1) _ _ _ _ (by omega) (by omega) n1 (by omega) hG2 hO2 hR2
/-- what choosesBest leaves -/
def zbe (T : Int → Int → Int) (nw : Int → Int) (dn : Nat) (a b : Int) : Int × Int × Int := if zcr T nw = true then (-1, a, b) else zcb (fun x => -zval T dn (zdo T nw x.1 x.2)) (zmv T nw) 0 0 (-1, a, b)
theorem c_323 {deep : Int} {dn : Nat} (hG : MG T nw h) (hd : deep - 1 = dn) (hd2 : dn ≤ 3) (hQ : ∀ h', MG T nw h' → Off Wc h h' → zch h' = zbe T nw dn (ah_m h 1036 69) (ah_m h 1036 70) → Q (.inl none) h') : wpC (d + 9) 323 [.inr (.inr 1036), .inl deep] h Q := by
  have hn := zn_i hG
  have h8 := hG.2.2.2.1.2.1
  have hG1 : ∀ z, MG T nw (ah_w h 1036 68 z) := fun z => MG_f hG (by decide)
  have hO1 : ∀ z, Off Wc h (ah_w h 1036 68 z) := fun z => Off_w Off_rfl (by unfold Wc; omega)
  unfold zbe at hQ
  rw [wpC_B]; refine ⟨⟨Nat.zero_lt_succ _, Nat.le_of_ble_eq_true rfl⟩, ?_⟩; simp only [lent]
  cases e : zcr T nw
  · simp (disch := omega) only [q_323_0, b_323_0, q_323_13, b_323_13, ↓w_iconst, ↓w_aload_n_0, ↓w_istore, ↓w_istore_n_2, ↓w_istore_n_3, ↓w_putfield_0, ↓w_nop, ↓w_ifCond_eq, ↓w_return, ↓w_invokevirtual_0, stw_0, stw_i, stw_l, stw_r, ofK0, ofK1, ofK2, lst1, lst2, lkill, kont_none, kont_some, Int.reduceToNat, List.length_cons, List.length_nil, Nat.reduceAdd, Nat.reduceLeDiff, Nat.zero_le, true_and, and_true, if_true, if_false, ne_eq, Int.reduceEq, Int.reduceNeg, not_false_eq_true, not_true_eq_false, ↓reduceIte, Int.reduceLT, Int.reduceLE, and_self, or_true, true_or, or_false, false_or, false_and, and_false, ah_t_w, ah_m_w, ah_n_w, mt_1036a hG.1, c_280 (hG1 _), e, zb_f]
    rw [e] at hQ
    refine l_323 hd hd2 hQ (zn T) 0 _ _ _ _ (by omega) (by omega) (by omega) (by omega) (hG1 _) (hO1 _) rfl
  · simp (disch := omega) only [q_323_0, b_323_0, ↓w_iconst, ↓w_aload_n_0, ↓w_putfield_0, ↓w_ifCond_eq, ↓w_return, ↓w_invokevirtual_0, stw_0, stw_i, stw_l, stw_r, ofK0, ofK1, ofK2, lst1, lst2, lkill, kont_none, kont_some, Int.reduceToNat, List.length_cons, List.length_nil, Nat.reduceAdd, Nat.reduceLeDiff, Nat.zero_le, true_and, and_true, if_true, if_false, ne_eq, Int.reduceEq, Int.reduceNeg, not_false_eq_true, not_true_eq_false, ↓reduceIte, Int.reduceLT, Int.reduceLE, and_self, or_true, true_or, or_false, false_or, false_and, and_false, ah_t_w, ah_m_w, ah_n_w, mt_1036a hG.1, c_280 (hG1 _), e, zb_t]
    rw [e] at hQ
    exact hQ _ (hG1 _) (hO1 _) rfl
/-! a move by its number -/
def Wh (r i : Int) : Prop := r = 1036 ∧ 68 ≤ i ∧ i ≤ 70
theorem Wh_f {r i : Int} (w : Wh r i) : fre r i ∧ ¬ (1072 ≤ r ∧ r ≤ 1083) := by unfold Wh at w; unfold fre; omega
theorem l_308i {w c : Int} {R : Int × Int × Int} {rest : List (Int × Int)} (hw : 0 ≤ w) (hc : 0 ≤ c ∧ c < T 1072 4)
    (hfin : ∀ tl n c h', MG T nw h' → Off Wh h h' → zch h' = R → ah_m h' 1036 68 ≠ -1 → -1 ≤ c → c ≤ 100 → wpB (d + 4) 308 21 (some (.inr (.inr 1036)) :: some (.inl w) :: some (.inl n) :: some (.inl c) :: tl) [] h' Q)
    (hout : ∀ tl n h', 0 ≤ n → n ≤ 25 * (c + 1) → MG T nw h' → Off Wh h h' → ah_m h' 1036 68 = -1 → (match zpk rest n w with | none => zch h' | some x => (w, x.1, x.2)) = R → wpB (d + 4) 308 114 (some (.inr (.inr 1036)) :: some (.inl w) :: some (.inl n) :: some (.inl c) :: tl) [] h' Q) :
    ∀ (j : Nat) (k n : Int) tl h', 0 ≤ k → k + j = zP T → 0 ≤ n → n ≤ 25 * c + k → MG T nw h' → Off Wh h h' → ah_m h' 1036 68 = -1 → (match zpk ((if zs T c = nw 1 then zmk T nw c j k else []) ++ rest) n w with | none => zch h' | some x => (w, x.1, x.2)) = R → wpB (d + 4) 308 40 (some (.inr (.inr 1036)) :: some (.inl w) :: some (.inl n) :: some (.inl c) :: some (.inl k) :: tl) [] h' Q := by
  intro j
  induction j with
  | zero =>
    intro k n tl h' h0 h1 n1 n2 hG hO hn hR
    have hlt : ¬ k < (zP T : Int) := by omega
    have hP := zP_b hG
    have hPi := zP_i hG
    simp (disch := omega) only [q_308_40, b_308_40, ↓w_iconst, ↓w_aload_n_0, ↓w_iload_n_3, ↓w_iload_4, ↓w_getfield, ↓w_iaload, ↓w_goto, ↓w_ifCond_ne, ↓w_if_icmp_ne, ↓w_if_icmp_ge, ↓w_invokevirtual_0, ↓w_invokevirtual_1, ↓w_invokevirtual_2, stw_0, stw_i, stw_l, stw_r, ofK0, ofK1, ofK2, lst1, lst2, lkill, kont_none, kont_some, Int.reduceToNat, List.length_cons, List.length_nil, Nat.reduceAdd, Nat.reduceLeDiff, Nat.zero_le, true_and, and_true, if_true, if_false, ne_eq, Int.reduceEq, Int.reduceNeg, not_false_eq_true, not_true_eq_false, ↓reduceIte, Int.reduceLT, Int.reduceLE, and_self, or_true, true_or, or_false, false_or, false_and, and_false, ah_t_w, ah_m_w, ah_n_w, mt_1036a hG.1, mt_1083a hG.1, mt_1083b hG.1, mf_62 hG.1, c_289 hG, hlt]
    refine hout _ _ _ n1 (by omega) hG hO hn ?_
    rw [← hR]; split <;> (split <;> simp_all [zmk])
  | succ j ih =>
    intro k n tl h' h0 h1 n1 n2 hG hO hn hR
    have h8 := hG.2.2.2.1.2.1
    have hP := zP_b hG
    have hPi := zP_i hG
    have hlt : k < (zP T : Int) := by omega
    rw [q_308_40]
    by_cases e1 : zs T c = nw 1
    · simp only [e1, if_true] at hR ih
      cases e2 : zG T nw c k
      · simp (disch := omega) only [q_308_108, b_308_108, b_308_40, ↓w_iconst, ↓w_aload_n_0, ↓w_iload_n_3, ↓w_iload_4, ↓w_iinc_4, ↓w_getfield, ↓w_iaload, ↓w_goto, ↓w_ifCond_ne, ↓w_if_icmp_ne, ↓w_if_icmp_ge, ↓w_invokevirtual_0, ↓w_invokevirtual_1, ↓w_invokevirtual_2, stw_0, stw_i, stw_l, stw_r, ofK0, ofK1, ofK2, lst1, lst2, lkill, kont_none, kont_some, Int.reduceToNat, List.length_cons, List.length_nil, Nat.reduceAdd, Nat.reduceLeDiff, Nat.zero_le, true_and, and_true, if_true, if_false, ne_eq, Int.reduceEq, Int.reduceNeg, not_false_eq_true, not_true_eq_false, ↓reduceIte, Int.reduceLT, Int.reduceLE, and_self, or_true, true_or, or_false, false_or, false_and, and_false, ah_t_w, ah_m_w, ah_n_w, mt_1036a hG.1, mt_1083a hG.1, mt_1083b hG.1, mf_62 hG.1, g_1083 hG, c_289 hG, c_287 hG, c_290 hG, zb_f, hlt, e1, e2, hn, w32_i]
        refine ih (k + 1) _ _ _ (by omega) (by omega) n1 (by omega) hG hO hn ?_
        rw [← hR]; simp [zmk, e2]
      · simp only [zmk, e2, if_true, List.cons_append, zpk] at hR
        by_cases e3 : n = w
        · rw [if_pos e3] at hR
          simp (disch := omega) only [q_308_84, b_308_84, q_308_105, b_308_105, q_308_108, b_308_108, b_308_40, ↓w_iconst, ↓w_aload_n_0, ↓w_iload_n_1, ↓w_iload_n_2, ↓w_iinc_2, ↓w_iload_n_3, ↓w_iload_4, ↓w_iinc_4, ↓w_getfield, ↓w_putfield_0, ↓w_iaload, ↓w_nop, ↓w_goto, ↓w_ifCond_ne, ↓w_if_icmp_ne, ↓w_if_icmp_ge, ↓w_invokevirtual_0, ↓w_invokevirtual_1, ↓w_invokevirtual_2, stw_0, stw_i, stw_l, stw_r, ofK0, ofK1, ofK2, lst1, lst2, lkill, kont_none, kont_some, Int.reduceToNat, List.length_cons, List.length_nil, Nat.reduceAdd, Nat.reduceLeDiff, Nat.zero_le, true_and, and_true, if_true, if_false, ne_eq, Int.reduceEq, Int.reduceNeg, not_false_eq_true, not_true_eq_false, ↓reduceIte, Int.reduceLT, Int.reduceLE, and_self, or_true, true_or, or_false, false_or, false_and, and_false, ah_t_w, ah_m_w, ah_n_w, mt_1036a hG.1, mt_1083a hG.1, mt_1083b hG.1, mf_62 hG.1, g_1083 hG, c_289 hG, c_287 hG, c_290 hG, zb_t, hlt, e1, e2, hn, w32_i, e3]
          rw [q_308_40]
          have hG2 := MG_f (z := k) (MG_f (z := c) (MG_f (z := w) hG (Or.inl ⟨by decide, by decide⟩ : 68 ≤ (68 : Int) ∧ (68 : Int) ≤ 73 ∨ _)) (Or.inl ⟨by decide, by decide⟩ : 68 ≤ (69 : Int) ∧ (69 : Int) ≤ 73 ∨ _)) (Or.inl ⟨by decide, by decide⟩ : 68 ≤ (70 : Int) ∧ (70 : Int) ≤ 73 ∨ _)
          have hO2 : Off Wh h (ah_w (ah_w (ah_w h' 1036 68 w) 1036 69 c) 1036 70 k) := Off_w (Off_w (Off_w hO (by unfold Wh; omega)) (by unfold Wh; omega)) (by unfold Wh; omega)
          have e4 : ah_m (ah_w (ah_w (ah_w h' 1036 68 w) 1036 69 c) 1036 70 k) 1036 68 = w := rfl
          have e5 : (w = -1) = False := by simp; omega
          by_cases e6 : k + 1 < (zP T : Int)
          · simp (disch := omega) only [q_308_114, b_308_114, b_308_40, ↓w_iconst, ↓w_aload_n_0, ↓w_iload_n_3, ↓w_iinc_3, ↓w_iload_4, ↓w_getfield, ↓w_iaload, ↓w_goto, ↓w_ifCond_ne, ↓w_if_icmp_ne, ↓w_if_icmp_ge, ↓w_invokevirtual_0, ↓w_invokevirtual_1, ↓w_invokevirtual_2, stw_0, stw_i, stw_l, stw_r, ofK0, ofK1, ofK2, lst1, lst2, lkill, kont_none, kont_some, Int.reduceToNat, List.length_cons, List.length_nil, Nat.reduceAdd, Nat.reduceLeDiff, Nat.zero_le, true_and, and_true, if_true, if_false, ne_eq, Int.reduceEq, Int.reduceNeg, not_false_eq_true, not_true_eq_false, ↓reduceIte, Int.reduceLT, Int.reduceLE, and_self, or_true, true_or, or_false, false_or, false_and, and_false, ah_t_w, ah_m_w, ah_n_w, mt_1036a hG.1, mt_1083a hG.1, mt_1083b hG.1, mf_62 hG.1, c_289 hG2, e6, e5, w32_i]
            exact hfin _ _ _ _ hG2 hO2 hR (by rw [e4]; omega) (by omega) (by omega)
          · simp (disch := omega) only [q_308_114, b_308_114, b_308_40, ↓w_iconst, ↓w_aload_n_0, ↓w_iload_n_3, ↓w_iinc_3, ↓w_iload_4, ↓w_getfield, ↓w_iaload, ↓w_goto, ↓w_ifCond_ne, ↓w_if_icmp_ne, ↓w_if_icmp_ge, ↓w_invokevirtual_0, ↓w_invokevirtual_1, ↓w_invokevirtual_2, stw_0, stw_i, stw_l, stw_r, ofK0, ofK1, ofK2, lst1, lst2, lkill, kont_none, kont_some, Int.reduceToNat, List.length_cons, List.length_nil, Nat.reduceAdd, Nat.reduceLeDiff, Nat.zero_le, true_and, and_true, if_true, if_false, ne_eq, Int.reduceEq, Int.reduceNeg, not_false_eq_true, not_true_eq_false, ↓reduceIte, Int.reduceLT, Int.reduceLE, and_self, or_true, true_or, or_false, false_or, false_and, and_false, ah_t_w, ah_m_w, ah_n_w, mt_1036a hG.1, mt_1083a hG.1, mt_1083b hG.1, mf_62 hG.1, c_289 hG2, e6, e5, w32_i]
            exact hfin _ _ _ _ hG2 hO2 hR (by rw [e4]; omega) (by omega) (by omega)
        · rw [if_neg e3] at hR
          simp (disch := omega) only [q_308_84, b_308_84, q_308_105, b_308_105, q_308_108, b_308_108, b_308_40, ↓w_iconst, ↓w_aload_n_0, ↓w_iload_n_1, ↓w_iload_n_2, ↓w_iinc_2, ↓w_iload_n_3, ↓w_iload_4, ↓w_iinc_4, ↓w_getfield, ↓w_putfield_0, ↓w_iaload, ↓w_nop, ↓w_goto, ↓w_ifCond_ne, ↓w_if_icmp_ne, ↓w_if_icmp_ge, ↓w_invokevirtual_0, ↓w_invokevirtual_1, ↓w_invokevirtual_2, stw_0, stw_i, stw_l, stw_r, ofK0, ofK1, ofK2, lst1, lst2, lkill, kont_none, kont_some, Int.reduceToNat, List.length_cons, List.length_nil, Nat.reduceAdd, Nat.reduceLeDiff, Nat.zero_le, true_and, and_true, if_true, if_false, ne_eq, Int.reduceEq, Int.reduceNeg, not_false_eq_true, not_true_eq_false, ↓reduceIte, Int.reduceLT, Int.reduceLE, and_self, or_true, true_or, or_false, false_or, false_and, and_false, ah_t_w, ah_m_w, ah_n_w, mt_1036a hG.1, mt_1083a hG.1, mt_1083b hG.1, mf_62 hG.1, g_1083 hG, c_289 hG, c_287 hG, c_290 hG, zb_t, hlt, e1, e2, hn, w32_i, e3]
          exact ih (k + 1) _ _ _ (by omega) (by omega) (by omega) (by omega) hG hO hn hR
    · simp only [e1, if_false, List.nil_append] at hR ih
      simp (disch := omega) only [q_308_108, b_308_108, b_308_40, ↓w_iconst, ↓w_aload_n_0, ↓w_iload_n_3, ↓w_iload_4, ↓w_iinc_4, ↓w_getfield, ↓w_iaload, ↓w_goto, ↓w_ifCond_ne, ↓w_if_icmp_ne, ↓w_if_icmp_ge, ↓w_invokevirtual_0, ↓w_invokevirtual_1, ↓w_invokevirtual_2, stw_0, stw_i, stw_l, stw_r, ofK0, ofK1, ofK2, lst1, lst2, lkill, kont_none, kont_some, Int.reduceToNat, List.length_cons, List.length_nil, Nat.reduceAdd, Nat.reduceLeDiff, Nat.zero_le, true_and, and_true, if_true, if_false, ne_eq, Int.reduceEq, Int.reduceNeg, not_false_eq_true, not_true_eq_false, ↓reduceIte, Int.reduceLT, Int.reduceLE, and_self, or_true, true_or, or_false, false_or, false_and, and_false, ah_t_w, ah_m_w, ah_n_w, mt_1036a hG.1, mt_1083a hG.1, mt_1083b hG.1, mf_62 hG.1, g_1083 hG, c_289 hG, c_287 hG, hlt, e1, hn, w32_i]
      exact ih (k + 1) _ _ _ (by omega) (by omega) n1 (by omega) hG hO hn hR
theorem l_308 {w : Int} {R : Int × Int × Int} (hw : 0 ≤ w) (hQ : ∀ h', MG T nw h' → Off Wh h h' → zch h' = R → Q (.inl none) h') :
    ∀ (j : Nat) (c n : Int) tl h', 0 ≤ c → c + j = T 1072 4 → 0 ≤ n → n ≤ 25 * c → MG T nw h' → Off Wh h h' → ah_m h' 1036 68 = -1 → (match zpk (zmm T nw (nw 1) j c) n w with | none => zch h' | some x => (w, x.1, x.2)) = R → wpB (d + 4) 308 21 (some (.inr (.inr 1036)) :: some (.inl w) :: some (.inl n) :: some (.inl c) :: tl) [] h' Q := by
  have hfin : ∀ tl n c h', MG T nw h' → Off Wh h h' → zch h' = R → ah_m h' 1036 68 ≠ -1 → -1 ≤ c → c ≤ 100 → wpB (d + 4) 308 21 (some (.inr (.inr 1036)) :: some (.inl w) :: some (.inl n) :: some (.inl c) :: tl) [] h' Q := by
    intro tl n c h' hG hO hR hn c1 c2
    by_cases e : c < T 1072 4
    · simp (disch := omega) only [q_308_21, b_308_21, q_308_120, b_308_120, ↓w_iconst, ↓w_aload_n_0, ↓w_iload_n_3, ↓w_istore, ↓w_getfield, ↓w_nop, ↓w_if_icmp_ne, ↓w_if_icmp_ge, ↓w_return, ↓w_invokevirtual_0, stw_0, stw_i, stw_l, stw_r, ofK0, ofK1, ofK2, lst1, lst2, lkill, kont_none, kont_some, Int.reduceToNat, List.length_cons, List.length_nil, Nat.reduceAdd, Nat.reduceLeDiff, Nat.zero_le, true_and, and_true, if_true, if_false, ne_eq, Int.reduceEq, Int.reduceNeg, not_false_eq_true, not_true_eq_false, ↓reduceIte, Int.reduceLT, Int.reduceLE, and_self, or_true, true_or, or_false, false_or, false_and, and_false, ah_t_w, ah_m_w, ah_n_w, mt_1036a hG.1, c_281 hG, e, hn]
      exact hQ _ hG hO hR
    · simp (disch := omega) only [q_308_21, b_308_21, q_308_120, b_308_120, ↓w_iconst, ↓w_aload_n_0, ↓w_iload_n_3, ↓w_istore, ↓w_getfield, ↓w_nop, ↓w_if_icmp_ne, ↓w_if_icmp_ge, ↓w_return, ↓w_invokevirtual_0, stw_0, stw_i, stw_l, stw_r, ofK0, ofK1, ofK2, lst1, lst2, lkill, kont_none, kont_some, Int.reduceToNat, List.length_cons, List.length_nil, Nat.reduceAdd, Nat.reduceLeDiff, Nat.zero_le, true_and, and_true, if_true, if_false, ne_eq, Int.reduceEq, Int.reduceNeg, not_false_eq_true, not_true_eq_false, ↓reduceIte, Int.reduceLT, Int.reduceLE, and_self, or_true, true_or, or_false, false_or, false_and, and_false, ah_t_w, ah_m_w, ah_n_w, mt_1036a hG.1, c_281 hG, e, hn]
      exact hQ _ hG hO hR
  intro j
  induction j with
  | zero =>
    intro c n tl h' h0 h1 n1 n2 hG hO hn hR
    have hlt : ¬ c < T 1072 4 := by omega
    simp (disch := omega) only [q_308_21, b_308_21, q_308_120, b_308_120, ↓w_iconst, ↓w_aload_n_0, ↓w_iload_n_3, ↓w_istore, ↓w_getfield, ↓w_nop, ↓w_if_icmp_ne, ↓w_if_icmp_ge, ↓w_return, ↓w_invokevirtual_0, stw_0, stw_i, stw_l, stw_r, ofK0, ofK1, ofK2, lst1, lst2, lkill, kont_none, kont_some, Int.reduceToNat, List.length_cons, List.length_nil, Nat.reduceAdd, Nat.reduceLeDiff, Nat.zero_le, true_and, and_true, if_true, if_false, ne_eq, Int.reduceEq, Int.reduceNeg, not_false_eq_true, not_true_eq_false, ↓reduceIte, Int.reduceLT, Int.reduceLE, and_self, or_true, true_or, or_false, false_or, false_and, and_false, ah_t_w, ah_m_w, ah_n_w, mt_1036a hG.1, c_281 hG, hlt]
    exact hQ _ hG hO hR
  | succ j ih =>
    intro c n tl h' h0 h1 n1 n2 hG hO hn hR
    have h8 := hG.2.2.2.1.2.1
    have hPi := zP_i hG
    have hlt : c < T 1072 4 := by omega
    simp (disch := omega) only [q_308_21, b_308_21, ↓w_iconst, ↓w_aload_n_0, ↓w_iload_n_3, ↓w_istore, ↓w_getfield, ↓w_nop, ↓w_if_icmp_ne, ↓w_if_icmp_ge, ↓w_invokevirtual_0, stw_0, stw_i, stw_l, stw_r, ofK0, ofK1, ofK2, lst1, lst2, lkill, kont_none, kont_some, Int.reduceToNat, List.length_cons, List.length_nil, Nat.reduceAdd, Nat.reduceLeDiff, Nat.zero_le, true_and, and_true, if_true, if_false, ne_eq, Int.reduceEq, Int.reduceNeg, not_false_eq_true, not_true_eq_false, ↓reduceIte, Int.reduceLT, Int.reduceLE, and_self, or_true, true_or, or_false, false_or, false_and, and_false, ah_t_w, ah_m_w, ah_n_w, mt_1036a hG.1, c_281 hG, hlt, hn, lst1_0]
    refine l_308i hw ⟨h0, hlt⟩ hfin (fun tl n h'' n1 n2 hG2 hO2 hn2 hR2 => ?_) (zP T) 0 _ _ _ (by omega) (by omega) n1 (by omega) hG hO hn hR
    simp (disch := omega) only [q_308_114, b_308_114, ↓w_iinc_3, ↓w_goto, stw_0, stw_i, stw_l, stw_r, ofK0, ofK1, ofK2, lst1, lst2, lkill, kont_none, kont_some, Int.reduceToNat, List.length_cons, List.length_nil, Nat.reduceAdd, Nat.reduceLeDiff, Nat.zero_le, true_and, and_true, if_true, if_false, ne_eq, Int.reduceEq, Int.reduceNeg, not_false_eq_true, not_true_eq_false, ↓reduceIte, Int.reduceLT, Int.reduceLE, and_self, or_true, true_or, or_false, false_or, false_and, and_false, ah_t_w, ah_m_w, ah_n_w, w32_i]
    exact ih (c + 1) _ _ _ (by omega) (by omega) n1 (by omega) hG2 hO2 hn2 hR2
/-- what chooses leaves -/
def zpc (T : Int → Int → Int) (nw : Int → Int) (w a b : Int) : Int × Int × Int := if w < 0 ∨ zcr T nw = true then (-1, a, b) else match zpk (zmv T nw) 0 w with | none => (-1, a, b) | some x => (w, x.1, x.2)
theorem c_308 {w : Int} (hG : MG T nw h) (hQ : ∀ h', MG T nw h' → Off Wh h h' → zch h' = zpc T nw w (ah_m h 1036 69) (ah_m h 1036 70) → Q (.inl none) h') : wpC (d + 5) 308 [.inr (.inr 1036), .inl w] h Q := by
  have hn := zn_i hG
  have h8 := hG.2.2.2.1.2.1
  have hG1 : ∀ z, MG T nw (ah_w h 1036 68 z) := fun z => MG_f hG (by decide)
  have hO1 : ∀ z, Off Wh h (ah_w h 1036 68 z) := fun z => Off_w Off_rfl (by unfold Wh; omega)
  unfold zpc at hQ
  rw [wpC_B]; refine ⟨⟨Nat.zero_lt_succ _, Nat.le_of_ble_eq_true rfl⟩, ?_⟩; simp only [lent]
  by_cases e0 : w < 0
  · simp (disch := omega) only [q_308_0, b_308_0, q_308_16, b_308_16, ↓w_iconst, ↓w_aload_n_0, ↓w_iload_n_1, ↓w_putfield_0, ↓w_nop, ↓w_ifCond_eq, ↓w_ifCond_lt, ↓w_return, ↓w_invokevirtual_0, stw_0, stw_i, stw_l, stw_r, ofK0, ofK1, ofK2, lst1, lst2, lkill, kont_none, kont_some, Int.reduceToNat, List.length_cons, List.length_nil, Nat.reduceAdd, Nat.reduceLeDiff, Nat.zero_le, true_and, and_true, if_true, if_false, ne_eq, Int.reduceEq, Int.reduceNeg, not_false_eq_true, not_true_eq_false, ↓reduceIte, Int.reduceLT, Int.reduceLE, and_self, or_true, true_or, or_false, false_or, false_and, and_false, ah_t_w, ah_m_w, ah_n_w, mt_1036a hG.1, e0]
    exact hQ _ (hG1 _) (hO1 _) (by rw [if_pos (Or.inl e0)]; rfl)
  · cases e : zcr T nw
    · simp (disch := omega) only [q_308_0, b_308_0, q_308_17, b_308_17, ↓w_iconst, ↓w_aload_n_0, ↓w_iload_n_1, ↓w_istore_n_2, ↓w_istore_n_3, ↓w_putfield_0, ↓w_nop, ↓w_ifCond_eq, ↓w_ifCond_lt, ↓w_invokevirtual_0, stw_0, stw_i, stw_l, stw_r, ofK0, ofK1, ofK2, lst1, lst2, lkill, kont_none, kont_some, Int.reduceToNat, List.length_cons, List.length_nil, Nat.reduceAdd, Nat.reduceLeDiff, Nat.zero_le, true_and, and_true, if_true, if_false, ne_eq, Int.reduceEq, Int.reduceNeg, not_false_eq_true, not_true_eq_false, ↓reduceIte, Int.reduceLT, Int.reduceLE, and_self, or_true, true_or, or_false, false_or, false_and, and_false, ah_t_w, ah_m_w, ah_n_w, mt_1036a hG.1, c_280 (hG1 _), e, e0, zb_f]
      rw [e, if_neg (by simpa using e0)] at hQ
      exact l_308 (by omega) hQ (zn T) 0 _ _ _ (by omega) (by omega) (by omega) (by omega) (hG1 _) (hO1 _) rfl rfl
    · simp (disch := omega) only [q_308_0, b_308_0, q_308_16, b_308_16, ↓w_iconst, ↓w_aload_n_0, ↓w_iload_n_1, ↓w_putfield_0, ↓w_nop, ↓w_ifCond_eq, ↓w_ifCond_lt, ↓w_return, ↓w_invokevirtual_0, stw_0, stw_i, stw_l, stw_r, ofK0, ofK1, ofK2, lst1, lst2, lkill, kont_none, kont_some, Int.reduceToNat, List.length_cons, List.length_nil, Nat.reduceAdd, Nat.reduceLeDiff, Nat.zero_le, true_and, and_true, if_true, if_false, ne_eq, Int.reduceEq, Int.reduceNeg, not_false_eq_true, not_true_eq_false, ↓reduceIte, Int.reduceLT, Int.reduceLE, and_self, or_true, true_or, or_false, false_or, false_and, and_false, ah_t_w, ah_m_w, ah_n_w, mt_1036a hG.1, c_280 (hG1 _), e, e0, zb_t]
      exact hQ _ (hG1 _) (hO1 _) (by rw [if_pos (Or.inr e)]; rfl)
end M7
