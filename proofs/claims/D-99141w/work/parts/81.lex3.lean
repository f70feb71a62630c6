/-! ===== M: numbers, names ===== -/
/-- in the midst of a token -/
def LY (t : Int → Int) (n q : Int) (h : AH) : Prop := MI h ∧ ah_m h 1037 = t ∧ ah_m h 1036 3 = n ∧ ah_m h 1036 2 = q ∧ ah_m h 1036 5 = 0 ∧ (0 ≤ q ∧ q ≤ n ∧ n ≤ 1600 ∧ ah_m h 1036 6 = -1) ∧ TPV t n
def zfind (T : Int → Int → Int) (a v : Int) : Nat → Int → Int
  | 0, _ => -1
  | j + 1, k => if T 1073 (8 * a + k) = v then k else zfind T a v j (k + 1)
section LEX3
variable {d : Nat} {h h0 : AH} {Q : QQ} {x y z m k s l w a b c v n p r lo hi : Int} {T : Int → Int → Int} {nw g t sr : Int → Int} {W : List Int}
set_option maxHeartbeats 2000000
theorem LY_of (hX : LX t n k h) : LY t n k h := ⟨hX.1, hX.2.1, hX.2.2.1, hX.2.2.2.1, hX.2.2.2.2.1, hX.2.2.2.2.2.1, hX.2.2.2.2.2.2.1⟩
theorem LY_w {q i z : Int} (hY : LY t n q h) (hi : i = 4 ∨ i = 10 ∨ i = 44) : LY t n q (ah_w h 1036 i z) := by
  have hb := hY.2.2.2.2.2.1
  refine ⟨MI_w hY.1 (by unfold fre; omega), ?_, ?_, ?_, ?_, ⟨hb.1, hb.2.1, hb.2.2.1, by rw [ah_m_w, if_neg (by omega)]; exact hb.2.2.2⟩, hY.2.2.2.2.2.2⟩
  · rw [← hY.2.1]; funext j; rw [ah_m_w, if_neg (by omega)]
  · rw [ah_m_w, if_neg (by omega)]; exact hY.2.2.1
  · rw [ah_m_w, if_neg (by omega)]; exact hY.2.2.2.1
  · rw [ah_m_w, if_neg (by omega)]; exact hY.2.2.2.2.1
theorem LY_adv {q : Int} (hY : LY t n q h) (hq : q < n) : LY t n (q + 1) (ah_w h 1036 2 (q + 1)) := by
  have hb := hY.2.2.2.2.2.1
  refine ⟨MI_w hY.1 (by unfold fre; omega), ?_, ?_, ?_, ?_, ⟨by omega, by omega, hb.2.2.1, by rw [ah_m_w, if_neg (by omega)]; exact hb.2.2.2⟩, hY.2.2.2.2.2.2⟩
  · rw [← hY.2.1]; funext j; rw [ah_m_w, if_neg (by omega)]
  · rw [ah_m_w, if_neg (by omega)]; exact hY.2.2.1
  · rw [ah_m_w, if_pos ⟨rfl, rfl⟩]
  · rw [ah_m_w, if_neg (by omega)]; exact hY.2.2.2.2.1
theorem LX_ofY {q : Int} (hY : LY t n q h) (e4 : ah_m h 1036 4 = q) (hp : zpd t n q = true) : LX t n q h :=
  ⟨hY.1, hY.2.1, hY.2.2.1, hY.2.2.2.1, hY.2.2.2.2.1, hY.2.2.2.2.2.1, hY.2.2.2.2.2.2, by omega, fun _ => hp, fun _ => e4⟩
theorem l_244 {R : Option (Int × Int)} (hlo : -10 ≤ lo ∧ lo ≤ 10000) (hhi : -10 ≤ hi ∧ hi ≤ 10000) (hp0 : 0 ≤ p)
    (hQn : ∀ h', R = none → BX 1 (p + 4) h' → Off Wlx h h' → Q (.inl (some (.inl 0))) h')
    (hQs : ∀ h' q v, R = some (q, v) → LY t n q h' → Off Wlx h h' → p < q → zD (zB t n (q - 1)) = true → 0 ≤ v → v ≤ 9999 → wpB (d + 1) 244 129 [some (.inr (.inr 1036)), some (.inl lo), some (.inl hi), some (.inl p), some (.inl v)] [] h' Q) :
    ∀ (j : Nat) (q v : Int) h', LY t n q h' → Off Wlx h h' → q + j = p + 4 → 0 ≤ v → v < 10 ^ (4 - j) → (p < q → zD (zB t n (q - 1)) = true) → (q = p → zD (zB t n q) = true) → znf t n j q v = R → j ≤ 4 → wpB (d + 1) 244 49 [some (.inr (.inr 1036)), some (.inl lo), some (.inl hi), some (.inl p), some (.inl v)] [] h' Q := by
  intro j
  induction j with
  | zero =>
    intro q v h' hY hO hq v0 v1 hd hd0 hR hj
    obtain ⟨hM, e1, e2, e3, e4, hb, hv⟩ := hY
    have hv4 : v ≤ 9999 := by have : (10 : Int) ^ 4 = 10000 := by decide
                              simp only [Nat.sub_zero] at v1; omega
    simp only [znf] at hR
    cases g : zD (zB t n q)
    · rw [g, if_neg (by decide)] at hR
      by_cases hlt : q < n
      · rw [zB_i hb.1 hlt] at g
        simp (disch := omega) only [q_244_49, b_244_49, ↓w_iconst, ↓w_aload_n_0, ↓w_iload_n_3, ↓w_isub, ↓w_getfield, ↓w_iaload, ↓w_ifCond_eq, ↓w_if_icmp_ne, ↓w_if_icmp_ge, ↓w_ireturn0, ↓w_invokestatic_1, ↓w_invokevirtual_2, stw_0, stw_i, stw_l, stw_r, ofK0, ofK1, ofK2, lst1, lst2, lkill, kont_none, kont_some, Int.reduceToNat, List.length_cons, List.length_nil, Nat.reduceAdd, Nat.reduceLeDiff, Nat.zero_le, true_and, and_true, if_true, if_false, ne_eq, Int.reduceEq, Int.reduceNeg, not_false_eq_true, not_true_eq_false, ↓reduceIte, Int.reduceLT, Int.reduceLE, and_self, or_true, true_or, or_false, false_or, false_and, and_false, ah_t_w, ah_m_w, ah_n_w, lst1_0, List.tail_cons, w32_i, zbd, lst2_0, mt_1036a hM, mt_1037a hM, mt_1037b hM, mf_0 hM, e1, e2, e3, hlt, c_245, g, zb_f]
        exact hQs _ q v hR.symm ⟨hM, e1, e2, e3, e4, hb, hv⟩ hO (by omega) (hd (by omega)) v0 hv4
      · simp (disch := omega) only [q_244_49, b_244_49, ↓w_iconst, ↓w_aload_n_0, ↓w_iload_n_3, ↓w_isub, ↓w_getfield, ↓w_iaload, ↓w_ifCond_eq, ↓w_if_icmp_ne, ↓w_if_icmp_ge, ↓w_ireturn0, ↓w_invokestatic_1, ↓w_invokevirtual_2, stw_0, stw_i, stw_l, stw_r, ofK0, ofK1, ofK2, lst1, lst2, lkill, kont_none, kont_some, Int.reduceToNat, List.length_cons, List.length_nil, Nat.reduceAdd, Nat.reduceLeDiff, Nat.zero_le, true_and, and_true, if_true, if_false, ne_eq, Int.reduceEq, Int.reduceNeg, not_false_eq_true, not_true_eq_false, ↓reduceIte, Int.reduceLT, Int.reduceLE, and_self, or_true, true_or, or_false, false_or, false_and, and_false, ah_t_w, ah_m_w, ah_n_w, lst1_0, List.tail_cons, w32_i, zbd, lst2_0, mt_1036a hM, mt_1037a hM, mt_1037b hM, mf_0 hM, e1, e2, e3, hlt]
        exact hQs _ q v hR.symm ⟨hM, e1, e2, e3, e4, hb, hv⟩ hO (by omega) (hd (by omega)) v0 hv4
    · rw [g, if_pos rfl] at hR
      have hlt : q < n := by
        rcases Int.lt_or_le q n with w | w
        · exact w
        · rw [zB_o w] at g; cases g
      have e5 : q - p = 4 := by omega
      rw [zB_i hb.1 hlt] at g
      simp (disch := omega) only [q_244_49, b_244_49, ↓w_iconst, ↓w_aload_n_0, ↓w_iload_n_3, ↓w_isub, ↓w_getfield, ↓w_iaload, ↓w_ifCond_eq, ↓w_if_icmp_ne, ↓w_if_icmp_ge, ↓w_ireturn0, ↓w_invokestatic_1, ↓w_invokevirtual_2, stw_0, stw_i, stw_l, stw_r, ofK0, ofK1, ofK2, lst1, lst2, lkill, kont_none, kont_some, Int.reduceToNat, List.length_cons, List.length_nil, Nat.reduceAdd, Nat.reduceLeDiff, Nat.zero_le, true_and, and_true, if_true, if_false, ne_eq, Int.reduceEq, Int.reduceNeg, not_false_eq_true, not_true_eq_false, ↓reduceIte, Int.reduceLT, Int.reduceLE, and_self, or_true, true_or, or_false, false_or, false_and, and_false, ah_t_w, ah_m_w, ah_n_w, lst1_0, List.tail_cons, w32_i, zbd, lst2_0, mt_1036a hM, mt_1037a hM, mt_1037b hM, mf_0 hM, e1, e2, e3, hlt, c_245, g, zb_t, e5, c_243 hM e4]
      have : q = p + 4 := by omega
      rw [this]
      exact hQn _ hR.symm (BX_fail hM (by decide)) (Off_w (Off_w hO (by unfold Wlx; omega)) (by unfold Wlx; omega))
  | succ j ih =>
    intro q v h' hY hO hq v0 v1 hd hd0 hR hj
    have hY' := hY
    obtain ⟨hM, e1, e2, e3, e4, hb, hv⟩ := hY
    have h10 : (10 : Int) ^ (4 - j) = 10 * 10 ^ (4 - (j + 1)) := by
      have : 4 - j = (4 - (j + 1)) + 1 := by omega
      rw [this, Int.pow_succ, Int.mul_comm]
    have h10b : (10 : Int) ^ (4 - (j + 1)) ≤ 1000 := by
      have : j = 0 ∨ j = 1 ∨ j = 2 ∨ j = 3 := by omega
      rcases this with e | e | e | e <;> subst e <;> decide
    simp only [znf] at hR
    rw [q_244_49]
    cases g : zD (zB t n q)
    · rw [g, if_neg (by decide)] at hR
      have hqp : p < q := by
        rcases Int.lt_or_le p q with w | w
        · exact w
        · have : q = p := by omega
          rw [hd0 this] at g; cases g
      by_cases hlt : q < n
      · rw [zB_i hb.1 hlt] at g
        simp (disch := omega) only [b_244_49, ↓w_iconst, ↓w_aload_n_0, ↓w_iload_n_3, ↓w_isub, ↓w_getfield, ↓w_iaload, ↓w_ifCond_eq, ↓w_if_icmp_ne, ↓w_if_icmp_ge, ↓w_ireturn0, ↓w_invokestatic_1, ↓w_invokevirtual_2, stw_0, stw_i, stw_l, stw_r, ofK0, ofK1, ofK2, lst1, lst2, lkill, kont_none, kont_some, Int.reduceToNat, List.length_cons, List.length_nil, Nat.reduceAdd, Nat.reduceLeDiff, Nat.zero_le, true_and, and_true, if_true, if_false, ne_eq, Int.reduceEq, Int.reduceNeg, not_false_eq_true, not_true_eq_false, ↓reduceIte, Int.reduceLT, Int.reduceLE, and_self, or_true, true_or, or_false, false_or, false_and, and_false, ah_t_w, ah_m_w, ah_n_w, lst1_0, List.tail_cons, w32_i, zbd, lst2_0, mt_1036a hM, mt_1037a hM, mt_1037b hM, mf_0 hM, e1, e2, e3, hlt, c_245, g, zb_f]
        exact hQs _ q v hR.symm hY' hO hqp (hd hqp) v0 (by omega)
      · simp (disch := omega) only [b_244_49, ↓w_iconst, ↓w_aload_n_0, ↓w_iload_n_3, ↓w_isub, ↓w_getfield, ↓w_iaload, ↓w_ifCond_eq, ↓w_if_icmp_ne, ↓w_if_icmp_ge, ↓w_ireturn0, ↓w_invokestatic_1, ↓w_invokevirtual_2, stw_0, stw_i, stw_l, stw_r, ofK0, ofK1, ofK2, lst1, lst2, lkill, kont_none, kont_some, Int.reduceToNat, List.length_cons, List.length_nil, Nat.reduceAdd, Nat.reduceLeDiff, Nat.zero_le, true_and, and_true, if_true, if_false, ne_eq, Int.reduceEq, Int.reduceNeg, not_false_eq_true, not_true_eq_false, ↓reduceIte, Int.reduceLT, Int.reduceLE, and_self, or_true, true_or, or_false, false_or, false_and, and_false, ah_t_w, ah_m_w, ah_n_w, lst1_0, List.tail_cons, w32_i, zbd, lst2_0, mt_1036a hM, mt_1037a hM, mt_1037b hM, mf_0 hM, e1, e2, e3, hlt]
        exact hQs _ q v hR.symm hY' hO hqp (hd hqp) v0 (by omega)
    · rw [g, if_pos rfl] at hR
      have hlt : q < n := by
        rcases Int.lt_or_le q n with w | w
        · exact w
        · rw [zB_o w] at g; cases g
      have e5 : ¬ q - p = 4 := by omega
      have g' := g
      rw [zB_i hb.1 hlt] at g hR
      have gd : 48 ≤ t q ∧ t q ≤ 57 := of_decide_eq_true g
      simp (disch := omega) only [b_244_49, q_244_96, b_244_96, ↓w_iconst, ↓w_bipush, ↓w_aload_n_0, ↓w_iload_n_3, ↓w_iload_4, ↓w_istore, ↓w_dup_i, ↓w_dup_a, ↓w_iadd, ↓w_isub, ↓w_imul, ↓w_getfield, ↓w_putfield_0, ↓w_iaload, ↓w_goto, ↓w_ifCond_eq, ↓w_if_icmp_ne, ↓w_if_icmp_ge, ↓w_ireturn0, ↓w_invokestatic_1, ↓w_invokevirtual_2, stw_0, stw_i, stw_l, stw_r, ofK0, ofK1, ofK2, lst1, lst2, lkill, kont_none, kont_some, Int.reduceToNat, List.length_cons, List.length_nil, Nat.reduceAdd, Nat.reduceLeDiff, Nat.zero_le, true_and, and_true, if_true, if_false, ne_eq, Int.reduceEq, Int.reduceNeg, not_false_eq_true, not_true_eq_false, ↓reduceIte, Int.reduceLT, Int.reduceLE, and_self, or_true, true_or, or_false, false_or, false_and, and_false, ah_t_w, ah_m_w, ah_n_w, lst1_0, List.tail_cons, w32_i, zbd, lst2_0, mt_1036a hM, mt_1037a hM, mt_1037b hM, mf_0 hM, e1, e2, e3, hlt, c_245, g, zb_t, e5]
      refine ih (q + 1) _ _ (LY_adv hY' hlt) (Off_w hO (by unfold Wlx; omega)) (by omega) (by omega) (by omega) (fun _ => ?_) (fun e => by omega) hR (by omega)
      rw [show q + 1 - 1 = q by omega]; exact g'
theorem c_244 (hX : LX t n k h) (hlo : -10 ≤ lo ∧ lo ≤ 10000) (hhi : -10 ≤ hi ∧ hi ≤ 10000)
    (hQ0 : ∀ h' z kk pp, znum t n k lo hi = .inl (kk, pp) → BX kk pp h' → Off Wlx h h' → Q (.inl (some (.inl z))) h')
    (hQ1 : ∀ h' q v, znum t n k lo hi = .inr (q, v) → LX t n q h' → Off Wlx h h' → ah_m h' 1036 10 = zsk t n k → Q (.inl (some (.inl v))) h') : wpC (d + 2) 244 [.inr (.inr 1036), .inl lo, .inl hi] h Q := by
  have hM := hX.1
  have h5 := hX.2.2.2.2.1
  unfold znum at hQ0 hQ1
  rw [wpC_B]; refine ⟨⟨Nat.zero_lt_succ _, Nat.le_of_ble_eq_true rfl⟩, ?_⟩; simp only [lent]
  simp (disch := omega) only [q_244_0, b_244_0, q_244_9, b_244_9, ↓w_iconst, ↓w_aload_n_0, ↓w_getfield, ↓w_nop, ↓w_ifCond_eq, ↓w_if_icmp_ne, ↓w_ireturn0, ↓w_invokevirtual_0, ↓w_invokestatic_1, stw_0, stw_i, stw_l, stw_r, ofK0, ofK1, ofK2, lst1, lst2, lkill, kont_none, kont_some, Int.reduceToNat, List.length_cons, List.length_nil, Nat.reduceAdd, Nat.reduceLeDiff, Nat.zero_le, true_and, and_true, if_true, if_false, ne_eq, Int.reduceEq, Int.reduceNeg, not_false_eq_true, not_true_eq_false, ↓reduceIte, Int.reduceLT, Int.reduceLE, and_self, or_true, true_or, or_false, false_or, false_and, and_false, ah_t_w, ah_m_w, ah_n_w, lst1_0, List.tail_cons, w32_i, zbd, lst2_0, mt_1036a hM, h5]
  refine c_241 hX (fun h' hX' hO => ?_)
  have e2 := hX'.2.2.2.1
  have h5' := hX'.2.2.2.2.1
  have hb' := hX'.2.2.2.2.2.1
  have he' := hX'.2.2.2.2.2.2.2
  have hM' := hX'.1
  generalize zsk t n k = P at *
  have hO' : Off Wlx h h' := Off_mono (fun r i w => by unfold Wat at w; unfold Wlx; omega) hO
  have no : ∀ tl, ¬ (zD (zB t n P) = true ∧ zpd t n P = false) → wpB (d + 1) 244 30 (some (.inr (.inr 1036)) :: tl) [] h' Q := by
    intro tl hno
    rw [if_neg hno] at hQ0
    simp (disch := omega) only [q_244_30, b_244_30, ↓w_iconst, ↓w_aload_n_0, ↓w_getfield, ↓w_ireturn0, ↓w_invokevirtual_2, stw_0, stw_i, stw_l, stw_r, ofK0, ofK1, ofK2, lst1, lst2, lkill, kont_none, kont_some, Int.reduceToNat, List.length_cons, List.length_nil, Nat.reduceAdd, Nat.reduceLeDiff, Nat.zero_le, true_and, and_true, if_true, if_false, ne_eq, Int.reduceEq, Int.reduceNeg, not_false_eq_true, not_true_eq_false, ↓reduceIte, Int.reduceLT, Int.reduceLE, and_self, or_true, true_or, or_false, false_or, false_and, and_false, ah_t_w, ah_m_w, ah_n_w, lst1_0, List.tail_cons, w32_i, zbd, lst2_0, mt_1036a hM', e2, c_243 hM' h5']
    exact hQ0 _ _ 1 P rfl (BX_fail hM' (by decide)) (Off_w (Off_w hO' (by unfold Wlx; omega)) (by unfold Wlx; omega))
  cases g1 : zD (zB t n P)
  · simp (disch := omega) only [b_244_9, ↓w_aload_n_0, ↓w_getfield, ↓w_nop, ↓w_ifCond_eq, ↓w_if_icmp_ne, ↓w_invokevirtual_0, ↓w_invokestatic_1, stw_0, stw_i, stw_l, stw_r, ofK0, ofK1, ofK2, lst1, lst2, lkill, kont_none, kont_some, Int.reduceToNat, List.length_cons, List.length_nil, Nat.reduceAdd, Nat.reduceLeDiff, Nat.zero_le, true_and, and_true, if_true, if_false, ne_eq, Int.reduceEq, Int.reduceNeg, not_false_eq_true, not_true_eq_false, ↓reduceIte, Int.reduceLT, Int.reduceLE, and_self, or_true, true_or, or_false, false_or, false_and, and_false, ah_t_w, ah_m_w, ah_n_w, lst1_0, List.tail_cons, w32_i, zbd, lst2_0, mt_1036a hM', c_245, g1, zb_f]
    exact no _ (by rw [g1]; simp)
  · cases g2 : zpd t n P
    · have g3 : ¬ (P = ah_m h' 1036 4) := fun q => by rw [he'.2.1 q.symm] at g2; cases g2
      rw [if_pos ⟨g1, g2⟩] at hQ0 hQ1
      simp (disch := omega) only [b_244_9, q_244_41, b_244_41, ↓w_iconst, ↓w_aload_n_0, ↓w_istore, ↓w_istore_n_3, ↓w_getfield, ↓w_nop, ↓w_ifCond_eq, ↓w_if_icmp_ne, ↓w_invokevirtual_0, ↓w_invokestatic_1, stw_0, stw_i, stw_l, stw_r, ofK0, ofK1, ofK2, lst1, lst2, lkill, kont_none, kont_some, Int.reduceToNat, List.length_cons, List.length_nil, Nat.reduceAdd, Nat.reduceLeDiff, Nat.zero_le, true_and, and_true, if_true, if_false, ne_eq, Int.reduceEq, Int.reduceNeg, not_false_eq_true, not_true_eq_false, ↓reduceIte, Int.reduceLT, Int.reduceLE, and_self, or_true, true_or, or_false, false_or, false_and, and_false, ah_t_w, ah_m_w, ah_n_w, lst1_0, List.tail_cons, w32_i, zbd, lst2_0, mt_1036a hM', c_245, g1, zb_t, e2, g3]
      refine l_244 (h := h') (R := znf t n 4 P 0) hlo hhi hb'.1 (fun h2 eR hB hO2 => ?_) (fun h2 q v eR hY2 hO2 hpq hld v0 v9 => ?_) 4 P 0 h' (LY_of hX') Off_rfl (by omega) (by omega) (by decide) (fun e => by omega) (fun _ => g1) rfl (by omega)
      · rw [eR] at hQ0
        exact hQ0 _ _ 1 (P + 4) rfl hB (Off_tr hO' hO2)
      · rw [eR] at hQ0 hQ1
        simp only at hQ0 hQ1
        have f2 := hY2.2.2.2.1
        have f5 := hY2.2.2.2.2.1
        have hpd : zpd t n q = true := by unfold zpd; rw [hld]; simp
        have hY3 : LY t n q (ah_w (ah_w h2 1036 4 q) 1036 10 P) := LY_w (LY_w hY2 (by omega)) (by omega)
        have hO3 : Off Wlx h (ah_w (ah_w h2 1036 4 q) 1036 10 P) := Off_w (Off_w (Off_tr hO' hO2) (by unfold Wlx; omega)) (by unfold Wlx; omega)
        by_cases g4 : lo ≤ v ∧ v ≤ hi
        · rw [if_pos g4] at hQ1
          simp (disch := omega) only [q_244_129, b_244_129, q_244_161, b_244_161, ↓w_iconst, ↓w_aload_n_0, ↓w_iload_n_1, ↓w_iload_n_2, ↓w_iload_n_3, ↓w_iload_4, ↓w_i2l, ↓w_getfield, ↓w_putfield_0, ↓w_nop, ↓w_ifCond_ne, ↓w_ireturn0, ↓w_invokevirtual_2, ↓w_invokestatic_3, stw_0, stw_i, stw_l, stw_r, ofK0, ofK1, ofK2, lst1, lst2, lkill, kont_none, kont_some, Int.reduceToNat, List.length_cons, List.length_nil, Nat.reduceAdd, Nat.reduceLeDiff, Nat.zero_le, true_and, and_true, if_true, if_false, ne_eq, Int.reduceEq, Int.reduceNeg, not_false_eq_true, not_true_eq_false, ↓reduceIte, Int.reduceLT, Int.reduceLE, and_self, or_true, true_or, or_false, false_or, false_and, and_false, ah_t_w, ah_m_w, ah_n_w, lst1_0, List.tail_cons, w32_i, zbd, lst2_0, mt_1036a hY2.1, c_246, f2, c_246, g4]
          exact hQ1 _ q v rfl (LX_ofY hY3 rfl hpd) hO3 rfl
        · rw [if_neg g4] at hQ0
          simp (disch := omega) only [q_244_129, b_244_129, q_244_161, b_244_161, ↓w_iconst, ↓w_aload_n_0, ↓w_iload_n_1, ↓w_iload_n_2, ↓w_iload_n_3, ↓w_iload_4, ↓w_i2l, ↓w_getfield, ↓w_putfield_0, ↓w_nop, ↓w_ifCond_ne, ↓w_ireturn0, ↓w_invokevirtual_2, ↓w_invokestatic_3, stw_0, stw_i, stw_l, stw_r, ofK0, ofK1, ofK2, lst1, lst2, lkill, kont_none, kont_some, Int.reduceToNat, List.length_cons, List.length_nil, Nat.reduceAdd, Nat.reduceLeDiff, Nat.zero_le, true_and, and_true, if_true, if_false, ne_eq, Int.reduceEq, Int.reduceNeg, not_false_eq_true, not_true_eq_false, ↓reduceIte, Int.reduceLT, Int.reduceLE, and_self, or_true, true_or, or_false, false_or, false_and, and_false, ah_t_w, ah_m_w, ah_n_w, lst1_0, List.tail_cons, w32_i, zbd, lst2_0, mt_1036a hY2.1, c_246, f2, c_246, if_neg g4, c_243 hY3.1 hY3.2.2.2.2.1]
          exact hQ0 _ _ 2 P rfl (BX_fail hY3.1 (by decide)) (Off_w (Off_w hO3 (by unfold Wlx; omega)) (by unfold Wlx; omega))
    · have g3 : P = ah_m h' 1036 4 := (he'.2.2 g2).symm
      simp (disch := omega) only [b_244_9, ↓w_aload_n_0, ↓w_getfield, ↓w_nop, ↓w_ifCond_eq, ↓w_if_icmp_ne, ↓w_invokevirtual_0, ↓w_invokestatic_1, stw_0, stw_i, stw_l, stw_r, ofK0, ofK1, ofK2, lst1, lst2, lkill, kont_none, kont_some, Int.reduceToNat, List.length_cons, List.length_nil, Nat.reduceAdd, Nat.reduceLeDiff, Nat.zero_le, true_and, and_true, if_true, if_false, ne_eq, Int.reduceEq, Int.reduceNeg, not_false_eq_true, not_true_eq_false, ↓reduceIte, Int.reduceLT, Int.reduceLE, and_self, or_true, true_or, or_false, false_or, false_and, and_false, ah_t_w, ah_m_w, ah_n_w, lst1_0, List.tail_cons, w32_i, zbd, lst2_0, mt_1036a hM', c_245, g1, zb_t, e2, ← g3]
      exact no _ (by rw [g2]; simp)
theorem b_244 {kk : Int} (hB : BX kk p h) : wpC (d + 1) 244 [.inr (.inr 1036), .inl lo, .inl hi] h Q ↔ Q (.inl (some (.inl 0))) h := by
  have e := hB.2.1; have hk := hB.2.2.2
  apply CT_iff; apply CT_of; rw [wpC_B]; refine ⟨⟨Nat.zero_lt_succ _, Nat.le_of_ble_eq_true rfl⟩, ?_⟩; simp only [lent]
  simp (disch := omega) only [q_244_0, b_244_0, ↓w_iconst, ↓w_aload_n_0, ↓w_getfield, ↓w_ifCond_eq, ↓w_ireturn0, stw_0, stw_i, stw_l, stw_r, ofK0, ofK1, ofK2, lst1, lst2, lkill, kont_none, kont_some, Int.reduceToNat, List.length_cons, List.length_nil, Nat.reduceAdd, Nat.reduceLeDiff, Nat.zero_le, true_and, and_true, if_true, if_false, ne_eq, Int.reduceEq, Int.reduceNeg, not_false_eq_true, not_true_eq_false, ↓reduceIte, Int.reduceLT, Int.reduceLE, and_self, or_true, true_or, or_false, false_or, false_and, and_false, ah_t_w, ah_m_w, ah_n_w, lst1_0, List.tail_cons, w32_i, zbd, lst2_0, mt_1036a hB.1, e, hk]
/-! names -/
theorem l_253 {R : Int × Int} (hp0 : 0 ≤ p)
    (hQn : ∀ h', 6 < zwe t n p - p → BX 1 (p + 6) h' → Off Wlx h h' → Q (.inl (some (.inr (.inl 0)))) h')
    (hQs : ∀ h' q v, zwe t n p - p ≤ 6 → q = zwe t n p → v = znv t (zwe t n p - p).toNat p 0 → LX t n q h' → Off Wlx h h' → ah_m h' 1036 44 = p → Q (.inl (some (.inr (.inl v)))) h') :
    ∀ (j : Nat) (q v : Int) (i : Nat) h', LY t n q h' → Off Wlx h h' → ah_m h' 1036 44 = p → q + j = n → p + i = q → i ≤ 6 → 0 ≤ v → v < 27 ^ i → zwf t n j q = zwe t n p → znv t (zwe t n p - q).toNat q v = znv t (zwe t n p - p).toNat p 0 → (p < q → zL (zB t n (q - 1)) = true) → p < zwe t n p → wpB (d + 1) 253 58 [some (.inr (.inr 1036)), some (.inr (.inl v)), none] [] h' Q := by
  intro j
  induction j with
  | zero =>
    intro q v i h' hY hO e44 hq hi hi6 v0 v1 hw hz hl hpe
    have hY' := hY
    obtain ⟨hM, e1, e2, e3, e4, hb, hv⟩ := hY
    have hlt : ¬ q < n := by omega
    simp only [zwf] at hw
    have ez : v = znv t (zwe t n p - p).toNat p 0 := by
      rw [← hz, ← hw]; simp [znv]
    simp (disch := omega) only [q_253_58, b_253_58, q_253_145, b_253_145, ↓w_iconst, ↓w_bipush, ↓w_lconst, ↓w_aload_n_0, ↓w_lload_n_1, ↓w_isub, ↓w_getfield, ↓w_putfield_0, ↓w_iaload, ↓w_ifCond_eq, ↓w_if_icmp_ne, ↓w_if_icmp_ge, ↓w_lreturn, ↓w_invokestatic_1, ↓w_invokevirtual_2, stw_0, stw_i, stw_l, stw_r, ofK0, ofK1, ofK2, lst1, lst2, lkill, kont_none, kont_some, Int.reduceToNat, List.length_cons, List.length_nil, Nat.reduceAdd, Nat.reduceLeDiff, Nat.zero_le, true_and, and_true, if_true, if_false, ne_eq, Int.reduceEq, Int.reduceNeg, not_false_eq_true, not_true_eq_false, ↓reduceIte, Int.reduceLT, Int.reduceLE, and_self, or_true, true_or, or_false, false_or, false_and, and_false, ah_t_w, ah_m_w, ah_n_w, lst1_0, List.tail_cons, w32_i, zbd, lst2_0, mt_1036a hM, mt_1037a hM, mt_1037b hM, mf_0 hM, e2, e3, hlt]
    have hpq : p < q := by omega
    refine hQs _ q v (by omega) hw ez (LX_ofY (LY_w hY' (by omega)) rfl (by unfold zpd; rw [hl hpq]; rfl)) (Off_w hO (by unfold Wlx; omega)) ?_
    rw [ah_m_w, if_neg (by omega)]; exact e44
  | succ j ih =>
    intro q v i h' hY hO e44 hq hi hi6 v0 v1 hw hz hl hpe
    have hY' := hY
    obtain ⟨hM, e1, e2, e3, e4, hb, hv⟩ := hY
    have hlt : q < n := by omega
    have hqe := @zwf_le n t (j + 1) q
    simp only [zwf] at hw
    have hw1 : zwf t n (j + 1) q = zwe t n p := by simp only [zwf]; exact hw
    rw [hw1] at hqe
    rw [q_253_58]
    cases g : zL (zB t n q)
    · rw [g, if_neg (by decide)] at hw
      have ez : v = znv t (zwe t n p - p).toNat p 0 := by
        rw [← hz, ← hw]; simp [znv]
      have hpq : p < q := by omega
      rw [zB_i hb.1 hlt] at g
      simp (disch := omega) only [b_253_58, q_253_145, b_253_145, ↓w_iconst, ↓w_bipush, ↓w_lconst, ↓w_aload_n_0, ↓w_lload_n_1, ↓w_isub, ↓w_getfield, ↓w_putfield_0, ↓w_iaload, ↓w_ifCond_eq, ↓w_if_icmp_ne, ↓w_if_icmp_ge, ↓w_lreturn, ↓w_invokestatic_1, ↓w_invokevirtual_2, stw_0, stw_i, stw_l, stw_r, ofK0, ofK1, ofK2, lst1, lst2, lkill, kont_none, kont_some, Int.reduceToNat, List.length_cons, List.length_nil, Nat.reduceAdd, Nat.reduceLeDiff, Nat.zero_le, true_and, and_true, if_true, if_false, ne_eq, Int.reduceEq, Int.reduceNeg, not_false_eq_true, not_true_eq_false, ↓reduceIte, Int.reduceLT, Int.reduceLE, and_self, or_true, true_or, or_false, false_or, false_and, and_false, ah_t_w, ah_m_w, ah_n_w, lst1_0, List.tail_cons, w32_i, zbd, lst2_0, mt_1036a hM, mt_1037a hM, mt_1037b hM, mf_0 hM, e1, e2, e3, hlt, c_242, g, zb_f]
      refine hQs _ q v (by omega) hw ez (LX_ofY (LY_w hY' (by omega)) rfl (by unfold zpd; rw [hl hpq]; rfl)) (Off_w hO (by unfold Wlx; omega)) ?_
      rw [ah_m_w, if_neg (by omega)]; exact e44
    · rw [g, if_pos rfl] at hw
      have hqe2 := @zwf_le n t j (q + 1)
      rw [hw] at hqe2
      have g' := g
      rw [zB_i hb.1 hlt] at g
      by_cases e6 : q - p = 6
      · simp (disch := omega) only [b_253_58, ↓w_iconst, ↓w_bipush, ↓w_lconst, ↓w_aload_n_0, ↓w_isub, ↓w_getfield, ↓w_iaload, ↓w_ifCond_eq, ↓w_if_icmp_ne, ↓w_if_icmp_ge, ↓w_lreturn, ↓w_invokestatic_1, ↓w_invokevirtual_2, stw_0, stw_i, stw_l, stw_r, ofK0, ofK1, ofK2, lst1, lst2, lkill, kont_none, kont_some, Int.reduceToNat, List.length_cons, List.length_nil, Nat.reduceAdd, Nat.reduceLeDiff, Nat.zero_le, true_and, and_true, if_true, if_false, ne_eq, Int.reduceEq, Int.reduceNeg, not_false_eq_true, not_true_eq_false, ↓reduceIte, Int.reduceLT, Int.reduceLE, and_self, or_true, true_or, or_false, false_or, false_and, and_false, ah_t_w, ah_m_w, ah_n_w, lst1_0, List.tail_cons, w32_i, zbd, lst2_0, mt_1036a hM, mt_1037a hM, mt_1037b hM, mf_0 hM, e1, e2, e3, hlt, c_242, g, zb_t, e44, e6, c_243 hM e4]
        have : q = p + 6 := by omega
        rw [this]
        exact hQn _ (by omega) (BX_fail hM (by decide)) (Off_w (Off_w hO (by unfold Wlx; omega)) (by unfold Wlx; omega))
      · have gd : 97 ≤ t q ∧ t q ≤ 122 := of_decide_eq_true g
        have h27 : (27 : Int) ^ (i + 1) = 27 * 27 ^ i := by rw [Int.pow_succ, Int.mul_comm]
        have h27b : (27 : Int) ^ i ≤ 14348907 := by
          have : i = 0 ∨ i = 1 ∨ i = 2 ∨ i = 3 ∨ i = 4 ∨ i = 5 := by omega
          rcases this with e | e | e | e | e | e <;> subst e <;> decide
        have f1 : w64 (27 * v) = 27 * v := w64_i (by omega) (by omega)
        have f2 : w64 (27 * v + t q) = 27 * v + t q := w64_i (by omega) (by omega)
        have f3 : w64 (27 * v + t q - 97) = 27 * v + t q - 97 := w64_i (by omega) (by omega)
        have f4 : w64 (27 * v + t q - 97 + 1) = 27 * v + t q - 97 + 1 := w64_i (by omega) (by omega)
        simp (disch := omega) only [b_253_58, q_253_109, b_253_109, ↓w_iconst, ↓w_bipush, ↓w_lconst, ↓w_ldc2_w, ↓w_aload_n_0, ↓w_lload_n_1, ↓w_lstore_n_1, ↓w_dup_i, ↓w_dup_a, ↓w_iadd, ↓w_isub, ↓w_ladd, ↓w_lsub, ↓w_lmul, ↓w_i2l, ↓w_getfield, ↓w_putfield_0, ↓w_iaload, ↓w_goto, ↓w_ifCond_eq, ↓w_if_icmp_ne, ↓w_if_icmp_ge, ↓w_lreturn, ↓w_invokestatic_1, ↓w_invokevirtual_2, stw_0, stw_i, stw_l, stw_r, ofK0, ofK1, ofK2, lst1, lst2, lkill, kont_none, kont_some, Int.reduceToNat, List.length_cons, List.length_nil, Nat.reduceAdd, Nat.reduceLeDiff, Nat.zero_le, true_and, and_true, if_true, if_false, ne_eq, Int.reduceEq, Int.reduceNeg, not_false_eq_true, not_true_eq_false, ↓reduceIte, Int.reduceLT, Int.reduceLE, and_self, or_true, true_or, or_false, false_or, false_and, and_false, ah_t_w, ah_m_w, ah_n_w, lst1_0, List.tail_cons, w32_i, zbd, lst2_0, mt_1036a hM, mt_1037a hM, mt_1037b hM, mf_0 hM, e1, e2, e3, hlt, c_242, g, zb_t, e44, e6, f1, f2, f3, f4]
        refine ih (q + 1) _ (i + 1) _ (LY_adv hY' hlt) (Off_w hO (by unfold Wlx; omega)) ?_ (by omega) (by omega) (by omega) (by omega) (by rw [h27]; omega) hw ?_ (fun _ => ?_) hpe
        · rw [ah_m_w, if_neg (by omega)]; exact e44
        · rw [← hz]
          have : (zwe t n p - q).toNat = (zwe t n p - (q + 1)).toNat + 1 := by omega
          rw [this]; rfl
        · rw [show q + 1 - 1 = q by omega]; exact g'
theorem c_253 (hX : LX t n k h)
    (hQ0 : ∀ h' z kk pp, zname t n k = .inl (kk, pp) → BX kk pp h' → Off Wlx h h' → Q (.inl (some (.inr (.inl z)))) h')
    (hQ1 : ∀ h' q v, zname t n k = .inr (q, v) → LX t n q h' → Off Wlx h h' → ah_m h' 1036 44 = zsk t n k → Q (.inl (some (.inr (.inl v)))) h') : wpC (d + 4) 253 [.inr (.inr 1036)] h Q := by
  have hM := hX.1
  have h5 := hX.2.2.2.2.1
  have hb := hX.2.2.2.2.2.1
  unfold zname at hQ0 hQ1
  rw [wpC_B]; refine ⟨⟨Nat.zero_lt_succ _, Nat.le_of_ble_eq_true rfl⟩, ?_⟩; simp only [lent]
  simp (disch := omega) only [q_253_0, b_253_0, q_253_9, b_253_9, ↓w_lconst, ↓w_aload_n_0, ↓w_getfield, ↓w_nop, ↓w_ifCond_eq, ↓w_if_icmp_eq, ↓w_lreturn, ↓w_invokevirtual_0, ↓w_invokestatic_1, stw_0, stw_i, stw_l, stw_r, ofK0, ofK1, ofK2, lst1, lst2, lkill, kont_none, kont_some, Int.reduceToNat, List.length_cons, List.length_nil, Nat.reduceAdd, Nat.reduceLeDiff, Nat.zero_le, true_and, and_true, if_true, if_false, ne_eq, Int.reduceEq, Int.reduceNeg, not_false_eq_true, not_true_eq_false, ↓reduceIte, Int.reduceLT, Int.reduceLE, and_self, or_true, true_or, or_false, false_or, false_and, and_false, ah_t_w, ah_m_w, ah_n_w, lst1_0, List.tail_cons, w32_i, zbd, lst2_0, mt_1036a hM, h5]
  refine c_241 hX (fun h' hX' hO => ?_)
  have e2 := hX'.2.2.2.1
  have h5' := hX'.2.2.2.2.1
  have hb' := hX'.2.2.2.2.2.1
  have he' := hX'.2.2.2.2.2.2.2
  have hM' := hX'.1
  have hs : zsk t n (zsk t n k) = zsk t n k := zsk_zsk hb.1 hb.2.1
  generalize zsk t n k = P at *
  have hO' : Off Wlx h h' := Off_mono (fun r i w => by unfold Wat at w; unfold Wlx; omega) hO
  have no : ∀ tl, ¬ (zwb t n P = true ∧ zown t n P = false) → wpB (d + 3) 253 37 (some (.inr (.inr 1036)) :: tl) [] h' Q := by
    intro tl hno
    rw [if_neg hno] at hQ0
    simp (disch := omega) only [q_253_37, b_253_37, ↓w_iconst, ↓w_lconst, ↓w_aload_n_0, ↓w_getfield, ↓w_lreturn, ↓w_invokevirtual_2, stw_0, stw_i, stw_l, stw_r, ofK0, ofK1, ofK2, lst1, lst2, lkill, kont_none, kont_some, Int.reduceToNat, List.length_cons, List.length_nil, Nat.reduceAdd, Nat.reduceLeDiff, Nat.zero_le, true_and, and_true, if_true, if_false, ne_eq, Int.reduceEq, Int.reduceNeg, not_false_eq_true, not_true_eq_false, ↓reduceIte, Int.reduceLT, Int.reduceLE, and_self, or_true, true_or, or_false, false_or, false_and, and_false, ah_t_w, ah_m_w, ah_n_w, lst1_0, List.tail_cons, w32_i, zbd, lst2_0, mt_1036a hM', e2, c_243 hM' h5']
    exact hQ0 _ _ 1 P rfl (BX_fail hM' (by decide)) (Off_w (Off_w hO' (by unfold Wlx; omega)) (by unfold Wlx; omega))
  cases g1 : zL (zB t n P)
  · simp (disch := omega) only [b_253_9, ↓w_aload_n_0, ↓w_getfield, ↓w_nop, ↓w_ifCond_eq, ↓w_if_icmp_eq, ↓w_invokevirtual_0, ↓w_invokestatic_1, stw_0, stw_i, stw_l, stw_r, ofK0, ofK1, ofK2, lst1, lst2, lkill, kont_none, kont_some, Int.reduceToNat, List.length_cons, List.length_nil, Nat.reduceAdd, Nat.reduceLeDiff, Nat.zero_le, true_and, and_true, if_true, if_false, ne_eq, Int.reduceEq, Int.reduceNeg, not_false_eq_true, not_true_eq_false, ↓reduceIte, Int.reduceLT, Int.reduceLE, and_self, or_true, true_or, or_false, false_or, false_and, and_false, ah_t_w, ah_m_w, ah_n_w, lst1_0, List.tail_cons, w32_i, zbd, lst2_0, mt_1036a hM', c_242, g1, zb_f]
    exact no _ (by unfold zwb; rw [g1]; simp)
  · cases g2 : zpd t n P
    · have g3 : ¬ (P = ah_m h' 1036 4) := fun q => by rw [he'.2.1 q.symm] at g2; cases g2
      have gw : zwb t n P = true := by unfold zwb; rw [g1, g2]; rfl
      cases g4 : zown t n P
      · rw [if_pos ⟨gw, g4⟩] at hQ0 hQ1
        simp (disch := omega) only [b_253_9, q_253_48, b_253_48, ↓w_lconst, ↓w_aload_n_0, ↓w_lstore_n_1, ↓w_getfield, ↓w_putfield_0, ↓w_nop, ↓w_ifCond_eq, ↓w_if_icmp_eq, ↓w_invokevirtual_0, ↓w_invokestatic_1, stw_0, stw_i, stw_l, stw_r, ofK0, ofK1, ofK2, lst1, lst2, lkill, kont_none, kont_some, Int.reduceToNat, List.length_cons, List.length_nil, Nat.reduceAdd, Nat.reduceLeDiff, Nat.zero_le, true_and, and_true, if_true, if_false, ne_eq, Int.reduceEq, Int.reduceNeg, not_false_eq_true, not_true_eq_false, ↓reduceIte, Int.reduceLT, Int.reduceLE, and_self, or_true, true_or, or_false, false_or, false_and, and_false, ah_t_w, ah_m_w, ah_n_w, lst1_0, List.tail_cons, w32_i, zbd, lst2_0, mt_1036a hM', c_242, g1, zb_t, zb_f, e2, g3, c_254 hX' hs, g4]
        have hpe : P < zwe t n P := by
          have hlt : P < n := by
            rcases Int.lt_or_le P n with w | w
            · exact w
            · rw [zB_o w] at g1; cases g1
          have : (n - P).toNat = (n - P - 1).toNat + 1 := by omega
          unfold zwe; rw [this]; simp only [zwf]; rw [g1, if_pos rfl]
          have := @zwf_le n t (n - P - 1).toNat (P + 1)
          omega
        refine l_253 (h := h') (R := (0, 0)) (p := P) hb'.1 (fun h2 e6 hB hO2 => ?_) (fun h2 q v e6 eq ev hX2 hO2 e44 => ?_) (n - P).toNat P 0 0 _ (LY_w (LY_of hX') (by omega)) (Off_w Off_rfl (by unfold Wlx; omega)) rfl (by omega) (by omega) (by omega) (by omega) (by decide) rfl rfl (fun e => by omega) hpe
        · rw [if_pos e6] at hQ0
          exact hQ0 _ _ 1 (P + 6) rfl hB (Off_tr hO' hO2)
        · rw [if_neg (by omega)] at hQ1
          exact hQ1 _ q v (by rw [eq, ev]) hX2 (Off_tr hO' hO2) e44
      · simp (disch := omega) only [b_253_9, ↓w_aload_n_0, ↓w_getfield, ↓w_nop, ↓w_ifCond_eq, ↓w_if_icmp_eq, ↓w_invokevirtual_0, ↓w_invokestatic_1, stw_0, stw_i, stw_l, stw_r, ofK0, ofK1, ofK2, lst1, lst2, lkill, kont_none, kont_some, Int.reduceToNat, List.length_cons, List.length_nil, Nat.reduceAdd, Nat.reduceLeDiff, Nat.zero_le, true_and, and_true, if_true, if_false, ne_eq, Int.reduceEq, Int.reduceNeg, not_false_eq_true, not_true_eq_false, ↓reduceIte, Int.reduceLT, Int.reduceLE, and_self, or_true, true_or, or_false, false_or, false_and, and_false, ah_t_w, ah_m_w, ah_n_w, lst1_0, List.tail_cons, w32_i, zbd, lst2_0, mt_1036a hM', c_242, g1, zb_t, e2, g3, c_254 hX' hs, g4]
        exact no _ (by rw [g4]; simp)
    · have g3 : P = ah_m h' 1036 4 := (he'.2.2 g2).symm
      simp (disch := omega) only [b_253_9, ↓w_aload_n_0, ↓w_getfield, ↓w_nop, ↓w_ifCond_eq, ↓w_if_icmp_eq, ↓w_invokevirtual_0, ↓w_invokestatic_1, stw_0, stw_i, stw_l, stw_r, ofK0, ofK1, ofK2, lst1, lst2, lkill, kont_none, kont_some, Int.reduceToNat, List.length_cons, List.length_nil, Nat.reduceAdd, Nat.reduceLeDiff, Nat.zero_le, true_and, and_true, if_true, if_false, ne_eq, Int.reduceEq, Int.reduceNeg, not_false_eq_true, not_true_eq_false, ↓reduceIte, Int.reduceLT, Int.reduceLE, and_self, or_true, true_or, or_false, false_or, false_and, and_false, ah_t_w, ah_m_w, ah_n_w, lst1_0, List.tail_cons, w32_i, zbd, lst2_0, mt_1036a hM', c_242, g1, zb_t, e2, ← g3]
      exact no _ (by unfold zwb; rw [g2]; simp)
theorem b_253 {kk : Int} (hB : BX kk p h) : wpC (d + 1) 253 [.inr (.inr 1036)] h Q ↔ Q (.inl (some (.inr (.inl 0)))) h := by
  have e := hB.2.1; have hk := hB.2.2.2
  apply CT_iff; apply CT_of; rw [wpC_B]; refine ⟨⟨Nat.zero_lt_succ _, Nat.le_of_ble_eq_true rfl⟩, ?_⟩; simp only [lent]
  simp (disch := omega) only [q_253_0, b_253_0, ↓w_lconst, ↓w_aload_n_0, ↓w_getfield, ↓w_ifCond_eq, ↓w_lreturn, stw_0, stw_i, stw_l, stw_r, ofK0, ofK1, ofK2, lst1, lst2, lkill, kont_none, kont_some, Int.reduceToNat, List.length_cons, List.length_nil, Nat.reduceAdd, Nat.reduceLeDiff, Nat.zero_le, true_and, and_true, if_true, if_false, ne_eq, Int.reduceEq, Int.reduceNeg, not_false_eq_true, not_true_eq_false, ↓reduceIte, Int.reduceLT, Int.reduceLE, and_self, or_true, true_or, or_false, false_or, false_and, and_false, ah_t_w, ah_m_w, ah_n_w, lst1_0, List.tail_cons, w32_i, zbd, lst2_0, mt_1036a hB.1, e, hk]
end LEX3
