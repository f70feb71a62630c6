/-! ===== X's state under what a reader makes ===== -/
section F3
variable {W' W : Int → Int → Prop} {d : Nat} {h h' h1 h2 h0 : AH} {Q : QQ} {x y z k s b v n p q r o i N lo hi A B E kd mt rs V m f : Int} {a : Int × Bool} {S T T' : Int → Int → Int} {t nw nw' pt of tp : Int → Int} {tl : ALoc} {w u l cs c c1 c2 : List Int} {hm : Bool} {D : Nat} {its : List (List Int)}
set_option maxHeartbeats 4000000
theorem XB_ext (hB : XB T h) (hF : FRE h) (hE : Ext W h h') (hW : ∀ r i, W r i → ¬ BRr r ∧ ¬ (r = 1 ∧ i = 0)) : XB T h' := by
  have hlt : ∀ r, (ah_t h r).1 ≠ 0 → r < ah_n h := fun r q => FRE_lt hF q
  have ht : ∀ r, (ah_t h r).1 ≠ 0 → ah_t h' r = ah_t h r := fun r q => hE.2.1 r (Or.inl (hlt r q))
  have hm : ∀ r i, BRr r → (ah_t h r).1 ≠ 0 → ah_m h' r i = ah_m h r i := fun r i f q => hE.2.2 r i (hlt r q) (fun w => (hW r i w).1 f)
  have e0 : xb h' = xb h := hE.2.2 1 0 (by have := hF.1; omega) (fun w => (hW _ _ w).2 ⟨rfl, rfl⟩)
  obtain ⟨b1, b2, b3, b4, b5, b6, b7⟩ := hB
  have n1 : (ah_t h (xb h)).1 ≠ 0 := by rw [b1.2]; exact (by decide : (2 : Int) ≠ 0)
  have e5 : ∀ i, ah_m h' (xb h') i = ah_m h (xb h) i := fun i => by rw [e0]; exact hm _ _ b1.1 n1
  have elk : xlk h' = xlk h := e5 5
  have el : ∀ l n c, c ≠ 0 → XL h l n c → XL h' l n c ∧ ∀ i, xel h' l i = xel h l i := fun l n c c0 q => by
    have nl : (ah_t h l).1 ≠ 0 := by rw [q.1.2.1]; exact (by decide : (3 : Int) ≠ 0)
    have ne : (ah_t h (ah_m h l 1)).1 ≠ 0 := by rw [q.2.1.2.1]; exact (by decide : (-10 : Int) ≠ 0)
    have q1 : ah_m h' l 1 = ah_m h l 1 := hm _ _ q.1.1 nl
    have q2 : ∀ i, xel h' l i = xel h l i := fun i => by unfold xel; rw [q1]; exact hm _ _ q.2.1.1 ne
    refine ⟨?_, q2⟩
    unfold XL
    rw [q1]
    refine ⟨⟨q.1.1, by rw [ht _ nl]; exact q.1.2.1, by rw [hm _ _ q.1.1 nl]; exact q.1.2.2⟩, by rw [ht _ ne]; exact q.2.1, fun i a b => ?_⟩
    have := q.2.2 i a b
    rw [hm _ _ q.2.1.1 ne, ht _ (by rw [this.2]; exact c0)]; exact this
  have ek := el _ _ _ (by decide) b4.1; have em := el _ _ _ (by decide) b4.2.1; have ef := el _ _ _ (by decide) b4.2.2
  have fk : ∀ k, xki h' k = xki h k := fun k => by unfold xki; rw [e5]; exact ek.2 k
  have fm : ∀ k, xma h' k = xma h k := fun k => by unfold xma; rw [e5]; exact em.2 k
  have ff : ∀ k, xfi h' k = xfi h k := fun k => by unfold xfi; rw [e5]; exact ef.2 k
  have n3 : (ah_t h (xlk h)).1 ≠ 0 := by rw [b3.2.1]; exact (by decide : (-1 : Int) ≠ 0)
  refine ⟨⟨by rw [e0]; exact b1.1, by rw [e0, ht _ n1]; exact b1.2⟩, by rw [e5, e5, e5, e5]; exact b2, ?_, ⟨by rw [e5]; exact ek.1, by rw [e5]; exact em.1, by rw [e5]; exact ef.1⟩, fun k p q => ?_, fun k p q => ?_, fun k p q => ?_⟩
  · rw [elk, ht _ n3, hm _ _ b3.1 n3, hm _ _ b3.1 n3]; exact b3
  · have u := b4.1.2.2 k p q
    have u1 : BRr (xki h k) := u.1
    have u2 : (ah_t h (xki h k)).1 ≠ 0 := by
      have : ah_t h (xki h k) = (12, 0) := u.2
      rw [this]; exact (by decide : (12 : Int) ≠ 0)
    rw [fk, hm _ _ u1 u2, hm _ _ u1 u2, hm _ _ u1 u2, hm _ _ u1 u2]; exact b5 k p q
  · have u := b4.2.1.2.2 k p q
    have u1 : BRr (xma h k) := u.1
    have u2 : (ah_t h (xma h k)).1 ≠ 0 := by
      have : ah_t h (xma h k) = (13, 0) := u.2
      rw [this]; exact (by decide : (13 : Int) ≠ 0)
    rw [fm, hm _ _ u1 u2, hm _ _ u1 u2]; exact b6 k p q
  · have u := b4.2.2.2.2 k p q
    have u1 : BRr (xfi h k) := u.1
    have u2 : (ah_t h (xfi h k)).1 ≠ 0 := by
      have : ah_t h (xfi h k) = (14, 0) := u.2
      rw [this]; exact (by decide : (14 : Int) ≠ 0)
    rw [ff, hm _ _ u1 u2, hm _ _ u1 u2]; exact b7 k p q
theorem XS_ext (hS : XS T nw s h) (hF : FRE h) (hn : nw 24 ≤ 40) (hE : Ext W h h') (hW : ∀ r i, W r i → ¬ (s ≤ r ∧ r ≤ s + 44)) : XS T nw s h' := by
  have s9 : s < 1020 := by have := hS.1; unfold isS at this; omega
  have n0 := hF.1
  have hm : ∀ r i, s ≤ r → r ≤ s + 44 → ah_m h' r i = ah_m h r i := fun r i a b => hE.2.2 r i (by omega) (fun w => hW r i w ⟨a, b⟩)
  obtain ⟨a1, a2, a3, a4, a5, a6, a7⟩ := hS
  refine ⟨a1, ?_, fun m p q => ?_, fun m p q => ?_, fun m p q => ?_, fun k i p q u v => ?_, fun k p q => ?_, fun j k p q u v ne => ?_⟩
  · rw [hm _ _ (by omega) (by omega), hm _ _ (by omega) (by omega), hm _ _ (by omega) (by omega), hm _ _ (by omega) (by omega)]; exact a2
  · rw [hm _ _ (by omega) (by omega)]; exact a3 m p q
  · rw [hm _ _ (by omega) (by omega)]; exact a4 m p q
  · rw [hm _ _ (by omega) (by omega)]; exact a5 m p q
  · have := a7.1 k p (by omega)
    rw [hm (s + 4) k (by omega) (by omega), hm _ _ (by omega) (by omega)]; exact a6 k i p q u v
  · rw [hm (s + 4) k (by omega) (by omega)]; exact a7.1 k p q
  · rw [hm (s + 4) k (by omega) (by omega), hm (s + 4) j (by omega) (by omega)]; exact a7.2 j k p q u v ne
theorem XH_ext (hH : XH T h) (hB : XB T h) (hF : FRE h) (hE : Ext W h h') (hW : ∀ r i, W r i → r < 1121 ∧ ¬ BRr r ∧ ¬ (r = 1 ∧ i = 0)) : XH T h' := by
  have e0 : xb h' = xb h := hE.2.2 1 0 (by have := hF.1; omega) (fun w => (hW _ _ w).2.2 ⟨rfl, rfl⟩)
  have nb : xb h < ah_n h := FRE_lt hF (by rw [hB.1.2]; exact (by decide : (2 : Int) ≠ 0))
  have e9 : ah_m h' (xb h') 9 = ah_m h (xb h) 9 := by rw [e0]; exact hE.2.2 _ _ nb (fun w => (hW _ _ w).2.1 hB.1.1)
  unfold XH
  rw [e9]
  rcases hH with q | q
  · exact Or.inl q
  · obtain ⟨q1, x, y, q2⟩ := q
    have qb := q2.1
    exact Or.inr ⟨q1, x, y, VSi_ext q2 (fun r r0 r1 => ⟨hE.2.1 r (Or.inl (by omega)), fun i => hE.2.2 r i (by omega) (fun w => by have := hW _ _ w; omega)⟩) hE.1.1⟩
theorem XA_ext (hA : XA T nw h) (hF : FRE h) (h40 : nw 24 ≤ 40) (hE : Ext W h h') (hW : ∀ r i, W r i → (¬ fix r i ∧ ¬ BRr r ∧ ¬ (r = 1 ∧ i = 0)) ∧ r < 1121 ∧ (r < 25 ∨ (115 ≤ r ∧ r ≤ 119) ∨ 1020 ≤ r)) : XA T nw h' := by
  obtain ⟨⟨a1, a2, a3⟩, a4, a5, a6⟩ := hA
  have n0 := hF.1
  refine ⟨⟨XI_ext a1 hF hE (fun r i w => (hW r i w).1.1), XB_ext a2 hF hE (fun r i w => (hW r i w).1.2), a3⟩, XS_ext a4 hF h40 hE (fun r i w => by have := hW r i w; omega), XH_ext a5 a2 hF hE (fun r i w => ⟨(hW r i w).2.1, (hW r i w).1.2⟩), fun s hs => ?_⟩
  have hr := a6 s hs
  have s9 : s < 1020 := by unfold isS at hs; omega
  have e : ∀ k, ah_m h' (s + 4) k = ah_m h (s + 4) k := fun k => hE.2.2 _ _ (by omega) (fun w => by
    have := hW _ _ w
    unfold isS at hs; omega)
  exact ⟨fun k p q => by rw [e]; exact hr.1 k p q, fun j k p q u v ne => by rw [e, e]; exact hr.2 j k p q u v ne⟩
/-- how far a field is from the man asked of -/
theorem c_120 (hK : XG T h) (hS : XS T nw 25 h) (hN : NV T nw) (e22 : ah_m h 1 22 = m) (hm : 0 ≤ m ∧ m < T 1072 4) (ha : nw (2 + 2 * m) ≠ -1) (hx : -1000000 ≤ x ∧ x ≤ 1000000) : wpC (d + 6) 120 [.inr (.inr 1), .inl 0, .inr (.inl x)] h Q ↔ Q (.inl (some (.inr (.inl (zoq T nw m x))))) h := by
  have hC := hK.2.2.2.2.2.1; have hR := hK.2.2.2.2.2.2.1
  have h8 := hK.2.2.2.1
  have g0 := hm.1
  have g1 := hm.2
  have m8 : m < 8 := by omega
  have ep := sp hS g0 g1
  have hb := zpl5_b hN hC.2 hR.2 g0 g1
  have hv := hN.2.1 m g0 g1
  rcases hb with q | q
  · exact absurd q.2 ha
  have q2 := tm5 q.1.1; have q3 := q.2.1
  have q4 := td5 q.1.1; have q5 := q.2.2.1
  unfold zoq
  apply CT_iff; apply CT_of; rw [wpC_B]; refine ⟨⟨Nat.zero_lt_succ _, Nat.le_of_ble_eq_true rfl⟩, ?_⟩; simp only [lent]
  by_cases g : 0 ≤ x ∧ x < T 1072 5
  · rw [if_pos g]
    have f0 := g.1
    have f1 := g.2
    have f6 : x < 6 := by have := hK.2.2.2.2.1; omega
    have hf := hK.2.2.2.2.2.2.2.2.2.1 x f0 f6
    have xe : xel h (ah_m h (xb h) 8) x = xfi h x := rfl
    have w1 : w32 x = x := w32_i (by omega) (by omega)
    have f0n : ¬ x < 0 := by omega
    simp (disch := omega) only [q_120_0, b_120_0, q_120_20, b_120_20, q_120_22, b_120_22, ↓w_iconst, ↓w_lconst, ↓w_aload_n_0, ↓w_iload_n_1, ↓w_lload_n_2, ↓w_aload_4, ↓w_astore, ↓w_lcmp, ↓w_idiv, ↓w_irem, ↓w_i2l, ↓w_l2i, ↓w_getfield, ↓w_iaload, ↓w_checkcast, ↓w_nop, ↓w_ifCond_ne, ↓w_ifCond_lt, ↓w_lreturn, ↓w_invokevirtual_0, ↓w_invokeinterface_1, ↓w_invokestatic_4, stw_0, stw_i, stw_l, stw_r, ofK0, ofK1, ofK2, lst1, lst2, lkill, kont_none, kont_some, Int.reduceToNat, List.length_cons, List.length_nil, Nat.reduceAdd, Nat.reduceLeDiff, Nat.zero_le, true_and, and_true, if_true, if_false, ne_eq, Int.reduceEq, Int.reduceNeg, not_false_eq_true, not_true_eq_false, ↓reduceIte, Int.reduceLT, Int.reduceLE, and_self, or_true, true_or, or_false, false_or, false_and, and_false, ah_t_w, ah_m_w, ah_n_w, lst1_0, List.tail_cons, w32_i, zbd, lst2_0, lc_gt, lc_lt, lc_eq, xt_1a hK, x_0, xf_1_12 hK, xb_t hK, xl_8t hK, s_t hK hS, s_3 hK hS, s_3a hK hS, s_3b hK hS, c_95 hK, f0n, eq_true f1, c_40 (xl_8 hK) f0 f1, xe, fi_t hK f0 f1, fi_1 hK f0 f1, fi_2 hK f0 f1, asc, Option.isSome_some, e22, ep, g0, m8, q2, q3, q4, q5, w1, c_118]
  · rw [if_neg g]
    by_cases f0 : x < 0
    · simp (disch := omega) only [q_120_0, b_120_0, q_120_20, b_120_20, q_120_22, b_120_22, ↓w_iconst, ↓w_lconst, ↓w_aload_n_0, ↓w_iload_n_1, ↓w_lload_n_2, ↓w_aload_4, ↓w_astore, ↓w_lcmp, ↓w_idiv, ↓w_irem, ↓w_i2l, ↓w_l2i, ↓w_getfield, ↓w_iaload, ↓w_checkcast, ↓w_nop, ↓w_ifCond_ne, ↓w_ifCond_lt, ↓w_lreturn, ↓w_invokevirtual_0, ↓w_invokeinterface_1, ↓w_invokestatic_4, stw_0, stw_i, stw_l, stw_r, ofK0, ofK1, ofK2, lst1, lst2, lkill, kont_none, kont_some, Int.reduceToNat, List.length_cons, List.length_nil, Nat.reduceAdd, Nat.reduceLeDiff, Nat.zero_le, true_and, and_true, if_true, if_false, ne_eq, Int.reduceEq, Int.reduceNeg, not_false_eq_true, not_true_eq_false, ↓reduceIte, Int.reduceLT, Int.reduceLE, and_self, or_true, true_or, or_false, false_or, false_and, and_false, ah_t_w, ah_m_w, ah_n_w, lst1_0, List.tail_cons, w32_i, zbd, lst2_0, lc_gt, lc_lt, lc_eq, xt_1a hK, x_0, xf_1_12 hK, xb_t hK, xl_8t hK, s_t hK hS, s_3 hK hS, s_3a hK hS, s_3b hK hS, f0]
    · have f1 : ¬ x < T 1072 5 := by omega
      simp (disch := omega) only [q_120_0, b_120_0, q_120_20, b_120_20, q_120_22, b_120_22, ↓w_iconst, ↓w_lconst, ↓w_aload_n_0, ↓w_iload_n_1, ↓w_lload_n_2, ↓w_aload_4, ↓w_astore, ↓w_lcmp, ↓w_idiv, ↓w_irem, ↓w_i2l, ↓w_l2i, ↓w_getfield, ↓w_iaload, ↓w_checkcast, ↓w_nop, ↓w_ifCond_ne, ↓w_ifCond_lt, ↓w_lreturn, ↓w_invokevirtual_0, ↓w_invokeinterface_1, ↓w_invokestatic_4, stw_0, stw_i, stw_l, stw_r, ofK0, ofK1, ofK2, lst1, lst2, lkill, kont_none, kont_some, Int.reduceToNat, List.length_cons, List.length_nil, Nat.reduceAdd, Nat.reduceLeDiff, Nat.zero_le, true_and, and_true, if_true, if_false, ne_eq, Int.reduceEq, Int.reduceNeg, not_false_eq_true, not_true_eq_false, ↓reduceIte, Int.reduceLT, Int.reduceLE, and_self, or_true, true_or, or_false, false_or, false_and, and_false, ah_t_w, ah_m_w, ah_n_w, lst1_0, List.tail_cons, w32_i, zbd, lst2_0, lc_gt, lc_lt, lc_eq, xt_1a hK, x_0, xf_1_12 hK, xb_t hK, xl_8t hK, s_t hK hS, s_3 hK hS, s_3a hK hS, s_3b hK hS, f0, f1, c_95 hK]
end F3
