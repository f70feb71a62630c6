/-! ===== X's reader: tests, facts joined ===== -/
/-- what a reading of a test does -/
def CTx (t : Int → Int) (n : Int) (f : Nat) (md : Int) (id w : Nat) (br bs cr cs : Int) : Prop :=
  ∀ (u d : Nat) (k : Int) (h : AH) (Q : QQ), 1 ≤ u → u ≤ 7 → RX t n k h → ah_m h 11 4 = 7 - (u : Int) → ah_m h 11 5 = zctxt false → 6 * (n - k) + zrk md ≤ f →
    (∀ h' k' a b, zxt t n f md k (7 - (u : Int)) = .inl (a, b) → RX t n k' h' → Ext Wrd h h' → BXx a b h' → CO h h' (63 * (n - k) + cr) (4204 * (n - k) + cs) → Q (.inr 12) h') →
    (∀ h' p k' k1 c, zxt t n f md k (7 - (u : Int)) = .inr (k1, c) → RX t n k' h' → zsk t n k' = zsk t n k1 → k < k' → Ext Wrd h h' → ah_m h' 11 4 = 7 - (u : Int) → TSi (w + 4 * u) (ah_n h) (ah_n h') h' p c → CO h h' (63 * (k' - k) - br) (4204 * (k' - k) - bs) → Q (.inl (some (.inr (.inr p)))) h') →
    wpC (d + w + 5 * u) id [.inr (.inr 11)] h Q
/-- what its loop does -/
def LTx (t : Int → Int) (n : Int) (f : Nat) (md : Int) (id w : Nat) (m ib sb cr cs : Int) : Prop :=
  ∀ (u d : Nat) (k0 x : Int) (h0 h : AH) (p : Int) (its : List (List Int)) (cap el : Int) (Q : QQ), 1 ≤ u → u ≤ 7 → RX t n x h → 0 ≤ k0 → Ext Wrd h0 h → its ≠ [] → ah_m h 11 4 = 7 - (u : Int) → ah_m h 11 5 = zctxt false → 6 * (n - x) + zrk md ≤ f →
    FCT (w + 4 * u) (ah_n h0) h p m its cap el → (its.length : Int) ≤ x - k0 → ah_n h + (ib - 1) * its.length ≤ ah_n h0 + 63 * (x - k0) + 3 → ah_s h + sb * its.length ≤ ah_s h0 + 4204 * (x - k0) - 1 + 4 * cap →
    (∀ h' k' a b, zxt t n f md x (7 - (u : Int)) = .inl (a, b) → RX t n k' h' → Ext Wrd h0 h' → BXx a b h' → CO h0 h' (63 * (n - k0) + cr) (4204 * (n - k0) + cs) → Q (.inr 12) h') →
    (∀ h' k' k1 c its' cap' el', zxt t n f md x (7 - (u : Int)) = .inr (k1, c) → RX t n k' h' → zsk t n k' = zsk t n k1 → k0 < k' → Ext Wrd h0 h' → ah_m h' 11 4 = 7 - (u : Int) → FCT (w + 4 * u) (ah_n h0) h' p m its' cap' el' → its' ≠ [] → zjc (zjop m) its' = zjc (zjop m) its ++ c → (its'.length : Int) ≤ k' - k0 → ah_n h' + (ib - 1) * its'.length ≤ ah_n h0 + 63 * (k' - k0) + 6 → ah_s h' + sb * its'.length ≤ ah_s h0 + 4204 * (k' - k0) + 3203 + 4 * cap' → Q (.inl (some (.inr (.inr p)))) h') →
    wpB (d + w + 5 * u) id 23 [some (.inr (.inr 11)), some (.inr (.inr p))] [] h Q
section E6
variable {W' : Int → Int → Prop} {d : Nat} {h h' h1 h2 h0 : AH} {Q : QQ} {x y z k s a b c v n p q r o i N lo hi A B E cap el sp dp capL elL capS elS l' m : Int} {S T T' : Int → Int → Int} {t nw nw' pt of tp : Int → Int} {tl : ALoc} {w u W l cs c1 c2 : List Int} {hm : Bool} {D f : Nat} {its : List (List Int)}
set_option maxHeartbeats 4000000
theorem app_nt {g : List Int} : its ++ [g] ≠ [] := by simp
theorem Wnm_e (hR : RX t n k h) (hE : Ext Wnm h h') : ah_m h' 11 4 = ah_m h 11 4 ∧ ah_m h' 11 5 = ah_m h 11 5 := by
  have := hR.1.2.1.1
  exact ⟨hE.2.2 _ _ (by omega) (by unfold Wnm W12; omega), hE.2.2 _ _ (by omega) (by unfold Wnm W12; omega)⟩
theorem LT_196 (hi : CTx t n f 1 197 14 55 982 60 7100) (hl : LTx t n f 3 196 14 0 55 982 70 7200) : LTx t n (f + 1) 3 196 14 0 55 982 70 7200 := by
  intro u d k0 x h0 h p its cap el Q u1 u7 hR hk hE hne e4 e5 hf hC hlen hbr hbs hQ0 hQ1
  have t11 := r_11 hR.1
  have hx := hR.2.2.2.2.2
  have hF := hR.1.2.1
  have n16 := hR.2.2.2.2.1.1.2
  have hs := zsk_le (t := t) hx.2
  have zz := zsk_zsk (t := t) hx.1 hx.2
  have l1 : 1 ≤ its.length := by cases its with | nil => exact absurd rfl hne | cons a b => simp
  have hcap := hC.2.2.2.1
  rw [q_196_23]
  simp (disch := omega) only [b_196_23, ↓w_ldc_w, ↓w_aload_n_0, ↓w_aload_n_1, ↓w_pop_i, ↓w_pop_a, ↓w_getfield, ↓w_goto, ↓w_ifCond_eq, ↓w_invokevirtual_0, ↓w_invokevirtual_1, ↓w_invokeinterface_1, stw_0, stw_i, stw_l, stw_r, ofK0, ofK1, ofK2, lst1, lst2, lkill, kont_none, kont_some, Int.reduceToNat, List.length_cons, List.length_nil, Nat.reduceAdd, Nat.reduceLeDiff, Nat.zero_le, true_and, and_true, if_true, if_false, ne_eq, Int.reduceEq, Int.reduceNeg, not_false_eq_true, not_true_eq_false, ↓reduceIte, Int.reduceLT, Int.reduceLE, and_self, or_true, true_or, or_false, false_or, false_and, and_false, ah_t_w, ah_m_w, ah_n_w, lst1_0, List.tail_cons, w32_i, zbd, lst2_0, t11]
  refine wpC_deep (c_185 (d := 0) (W := zwor) hR (by decide) (fun h1 g hR1 hO1 hb => ?_) (fun h1 g hR1 hE1 e31 co1 => ?_) (fun h1 k' g g2 hR1 hk' ek' hE1 co1 => ?_)) (by omega)
  · rw [kont_0]
    refine hQ0 h1 _ 1 (zsk t n x) ?_ hR1 (Ext_tr hE (Ext_off (Off_mono Wnm_d hO1))) hb ?_
    · simp only [zxt, if_true, if_false, Int.reduceEq]; rw [if_pos g]
    · have := Off_n hO1; have := Off_s hO1; unfold CO; omega
  · have hwr := zhw_r hs.2 g
    have hwl : (zwor : List Int).length = 2 := rfl
    rw [hwl] at hwr hR1 co1
    have gl : zlp t n (zsk t n x) = false := by
      cases q : zlp t n (zsk t n x) with
      | true => rw [zlp_hw q] at g; cases g
      | false => rfl
    have hE1' : Ext Wrd h h1 := Ext_mono Wnm_d hE1
    have e41 := Wnm_e hR hE1
    have hF1 := hR1.1.2.1
    have hC1 := FCT_ext hC hF hE1' (fun r i w => by have := Wrd_lt _ _ w; have := hC.1.2.2.1; omega)
    have t1 := r_11 hR1.1
    have tp1 : (ah_t h1 p).1 = 21 := by rw [hC1.1.1]
    unfold CO at co1
    simp (disch := omega) only [b_196_23, ↓w_ldc_w, ↓w_aload_n_0, ↓w_aload_n_1, ↓w_pop_i, ↓w_pop_a, ↓w_getfield, ↓w_goto, ↓w_ifCond_eq, ↓w_invokevirtual_0, ↓w_invokevirtual_1, ↓w_invokeinterface_1, stw_0, stw_i, stw_l, stw_r, ofK0, ofK1, ofK2, lst1, lst2, lkill, kont_none, kont_some, Int.reduceToNat, List.length_cons, List.length_nil, Nat.reduceAdd, Nat.reduceLeDiff, Nat.zero_le, true_and, and_true, if_true, if_false, ne_eq, Int.reduceEq, Int.reduceNeg, not_false_eq_true, not_true_eq_false, ↓reduceIte, Int.reduceLT, Int.reduceLE, and_self, or_true, true_or, or_false, false_or, false_and, and_false, ah_t_w, ah_m_w, ah_n_w, lst1_0, List.tail_cons, w32_i, zbd, lst2_0, t1, tp1]
    refine wpC_deep (hi u d (zsk t n x + 2) h1 _ u1 u7 hR1 (by rw [e41.1]; exact e4) (by rw [e41.2]; exact e5) (by simp [zrk] at hf ⊢; omega) (fun h2 k' a b e1 hR2 hE2 hb co => ?_) (fun h2 v k' k1 c1 e1 hR2 hzk hkk hE2 e42 hv co => ?_)) (by omega)
    · rw [kont_0]
      refine hQ0 h2 k' a b ?_ hR2 (Ext_tr hE (Ext_tr hE1' hE2)) hb ?_
      · simp only [zxt, if_true, if_false, Int.reduceEq]; rw [if_neg (by rw [gl]; decide), if_pos g, e1]
      · unfold CO at co ⊢; omega
    · have hi2 := FCT_it hF1 hC1 hE2 hv
      have e52 := Wrd_e hR1 hE2
      have hk' := hR2.2.2.2.2.2
      have em : ah_m h2 p 0 = ah_m h1 p 0 := by
        have := hC1.1.2.1; have := hC1.1.2.2.1
        exact hE2.2.2 _ _ (fcX_lt hF1 hC1 (Or.inl rfl)).2 (fun w => by have := Wrd_lt _ _ w; omega)
      have t2 : (ah_t h2 (ah_m h1 p 0)).1 = 3 := by rw [← em, hi2.1.2.1.1.1]
      simp (disch := omega) only [b_196_23, ↓w_ldc_w, ↓w_aload_n_0, ↓w_aload_n_1, ↓w_pop_i, ↓w_pop_a, ↓w_getfield, ↓w_goto, ↓w_ifCond_eq, ↓w_invokevirtual_0, ↓w_invokevirtual_1, ↓w_invokeinterface_1, stw_0, stw_i, stw_l, stw_r, ofK0, ofK1, ofK2, lst1, lst2, lkill, kont_none, kont_some, Int.reduceToNat, List.length_cons, List.length_nil, Nat.reduceAdd, Nat.reduceLeDiff, Nat.zero_le, true_and, and_true, if_true, if_false, ne_eq, Int.reduceEq, Int.reduceNeg, not_false_eq_true, not_true_eq_false, ↓reduceIte, Int.reduceLT, Int.reduceLE, and_self, or_true, true_or, or_false, false_or, false_and, and_false, ah_t_w, ah_m_w, ah_n_w, lst1_0, List.tail_cons, w32_i, zbd, lst2_0, t2]
      rw [← em]
      unfold CO at co
      refine wpC_deep (c_42r (d := 0) hR2 (Ext_tr hE (Ext_tr hE1' hE2)) hi2.1 hi2.2 (by omega) (fun h3 cap' el' hR3 hE3 hC3 e3 n3 s3 => ?_)) (by omega)
      simp (disch := omega) only [b_196_23, ↓w_ldc_w, ↓w_aload_n_0, ↓w_aload_n_1, ↓w_pop_i, ↓w_pop_a, ↓w_getfield, ↓w_goto, ↓w_ifCond_eq, ↓w_invokevirtual_0, ↓w_invokevirtual_1, ↓w_invokeinterface_1, stw_0, stw_i, stw_l, stw_r, ofK0, ofK1, ofK2, lst1, lst2, lkill, kont_none, kont_some, Int.reduceToNat, List.length_cons, List.length_nil, Nat.reduceAdd, Nat.reduceLeDiff, Nat.zero_le, true_and, and_true, if_true, if_false, ne_eq, Int.reduceEq, Int.reduceNeg, not_false_eq_true, not_true_eq_false, ↓reduceIte, Int.reduceLT, Int.reduceLE, and_self, or_true, true_or, or_false, false_or, false_and, and_false, ah_t_w, ah_m_w, ah_n_w, lst1_0, List.tail_cons, w32_i, zbd, lst2_0]
      have hlen3 : ((its ++ [c1]).length : Int) = its.length + 1 := by simp
      have ese := zxt_se (o := 7 - (u : Int)) hzk.symm f 3
      refine hl u d k0 k' h0 h3 p _ cap' el' Q u1 u7 hR3 hk hE3 app_nt (by rw [e3]; exact e42) (by rw [e3, e52, e41.2]; exact e5) (by simp [zrk] at hf ⊢; omega) hC3 (by rw [hlen3]; omega) (by rw [hlen3]; omega) (by rw [hlen3]; omega) (fun h4 k2 a b e4' hR4 hE4 hb co4 => ?_) (fun h4 k3 k2 c2 its' a1 a2 e4' hR4 hz4 hkk4 hE4 e44 hC4 hne' hz hl4 n4 s4 => ?_)
      · refine hQ0 h4 k2 a b ?_ hR4 hE4 hb co4
        simp only [zxt, if_true, if_false, Int.reduceEq]; rw [if_neg (by rw [gl]; decide), if_pos g, e1]; simp only []; rw [ese, e4']
      · refine hQ1 h4 k3 k2 (c1 ++ (11 :: c2)) its' a1 a2 ?_ hR4 hz4 hkk4 hE4 e44 hC4 hne' ?_ hl4 n4 s4
        · simp only [zxt, if_true, if_false, Int.reduceEq]; rw [if_neg (by rw [gl]; decide), if_pos g, e1]; simp only []; rw [ese, e4']
        · rw [hz, zjc_app hne, show zjop 0 = 11 from rfl]; simp
  · have hE1' : Ext Wrd h h1 := Ext_mono Wnm_d hE1
    have e41 := Wnm_e hR hE1
    have hC1 := FCT_ext hC hF hE1' (fun r i w => by have := Wrd_lt _ _ w; have := hC.1.2.2.1; omega)
    unfold CO at co1
    simp (disch := omega) only [b_196_23, q_196_50, b_196_50, ↓w_ldc_w, ↓w_aload_n_0, ↓w_aload_n_1, ↓w_pop_i, ↓w_pop_a, ↓w_getfield, ↓w_goto, ↓w_ifCond_eq, ↓w_areturn, ↓w_invokevirtual_0, ↓w_invokevirtual_1, ↓w_invokeinterface_1, stw_0, stw_i, stw_l, stw_r, ofK0, ofK1, ofK2, lst1, lst2, lkill, kont_none, kont_some, Int.reduceToNat, List.length_cons, List.length_nil, Nat.reduceAdd, Nat.reduceLeDiff, Nat.zero_le, true_and, and_true, if_true, if_false, ne_eq, Int.reduceEq, Int.reduceNeg, not_false_eq_true, not_true_eq_false, ↓reduceIte, Int.reduceLT, Int.reduceLE, and_self, or_true, true_or, or_false, false_or, false_and, and_false, ah_t_w, ah_m_w, ah_n_w, lst1_0, List.tail_cons, w32_i, zbd, lst2_0]
    refine hQ1 h1 k' (zsk t n x) [] its cap el ?_ hR1 (by rw [ek', zz]) (by omega) (Ext_tr hE hE1') (by rw [e41.1]; exact e4) hC1 hne (by simp) (by omega) (by omega) (by omega)
    simp only [zxt, if_true, if_false, Int.reduceEq]; rw [if_neg (by rw [g]; decide), if_neg (by rw [g2]; decide)]
theorem CT_196 (hi : CTx t n f 1 197 14 55 982 60 7100) (hl : LTx t n f 3 196 14 0 55 982 70 7200) : CTx t n (f + 1) 0 196 15 48 (-2237) 70 7200 := by
  intro u d k h Q u1 u7 hR e4 e5 hf hQ0 hQ1
  have t11 := r_11 hR.1
  have hx := hR.2.2.2.2.2
  have hF := hR.1.2.1
  have n16 := hR.2.2.2.2.1.1.2
  have n0 := hF.1
  rw [show d + 15 + 5 * u = (d + 14 + 5 * u) + 1 by omega]
  rw [wpC_B]; refine ⟨⟨Nat.zero_lt_succ _, Nat.le_of_ble_eq_true rfl⟩, ?_⟩; simp only [lent]
  simp (disch := omega) only [q_196_0, b_196_0, ↓w_iconst, ↓w_aload_n_0, ↓w_aload_n_1, ↓w_astore_n_1, ↓w_dup_i, ↓w_dup_a, ↓w_pop_i, ↓w_pop_a, ↓w_getfield, ↓w_new, ↓w_nop, ↓w_invokevirtual_0, ↓w_invokespecial_1, ↓w_invokeinterface_1, stw_0, stw_i, stw_l, stw_r, ofK0, ofK1, ofK2, lst1, lst2, lkill, kont_none, kont_some, Int.reduceToNat, List.length_cons, List.length_nil, Nat.reduceAdd, Nat.reduceLeDiff, Nat.zero_le, true_and, and_true, if_true, if_false, ne_eq, Int.reduceEq, Int.reduceNeg, not_false_eq_true, not_true_eq_false, ↓reduceIte, Int.reduceLT, Int.reduceLE, and_self, or_true, true_or, or_false, false_or, false_and, and_false, ah_t_w, ah_m_w, ah_n_w, lst1_0, List.tail_cons, w32_i, zbd, lst2_0, t11, ah_t_new]
  refine wpC_deep (c_199 (D := 14 + 4 * u) (d := 0) hR (by omega) (fun h1 el hR1 hE1 hC1 e1 n1 s1 => ?_)) (by omega)
  have t1 := r_11 hR1.1
  have hF1 := hR1.1.2.1
  have tp1 : (ah_t h1 (ah_n h)).1 = 21 := by rw [hC1.1.1]
  simp (disch := omega) only [b_196_0, ↓w_iconst, ↓w_aload_n_0, ↓w_aload_n_1, ↓w_astore_n_1, ↓w_dup_i, ↓w_dup_a, ↓w_pop_i, ↓w_pop_a, ↓w_getfield, ↓w_new, ↓w_nop, ↓w_invokevirtual_0, ↓w_invokespecial_1, ↓w_invokeinterface_1, stw_0, stw_i, stw_l, stw_r, ofK0, ofK1, ofK2, lst1, lst2, lkill, kont_none, kont_some, Int.reduceToNat, List.length_cons, List.length_nil, Nat.reduceAdd, Nat.reduceLeDiff, Nat.zero_le, true_and, and_true, if_true, if_false, ne_eq, Int.reduceEq, Int.reduceNeg, not_false_eq_true, not_true_eq_false, ↓reduceIte, Int.reduceLT, Int.reduceLE, and_self, or_true, true_or, or_false, false_or, false_and, and_false, ah_t_w, ah_m_w, ah_n_w, lst1_0, List.tail_cons, w32_i, zbd, lst2_0, t1, tp1]
  refine wpC_deep (hi u d k h1 _ u1 u7 hR1 (by rw [e1]; exact e4) (by rw [e1]; exact e5) (by simp [zrk] at hf ⊢; omega) (fun h2 k' a b ez hR2 hE2 hb co => ?_) (fun h2 v k' k1 c1 ez hR2 hzk hkk hE2 e42 hv co => ?_)) (by omega)
  · rw [kont_0]
    refine hQ0 h2 k' a b ?_ hR2 (Ext_tr hE1 hE2) hb ?_
    · simp only [zxt, if_true, if_false, Int.reduceEq]; rw [ez]
    · unfold CO at co ⊢; omega
  · have hi2 := FCT_it hF1 hC1 hE2 hv
    have e52 := Wrd_e hR1 hE2
    have hk' := hR2.2.2.2.2.2
    have em : ah_m h2 (ah_n h) 0 = ah_m h1 (ah_n h) 0 := by
      exact hE2.2.2 _ _ (fcX_lt hF1 hC1 (Or.inl rfl)).2 (fun w => by have := Wrd_lt _ _ w; omega)
    have t2 : (ah_t h2 (ah_m h1 (ah_n h) 0)).1 = 3 := by rw [← em, hi2.1.2.1.1.1]
    simp (disch := omega) only [b_196_0, ↓w_iconst, ↓w_aload_n_0, ↓w_aload_n_1, ↓w_astore_n_1, ↓w_dup_i, ↓w_dup_a, ↓w_pop_i, ↓w_pop_a, ↓w_getfield, ↓w_new, ↓w_nop, ↓w_invokevirtual_0, ↓w_invokespecial_1, ↓w_invokeinterface_1, stw_0, stw_i, stw_l, stw_r, ofK0, ofK1, ofK2, lst1, lst2, lkill, kont_none, kont_some, Int.reduceToNat, List.length_cons, List.length_nil, Nat.reduceAdd, Nat.reduceLeDiff, Nat.zero_le, true_and, and_true, if_true, if_false, ne_eq, Int.reduceEq, Int.reduceNeg, not_false_eq_true, not_true_eq_false, ↓reduceIte, Int.reduceLT, Int.reduceLE, and_self, or_true, true_or, or_false, false_or, false_and, and_false, ah_t_w, ah_m_w, ah_n_w, lst1_0, List.tail_cons, w32_i, zbd, lst2_0, t2]
    rw [← em]
    unfold CO at co
    refine wpC_deep (c_42r (d := 0) hR2 (Ext_tr hE1 hE2) hi2.1 hi2.2 (by simp) (fun h3 cap' el' hR3 hE3 hC3 e3 n3 s3 => ?_)) (by omega)
    simp (disch := omega) only [b_196_0, ↓w_iconst, ↓w_aload_n_0, ↓w_aload_n_1, ↓w_astore_n_1, ↓w_dup_i, ↓w_dup_a, ↓w_pop_i, ↓w_pop_a, ↓w_getfield, ↓w_new, ↓w_nop, ↓w_invokevirtual_0, ↓w_invokespecial_1, ↓w_invokeinterface_1, stw_0, stw_i, stw_l, stw_r, ofK0, ofK1, ofK2, lst1, lst2, lkill, kont_none, kont_some, Int.reduceToNat, List.length_cons, List.length_nil, Nat.reduceAdd, Nat.reduceLeDiff, Nat.zero_le, true_and, and_true, if_true, if_false, ne_eq, Int.reduceEq, Int.reduceNeg, not_false_eq_true, not_true_eq_false, ↓reduceIte, Int.reduceLT, Int.reduceLE, and_self, or_true, true_or, or_false, false_or, false_and, and_false, ah_t_w, ah_m_w, ah_n_w, lst1_0, List.tail_cons, w32_i, zbd, lst2_0]
    have ese := zxt_se (o := 7 - (u : Int)) hzk.symm f 3
    refine hl u d k k' h h3 (ah_n h) _ cap' el' Q u1 u7 hR3 hx.1 hE3 app_nt (by rw [e3]; exact e42) (by rw [e3, e52, e1]; exact e5) (by simp [zrk] at hf ⊢; omega) hC3 (by simp; omega) (by simp; omega) (by simp; omega) (fun h4 k2 a b e4' hR4 hE4 hb co4 => ?_) (fun h4 k3 k2 c2 its' a1 a2 e4' hR4 hz4 hkk4 hE4 e44 hC4 hne' hz hl4 n4 s4 => ?_)
    · refine hQ0 h4 k2 a b ?_ hR4 hE4 hb co4
      simp only [zxt, if_true, if_false, Int.reduceEq]; rw [ez]; simp only []; rw [ese, e4']
    · have l1 : 1 ≤ its'.length := by cases its' with | nil => exact absurd rfl hne' | cons a b => simp
      have hk2 := hR4.2.2.2.2.2
      refine hQ1 h4 (ah_n h) k3 k2 (c1 ++ c2) ?_ hR4 hz4 hkk4 hE4 e44 ?_ ?_
      · simp only [zxt, if_true, if_false, Int.reduceEq]; rw [ez]; simp only []; rw [ese, e4']
      · have := TSi_facts hR4.1.2.1 hC4 (by omega) (by omega) hne'
        rw [hz] at this
        rw [show 15 + 4 * u = 14 + 4 * u + 1 by omega]
        simpa [zjc, zjr] using this
      · have := hC4.2.2.2.1
        unfold CO; omega
theorem LT_197 (hi : CTx t n f 2 198 13 62 4201 50 7000) (hl : LTx t n f 4 197 13 1 62 4201 60 7100) : LTx t n (f + 1) 4 197 13 1 62 4201 60 7100 := by
  intro u d k0 x h0 h p its cap el Q u1 u7 hR hk hE hne e4 e5 hf hC hlen hbr hbs hQ0 hQ1
  have t11 := r_11 hR.1
  have hx := hR.2.2.2.2.2
  have hF := hR.1.2.1
  have n16 := hR.2.2.2.2.1.1.2
  have hs := zsk_le (t := t) hx.2
  have zz := zsk_zsk (t := t) hx.1 hx.2
  have l1 : 1 ≤ its.length := by cases its with | nil => exact absurd rfl hne | cons a b => simp
  have hcap := hC.2.2.2.1
  rw [q_197_23]
  simp (disch := omega) only [b_197_23, ↓w_ldc_w, ↓w_aload_n_0, ↓w_aload_n_1, ↓w_pop_i, ↓w_pop_a, ↓w_getfield, ↓w_goto, ↓w_ifCond_eq, ↓w_invokevirtual_0, ↓w_invokevirtual_1, ↓w_invokeinterface_1, stw_0, stw_i, stw_l, stw_r, ofK0, ofK1, ofK2, lst1, lst2, lkill, kont_none, kont_some, Int.reduceToNat, List.length_cons, List.length_nil, Nat.reduceAdd, Nat.reduceLeDiff, Nat.zero_le, true_and, and_true, if_true, if_false, ne_eq, Int.reduceEq, Int.reduceNeg, not_false_eq_true, not_true_eq_false, ↓reduceIte, Int.reduceLT, Int.reduceLE, and_self, or_true, true_or, or_false, false_or, false_and, and_false, ah_t_w, ah_m_w, ah_n_w, lst1_0, List.tail_cons, w32_i, zbd, lst2_0, t11]
  refine wpC_deep (c_185 (d := 0) (W := zwand) hR (by decide) (fun h1 g hR1 hO1 hb => ?_) (fun h1 g hR1 hE1 e31 co1 => ?_) (fun h1 k' g g2 hR1 hk' ek' hE1 co1 => ?_)) (by omega)
  · rw [kont_0]
    refine hQ0 h1 _ 1 (zsk t n x) ?_ hR1 (Ext_tr hE (Ext_off (Off_mono Wnm_d hO1))) hb ?_
    · simp only [zxt, if_true, if_false, Int.reduceEq]; rw [if_pos g]
    · have := Off_n hO1; have := Off_s hO1; unfold CO; omega
  · have hwr := zhw_r hs.2 g
    have hwl : (zwand : List Int).length = 3 := rfl
    rw [hwl] at hwr hR1 co1
    have gl : zlp t n (zsk t n x) = false := by
      cases q : zlp t n (zsk t n x) with
      | true => rw [zlp_hw q] at g; cases g
      | false => rfl
    have hE1' : Ext Wrd h h1 := Ext_mono Wnm_d hE1
    have e41 := Wnm_e hR hE1
    have hF1 := hR1.1.2.1
    have hC1 := FCT_ext hC hF hE1' (fun r i w => by have := Wrd_lt _ _ w; have := hC.1.2.2.1; omega)
    have t1 := r_11 hR1.1
    have tp1 : (ah_t h1 p).1 = 21 := by rw [hC1.1.1]
    unfold CO at co1
    simp (disch := omega) only [b_197_23, ↓w_ldc_w, ↓w_aload_n_0, ↓w_aload_n_1, ↓w_pop_i, ↓w_pop_a, ↓w_getfield, ↓w_goto, ↓w_ifCond_eq, ↓w_invokevirtual_0, ↓w_invokevirtual_1, ↓w_invokeinterface_1, stw_0, stw_i, stw_l, stw_r, ofK0, ofK1, ofK2, lst1, lst2, lkill, kont_none, kont_some, Int.reduceToNat, List.length_cons, List.length_nil, Nat.reduceAdd, Nat.reduceLeDiff, Nat.zero_le, true_and, and_true, if_true, if_false, ne_eq, Int.reduceEq, Int.reduceNeg, not_false_eq_true, not_true_eq_false, ↓reduceIte, Int.reduceLT, Int.reduceLE, and_self, or_true, true_or, or_false, false_or, false_and, and_false, ah_t_w, ah_m_w, ah_n_w, lst1_0, List.tail_cons, w32_i, zbd, lst2_0, t1, tp1]
    refine wpC_deep (hi u d (zsk t n x + 3) h1 _ u1 u7 hR1 (by rw [e41.1]; exact e4) (by rw [e41.2]; exact e5) (by simp [zrk] at hf ⊢; omega) (fun h2 k' a b e1 hR2 hE2 hb co => ?_) (fun h2 v k' k1 c1 e1 hR2 hzk hkk hE2 e42 hv co => ?_)) (by omega)
    · rw [kont_0]
      refine hQ0 h2 k' a b ?_ hR2 (Ext_tr hE (Ext_tr hE1' hE2)) hb ?_
      · simp only [zxt, if_true, if_false, Int.reduceEq]; rw [if_neg (by rw [gl]; decide), if_pos g, e1]
      · unfold CO at co ⊢; omega
    · have hi2 := FCT_it hF1 hC1 hE2 hv
      have e52 := Wrd_e hR1 hE2
      have hk' := hR2.2.2.2.2.2
      have em : ah_m h2 p 0 = ah_m h1 p 0 := by
        have := hC1.1.2.1; have := hC1.1.2.2.1
        exact hE2.2.2 _ _ (fcX_lt hF1 hC1 (Or.inl rfl)).2 (fun w => by have := Wrd_lt _ _ w; omega)
      have t2 : (ah_t h2 (ah_m h1 p 0)).1 = 3 := by rw [← em, hi2.1.2.1.1.1]
      simp (disch := omega) only [b_197_23, ↓w_ldc_w, ↓w_aload_n_0, ↓w_aload_n_1, ↓w_pop_i, ↓w_pop_a, ↓w_getfield, ↓w_goto, ↓w_ifCond_eq, ↓w_invokevirtual_0, ↓w_invokevirtual_1, ↓w_invokeinterface_1, stw_0, stw_i, stw_l, stw_r, ofK0, ofK1, ofK2, lst1, lst2, lkill, kont_none, kont_some, Int.reduceToNat, List.length_cons, List.length_nil, Nat.reduceAdd, Nat.reduceLeDiff, Nat.zero_le, true_and, and_true, if_true, if_false, ne_eq, Int.reduceEq, Int.reduceNeg, not_false_eq_true, not_true_eq_false, ↓reduceIte, Int.reduceLT, Int.reduceLE, and_self, or_true, true_or, or_false, false_or, false_and, and_false, ah_t_w, ah_m_w, ah_n_w, lst1_0, List.tail_cons, w32_i, zbd, lst2_0, t2]
      rw [← em]
      unfold CO at co
      refine wpC_deep (c_42r (d := 0) hR2 (Ext_tr hE (Ext_tr hE1' hE2)) hi2.1 hi2.2 (by omega) (fun h3 cap' el' hR3 hE3 hC3 e3 n3 s3 => ?_)) (by omega)
      simp (disch := omega) only [b_197_23, ↓w_ldc_w, ↓w_aload_n_0, ↓w_aload_n_1, ↓w_pop_i, ↓w_pop_a, ↓w_getfield, ↓w_goto, ↓w_ifCond_eq, ↓w_invokevirtual_0, ↓w_invokevirtual_1, ↓w_invokeinterface_1, stw_0, stw_i, stw_l, stw_r, ofK0, ofK1, ofK2, lst1, lst2, lkill, kont_none, kont_some, Int.reduceToNat, List.length_cons, List.length_nil, Nat.reduceAdd, Nat.reduceLeDiff, Nat.zero_le, true_and, and_true, if_true, if_false, ne_eq, Int.reduceEq, Int.reduceNeg, not_false_eq_true, not_true_eq_false, ↓reduceIte, Int.reduceLT, Int.reduceLE, and_self, or_true, true_or, or_false, false_or, false_and, and_false, ah_t_w, ah_m_w, ah_n_w, lst1_0, List.tail_cons, w32_i, zbd, lst2_0]
      have hlen3 : ((its ++ [c1]).length : Int) = its.length + 1 := by simp
      have ese := zxt_se (o := 7 - (u : Int)) hzk.symm f 4
      refine hl u d k0 k' h0 h3 p _ cap' el' Q u1 u7 hR3 hk hE3 app_nt (by rw [e3]; exact e42) (by rw [e3, e52, e41.2]; exact e5) (by simp [zrk] at hf ⊢; omega) hC3 (by rw [hlen3]; omega) (by rw [hlen3]; omega) (by rw [hlen3]; omega) (fun h4 k2 a b e4' hR4 hE4 hb co4 => ?_) (fun h4 k3 k2 c2 its' a1 a2 e4' hR4 hz4 hkk4 hE4 e44 hC4 hne' hz hl4 n4 s4 => ?_)
      · refine hQ0 h4 k2 a b ?_ hR4 hE4 hb co4
        simp only [zxt, if_true, if_false, Int.reduceEq]; rw [if_neg (by rw [gl]; decide), if_pos g, e1]; simp only []; rw [ese, e4']
      · refine hQ1 h4 k3 k2 (c1 ++ (10 :: c2)) its' a1 a2 ?_ hR4 hz4 hkk4 hE4 e44 hC4 hne' ?_ hl4 n4 s4
        · simp only [zxt, if_true, if_false, Int.reduceEq]; rw [if_neg (by rw [gl]; decide), if_pos g, e1]; simp only []; rw [ese, e4']
        · rw [hz, zjc_app hne, show zjop 1 = 10 from rfl]; simp
  · have hE1' : Ext Wrd h h1 := Ext_mono Wnm_d hE1
    have e41 := Wnm_e hR hE1
    have hC1 := FCT_ext hC hF hE1' (fun r i w => by have := Wrd_lt _ _ w; have := hC.1.2.2.1; omega)
    unfold CO at co1
    simp (disch := omega) only [b_197_23, q_197_50, b_197_50, ↓w_ldc_w, ↓w_aload_n_0, ↓w_aload_n_1, ↓w_pop_i, ↓w_pop_a, ↓w_getfield, ↓w_goto, ↓w_ifCond_eq, ↓w_areturn, ↓w_invokevirtual_0, ↓w_invokevirtual_1, ↓w_invokeinterface_1, stw_0, stw_i, stw_l, stw_r, ofK0, ofK1, ofK2, lst1, lst2, lkill, kont_none, kont_some, Int.reduceToNat, List.length_cons, List.length_nil, Nat.reduceAdd, Nat.reduceLeDiff, Nat.zero_le, true_and, and_true, if_true, if_false, ne_eq, Int.reduceEq, Int.reduceNeg, not_false_eq_true, not_true_eq_false, ↓reduceIte, Int.reduceLT, Int.reduceLE, and_self, or_true, true_or, or_false, false_or, false_and, and_false, ah_t_w, ah_m_w, ah_n_w, lst1_0, List.tail_cons, w32_i, zbd, lst2_0]
    refine hQ1 h1 k' (zsk t n x) [] its cap el ?_ hR1 (by rw [ek', zz]) (by omega) (Ext_tr hE hE1') (by rw [e41.1]; exact e4) hC1 hne (by simp) (by omega) (by omega) (by omega)
    simp only [zxt, if_true, if_false, Int.reduceEq]; rw [if_neg (by rw [g]; decide), if_neg (by rw [g2]; decide)]
theorem CT_197 (hi : CTx t n f 2 198 13 62 4201 50 7000) (hl : LTx t n f 4 197 13 1 62 4201 60 7100) : CTx t n (f + 1) 1 197 14 55 982 60 7100 := by
  intro u d k h Q u1 u7 hR e4 e5 hf hQ0 hQ1
  have t11 := r_11 hR.1
  have hx := hR.2.2.2.2.2
  have hF := hR.1.2.1
  have n16 := hR.2.2.2.2.1.1.2
  have n0 := hF.1
  rw [show d + 14 + 5 * u = (d + 13 + 5 * u) + 1 by omega]
  rw [wpC_B]; refine ⟨⟨Nat.zero_lt_succ _, Nat.le_of_ble_eq_true rfl⟩, ?_⟩; simp only [lent]
  simp (disch := omega) only [q_197_0, b_197_0, ↓w_iconst, ↓w_aload_n_0, ↓w_aload_n_1, ↓w_astore_n_1, ↓w_dup_i, ↓w_dup_a, ↓w_pop_i, ↓w_pop_a, ↓w_getfield, ↓w_new, ↓w_nop, ↓w_invokevirtual_0, ↓w_invokespecial_1, ↓w_invokeinterface_1, stw_0, stw_i, stw_l, stw_r, ofK0, ofK1, ofK2, lst1, lst2, lkill, kont_none, kont_some, Int.reduceToNat, List.length_cons, List.length_nil, Nat.reduceAdd, Nat.reduceLeDiff, Nat.zero_le, true_and, and_true, if_true, if_false, ne_eq, Int.reduceEq, Int.reduceNeg, not_false_eq_true, not_true_eq_false, ↓reduceIte, Int.reduceLT, Int.reduceLE, and_self, or_true, true_or, or_false, false_or, false_and, and_false, ah_t_w, ah_m_w, ah_n_w, lst1_0, List.tail_cons, w32_i, zbd, lst2_0, t11, ah_t_new]
  refine wpC_deep (c_199 (D := 13 + 4 * u) (d := 0) hR (by omega) (fun h1 el hR1 hE1 hC1 e1 n1 s1 => ?_)) (by omega)
  have t1 := r_11 hR1.1
  have hF1 := hR1.1.2.1
  have tp1 : (ah_t h1 (ah_n h)).1 = 21 := by rw [hC1.1.1]
  simp (disch := omega) only [b_197_0, ↓w_iconst, ↓w_aload_n_0, ↓w_aload_n_1, ↓w_astore_n_1, ↓w_dup_i, ↓w_dup_a, ↓w_pop_i, ↓w_pop_a, ↓w_getfield, ↓w_new, ↓w_nop, ↓w_invokevirtual_0, ↓w_invokespecial_1, ↓w_invokeinterface_1, stw_0, stw_i, stw_l, stw_r, ofK0, ofK1, ofK2, lst1, lst2, lkill, kont_none, kont_some, Int.reduceToNat, List.length_cons, List.length_nil, Nat.reduceAdd, Nat.reduceLeDiff, Nat.zero_le, true_and, and_true, if_true, if_false, ne_eq, Int.reduceEq, Int.reduceNeg, not_false_eq_true, not_true_eq_false, ↓reduceIte, Int.reduceLT, Int.reduceLE, and_self, or_true, true_or, or_false, false_or, false_and, and_false, ah_t_w, ah_m_w, ah_n_w, lst1_0, List.tail_cons, w32_i, zbd, lst2_0, t1, tp1]
  refine wpC_deep (hi u d k h1 _ u1 u7 hR1 (by rw [e1]; exact e4) (by rw [e1]; exact e5) (by simp [zrk] at hf ⊢; omega) (fun h2 k' a b ez hR2 hE2 hb co => ?_) (fun h2 v k' k1 c1 ez hR2 hzk hkk hE2 e42 hv co => ?_)) (by omega)
  · rw [kont_0]
    refine hQ0 h2 k' a b ?_ hR2 (Ext_tr hE1 hE2) hb ?_
    · simp only [zxt, if_true, if_false, Int.reduceEq]; rw [ez]
    · unfold CO at co ⊢; omega
  · have hi2 := FCT_it hF1 hC1 hE2 hv
    have e52 := Wrd_e hR1 hE2
    have hk' := hR2.2.2.2.2.2
    have em : ah_m h2 (ah_n h) 0 = ah_m h1 (ah_n h) 0 := by
      exact hE2.2.2 _ _ (fcX_lt hF1 hC1 (Or.inl rfl)).2 (fun w => by have := Wrd_lt _ _ w; omega)
    have t2 : (ah_t h2 (ah_m h1 (ah_n h) 0)).1 = 3 := by rw [← em, hi2.1.2.1.1.1]
    simp (disch := omega) only [b_197_0, ↓w_iconst, ↓w_aload_n_0, ↓w_aload_n_1, ↓w_astore_n_1, ↓w_dup_i, ↓w_dup_a, ↓w_pop_i, ↓w_pop_a, ↓w_getfield, ↓w_new, ↓w_nop, ↓w_invokevirtual_0, ↓w_invokespecial_1, ↓w_invokeinterface_1, stw_0, stw_i, stw_l, stw_r, ofK0, ofK1, ofK2, lst1, lst2, lkill, kont_none, kont_some, Int.reduceToNat, List.length_cons, List.length_nil, Nat.reduceAdd, Nat.reduceLeDiff, Nat.zero_le, true_and, and_true, if_true, if_false, ne_eq, Int.reduceEq, Int.reduceNeg, not_false_eq_true, not_true_eq_false, ↓reduceIte, Int.reduceLT, Int.reduceLE, and_self, or_true, true_or, or_false, false_or, false_and, and_false, ah_t_w, ah_m_w, ah_n_w, lst1_0, List.tail_cons, w32_i, zbd, lst2_0, t2]
    rw [← em]
    unfold CO at co
    refine wpC_deep (c_42r (d := 0) hR2 (Ext_tr hE1 hE2) hi2.1 hi2.2 (by simp) (fun h3 cap' el' hR3 hE3 hC3 e3 n3 s3 => ?_)) (by omega)
    simp (disch := omega) only [b_197_0, ↓w_iconst, ↓w_aload_n_0, ↓w_aload_n_1, ↓w_astore_n_1, ↓w_dup_i, ↓w_dup_a, ↓w_pop_i, ↓w_pop_a, ↓w_getfield, ↓w_new, ↓w_nop, ↓w_invokevirtual_0, ↓w_invokespecial_1, ↓w_invokeinterface_1, stw_0, stw_i, stw_l, stw_r, ofK0, ofK1, ofK2, lst1, lst2, lkill, kont_none, kont_some, Int.reduceToNat, List.length_cons, List.length_nil, Nat.reduceAdd, Nat.reduceLeDiff, Nat.zero_le, true_and, and_true, if_true, if_false, ne_eq, Int.reduceEq, Int.reduceNeg, not_false_eq_true, not_true_eq_false, ↓reduceIte, Int.reduceLT, Int.reduceLE, and_self, or_true, true_or, or_false, false_or, false_and, and_false, ah_t_w, ah_m_w, ah_n_w, lst1_0, List.tail_cons, w32_i, zbd, lst2_0]
    have ese := zxt_se (o := 7 - (u : Int)) hzk.symm f 4
    refine hl u d k k' h h3 (ah_n h) _ cap' el' Q u1 u7 hR3 hx.1 hE3 app_nt (by rw [e3]; exact e42) (by rw [e3, e52, e1]; exact e5) (by simp [zrk] at hf ⊢; omega) hC3 (by simp; omega) (by simp; omega) (by simp; omega) (fun h4 k2 a b e4' hR4 hE4 hb co4 => ?_) (fun h4 k3 k2 c2 its' a1 a2 e4' hR4 hz4 hkk4 hE4 e44 hC4 hne' hz hl4 n4 s4 => ?_)
    · refine hQ0 h4 k2 a b ?_ hR4 hE4 hb co4
      simp only [zxt, if_true, if_false, Int.reduceEq]; rw [ez]; simp only []; rw [ese, e4']
    · have l1 : 1 ≤ its'.length := by cases its' with | nil => exact absurd rfl hne' | cons a b => simp
      have hk2 := hR4.2.2.2.2.2
      refine hQ1 h4 (ah_n h) k3 k2 (c1 ++ c2) ?_ hR4 hz4 hkk4 hE4 e44 ?_ ?_
      · simp only [zxt, if_true, if_false, Int.reduceEq]; rw [ez]; simp only []; rw [ese, e4']
      · have := TSi_facts hR4.1.2.1 hC4 (by omega) (by omega) hne'
        rw [hz] at this
        rw [show 14 + 4 * u = 13 + 4 * u + 1 by omega]
        simpa [zjc, zjr] using this
      · have := hC4.2.2.2.1
        unfold CO; omega
end E6
