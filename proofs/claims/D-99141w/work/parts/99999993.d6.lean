/-! ===== X's reader: sums and products ===== -/
def zctxt (hm : Bool) : Int := if hm = true then 15 else 2040
/-- what a reading of a value does -/
def CEx (hm : Bool) (t : Int → Int) (n : Int) (f : Nat) (md : Int) (id w : Nat) (br bs cr cs : Int) : Prop :=
  ∀ (u d : Nat) (k : Int) (h : AH) (Q : QQ), 1 ≤ u → u ≤ 7 → RX t n k h → ah_m h 11 4 = 7 - (u : Int) → ah_m h 11 5 = zctxt hm → 6 * (n - k) + zrk md ≤ f →
    (∀ h' k' a b, zex hm t n f md k (7 - (u : Int)) = .inl (a, b) → RX t n k' h' → Ext Wrd h h' → BXx a b h' → CO h h' (60 * (n - k) + cr) (1000 * (n - k) + cs) → Q (.inr 12) h') →
    (∀ h' p k1 c, zex hm t n f md k (7 - (u : Int)) = .inr (k1, c) → RX t n k1 h' → Ext Wrd h h' → ah_m h' 11 4 = 7 - (u : Int) → VSi hm (w + 4 * u) (ah_n h) (ah_n h') h' p c → CO h h' (60 * (k1 - k) - br) (1000 * (k1 - k) - bs) → Q (.inl (some (.inr (.inr p)))) h') →
    wpC (d + w + 5 * u) id [.inr (.inr 11)] h Q
/-- what its loop does -/
def LPx (hm : Bool) (t : Int → Int) (n : Int) (f : Nat) (md : Int) (id w : Nat) (ib sb cr cs : Int) : Prop :=
  ∀ (u d : Nat) (k0 x : Int) (h0 h : AH) (p : Int) (its : List (Int × List Int)) (capL elL capS elS : Int) (Q : QQ), 1 ≤ u → u ≤ 7 → RX t n x h → 0 ≤ k0 → Ext Wrd h0 h → its ≠ [] → ah_m h 11 4 = 7 - (u : Int) → ah_m h 11 5 = zctxt hm → 6 * (n - x) + zrk md ≤ f →
    CHN hm (w + 4 * u) (ah_n h0) h p its capL elL capS elS → (its.length : Int) ≤ x - k0 → ah_n h + (ib - 2) * its.length ≤ ah_n h0 + 60 * (x - k0) + 5 → ah_s h + sb * its.length ≤ ah_s h0 + 1000 * (x - k0) - 13 + 4 * capL + 2 * capS →
    (∀ h' k' a b, zex hm t n f md x (7 - (u : Int)) = .inl (a, b) → RX t n k' h' → Ext Wrd h0 h' → BXx a b h' → CO h0 h' (60 * (n - k0) + cr) (1000 * (n - k0) + cs) → Q (.inr 12) h') →
    (∀ h' k1 c its' capL' elL' capS' elS', zex hm t n f md x (7 - (u : Int)) = .inr (k1, c) → RX t n k1 h' → Ext Wrd h0 h' → ah_m h' 11 4 = 7 - (u : Int) → CHN hm (w + 4 * u) (ah_n h0) h' p its' capL' elL' capS' elS' → its' ≠ [] → zchc its' = zchc its ++ c → (its'.length : Int) ≤ k1 - k0 → ah_n h' + (ib - 2) * its'.length ≤ ah_n h0 + 60 * (k1 - k0) + 5 → ah_s h' + sb * its'.length ≤ ah_s h0 + 1000 * (k1 - k0) - 13 + 4 * capL' + 2 * capS' → Q (.inl (some (.inr (.inr p)))) h') →
    wpB (d + w + 5 * u) id 20 [some (.inr (.inr 11)), some (.inr (.inr p)), some (.inl 1)] [] h Q
section D6
variable {W' : Int → Int → Prop} {d : Nat} {h h' h1 h2 h0 : AH} {Q : QQ} {x y z k s a b c v n p q r o i N lo hi A B E cap el sp dp capL elL capS elS l' m : Int} {S T T' : Int → Int → Int} {t nw nw' pt of tp : Int → Int} {tl : ALoc} {w u W l cs c1 c2 : List Int} {hm : Bool} {D f : Nat} {its : List (Int × List Int)}
set_option maxHeartbeats 4000000
theorem app_ne {g : Int × List Int} : its ++ [g] ≠ [] := by simp
theorem Wr2_e (hO : Off Wr2 h h') : ah_m h' 11 4 = ah_m h 11 4 ∧ ah_m h' 11 5 = ah_m h 11 5 := ⟨hO.2 _ _ (by unfold Wr2; omega), hO.2 _ _ (by unfold Wr2; omega)⟩
theorem Wrd_e (hR : RX t n k h) (hE : Ext Wrd h h') : ah_m h' 11 5 = ah_m h 11 5 := hE.2.2 _ _ (by have := hR.1.2.1.1; omega) (by unfold Wrd; omega)
theorem LP_188 (hi : CEx hm t n f 1 189 11 12 200 20 200) (hl : LPx hm t n f 3 188 11 12 200 30 300) : LPx hm t n (f + 1) 3 188 11 12 200 30 300 := by
  intro u d k0 x h0 h p its capL elL capS elS Q u1 u7 hR hk hE hne e4 e5 hf hC hlen hbr hbs hQ0 hQ1
  have t11 := r_11 hR.1
  have hx := hR.2.2.2.2.2
  have hF := hR.1.2.1
  have n16 := hR.2.2.2.2.1.1.2
  have hs := zsk_le (t := t) hx.2
  have zz := zsk_zsk (t := t) hx.1 hx.2
  have l1 : 1 ≤ its.length := by cases its with | nil => exact absurd rfl hne | cons a b => simp
  rw [q_188_20]
  simp (disch := omega) only [b_188_20, ↓w_bipush, ↓w_aload_n_0, ↓w_aload_n_1, ↓w_iload_n_2, ↓w_goto, ↓w_ifCond_eq, ↓w_invokevirtual_0, ↓w_invokevirtual_1, ↓w_invokevirtual_2, stw_0, stw_i, stw_l, stw_r, ofK0, ofK1, ofK2, lst1, lst2, lkill, kont_none, kont_some, Int.reduceToNat, List.length_cons, List.length_nil, Nat.reduceAdd, Nat.reduceLeDiff, Nat.zero_le, true_and, and_true, if_true, if_false, ne_eq, Int.reduceEq, Int.reduceNeg, not_false_eq_true, not_true_eq_false, ↓reduceIte, Int.reduceLT, Int.reduceLE, and_self, or_true, true_or, or_false, false_or, false_and, and_false, ah_t_w, ah_m_w, ah_n_w, lst1_0, List.tail_cons, w32_i, zbd, lst2_0, t11]
  refine wpC_deep (c_194 (d := 0) hR (by decide) (fun h1 g43 hR1 hO1 => ?_) (fun h1 g43 hR1 hO1 => ?_)) (by omega)
  rotate_left
  · -- the sign 43
    have hlt := zskn hx.2 (by rw [g43]; decide)
    have hE1 : Ext Wrd h h1 := Ext_off (Off_mono Wr2_d hO1)
    have e41 := Wr2_e hO1
    have hC1 := CHN_ext hC hF hE1 (fun r i w => by have := Wrd_lt _ _ w; have := hC.1.2.2; omega)
    have hF1 := hR1.1.2.1
    have t1 := r_11 hR1.1
    have g43' : zB t n (zsk t n x) = 43 ∨ zB t n (zsk t n x) = 45 := by omega
    have n1 := Off_n hO1
    have s1 := Off_s hO1
    simp (disch := omega) only [b_188_20, ↓w_bipush, ↓w_aload_n_0, ↓w_aload_n_1, ↓w_iload_n_2, ↓w_goto, ↓w_ifCond_eq, ↓w_invokevirtual_0, ↓w_invokevirtual_1, ↓w_invokevirtual_2, stw_0, stw_i, stw_l, stw_r, ofK0, ofK1, ofK2, lst1, lst2, lkill, kont_none, kont_some, Int.reduceToNat, List.length_cons, List.length_nil, Nat.reduceAdd, Nat.reduceLeDiff, Nat.zero_le, true_and, and_true, if_true, if_false, ne_eq, Int.reduceEq, Int.reduceNeg, not_false_eq_true, not_true_eq_false, ↓reduceIte, Int.reduceLT, Int.reduceLE, and_self, or_true, true_or, or_false, false_or, false_and, and_false, ah_t_w, ah_m_w, ah_n_w, lst1_0, List.tail_cons, w32_i, zbd, lst2_0, t1]
    refine wpC_deep (hi u d (zsk t n x + 1) h1 _ u1 u7 hR1 (by rw [e41.1]; exact e4) (by rw [e41.2]; exact e5) (by simp [zrk] at hf ⊢; omega) (fun h2 k' a b e1 hR2 hE2 hb co => ?_) (fun h2 v k1 c1 e1 hR2 hE2 e42 hv co => ?_)) (by omega)
    · rw [kont_0]
      refine hQ0 h2 k' a b ?_ hR2 (Ext_tr hE (Ext_tr hE1 hE2)) hb ?_
      · simp only [zex, if_true, if_false, Int.reduceEq]; rw [if_pos g43', e1]
      · unfold CO at co ⊢
        have := hC.2.2.2.2.1
        have := hC.2.2.2.2.2.1
        omega
    · have pr := (zex_pr (hm := hm) (t := t) (n := n) f 1 (zsk t n x + 1) (7 - (u : Int)) (by omega) (by omega) (by omega) (by omega)).1 k1 c1 e1
      have hi2 := CHN_it hF1 hC1 hE2 hv
      have e52 := Wrd_e hR1 hE2
      have t2 : (ah_t h2 p).1 = 15 := by rw [hi2.1.1.1]
      simp (disch := omega) only [b_188_20, ↓w_bipush, ↓w_aload_n_0, ↓w_aload_n_1, ↓w_iload_n_2, ↓w_goto, ↓w_ifCond_eq, ↓w_invokevirtual_0, ↓w_invokevirtual_1, ↓w_invokevirtual_2, stw_0, stw_i, stw_l, stw_r, ofK0, ofK1, ofK2, lst1, lst2, lkill, kont_none, kont_some, Int.reduceToNat, List.length_cons, List.length_nil, Nat.reduceAdd, Nat.reduceLeDiff, Nat.zero_le, true_and, and_true, if_true, if_false, ne_eq, Int.reduceEq, Int.reduceNeg, not_false_eq_true, not_true_eq_false, ↓reduceIte, Int.reduceLT, Int.reduceLE, and_self, or_true, true_or, or_false, false_or, false_and, and_false, ah_t_w, ah_m_w, ah_n_w, lst1_0, List.tail_cons, w32_i, zbd, lst2_0, t2]
      refine wpC_deep (c_155r (d := 0) hR2 (Ext_tr hE (Ext_tr hE1 hE2)) hi2.1 (by unfold isSg; omega) hi2.2 (by omega) (fun h3 capL' elL' capS' elS' hR3 hE3 hC3 e3 n3 s3 => ?_)) (by omega)
      simp (disch := omega) only [b_188_20, ↓w_bipush, ↓w_aload_n_0, ↓w_aload_n_1, ↓w_iload_n_2, ↓w_goto, ↓w_ifCond_eq, ↓w_invokevirtual_0, ↓w_invokevirtual_1, ↓w_invokevirtual_2, stw_0, stw_i, stw_l, stw_r, ofK0, ofK1, ofK2, lst1, lst2, lkill, kont_none, kont_some, Int.reduceToNat, List.length_cons, List.length_nil, Nat.reduceAdd, Nat.reduceLeDiff, Nat.zero_le, true_and, and_true, if_true, if_false, ne_eq, Int.reduceEq, Int.reduceNeg, not_false_eq_true, not_true_eq_false, ↓reduceIte, Int.reduceLT, Int.reduceLE, and_self, or_true, true_or, or_false, false_or, false_and, and_false, ah_t_w, ah_m_w, ah_n_w, lst1_0, List.tail_cons, w32_i, zbd, lst2_0]
      have hlen3 : ((its ++ [((43 : Int), c1)]).length : Int) = its.length + 1 := by simp
      unfold CO at co
      refine hl u d k0 k1 h0 h3 p _ capL' elL' capS' elS' Q u1 u7 hR3 hk hE3 app_ne (by rw [e3]; exact e42) (by rw [e3, e52, e41.2]; exact e5) (by simp [zrk] at hf ⊢; omega) hC3 (by rw [hlen3]; omega) (by rw [hlen3]; omega) (by rw [hlen3]; omega) (fun h4 k' a b e4' hR4 hE4 hb co4 => ?_) (fun h4 k2 c2 its' a1 a2 a3 a4 e4' hR4 hE4 e44 hC4 hne' hz hl4 n4 s4 => ?_)
      · refine hQ0 h4 k' a b ?_ hR4 hE4 hb co4
        simp only [zex, if_true, if_false, Int.reduceEq]; rw [if_pos g43', e1]; simp only []; rw [e4']
      · refine hQ1 h4 k2 (c1 ++ (zop 43 :: c2)) its' a1 a2 a3 a4 ?_ hR4 hE4 e44 hC4 hne' ?_ hl4 n4 s4
        · simp only [zex, if_true, if_false, Int.reduceEq]; rw [if_pos g43', e1]; simp only []; rw [e4']; simp only []; rw [g43]; rfl
        · rw [hz, zchc_app hne]; simp
  · have t1 := r_11 hR1.1
    simp (disch := omega) only [b_188_20, q_188_46, b_188_46, ↓w_bipush, ↓w_aload_n_0, ↓w_aload_n_1, ↓w_iload_n_2, ↓w_goto, ↓w_ifCond_eq, ↓w_invokevirtual_0, ↓w_invokevirtual_1, ↓w_invokevirtual_2, stw_0, stw_i, stw_l, stw_r, ofK0, ofK1, ofK2, lst1, lst2, lkill, kont_none, kont_some, Int.reduceToNat, List.length_cons, List.length_nil, Nat.reduceAdd, Nat.reduceLeDiff, Nat.zero_le, true_and, and_true, if_true, if_false, ne_eq, Int.reduceEq, Int.reduceNeg, not_false_eq_true, not_true_eq_false, ↓reduceIte, Int.reduceLT, Int.reduceLE, and_self, or_true, true_or, or_false, false_or, false_and, and_false, ah_t_w, ah_m_w, ah_n_w, lst1_0, List.tail_cons, w32_i, zbd, lst2_0, t1]
    refine wpC_deep (c_194 (d := 0) hR1 (by decide) (fun h1b g45 hR1b hO1b => ?_) (fun h1b g45 hR1b hO1b => ?_)) (by omega)
    rotate_left
    · rw [zz] at g45 hR1b
      have hO1b' := Off_tr hO1 hO1b
      clear t1
      clear hO1b
      clear hO1 hR1
      revert hR1b hO1b'
      generalize h1b = h1
      intro hR1 hO1
      -- the sign 45
      have hlt := zskn hx.2 (by rw [g45]; decide)
      have hE1 : Ext Wrd h h1 := Ext_off (Off_mono Wr2_d hO1)
      have e41 := Wr2_e hO1
      have hC1 := CHN_ext hC hF hE1 (fun r i w => by have := Wrd_lt _ _ w; have := hC.1.2.2; omega)
      have hF1 := hR1.1.2.1
      have t1 := r_11 hR1.1
      have g45' : zB t n (zsk t n x) = 43 ∨ zB t n (zsk t n x) = 45 := by omega
      have n1 := Off_n hO1
      have s1 := Off_s hO1
      simp (disch := omega) only [b_188_46, ↓w_bipush, ↓w_aload_n_0, ↓w_aload_n_1, ↓w_goto, ↓w_ifCond_eq, ↓w_invokevirtual_0, ↓w_invokevirtual_1, ↓w_invokevirtual_2, stw_0, stw_i, stw_l, stw_r, ofK0, ofK1, ofK2, lst1, lst2, lkill, kont_none, kont_some, Int.reduceToNat, List.length_cons, List.length_nil, Nat.reduceAdd, Nat.reduceLeDiff, Nat.zero_le, true_and, and_true, if_true, if_false, ne_eq, Int.reduceEq, Int.reduceNeg, not_false_eq_true, not_true_eq_false, ↓reduceIte, Int.reduceLT, Int.reduceLE, and_self, or_true, true_or, or_false, false_or, false_and, and_false, ah_t_w, ah_m_w, ah_n_w, lst1_0, List.tail_cons, w32_i, zbd, lst2_0, t1]
      refine wpC_deep (hi u d (zsk t n x + 1) h1 _ u1 u7 hR1 (by rw [e41.1]; exact e4) (by rw [e41.2]; exact e5) (by simp [zrk] at hf ⊢; omega) (fun h2 k' a b e1 hR2 hE2 hb co => ?_) (fun h2 v k1 c1 e1 hR2 hE2 e42 hv co => ?_)) (by omega)
      · rw [kont_0]
        refine hQ0 h2 k' a b ?_ hR2 (Ext_tr hE (Ext_tr hE1 hE2)) hb ?_
        · simp only [zex, if_true, if_false, Int.reduceEq]; rw [if_pos g45', e1]
        · unfold CO at co ⊢
          have := hC.2.2.2.2.1
          have := hC.2.2.2.2.2.1
          omega
      · have pr := (zex_pr (hm := hm) (t := t) (n := n) f 1 (zsk t n x + 1) (7 - (u : Int)) (by omega) (by omega) (by omega) (by omega)).1 k1 c1 e1
        have hi2 := CHN_it hF1 hC1 hE2 hv
        have e52 := Wrd_e hR1 hE2
        have t2 : (ah_t h2 p).1 = 15 := by rw [hi2.1.1.1]
        simp (disch := omega) only [b_188_46, ↓w_bipush, ↓w_aload_n_0, ↓w_aload_n_1, ↓w_goto, ↓w_ifCond_eq, ↓w_invokevirtual_0, ↓w_invokevirtual_1, ↓w_invokevirtual_2, stw_0, stw_i, stw_l, stw_r, ofK0, ofK1, ofK2, lst1, lst2, lkill, kont_none, kont_some, Int.reduceToNat, List.length_cons, List.length_nil, Nat.reduceAdd, Nat.reduceLeDiff, Nat.zero_le, true_and, and_true, if_true, if_false, ne_eq, Int.reduceEq, Int.reduceNeg, not_false_eq_true, not_true_eq_false, ↓reduceIte, Int.reduceLT, Int.reduceLE, and_self, or_true, true_or, or_false, false_or, false_and, and_false, ah_t_w, ah_m_w, ah_n_w, lst1_0, List.tail_cons, w32_i, zbd, lst2_0, t2]
        refine wpC_deep (c_155r (d := 0) hR2 (Ext_tr hE (Ext_tr hE1 hE2)) hi2.1 (by unfold isSg; omega) hi2.2 (by omega) (fun h3 capL' elL' capS' elS' hR3 hE3 hC3 e3 n3 s3 => ?_)) (by omega)
        simp (disch := omega) only [b_188_46, ↓w_bipush, ↓w_aload_n_0, ↓w_aload_n_1, ↓w_goto, ↓w_ifCond_eq, ↓w_invokevirtual_0, ↓w_invokevirtual_1, ↓w_invokevirtual_2, stw_0, stw_i, stw_l, stw_r, ofK0, ofK1, ofK2, lst1, lst2, lkill, kont_none, kont_some, Int.reduceToNat, List.length_cons, List.length_nil, Nat.reduceAdd, Nat.reduceLeDiff, Nat.zero_le, true_and, and_true, if_true, if_false, ne_eq, Int.reduceEq, Int.reduceNeg, not_false_eq_true, not_true_eq_false, ↓reduceIte, Int.reduceLT, Int.reduceLE, and_self, or_true, true_or, or_false, false_or, false_and, and_false, ah_t_w, ah_m_w, ah_n_w, lst1_0, List.tail_cons, w32_i, zbd, lst2_0]
        have hlen3 : ((its ++ [((45 : Int), c1)]).length : Int) = its.length + 1 := by simp
        unfold CO at co
        refine hl u d k0 k1 h0 h3 p _ capL' elL' capS' elS' Q u1 u7 hR3 hk hE3 app_ne (by rw [e3]; exact e42) (by rw [e3, e52, e41.2]; exact e5) (by simp [zrk] at hf ⊢; omega) hC3 (by rw [hlen3]; omega) (by rw [hlen3]; omega) (by rw [hlen3]; omega) (fun h4 k' a b e4' hR4 hE4 hb co4 => ?_) (fun h4 k2 c2 its' a1 a2 a3 a4 e4' hR4 hE4 e44 hC4 hne' hz hl4 n4 s4 => ?_)
        · refine hQ0 h4 k' a b ?_ hR4 hE4 hb co4
          simp only [zex, if_true, if_false, Int.reduceEq]; rw [if_pos g45', e1]; simp only []; rw [e4']
        · refine hQ1 h4 k2 (c1 ++ (zop 45 :: c2)) its' a1 a2 a3 a4 ?_ hR4 hE4 e44 hC4 hne' ?_ hl4 n4 s4
          · simp only [zex, if_true, if_false, Int.reduceEq]; rw [if_pos g45', e1]; simp only []; rw [e4']; simp only []; rw [g45]; rfl
          · rw [hz, zchc_app hne]; simp
    · rw [zz] at g45 hR1b
      have hO1b' := Off_tr hO1 hO1b
      have g' : ¬ (zB t n (zsk t n x) = 43 ∨ zB t n (zsk t n x) = 45) := by omega
      have hE1 : Ext Wrd h h1b := Ext_off (Off_mono Wr2_d hO1b')
      have e41 := Wr2_e hO1b'
      have hC1 := CHN_ext hC hF hE1 (fun r i w => by have := Wrd_lt _ _ w; have := hC.1.2.2; omega)
      have n1 := Off_n hO1b'
      have s1 := Off_s hO1b'
      simp (disch := omega) only [b_188_46, q_188_20, b_188_20, q_188_68, b_188_68, q_188_73, b_188_73, ↓w_iconst, ↓w_bipush, ↓w_aload_n_0, ↓w_aload_n_1, ↓w_iload_n_2, ↓w_istore_n_2, ↓w_goto, ↓w_ifCond_eq, ↓w_areturn, ↓w_invokevirtual_0, ↓w_invokevirtual_1, ↓w_invokevirtual_2, stw_0, stw_i, stw_l, stw_r, ofK0, ofK1, ofK2, lst1, lst2, lkill, kont_none, kont_some, Int.reduceToNat, List.length_cons, List.length_nil, Nat.reduceAdd, Nat.reduceLeDiff, Nat.zero_le, true_and, and_true, if_true, if_false, ne_eq, Int.reduceEq, Int.reduceNeg, not_false_eq_true, not_true_eq_false, ↓reduceIte, Int.reduceLT, Int.reduceLE, and_self, or_true, true_or, or_false, false_or, false_and, and_false, ah_t_w, ah_m_w, ah_n_w, lst1_0, List.tail_cons, w32_i, zbd, lst2_0]
      refine hQ1 h1b (zsk t n x) [] its _ _ _ _ ?_ hR1b (Ext_tr hE hE1) (by rw [e41.1]; exact e4) hC1 hne (by simp) (by omega) (by omega) (by omega)
      simp only [zex, if_true, if_false, Int.reduceEq]; rw [if_neg g']
theorem CE_188 (hi : CEx hm t n f 1 189 11 12 200 20 200) (hl : LPx hm t n f 3 188 11 12 200 30 300) : CEx hm t n (f + 1) 0 188 12 0 0 30 300 := by
  intro u d k h Q u1 u7 hR e4 e5 hf hQ0 hQ1
  have t11 := r_11 hR.1
  have hx := hR.2.2.2.2.2
  have hF := hR.1.2.1
  have n16 := hR.2.2.2.2.1.1.2
  have n0 := hF.1
  rw [show d + 12 + 5 * u = (d + 11 + 5 * u) + 1 by omega]
  rw [wpC_B]; refine ⟨⟨Nat.zero_lt_succ _, Nat.le_of_ble_eq_true rfl⟩, ?_⟩; simp only [lent]
  simp (disch := omega) only [q_188_0, b_188_0, ↓w_iconst, ↓w_bipush, ↓w_aload_n_0, ↓w_aload_n_1, ↓w_istore_n_2, ↓w_astore_n_1, ↓w_dup_i, ↓w_dup_a, ↓w_new, ↓w_nop, ↓w_invokespecial_0, ↓w_invokevirtual_0, ↓w_invokevirtual_2, stw_0, stw_i, stw_l, stw_r, ofK0, ofK1, ofK2, lst1, lst2, lkill, kont_none, kont_some, Int.reduceToNat, List.length_cons, List.length_nil, Nat.reduceAdd, Nat.reduceLeDiff, Nat.zero_le, true_and, and_true, if_true, if_false, ne_eq, Int.reduceEq, Int.reduceNeg, not_false_eq_true, not_true_eq_false, ↓reduceIte, Int.reduceLT, Int.reduceLE, and_self, or_true, true_or, or_false, false_or, false_and, and_false, ah_t_w, ah_m_w, ah_n_w, lst1_0, List.tail_cons, w32_i, zbd, lst2_0, t11, ah_t_new]
  refine wpC_deep (c_154r (hm := hm) (D := 11 + 4 * u) (d := 0) hR (fun h1 elL elS hR1 hE1 hC1 e1 n1 s1 => ?_)) (by omega)
  have t1 := r_11 hR1.1
  have hF1 := hR1.1.2.1
  simp (disch := omega) only [b_188_0, ↓w_iconst, ↓w_bipush, ↓w_aload_n_0, ↓w_aload_n_1, ↓w_istore_n_2, ↓w_astore_n_1, ↓w_dup_i, ↓w_dup_a, ↓w_new, ↓w_nop, ↓w_invokespecial_0, ↓w_invokevirtual_0, ↓w_invokevirtual_2, stw_0, stw_i, stw_l, stw_r, ofK0, ofK1, ofK2, lst1, lst2, lkill, kont_none, kont_some, Int.reduceToNat, List.length_cons, List.length_nil, Nat.reduceAdd, Nat.reduceLeDiff, Nat.zero_le, true_and, and_true, if_true, if_false, ne_eq, Int.reduceEq, Int.reduceNeg, not_false_eq_true, not_true_eq_false, ↓reduceIte, Int.reduceLT, Int.reduceLE, and_self, or_true, true_or, or_false, false_or, false_and, and_false, ah_t_w, ah_m_w, ah_n_w, lst1_0, List.tail_cons, w32_i, zbd, lst2_0, t1]
  refine wpC_deep (hi u d k h1 _ u1 u7 hR1 (by rw [e1]; exact e4) (by rw [e1]; exact e5) (by simp [zrk] at hf ⊢; omega) (fun h2 k' a b ez hR2 hE2 hb co => ?_) (fun h2 v k1 c1 ez hR2 hE2 e42 hv co => ?_)) (by omega)
  · rw [kont_0]
    refine hQ0 h2 k' a b ?_ hR2 (Ext_tr hE1 hE2) hb ?_
    · simp only [zex, if_true, if_false, Int.reduceEq]; rw [ez]
    · unfold CO at co ⊢; omega
  · have pr := (zex_pr (hm := hm) (t := t) (n := n) f 1 k (7 - (u : Int)) (by omega) (by omega) (by omega) (by omega)).1 k1 c1 ez
    have hi2 := CHN_it hF1 hC1 hE2 hv
    have e52 := Wrd_e hR1 hE2
    have t2 : (ah_t h2 (ah_n h)).1 = 15 := by rw [hi2.1.1.1]
    simp (disch := omega) only [b_188_0, ↓w_iconst, ↓w_bipush, ↓w_aload_n_0, ↓w_aload_n_1, ↓w_istore_n_2, ↓w_astore_n_1, ↓w_dup_i, ↓w_dup_a, ↓w_new, ↓w_nop, ↓w_invokespecial_0, ↓w_invokevirtual_0, ↓w_invokevirtual_2, stw_0, stw_i, stw_l, stw_r, ofK0, ofK1, ofK2, lst1, lst2, lkill, kont_none, kont_some, Int.reduceToNat, List.length_cons, List.length_nil, Nat.reduceAdd, Nat.reduceLeDiff, Nat.zero_le, true_and, and_true, if_true, if_false, ne_eq, Int.reduceEq, Int.reduceNeg, not_false_eq_true, not_true_eq_false, ↓reduceIte, Int.reduceLT, Int.reduceLE, and_self, or_true, true_or, or_false, false_or, false_and, and_false, ah_t_w, ah_m_w, ah_n_w, lst1_0, List.tail_cons, w32_i, zbd, lst2_0, t2]
    refine wpC_deep (c_155r (d := 0) hR2 (Ext_tr hE1 hE2) hi2.1 (by unfold isSg; omega) hi2.2 (by simp) (fun h3 capL' elL' capS' elS' hR3 hE3 hC3 e3 n3 s3 => ?_)) (by omega)
    simp (disch := omega) only [b_188_0, ↓w_iconst, ↓w_bipush, ↓w_aload_n_0, ↓w_aload_n_1, ↓w_istore_n_2, ↓w_astore_n_1, ↓w_dup_i, ↓w_dup_a, ↓w_new, ↓w_nop, ↓w_invokespecial_0, ↓w_invokevirtual_0, ↓w_invokevirtual_2, stw_0, stw_i, stw_l, stw_r, ofK0, ofK1, ofK2, lst1, lst2, lkill, kont_none, kont_some, Int.reduceToNat, List.length_cons, List.length_nil, Nat.reduceAdd, Nat.reduceLeDiff, Nat.zero_le, true_and, and_true, if_true, if_false, ne_eq, Int.reduceEq, Int.reduceNeg, not_false_eq_true, not_true_eq_false, ↓reduceIte, Int.reduceLT, Int.reduceLE, and_self, or_true, true_or, or_false, false_or, false_and, and_false, ah_t_w, ah_m_w, ah_n_w, lst1_0, List.tail_cons, w32_i, zbd, lst2_0]
    unfold CO at co
    refine hl u d k k1 h h3 (ah_n h) _ capL' elL' capS' elS' Q u1 u7 hR3 hx.1 hE3 app_ne (by rw [e3]; exact e42) (by rw [e3, e52, e1]; exact e5) (by simp [zrk] at hf ⊢; omega) hC3 (by simp; omega) (by simp; omega) (by simp; omega) (fun h4 k' a b e4' hR4 hE4 hb co4 => ?_) (fun h4 k2 c2 its' a1 a2 a3 a4 e4' hR4 hE4 e44 hC4 hne' hz hl4 n4 s4 => ?_)
    · refine hQ0 h4 k' a b ?_ hR4 hE4 hb co4
      simp only [zex, if_true, if_false, Int.reduceEq]; rw [ez]; simp only []; rw [e4']
    · have l1 : 1 ≤ its'.length := by cases its' with | nil => exact absurd rfl hne' | cons a b => simp
      have hk2 := hR4.2.2.2.2.2
      refine hQ1 h4 (ah_n h) k2 (c1 ++ c2) ?_ hR4 hE4 e44 ?_ ?_
      · simp only [zex, if_true, if_false, Int.reduceEq]; rw [ez]; simp only []; rw [e4']
      · have := VSi_chain hR4.1.2.1 hC4 (by omega) (by omega) hne'
        rw [hz] at this
        rw [show 12 + 4 * u = 11 + 4 * u + 1 by omega]
        simpa [zchc, zchr] using this
      · have := hC4.2.2.2.2.1
        have := hC4.2.2.2.2.2.1
        unfold CO; omega
theorem LP_189 (hi : CEx hm t n f 2 190 10 24 400 10 100) (hl : LPx hm t n f 4 189 10 24 400 20 200) : LPx hm t n (f + 1) 4 189 10 24 400 20 200 := by
  intro u d k0 x h0 h p its capL elL capS elS Q u1 u7 hR hk hE hne e4 e5 hf hC hlen hbr hbs hQ0 hQ1
  have t11 := r_11 hR.1
  have hx := hR.2.2.2.2.2
  have hF := hR.1.2.1
  have n16 := hR.2.2.2.2.1.1.2
  have hs := zsk_le (t := t) hx.2
  have zz := zsk_zsk (t := t) hx.1 hx.2
  have l1 : 1 ≤ its.length := by cases its with | nil => exact absurd rfl hne | cons a b => simp
  rw [q_189_20]
  simp (disch := omega) only [b_189_20, ↓w_bipush, ↓w_aload_n_0, ↓w_aload_n_1, ↓w_iload_n_2, ↓w_goto, ↓w_ifCond_eq, ↓w_invokevirtual_0, ↓w_invokevirtual_1, ↓w_invokevirtual_2, stw_0, stw_i, stw_l, stw_r, ofK0, ofK1, ofK2, lst1, lst2, lkill, kont_none, kont_some, Int.reduceToNat, List.length_cons, List.length_nil, Nat.reduceAdd, Nat.reduceLeDiff, Nat.zero_le, true_and, and_true, if_true, if_false, ne_eq, Int.reduceEq, Int.reduceNeg, not_false_eq_true, not_true_eq_false, ↓reduceIte, Int.reduceLT, Int.reduceLE, and_self, or_true, true_or, or_false, false_or, false_and, and_false, ah_t_w, ah_m_w, ah_n_w, lst1_0, List.tail_cons, w32_i, zbd, lst2_0, t11]
  refine wpC_deep (c_194 (d := 0) hR (by decide) (fun h1 g42 hR1 hO1 => ?_) (fun h1 g42 hR1 hO1 => ?_)) (by omega)
  rotate_left
  · -- the sign 42
    have hlt := zskn hx.2 (by rw [g42]; decide)
    have hE1 : Ext Wrd h h1 := Ext_off (Off_mono Wr2_d hO1)
    have e41 := Wr2_e hO1
    have hC1 := CHN_ext hC hF hE1 (fun r i w => by have := Wrd_lt _ _ w; have := hC.1.2.2; omega)
    have hF1 := hR1.1.2.1
    have t1 := r_11 hR1.1
    have g42' : zB t n (zsk t n x) = 42 ∨ zB t n (zsk t n x) = 47 := by omega
    have n1 := Off_n hO1
    have s1 := Off_s hO1
    simp (disch := omega) only [b_189_20, ↓w_bipush, ↓w_aload_n_0, ↓w_aload_n_1, ↓w_iload_n_2, ↓w_goto, ↓w_ifCond_eq, ↓w_invokevirtual_0, ↓w_invokevirtual_1, ↓w_invokevirtual_2, stw_0, stw_i, stw_l, stw_r, ofK0, ofK1, ofK2, lst1, lst2, lkill, kont_none, kont_some, Int.reduceToNat, List.length_cons, List.length_nil, Nat.reduceAdd, Nat.reduceLeDiff, Nat.zero_le, true_and, and_true, if_true, if_false, ne_eq, Int.reduceEq, Int.reduceNeg, not_false_eq_true, not_true_eq_false, ↓reduceIte, Int.reduceLT, Int.reduceLE, and_self, or_true, true_or, or_false, false_or, false_and, and_false, ah_t_w, ah_m_w, ah_n_w, lst1_0, List.tail_cons, w32_i, zbd, lst2_0, t1]
    refine wpC_deep (hi u d (zsk t n x + 1) h1 _ u1 u7 hR1 (by rw [e41.1]; exact e4) (by rw [e41.2]; exact e5) (by simp [zrk] at hf ⊢; omega) (fun h2 k' a b e1 hR2 hE2 hb co => ?_) (fun h2 v k1 c1 e1 hR2 hE2 e42 hv co => ?_)) (by omega)
    · rw [kont_0]
      refine hQ0 h2 k' a b ?_ hR2 (Ext_tr hE (Ext_tr hE1 hE2)) hb ?_
      · simp only [zex, if_true, if_false, Int.reduceEq]; rw [if_pos g42', e1]
      · unfold CO at co ⊢
        have := hC.2.2.2.2.1
        have := hC.2.2.2.2.2.1
        omega
    · have pr := (zex_pr (hm := hm) (t := t) (n := n) f 2 (zsk t n x + 1) (7 - (u : Int)) (by omega) (by omega) (by omega) (by omega)).1 k1 c1 e1
      have hi2 := CHN_it hF1 hC1 hE2 hv
      have e52 := Wrd_e hR1 hE2
      have t2 : (ah_t h2 p).1 = 15 := by rw [hi2.1.1.1]
      simp (disch := omega) only [b_189_20, ↓w_bipush, ↓w_aload_n_0, ↓w_aload_n_1, ↓w_iload_n_2, ↓w_goto, ↓w_ifCond_eq, ↓w_invokevirtual_0, ↓w_invokevirtual_1, ↓w_invokevirtual_2, stw_0, stw_i, stw_l, stw_r, ofK0, ofK1, ofK2, lst1, lst2, lkill, kont_none, kont_some, Int.reduceToNat, List.length_cons, List.length_nil, Nat.reduceAdd, Nat.reduceLeDiff, Nat.zero_le, true_and, and_true, if_true, if_false, ne_eq, Int.reduceEq, Int.reduceNeg, not_false_eq_true, not_true_eq_false, ↓reduceIte, Int.reduceLT, Int.reduceLE, and_self, or_true, true_or, or_false, false_or, false_and, and_false, ah_t_w, ah_m_w, ah_n_w, lst1_0, List.tail_cons, w32_i, zbd, lst2_0, t2]
      refine wpC_deep (c_155r (d := 0) hR2 (Ext_tr hE (Ext_tr hE1 hE2)) hi2.1 (by unfold isSg; omega) hi2.2 (by omega) (fun h3 capL' elL' capS' elS' hR3 hE3 hC3 e3 n3 s3 => ?_)) (by omega)
      simp (disch := omega) only [b_189_20, ↓w_bipush, ↓w_aload_n_0, ↓w_aload_n_1, ↓w_iload_n_2, ↓w_goto, ↓w_ifCond_eq, ↓w_invokevirtual_0, ↓w_invokevirtual_1, ↓w_invokevirtual_2, stw_0, stw_i, stw_l, stw_r, ofK0, ofK1, ofK2, lst1, lst2, lkill, kont_none, kont_some, Int.reduceToNat, List.length_cons, List.length_nil, Nat.reduceAdd, Nat.reduceLeDiff, Nat.zero_le, true_and, and_true, if_true, if_false, ne_eq, Int.reduceEq, Int.reduceNeg, not_false_eq_true, not_true_eq_false, ↓reduceIte, Int.reduceLT, Int.reduceLE, and_self, or_true, true_or, or_false, false_or, false_and, and_false, ah_t_w, ah_m_w, ah_n_w, lst1_0, List.tail_cons, w32_i, zbd, lst2_0]
      have hlen3 : ((its ++ [((42 : Int), c1)]).length : Int) = its.length + 1 := by simp
      unfold CO at co
      refine hl u d k0 k1 h0 h3 p _ capL' elL' capS' elS' Q u1 u7 hR3 hk hE3 app_ne (by rw [e3]; exact e42) (by rw [e3, e52, e41.2]; exact e5) (by simp [zrk] at hf ⊢; omega) hC3 (by rw [hlen3]; omega) (by rw [hlen3]; omega) (by rw [hlen3]; omega) (fun h4 k' a b e4' hR4 hE4 hb co4 => ?_) (fun h4 k2 c2 its' a1 a2 a3 a4 e4' hR4 hE4 e44 hC4 hne' hz hl4 n4 s4 => ?_)
      · refine hQ0 h4 k' a b ?_ hR4 hE4 hb co4
        simp only [zex, if_true, if_false, Int.reduceEq]; rw [if_pos g42', e1]; simp only []; rw [e4']
      · refine hQ1 h4 k2 (c1 ++ (zop 42 :: c2)) its' a1 a2 a3 a4 ?_ hR4 hE4 e44 hC4 hne' ?_ hl4 n4 s4
        · simp only [zex, if_true, if_false, Int.reduceEq]; rw [if_pos g42', e1]; simp only []; rw [e4']; simp only []; rw [g42]; rfl
        · rw [hz, zchc_app hne]; simp
  · have t1 := r_11 hR1.1
    simp (disch := omega) only [b_189_20, q_189_46, b_189_46, ↓w_bipush, ↓w_aload_n_0, ↓w_aload_n_1, ↓w_iload_n_2, ↓w_goto, ↓w_ifCond_eq, ↓w_invokevirtual_0, ↓w_invokevirtual_1, ↓w_invokevirtual_2, stw_0, stw_i, stw_l, stw_r, ofK0, ofK1, ofK2, lst1, lst2, lkill, kont_none, kont_some, Int.reduceToNat, List.length_cons, List.length_nil, Nat.reduceAdd, Nat.reduceLeDiff, Nat.zero_le, true_and, and_true, if_true, if_false, ne_eq, Int.reduceEq, Int.reduceNeg, not_false_eq_true, not_true_eq_false, ↓reduceIte, Int.reduceLT, Int.reduceLE, and_self, or_true, true_or, or_false, false_or, false_and, and_false, ah_t_w, ah_m_w, ah_n_w, lst1_0, List.tail_cons, w32_i, zbd, lst2_0, t1]
    refine wpC_deep (c_194 (d := 0) hR1 (by decide) (fun h1b g47 hR1b hO1b => ?_) (fun h1b g47 hR1b hO1b => ?_)) (by omega)
    rotate_left
    · rw [zz] at g47 hR1b
      have hO1b' := Off_tr hO1 hO1b
      clear t1
      clear hO1b
      clear hO1 hR1
      revert hR1b hO1b'
      generalize h1b = h1
      intro hR1 hO1
      -- the sign 47
      have hlt := zskn hx.2 (by rw [g47]; decide)
      have hE1 : Ext Wrd h h1 := Ext_off (Off_mono Wr2_d hO1)
      have e41 := Wr2_e hO1
      have hC1 := CHN_ext hC hF hE1 (fun r i w => by have := Wrd_lt _ _ w; have := hC.1.2.2; omega)
      have hF1 := hR1.1.2.1
      have t1 := r_11 hR1.1
      have g47' : zB t n (zsk t n x) = 42 ∨ zB t n (zsk t n x) = 47 := by omega
      have n1 := Off_n hO1
      have s1 := Off_s hO1
      simp (disch := omega) only [b_189_46, ↓w_bipush, ↓w_aload_n_0, ↓w_aload_n_1, ↓w_goto, ↓w_ifCond_eq, ↓w_invokevirtual_0, ↓w_invokevirtual_1, ↓w_invokevirtual_2, stw_0, stw_i, stw_l, stw_r, ofK0, ofK1, ofK2, lst1, lst2, lkill, kont_none, kont_some, Int.reduceToNat, List.length_cons, List.length_nil, Nat.reduceAdd, Nat.reduceLeDiff, Nat.zero_le, true_and, and_true, if_true, if_false, ne_eq, Int.reduceEq, Int.reduceNeg, not_false_eq_true, not_true_eq_false, ↓reduceIte, Int.reduceLT, Int.reduceLE, and_self, or_true, true_or, or_false, false_or, false_and, and_false, ah_t_w, ah_m_w, ah_n_w, lst1_0, List.tail_cons, w32_i, zbd, lst2_0, t1]
      refine wpC_deep (hi u d (zsk t n x + 1) h1 _ u1 u7 hR1 (by rw [e41.1]; exact e4) (by rw [e41.2]; exact e5) (by simp [zrk] at hf ⊢; omega) (fun h2 k' a b e1 hR2 hE2 hb co => ?_) (fun h2 v k1 c1 e1 hR2 hE2 e42 hv co => ?_)) (by omega)
      · rw [kont_0]
        refine hQ0 h2 k' a b ?_ hR2 (Ext_tr hE (Ext_tr hE1 hE2)) hb ?_
        · simp only [zex, if_true, if_false, Int.reduceEq]; rw [if_pos g47', e1]
        · unfold CO at co ⊢
          have := hC.2.2.2.2.1
          have := hC.2.2.2.2.2.1
          omega
      · have pr := (zex_pr (hm := hm) (t := t) (n := n) f 2 (zsk t n x + 1) (7 - (u : Int)) (by omega) (by omega) (by omega) (by omega)).1 k1 c1 e1
        have hi2 := CHN_it hF1 hC1 hE2 hv
        have e52 := Wrd_e hR1 hE2
        have t2 : (ah_t h2 p).1 = 15 := by rw [hi2.1.1.1]
        simp (disch := omega) only [b_189_46, ↓w_bipush, ↓w_aload_n_0, ↓w_aload_n_1, ↓w_goto, ↓w_ifCond_eq, ↓w_invokevirtual_0, ↓w_invokevirtual_1, ↓w_invokevirtual_2, stw_0, stw_i, stw_l, stw_r, ofK0, ofK1, ofK2, lst1, lst2, lkill, kont_none, kont_some, Int.reduceToNat, List.length_cons, List.length_nil, Nat.reduceAdd, Nat.reduceLeDiff, Nat.zero_le, true_and, and_true, if_true, if_false, ne_eq, Int.reduceEq, Int.reduceNeg, not_false_eq_true, not_true_eq_false, ↓reduceIte, Int.reduceLT, Int.reduceLE, and_self, or_true, true_or, or_false, false_or, false_and, and_false, ah_t_w, ah_m_w, ah_n_w, lst1_0, List.tail_cons, w32_i, zbd, lst2_0, t2]
        refine wpC_deep (c_155r (d := 0) hR2 (Ext_tr hE (Ext_tr hE1 hE2)) hi2.1 (by unfold isSg; omega) hi2.2 (by omega) (fun h3 capL' elL' capS' elS' hR3 hE3 hC3 e3 n3 s3 => ?_)) (by omega)
        simp (disch := omega) only [b_189_46, ↓w_bipush, ↓w_aload_n_0, ↓w_aload_n_1, ↓w_goto, ↓w_ifCond_eq, ↓w_invokevirtual_0, ↓w_invokevirtual_1, ↓w_invokevirtual_2, stw_0, stw_i, stw_l, stw_r, ofK0, ofK1, ofK2, lst1, lst2, lkill, kont_none, kont_some, Int.reduceToNat, List.length_cons, List.length_nil, Nat.reduceAdd, Nat.reduceLeDiff, Nat.zero_le, true_and, and_true, if_true, if_false, ne_eq, Int.reduceEq, Int.reduceNeg, not_false_eq_true, not_true_eq_false, ↓reduceIte, Int.reduceLT, Int.reduceLE, and_self, or_true, true_or, or_false, false_or, false_and, and_false, ah_t_w, ah_m_w, ah_n_w, lst1_0, List.tail_cons, w32_i, zbd, lst2_0]
        have hlen3 : ((its ++ [((47 : Int), c1)]).length : Int) = its.length + 1 := by simp
        unfold CO at co
        refine hl u d k0 k1 h0 h3 p _ capL' elL' capS' elS' Q u1 u7 hR3 hk hE3 app_ne (by rw [e3]; exact e42) (by rw [e3, e52, e41.2]; exact e5) (by simp [zrk] at hf ⊢; omega) hC3 (by rw [hlen3]; omega) (by rw [hlen3]; omega) (by rw [hlen3]; omega) (fun h4 k' a b e4' hR4 hE4 hb co4 => ?_) (fun h4 k2 c2 its' a1 a2 a3 a4 e4' hR4 hE4 e44 hC4 hne' hz hl4 n4 s4 => ?_)
        · refine hQ0 h4 k' a b ?_ hR4 hE4 hb co4
          simp only [zex, if_true, if_false, Int.reduceEq]; rw [if_pos g47', e1]; simp only []; rw [e4']
        · refine hQ1 h4 k2 (c1 ++ (zop 47 :: c2)) its' a1 a2 a3 a4 ?_ hR4 hE4 e44 hC4 hne' ?_ hl4 n4 s4
          · simp only [zex, if_true, if_false, Int.reduceEq]; rw [if_pos g47', e1]; simp only []; rw [e4']; simp only []; rw [g47]; rfl
          · rw [hz, zchc_app hne]; simp
    · rw [zz] at g47 hR1b
      have hO1b' := Off_tr hO1 hO1b
      have g' : ¬ (zB t n (zsk t n x) = 42 ∨ zB t n (zsk t n x) = 47) := by omega
      have hE1 : Ext Wrd h h1b := Ext_off (Off_mono Wr2_d hO1b')
      have e41 := Wr2_e hO1b'
      have hC1 := CHN_ext hC hF hE1 (fun r i w => by have := Wrd_lt _ _ w; have := hC.1.2.2; omega)
      have n1 := Off_n hO1b'
      have s1 := Off_s hO1b'
      simp (disch := omega) only [b_189_46, q_189_20, b_189_20, q_189_68, b_189_68, q_189_73, b_189_73, ↓w_iconst, ↓w_bipush, ↓w_aload_n_0, ↓w_aload_n_1, ↓w_iload_n_2, ↓w_istore_n_2, ↓w_goto, ↓w_ifCond_eq, ↓w_areturn, ↓w_invokevirtual_0, ↓w_invokevirtual_1, ↓w_invokevirtual_2, stw_0, stw_i, stw_l, stw_r, ofK0, ofK1, ofK2, lst1, lst2, lkill, kont_none, kont_some, Int.reduceToNat, List.length_cons, List.length_nil, Nat.reduceAdd, Nat.reduceLeDiff, Nat.zero_le, true_and, and_true, if_true, if_false, ne_eq, Int.reduceEq, Int.reduceNeg, not_false_eq_true, not_true_eq_false, ↓reduceIte, Int.reduceLT, Int.reduceLE, and_self, or_true, true_or, or_false, false_or, false_and, and_false, ah_t_w, ah_m_w, ah_n_w, lst1_0, List.tail_cons, w32_i, zbd, lst2_0]
      refine hQ1 h1b (zsk t n x) [] its _ _ _ _ ?_ hR1b (Ext_tr hE hE1) (by rw [e41.1]; exact e4) hC1 hne (by simp) (by omega) (by omega) (by omega)
      simp only [zex, if_true, if_false, Int.reduceEq]; rw [if_neg g']
theorem CE_189 (hi : CEx hm t n f 2 190 10 24 400 10 100) (hl : LPx hm t n f 4 189 10 24 400 20 200) : CEx hm t n (f + 1) 1 189 11 12 200 20 200 := by
  intro u d k h Q u1 u7 hR e4 e5 hf hQ0 hQ1
  have t11 := r_11 hR.1
  have hx := hR.2.2.2.2.2
  have hF := hR.1.2.1
  have n16 := hR.2.2.2.2.1.1.2
  have n0 := hF.1
  rw [show d + 11 + 5 * u = (d + 10 + 5 * u) + 1 by omega]
  rw [wpC_B]; refine ⟨⟨Nat.zero_lt_succ _, Nat.le_of_ble_eq_true rfl⟩, ?_⟩; simp only [lent]
  simp (disch := omega) only [q_189_0, b_189_0, ↓w_iconst, ↓w_bipush, ↓w_aload_n_0, ↓w_aload_n_1, ↓w_istore_n_2, ↓w_astore_n_1, ↓w_dup_i, ↓w_dup_a, ↓w_new, ↓w_nop, ↓w_invokespecial_0, ↓w_invokevirtual_0, ↓w_invokevirtual_2, stw_0, stw_i, stw_l, stw_r, ofK0, ofK1, ofK2, lst1, lst2, lkill, kont_none, kont_some, Int.reduceToNat, List.length_cons, List.length_nil, Nat.reduceAdd, Nat.reduceLeDiff, Nat.zero_le, true_and, and_true, if_true, if_false, ne_eq, Int.reduceEq, Int.reduceNeg, not_false_eq_true, not_true_eq_false, ↓reduceIte, Int.reduceLT, Int.reduceLE, and_self, or_true, true_or, or_false, false_or, false_and, and_false, ah_t_w, ah_m_w, ah_n_w, lst1_0, List.tail_cons, w32_i, zbd, lst2_0, t11, ah_t_new]
  refine wpC_deep (c_154r (hm := hm) (D := 10 + 4 * u) (d := 0) hR (fun h1 elL elS hR1 hE1 hC1 e1 n1 s1 => ?_)) (by omega)
  have t1 := r_11 hR1.1
  have hF1 := hR1.1.2.1
  simp (disch := omega) only [b_189_0, ↓w_iconst, ↓w_bipush, ↓w_aload_n_0, ↓w_aload_n_1, ↓w_istore_n_2, ↓w_astore_n_1, ↓w_dup_i, ↓w_dup_a, ↓w_new, ↓w_nop, ↓w_invokespecial_0, ↓w_invokevirtual_0, ↓w_invokevirtual_2, stw_0, stw_i, stw_l, stw_r, ofK0, ofK1, ofK2, lst1, lst2, lkill, kont_none, kont_some, Int.reduceToNat, List.length_cons, List.length_nil, Nat.reduceAdd, Nat.reduceLeDiff, Nat.zero_le, true_and, and_true, if_true, if_false, ne_eq, Int.reduceEq, Int.reduceNeg, not_false_eq_true, not_true_eq_false, ↓reduceIte, Int.reduceLT, Int.reduceLE, and_self, or_true, true_or, or_false, false_or, false_and, and_false, ah_t_w, ah_m_w, ah_n_w, lst1_0, List.tail_cons, w32_i, zbd, lst2_0, t1]
  refine wpC_deep (hi u d k h1 _ u1 u7 hR1 (by rw [e1]; exact e4) (by rw [e1]; exact e5) (by simp [zrk] at hf ⊢; omega) (fun h2 k' a b ez hR2 hE2 hb co => ?_) (fun h2 v k1 c1 ez hR2 hE2 e42 hv co => ?_)) (by omega)
  · rw [kont_0]
    refine hQ0 h2 k' a b ?_ hR2 (Ext_tr hE1 hE2) hb ?_
    · simp only [zex, if_true, if_false, Int.reduceEq]; rw [ez]
    · unfold CO at co ⊢; omega
  · have pr := (zex_pr (hm := hm) (t := t) (n := n) f 2 k (7 - (u : Int)) (by omega) (by omega) (by omega) (by omega)).1 k1 c1 ez
    have hi2 := CHN_it hF1 hC1 hE2 hv
    have e52 := Wrd_e hR1 hE2
    have t2 : (ah_t h2 (ah_n h)).1 = 15 := by rw [hi2.1.1.1]
    simp (disch := omega) only [b_189_0, ↓w_iconst, ↓w_bipush, ↓w_aload_n_0, ↓w_aload_n_1, ↓w_istore_n_2, ↓w_astore_n_1, ↓w_dup_i, ↓w_dup_a, ↓w_new, ↓w_nop, ↓w_invokespecial_0, ↓w_invokevirtual_0, ↓w_invokevirtual_2, stw_0, stw_i, stw_l, stw_r, ofK0, ofK1, ofK2, lst1, lst2, lkill, kont_none, kont_some, Int.reduceToNat, List.length_cons, List.length_nil, Nat.reduceAdd, Nat.reduceLeDiff, Nat.zero_le, true_and, and_true, if_true, if_false, ne_eq, Int.reduceEq, Int.reduceNeg, not_false_eq_true, not_true_eq_false, ↓reduceIte, Int.reduceLT, Int.reduceLE, and_self, or_true, true_or, or_false, false_or, false_and, and_false, ah_t_w, ah_m_w, ah_n_w, lst1_0, List.tail_cons, w32_i, zbd, lst2_0, t2]
    refine wpC_deep (c_155r (d := 0) hR2 (Ext_tr hE1 hE2) hi2.1 (by unfold isSg; omega) hi2.2 (by simp) (fun h3 capL' elL' capS' elS' hR3 hE3 hC3 e3 n3 s3 => ?_)) (by omega)
    simp (disch := omega) only [b_189_0, ↓w_iconst, ↓w_bipush, ↓w_aload_n_0, ↓w_aload_n_1, ↓w_istore_n_2, ↓w_astore_n_1, ↓w_dup_i, ↓w_dup_a, ↓w_new, ↓w_nop, ↓w_invokespecial_0, ↓w_invokevirtual_0, ↓w_invokevirtual_2, stw_0, stw_i, stw_l, stw_r, ofK0, ofK1, ofK2, lst1, lst2, lkill, kont_none, kont_some, Int.reduceToNat, List.length_cons, List.length_nil, Nat.reduceAdd, Nat.reduceLeDiff, Nat.zero_le, true_and, and_true, if_true, if_false, ne_eq, Int.reduceEq, Int.reduceNeg, not_false_eq_true, not_true_eq_false, ↓reduceIte, Int.reduceLT, Int.reduceLE, and_self, or_true, true_or, or_false, false_or, false_and, and_false, ah_t_w, ah_m_w, ah_n_w, lst1_0, List.tail_cons, w32_i, zbd, lst2_0]
    unfold CO at co
    refine hl u d k k1 h h3 (ah_n h) _ capL' elL' capS' elS' Q u1 u7 hR3 hx.1 hE3 app_ne (by rw [e3]; exact e42) (by rw [e3, e52, e1]; exact e5) (by simp [zrk] at hf ⊢; omega) hC3 (by simp; omega) (by simp; omega) (by simp; omega) (fun h4 k' a b e4' hR4 hE4 hb co4 => ?_) (fun h4 k2 c2 its' a1 a2 a3 a4 e4' hR4 hE4 e44 hC4 hne' hz hl4 n4 s4 => ?_)
    · refine hQ0 h4 k' a b ?_ hR4 hE4 hb co4
      simp only [zex, if_true, if_false, Int.reduceEq]; rw [ez]; simp only []; rw [e4']
    · have l1 : 1 ≤ its'.length := by cases its' with | nil => exact absurd rfl hne' | cons a b => simp
      have hk2 := hR4.2.2.2.2.2
      refine hQ1 h4 (ah_n h) k2 (c1 ++ c2) ?_ hR4 hE4 e44 ?_ ?_
      · simp only [zex, if_true, if_false, Int.reduceEq]; rw [ez]; simp only []; rw [e4']
      · have := VSi_chain hR4.1.2.1 hC4 (by omega) (by omega) hne'
        rw [hz] at this
        rw [show 11 + 4 * u = 10 + 4 * u + 1 by omega]
        simpa [zchc, zchr] using this
      · have := hC4.2.2.2.2.1
        have := hC4.2.2.2.2.2.1
        unfold CO; omega
end D6
