/-! ===== values: numbers, what is asked, pairs, what is told of a number ===== -/
section D4
variable {W' : Int → Int → Prop} {d : Nat} {h h' h1 h2 h0 : AH} {Q : QQ} {x y z k s a b c v n p q r o i f N lo hi A B E cap el sp dp capL elL capS elS l' : Int} {S T T' : Int → Int → Int} {t nw nw' pt of tp : Int → Int} {tl : ALoc} {w u W l cs c1 c2 : List Int} {hm : Bool} {D : Nat} {its : List (Int × List Int)}
set_option maxHeartbeats 4000000
theorem ztop_1 : ztop [x] = x := rfl
/-- a number as a value -/
theorem VSi_fixed (tp : ah_t h p = (17, 0)) (hv : ah_m h p 0 = v) (hb : 0 ≤ v ∧ v ≤ 9999) (ha : 1121 ≤ a ∧ a ≤ p ∧ p < b ∧ b ≤ ah_n h) (hD : 1 ≤ D) : VSi hm D a b h p [1000 + v] := by
  have e17 : (ah_t h p).1 = 17 := by rw [tp]
  refine ⟨ha, by omega, fun ts => ?_, fun h' pt of Q ag ev hQ => ?_⟩
  · rw [ztl_1]; unfold zty; rw [if_pos (by omega), if_pos (by omega)]
  · rw [e17]
    show wpC D 161 _ h' Q
    obtain ⟨D0, rfl⟩ : ∃ u : Nat, D = u + 1 := ⟨D - 1, by omega⟩
    have agp := ag p ha.2.1 ha.2.2.1
    have t1 : (ah_t h' p).1 = 17 := by rw [agp.1, tp]
    have m0 : ah_m h' p 0 = v := by rw [agp.2]; exact hv
    have : ztop (zrun pt of [1000 + v] []) = v := by
      simp only [zrun, zst]; rw [if_pos (by omega)]; show 1000 + v - 1000 = v; omega
    rw [this] at hQ
    rw [wpC_B]; refine ⟨⟨Nat.zero_lt_succ _, Nat.le_of_ble_eq_true rfl⟩, ?_⟩; simp only [lent]
    simp (disch := omega) only [q_161_0, b_161_0, ↓w_aload_n_0, ↓w_getfield, ↓w_lreturn, stw_0, stw_i, stw_l, stw_r, ofK0, ofK1, ofK2, lst1, lst2, lkill, kont_none, kont_some, Int.reduceToNat, List.length_cons, List.length_nil, Nat.reduceAdd, Nat.reduceLeDiff, Nat.zero_le, true_and, and_true, if_true, if_false, ne_eq, Int.reduceEq, Int.reduceNeg, not_false_eq_true, not_true_eq_false, ↓reduceIte, Int.reduceLT, Int.reduceLE, and_self, or_true, true_or, or_false, false_or, false_and, and_false, ah_t_w, ah_m_w, ah_n_w, lst1_0, List.tail_cons, w32_i, zbd, lst2_0, t1, m0]
    exact hQ
/-- what is asked -/
theorem VSi_asked (tp : ah_t h p = (18, 0)) (hv : ah_m h p 0 = v) (hb : 0 ≤ v ∧ v ≤ 10) (hbm : if hm = true then v ≤ 3 else 3 ≤ v) (ha : 1121 ≤ a ∧ a ≤ p ∧ p < b ∧ b ≤ ah_n h) (hD : 3 ≤ D) : VSi hm D a b h p [40 + v] := by
  have e18 : (ah_t h p).1 = 18 := by rw [tp]
  refine ⟨ha, by omega, fun ts => ?_, fun h' pt of Q ag ev hQ => ?_⟩
  · rw [ztl_1]; unfold zty; rw [if_neg (by omega), if_neg (by omega), if_pos (by omega), if_pos]
    cases hm
    · right; simp at hbm; exact ⟨rfl, by omega, by omega⟩
    · left; simp at hbm; exact ⟨rfl, by omega⟩
  · rw [e18]
    show wpC D 163 _ h' Q
    obtain ⟨D0, rfl⟩ : ∃ u : Nat, D = u + 3 := ⟨D - 3, by omega⟩
    have agp := ag p ha.2.1 ha.2.2.1
    have t1 : (ah_t h' p).1 = 18 := by rw [agp.1, tp]
    have m0 : ah_m h' p 0 = v := by rw [agp.2]; exact hv
    obtain ⟨⟨e1, e2, e3⟩, e4, e5⟩ := ev
    have em := e4 v hb.1 hb.2 hbm
    have t3 : (ah_t h' (vmo hm + 1)).1 = -4 := by rw [e3]
    have t4 : (ah_t h' (vmo hm + 1)).2 = 11 := by rw [e3]
    have v0 := hb.1
    have v1 : v < 11 := by omega
    have : ztop (zrun pt of [40 + v] []) = zclip (pt v) := by
      simp only [zrun, zst]; rw [if_neg (by omega), if_neg (by omega), if_pos (by omega)]
      rw [ztop_1, show 40 + v - 40 = v by omega]
    rw [this] at hQ
    rw [wpC_B]; refine ⟨⟨Nat.zero_lt_succ _, Nat.le_of_ble_eq_true rfl⟩, ?_⟩; simp only [lent]
    simp (disch := omega) only [q_163_0, b_163_0, ↓w_aload_n_0, ↓w_aload_n_1, ↓w_getfield, ↓w_laload, ↓w_lreturn, ↓w_invokestatic_1, stw_0, stw_i, stw_l, stw_r, ofK0, ofK1, ofK2, lst1, lst2, lkill, kont_none, kont_some, Int.reduceToNat, List.length_cons, List.length_nil, Nat.reduceAdd, Nat.reduceLeDiff, Nat.zero_le, true_and, and_true, if_true, if_false, ne_eq, Int.reduceEq, Int.reduceNeg, not_false_eq_true, not_true_eq_false, ↓reduceIte, Int.reduceLT, Int.reduceLE, and_self, or_true, true_or, or_false, false_or, false_and, and_false, ah_t_w, ah_m_w, ah_n_w, lst1_0, List.tail_cons, w32_i, zbd, lst2_0, t1, m0, e1, e2, t3, t4, v0, v1, em, c_119]
    exact hQ
/-- the less or the more of two -/
theorem VSi_pair {i1 j1 i2 j2 m : Int} (tp : ah_t h p = (16, 0)) (h0 : ah_m h p 0 = m) (hm01 : m = 0 ∨ m = 1) (h1 : ah_m h p 1 = x) (h2 : ah_m h p 2 = y) (v1 : VSi hm D i1 j1 h x c1) (v2 : VSi hm D i2 j2 h y c2) (hi : a ≤ i1 ∧ a ≤ i2 ∧ j1 ≤ b ∧ j2 ≤ b) (ha : 1121 ≤ a ∧ a ≤ p ∧ p < b ∧ b ≤ ah_n h) : VSi hm (D + 1) a b h p (c1 ++ (c2 ++ [if m = 1 then 6 else 5])) := by
  have e16 : (ah_t h p).1 = 16 := by rw [tp]
  have hop : 1 ≤ (if m = 1 then (6 : Int) else 5) ∧ (if m = 1 then (6 : Int) else 5) ≤ 6 := by split <;> omega
  refine ⟨ha, by omega, TyS_j v1.2.2.1 v2.2.2.1 hop, fun h' pt of Q ag ev hQ => ?_⟩
  rw [e16]
  show wpC (D + 1) 159 _ h' Q
  have agp := ag p ha.2.1 ha.2.2.1
  have t1 : (ah_t h' p).1 = 16 := by rw [agp.1, tp]
  have m0 : ah_m h' p 0 = m := by rw [agp.2]; exact h0
  have m1 : ah_m h' p 1 = x := by rw [agp.2]; exact h1
  have m2 : ah_m h' p 2 = y := by rw [agp.2]; exact h2
  have ag1 : AgI i1 j1 h h' := fun r r0 r1 => ag r (by omega) (by omega)
  have ag2 : AgI i2 j2 h h' := fun r r0 r1 => ag r (by omega) (by omega)
  have hz : ztop (zrun pt of (c1 ++ (c2 ++ [if m = 1 then 6 else 5])) []) = zjo (if m = 1 then 6 else 5) (ztop (zrun pt of c1 [])) (ztop (zrun pt of c2 [])) := by
    rw [zrun_app, zrun_top v1.2.2.1, zrun_app, zrun_top v2.2.2.1]
    simp only [zrun, zst]
    rw [if_neg (by omega), if_neg (by omega), if_neg (by omega), if_neg (by omega), if_neg (by omega)]
    rfl
  rw [hz] at hQ
  rw [wpC_B]; refine ⟨⟨Nat.zero_lt_succ _, Nat.le_of_ble_eq_true rfl⟩, ?_⟩; simp only [lent]
  simp (disch := omega) only [q_159_0, b_159_0, ↓w_iconst, ↓w_aload_n_0, ↓w_aload_n_1, ↓w_lload_n_2, ↓w_lload_4, ↓w_lstore, ↓w_lstore_n_2, ↓w_lcmp, ↓w_getfield, ↓w_goto, ↓w_ifCond_le, ↓w_invokevirtual_1, stw_0, stw_i, stw_l, stw_r, ofK0, ofK1, ofK2, lst1, lst2, lkill, kont_none, kont_some, Int.reduceToNat, List.length_cons, List.length_nil, Nat.reduceAdd, Nat.reduceLeDiff, Nat.zero_le, true_and, and_true, if_true, if_false, ne_eq, Int.reduceEq, Int.reduceNeg, not_false_eq_true, not_true_eq_false, ↓reduceIte, Int.reduceLT, Int.reduceLE, and_self, or_true, true_or, or_false, false_or, false_and, and_false, ah_t_w, ah_m_w, ah_n_w, lst1_0, List.tail_cons, w32_i, zbd, lst2_0, lc_gt, lc_lt, lc_eq, t1, m1]
  refine clVx v1 ag1 ev (by simp [stw]) ?_
  simp (disch := omega) only [b_159_0, ↓w_iconst, ↓w_aload_n_0, ↓w_aload_n_1, ↓w_lload_n_2, ↓w_lload_4, ↓w_lstore, ↓w_lstore_n_2, ↓w_lcmp, ↓w_getfield, ↓w_goto, ↓w_ifCond_le, ↓w_invokevirtual_1, stw_0, stw_i, stw_l, stw_r, ofK0, ofK1, ofK2, lst1, lst2, lkill, kont_none, kont_some, Int.reduceToNat, List.length_cons, List.length_nil, Nat.reduceAdd, Nat.reduceLeDiff, Nat.zero_le, true_and, and_true, if_true, if_false, ne_eq, Int.reduceEq, Int.reduceNeg, not_false_eq_true, not_true_eq_false, ↓reduceIte, Int.reduceLT, Int.reduceLE, and_self, or_true, true_or, or_false, false_or, false_and, and_false, ah_t_w, ah_m_w, ah_n_w, lst1_0, List.tail_cons, w32_i, zbd, lst2_0, lc_gt, lc_lt, lc_eq, t1, m2]
  refine clVx v2 ag2 ev (by simp [stw]) ?_
  generalize ztop (zrun pt of c1 []) = X at *
  generalize ztop (zrun pt of c2 []) = Y at *
  rcases hm01 with e | e
  · subst e
    rw [if_neg (by decide)] at hQ
    have ej : zjo 5 X Y = if X < Y then X else Y := by unfold zjo; rw [if_neg (by decide), if_neg (by decide), if_neg (by decide), if_neg (by decide), if_pos (by decide)]
    rw [ej] at hQ
    by_cases g : Y < X
    · rw [if_neg (by omega)] at hQ
      simp (disch := omega) only [b_159_0, q_159_35, b_159_35, q_159_42, b_159_42, q_159_44, b_159_44, ↓w_iconst, ↓w_aload_n_0, ↓w_aload_n_1, ↓w_lload_n_2, ↓w_lload_4, ↓w_lstore, ↓w_lstore_n_2, ↓w_lcmp, ↓w_getfield, ↓w_nop, ↓w_goto, ↓w_if_icmp_ne, ↓w_ifCond_le, ↓w_lreturn, ↓w_invokevirtual_1, stw_0, stw_i, stw_l, stw_r, ofK0, ofK1, ofK2, lst1, lst2, lkill, kont_none, kont_some, Int.reduceToNat, List.length_cons, List.length_nil, Nat.reduceAdd, Nat.reduceLeDiff, Nat.zero_le, true_and, and_true, if_true, if_false, ne_eq, Int.reduceEq, Int.reduceNeg, not_false_eq_true, not_true_eq_false, ↓reduceIte, Int.reduceLT, Int.reduceLE, and_self, or_true, true_or, or_false, false_or, false_and, and_false, ah_t_w, ah_m_w, ah_n_w, lst1_0, List.tail_cons, w32_i, zbd, lst2_0, lc_gt, lc_lt, lc_eq, t1, m0, g]
      exact hQ
    · simp (disch := omega) only [b_159_0, q_159_34, b_159_34, q_159_35, b_159_35, q_159_44, b_159_44, ↓w_iconst, ↓w_aload_n_0, ↓w_aload_n_1, ↓w_lload_n_2, ↓w_lload_4, ↓w_lstore, ↓w_lstore_n_2, ↓w_lcmp, ↓w_getfield, ↓w_nop, ↓w_goto, ↓w_if_icmp_ne, ↓w_ifCond_le, ↓w_lreturn, ↓w_invokevirtual_1, stw_0, stw_i, stw_l, stw_r, ofK0, ofK1, ofK2, lst1, lst2, lkill, kont_none, kont_some, Int.reduceToNat, List.length_cons, List.length_nil, Nat.reduceAdd, Nat.reduceLeDiff, Nat.zero_le, true_and, and_true, if_true, if_false, ne_eq, Int.reduceEq, Int.reduceNeg, not_false_eq_true, not_true_eq_false, ↓reduceIte, Int.reduceLT, Int.reduceLE, and_self, or_true, true_or, or_false, false_or, false_and, and_false, ah_t_w, ah_m_w, ah_n_w, lst1_0, List.tail_cons, w32_i, zbd, lst2_0, lc_gt, lc_lt, lc_eq, t1, m0, g]
      by_cases g2 : X < Y
      · rw [if_pos g2] at hQ; exact hQ
      · rw [if_neg g2] at hQ
        have : Y = X := by omega
        rw [this] at hQ; exact hQ
  · subst e
    rw [if_pos (by decide)] at hQ
    have ej : zjo 6 X Y = if Y < X then X else Y := by unfold zjo; rw [if_neg (by decide), if_neg (by decide), if_neg (by decide), if_neg (by decide), if_neg (by decide), if_pos (by decide)]
    rw [ej] at hQ
    by_cases g : Y < X
    · rw [if_pos g] at hQ
      simp (disch := omega) only [b_159_0, q_159_35, b_159_35, q_159_44, b_159_44, ↓w_iconst, ↓w_aload_n_0, ↓w_aload_n_1, ↓w_lload_n_2, ↓w_lload_4, ↓w_lstore, ↓w_lstore_n_2, ↓w_lcmp, ↓w_getfield, ↓w_goto, ↓w_if_icmp_ne, ↓w_ifCond_le, ↓w_lreturn, ↓w_invokevirtual_1, stw_0, stw_i, stw_l, stw_r, ofK0, ofK1, ofK2, lst1, lst2, lkill, kont_none, kont_some, Int.reduceToNat, List.length_cons, List.length_nil, Nat.reduceAdd, Nat.reduceLeDiff, Nat.zero_le, true_and, and_true, if_true, if_false, ne_eq, Int.reduceEq, Int.reduceNeg, not_false_eq_true, not_true_eq_false, ↓reduceIte, Int.reduceLT, Int.reduceLE, and_self, or_true, true_or, or_false, false_or, false_and, and_false, ah_t_w, ah_m_w, ah_n_w, lst1_0, List.tail_cons, w32_i, zbd, lst2_0, lc_gt, lc_lt, lc_eq, t1, m0, g]
      exact hQ
    · rw [if_neg g] at hQ
      simp (disch := omega) only [b_159_0, q_159_34, b_159_34, q_159_35, b_159_35, q_159_42, b_159_42, q_159_44, b_159_44, ↓w_iconst, ↓w_aload_n_0, ↓w_aload_n_1, ↓w_lload_n_2, ↓w_lload_4, ↓w_lstore, ↓w_lstore_n_2, ↓w_lcmp, ↓w_getfield, ↓w_nop, ↓w_goto, ↓w_if_icmp_ne, ↓w_ifCond_le, ↓w_lreturn, ↓w_invokevirtual_1, stw_0, stw_i, stw_l, stw_r, ofK0, ofK1, ofK2, lst1, lst2, lkill, kont_none, kont_some, Int.reduceToNat, List.length_cons, List.length_nil, Nat.reduceAdd, Nat.reduceLeDiff, Nat.zero_le, true_and, and_true, if_true, if_false, ne_eq, Int.reduceEq, Int.reduceNeg, not_false_eq_true, not_true_eq_false, ↓reduceIte, Int.reduceLT, Int.reduceLE, and_self, or_true, true_or, or_false, false_or, false_and, and_false, ah_t_w, ah_m_w, ah_n_w, lst1_0, List.tail_cons, w32_i, zbd, lst2_0, lc_gt, lc_lt, lc_eq, t1, m0, g]
      exact hQ
/-- how far a field is -/
theorem VSi_looked {i1 j1 : Int} (tp : ah_t h p = (19, 0)) (h0 : ah_m h p 0 = 0) (h1 : ah_m h p 1 = x) (h2 : ah_m h p 2 = 1) (v1 : VSi false D i1 j1 h x c1) (hi : a ≤ i1 ∧ j1 ≤ b) (hD : 6 ≤ D) (ha : 1121 ≤ a ∧ a ≤ p ∧ p < b ∧ b ≤ ah_n h) : VSi false (D + 1) a b h p (c1 ++ [60]) := by
  have e19 : (ah_t h p).1 = 19 := by rw [tp]
  refine ⟨ha, by omega, fun ts => ?_, fun h' pt of Q ag ev hQ => ?_⟩
  · rw [ztl_app, v1.2.2.1 ts]; rfl
  rw [e19]
  show wpC (D + 1) 165 _ h' Q
  have agp := ag p ha.2.1 ha.2.2.1
  have t1 : (ah_t h' p).1 = 19 := by rw [agp.1, tp]
  have m0 : ah_m h' p 0 = 0 := by rw [agp.2]; exact h0
  have m1 : ah_m h' p 1 = x := by rw [agp.2]; exact h1
  have m2 : ah_m h' p 2 = 1 := by rw [agp.2]; exact h2
  have ag1 : AgI i1 j1 h h' := fun r r0 r1 => ag r (by omega) (by omega)
  have hz : ztop (zrun pt of (c1 ++ [60]) []) = zclip (of (ztop (zrun pt of c1 []))) := by
    rw [zrun_app, zrun_top v1.2.2.1]
    simp only [zrun, zst]
    rw [if_neg (by omega), if_pos (by omega)]
    rfl
  rw [hz] at hQ
  have xb := ztop_b (pt := pt) (of := of) v1.2.2.1
  have e5 := ev.2.2 rfl
  have tX := e5.1
  obtain ⟨d6, hd6⟩ : ∃ u : Nat, D = u + 6 := ⟨D - 6, by omega⟩
  have c119 : ∀ {x : Int} {Q : QQ}, wpC D 119 [.inr (.inl x)] h' Q ↔ Q (.inl (some (.inr (.inl (zclip x))))) h' := fun {x Q} => by rw [hd6]; exact c_119 (d := d6 + 4)
  rw [wpC_B]; refine ⟨⟨Nat.zero_lt_succ _, Nat.le_of_ble_eq_true rfl⟩, ?_⟩; simp only [lent]
  simp (disch := omega) only [q_165_0, b_165_0, ↓w_aload_n_0, ↓w_aload_n_1, ↓w_getfield, ↓w_lreturn, ↓w_invokestatic_1, ↓w_invokevirtual_1, ↓w_invokevirtual_2, stw_0, stw_i, stw_l, stw_r, ofK0, ofK1, ofK2, lst1, lst2, lkill, kont_none, kont_some, Int.reduceToNat, List.length_cons, List.length_nil, Nat.reduceAdd, Nat.reduceLeDiff, Nat.zero_le, true_and, and_true, if_true, if_false, ne_eq, Int.reduceEq, Int.reduceNeg, not_false_eq_true, not_true_eq_false, ↓reduceIte, Int.reduceLT, Int.reduceLE, and_self, or_true, true_or, or_false, false_or, false_and, and_false, ah_t_w, ah_m_w, ah_n_w, lst1_0, List.tail_cons, w32_i, zbd, lst2_0, t1, m0, m1, m2]
  refine clVx v1 ag1 ev (by simp [stw]) ?_
  simp (disch := omega) only [b_165_0, ↓w_aload_n_0, ↓w_aload_n_1, ↓w_getfield, ↓w_lreturn, ↓w_invokestatic_1, ↓w_invokevirtual_1, ↓w_invokevirtual_2, stw_0, stw_i, stw_l, stw_r, ofK0, ofK1, ofK2, lst1, lst2, lkill, kont_none, kont_some, Int.reduceToNat, List.length_cons, List.length_nil, Nat.reduceAdd, Nat.reduceLeDiff, Nat.zero_le, true_and, and_true, if_true, if_false, ne_eq, Int.reduceEq, Int.reduceNeg, not_false_eq_true, not_true_eq_false, ↓reduceIte, Int.reduceLT, Int.reduceLE, and_self, or_true, true_or, or_false, false_or, false_and, and_false, ah_t_w, ah_m_w, ah_n_w, lst1_0, List.tail_cons, w32_i, zbd, lst2_0, tX]
  rw [hd6]
  refine e5.2 d6 _ _ xb.1 xb.2 ?_
  rw [← hd6]
  simp (disch := omega) only [b_165_0, ↓w_aload_n_0, ↓w_aload_n_1, ↓w_getfield, ↓w_lreturn, ↓w_invokestatic_1, ↓w_invokevirtual_1, ↓w_invokevirtual_2, stw_0, stw_i, stw_l, stw_r, ofK0, ofK1, ofK2, lst1, lst2, lkill, kont_none, kont_some, Int.reduceToNat, List.length_cons, List.length_nil, Nat.reduceAdd, Nat.reduceLeDiff, Nat.zero_le, true_and, and_true, if_true, if_false, ne_eq, Int.reduceEq, Int.reduceNeg, not_false_eq_true, not_true_eq_false, ↓reduceIte, Int.reduceLT, Int.reduceLE, and_self, or_true, true_or, or_false, false_or, false_and, and_false, ah_t_w, ah_m_w, ah_n_w, lst1_0, List.tail_cons, w32_i, zbd, lst2_0, c119]
  exact hQ
end D4
