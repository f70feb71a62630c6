/-! ===== builders of signs ===== -/
def SBD (h : AH) (s : Int) (l : List Int) (cap el : Int) : Prop := (ah_t h s = (11, 0) ∧ ah_m h s 0 = el ∧ ah_m h s 1 = 0 ∧ ah_m h s 3 = l.length) ∧ ah_t h el = (-2, cap) ∧ (l.length : Int) ≤ cap ∧ (0 < s ∧ 0 < el ∧ s ≠ el) ∧ ∀ i : Nat, i < l.length → ah_m h el i = l.getD i 0
def isSg (c : Int) : Prop := c = 42 ∨ c = 43 ∨ c = 45 ∨ c = 47
section B8
variable {W' : Int → Int → Prop} {d : Nat} {h h' h1 h2 h0 : AH} {Q : QQ} {x y z k s a b c v n p q r o i f N lo hi A B E cap el sp dp : Int} {S T T' : Int → Int → Int} {t nw nw' pt of tp : Int → Int} {tl : ALoc} {w u W l : List Int}
set_option maxHeartbeats 4000000
theorem w32_eqx (z : Int) : w32 z = (Int32.ofInt z).toInt := by
  rw [Int32.toInt_ofInt, show Int32.size = 4294967296 from rfl]
  unfold w32 Int.bmod
  simp only
  split <;> omega
theorem ishl_0 (h0 : 0 ≤ z) (h1 : z < 2147483648) : ishl_ z 0 = z := by
  unfold ishl_
  have e : (Int32.ofInt 0 &&& 31) = 0 := by decide
  rw [e]
  have e2 : Int32.ofInt z <<< (0 : Int32) = Int32.ofInt z := by simp
  rw [e2, ← w32_eqx]
  exact w32_i (by omega) (by omega)
theorem ishr_0 (h0 : 0 ≤ z) (h1 : z < 2147483648) : ishr_ z 0 = z := by
  obtain ⟨u, rfl⟩ : ∃ u : Nat, z = u := ⟨z.toNat, by omega⟩
  have := ishr_nat u (by omega) 0 (by decide)
  rw [show ((0 : Nat) : Int) = 0 from rfl] at this
  rw [this, Nat.pow_zero, Nat.div_one]
theorem c_33 (ts : ah_t h s = (11, 0)) (s0 : 0 < s) (s1 : s < ah_n h) (hz : ah_m h s 3 = 0) (hQ : ∀ h', SBD h' s [] 16 (ah_n h) → Ext (fun r i => r = s) h h' → ah_n h' = ah_n h + 1 → ah_s h' = ah_s h + 16 → Q (.inl none) h') : wpC (d + 2) 33 [.inr (.inr s)] h Q := by
  have t1 : (ah_t h s).1 = 11 := by rw [ts]
  rw [wpC_B]; refine ⟨⟨Nat.zero_lt_succ _, Nat.le_of_ble_eq_true rfl⟩, ?_⟩; simp only [lent]
  simp (disch := omega) only [q_33_0, b_33_0, ↓w_bipush, ↓w_aload_n_0, ↓w_return, ↓w_invokespecial_1, stw_0, stw_i, stw_l, stw_r, ofK0, ofK1, ofK2, lst1, lst2, lkill, kont_none, kont_some, Int.reduceToNat, List.length_cons, List.length_nil, Nat.reduceAdd, Nat.reduceLeDiff, Nat.zero_le, true_and, and_true, if_true, if_false, ne_eq, Int.reduceEq, Int.reduceNeg, not_false_eq_true, not_true_eq_false, ↓reduceIte, Int.reduceLT, Int.reduceLE, and_self, or_true, true_or, or_false, false_or, false_and, and_false, ah_t_w, ah_m_w, ah_n_w, lst1_0, List.tail_cons, w32_i, zbd, lst2_0, t1]
  rw [wpC_B]; refine ⟨⟨Nat.zero_lt_succ _, Nat.le_of_ble_eq_true rfl⟩, ?_⟩; simp only [lent]
  simp (disch := omega) only [q_26_0, b_26_0, ↓w_iconst, ↓w_getstatic, ↓w_aload_n_0, ↓w_iload_n_1, ↓w_putfield_2, ↓w_putfield_4, ↓w_newarray, ↓w_goto, ↓w_ifCond_eq, ↓w_objinit, stw_0, stw_i, stw_l, stw_r, ofK0, ofK1, ofK2, lst1, lst2, lkill, kont_none, kont_some, Int.reduceToNat, List.length_cons, List.length_nil, Nat.reduceAdd, Nat.reduceLeDiff, Nat.zero_le, true_and, and_true, if_true, if_false, ne_eq, Int.reduceEq, Int.reduceNeg, not_false_eq_true, not_true_eq_false, ↓reduceIte, Int.reduceLT, Int.reduceLE, and_self, or_true, true_or, or_false, false_or, false_and, and_false, ah_t_w, ah_m_w, ah_n_w, lst1_0, List.tail_cons, w32_i, zbd, lst2_0, s0]
  simp only [arrT]
  generalize hP : ah_n h = P at *
  have hE1 : Ext (fun r i => r = s) h (ah_new h (-2, 16) 16) := Ext_new Ext_rfl (by omega)
  have tP : ah_t (ah_new h (-2, 16) 16) P = (-2, 16) := by rw [ah_t_new, hP, if_pos rfl]
  have ts1 : ah_t (ah_new h (-2, 16) 16) s = (11, 0) := by rw [ah_t_new, hP, if_neg (by omega)]; exact ts
  have m3 : ah_m (ah_new h (-2, 16) 16) s 3 = 0 := by rw [ah_m_new, hP, if_neg (by omega)]; exact hz
  have n1 : ah_n (ah_new h (-2, 16) 16) = P + 1 := by rw [ah_n_new, hP]
  have s1' : ah_s (ah_new h (-2, 16) 16) = ah_s h + 16 := ah_s_new
  generalize hg : ah_new h (-2, 16) 16 = g1 at *
  have ts1' : (ah_t g1 s).1 = 11 := by rw [ts1]
  simp (disch := omega) only [b_26_0, q_26_38, b_26_38, b_33_0, ↓w_iconst, ↓w_bipush, ↓w_getstatic, ↓w_aload_n_0, ↓w_iload_n_1, ↓w_putfield_2, ↓w_putfield_4, ↓w_newarray, ↓w_goto, ↓w_ifCond_eq, ↓w_return, ↓w_invokespecial_1, ↓w_objinit, stw_0, stw_i, stw_l, stw_r, ofK0, ofK1, ofK2, lst1, lst2, lkill, kont_none, kont_some, Int.reduceToNat, List.length_cons, List.length_nil, Nat.reduceAdd, Nat.reduceLeDiff, Nat.zero_le, true_and, and_true, if_true, if_false, ne_eq, Int.reduceEq, Int.reduceNeg, not_false_eq_true, not_true_eq_false, ↓reduceIte, Int.reduceLT, Int.reduceLE, and_self, or_true, true_or, or_false, false_or, false_and, and_false, ah_t_w, ah_m_w, ah_n_w, lst1_0, List.tail_cons, w32_i, zbd, lst2_0, ts1', s0]
  generalize hg7 : ah_w (ah_w g1 s 0 P) s 1 0 = g7
  refine hQ g7 ⟨⟨by rw [← hg7]; exact ts1, by rw [← hg7, ah_m_w, if_neg (by omega), ah_m_w, if_pos ⟨rfl, rfl⟩], by rw [← hg7, ah_m_w, if_pos ⟨rfl, rfl⟩], by rw [← hg7, ah_m_w, if_neg (by omega), ah_m_w, if_neg (by omega)]; exact m3⟩, by rw [← hg7]; exact tP, by simp, by omega, fun i q => by simp at q⟩ (by rw [← hg7]; exact Ext_w (Ext_w hE1 (Or.inl rfl)) (Or.inl rfl)) (by rw [← hg7]; exact n1) (by rw [← hg7]; exact s1')
theorem c_5 (hc : isSg c) : wpC (d + 1) 5 [.inl c] h Q ↔ Q (.inl (some (.inl 1))) h := by
  unfold isSg at hc
  have g : ¬ 255 < c := by omega
  apply CT_iff; apply CT_of; rw [wpC_B]; refine ⟨⟨Nat.zero_lt_succ _, Nat.le_of_ble_eq_true rfl⟩, ?_⟩; simp only [lent]
  simp (disch := omega) only [q_5_0, b_5_0, q_5_11, b_5_11, q_5_12, b_5_12, ↓w_iconst, ↓w_sipush, ↓w_iload_n_0, ↓w_nop, ↓w_goto, ↓w_if_icmp_gt, ↓w_ireturn1, stw_0, stw_i, stw_l, stw_r, ofK0, ofK1, ofK2, lst1, lst2, lkill, kont_none, kont_some, Int.reduceToNat, List.length_cons, List.length_nil, Nat.reduceAdd, Nat.reduceLeDiff, Nat.zero_le, true_and, and_true, if_true, if_false, ne_eq, Int.reduceEq, Int.reduceNeg, not_false_eq_true, not_true_eq_false, ↓reduceIte, Int.reduceLT, Int.reduceLE, and_self, or_true, true_or, or_false, false_or, false_and, and_false, ah_t_w, ah_m_w, ah_n_w, lst1_0, List.tail_cons, w32_i, zbd, lst2_0, g]
/-- room for one more -/
theorem c_28 (hF : FRE h) (hs : SBD h s l cap el) (hcap : 16 ≤ cap ∧ cap ≤ 5000)
    (hQ : ∀ h' cap' el', SBD h' s l cap' el' → (l.length : Int) < cap' → Ext (fun r i => r = s) h h' → (el' = el ∨ ah_n h ≤ el') → ah_n h' ≤ ah_n h + 1 → ah_s h' + 2 * cap ≤ ah_s h + 2 * cap' → (cap' = cap ∨ (16 ≤ cap' ∧ cap' ≤ 2 * l.length + 2)) → Q (.inl none) h') : wpC (d + 4) 28 [.inr (.inr s), .inl (l.length + 1)] h Q := by
  have hs' := hs
  obtain ⟨⟨ts, e0, e1, e3⟩, te, hl, ⟨s0, el0, hne⟩, eb⟩ := hs
  have t1 : (ah_t h s).1 = 11 := by rw [ts]
  have teA : (ah_t h el).1 = -2 := by rw [te]
  have teN : (ah_t h el).1 < 0 := by rw [te]; exact (by decide : (-2 : Int) < 0)
  have teB : (ah_t h el).2 = cap := by rw [te]
  have sN : s < ah_n h := FRE_lt hF (by rw [ts]; decide)
  have elN : el < ah_n h := FRE_lt hF (by rw [te]; exact (by decide : (-2 : Int) ≠ 0))
  have r0 := ishr_0 (z := cap) (by omega) (by omega)
  have p1n := hF.1
  rw [wpC_B]; refine ⟨⟨Nat.zero_lt_succ _, Nat.le_of_ble_eq_true rfl⟩, ?_⟩; simp only [lent]
  by_cases g : (l.length : Int) = cap
  · have g1 : 0 < (l.length : Int) + 1 - cap := by omega
    have l0 := ishl_0 (z := (l.length : Int) + 1) (by omega) (by omega)
    have l2 : ishl_ 2 0 = 2 := by decide
    have eg : (l.length : Int) + 1 - cap = 1 := by omega
    have emx : (if 1 < cap + 2 then cap + 2 else 1) = cap + 2 := by rw [if_pos (by omega)]
    have r2 := ishr_0 (z := cap + (cap + 2)) (by omega) (by omega)
    have l3 := ishl_0 (z := cap + (cap + 2)) (by omega) (by omega)
    have ng : ¬ cap + (cap + 2) = 2147483647 := by omega
    have c15 : ∀ {d : Nat} {Q : QQ}, wpC (d + 2) 15 [.inl cap, .inl 1, .inl (cap + 2)] h Q ↔ Q (.inl (some (.inl (cap + (cap + 2))))) h := fun {d Q} => by
      rw [c_15 (by omega) (by omega) (by omega) (by rw [emx]; omega), emx]
    have c29 : ∀ {d : Nat} {Q : QQ}, wpC (d + 3) 29 [.inr (.inr s), .inl (l.length + 1)] h Q ↔ Q (.inl (some (.inl (cap + (cap + 2))))) h := by
      intro d Q
      apply CT_iff; apply CT_of; rw [wpC_B]; refine ⟨⟨Nat.zero_lt_succ _, Nat.le_of_ble_eq_true rfl⟩, ?_⟩; simp only [lent]
      simp (disch := omega) only [q_29_0, b_29_0, q_29_51, b_29_51, ↓w_iconst, ↓w_ldc, ↓w_aload_n_0, ↓w_iload_n_1, ↓w_iload_n_2, ↓w_iload_n_3, ↓w_iload_4, ↓w_iload_5, ↓w_istore, ↓w_istore_n_2, ↓w_istore_n_3, ↓w_iadd, ↓w_isub, ↓w_ishl, ↓w_ishr, ↓w_getfield, ↓w_arraylength, ↓w_if_icmp_ne, ↓w_ireturn0, ↓w_invokestatic_3, stw_0, stw_i, stw_l, stw_r, ofK0, ofK1, ofK2, lst1, lst2, lkill, kont_none, kont_some, Int.reduceToNat, List.length_cons, List.length_nil, Nat.reduceAdd, Nat.reduceLeDiff, Nat.zero_le, true_and, and_true, if_true, if_false, ne_eq, Int.reduceEq, Int.reduceNeg, not_false_eq_true, not_true_eq_false, ↓reduceIte, Int.reduceLT, Int.reduceLE, and_self, or_true, true_or, or_false, false_or, false_and, and_false, ah_t_w, ah_m_w, ah_n_w, lst1_0, List.tail_cons, w32_i, zbd, lst2_0, t1, e0, e1, teN, teB, l0, l2, eg, c15, ng, r2]
    simp (disch := omega) only [q_28_0, b_28_0, ↓w_aload_n_0, ↓w_iload_n_1, ↓w_iload_n_2, ↓w_istore_n_2, ↓w_isub, ↓w_ishl, ↓w_ishr, ↓w_getfield, ↓w_putfield_2, ↓w_arraylength, ↓w_nop, ↓w_ifCond_le, ↓w_invokevirtual_1, ↓w_invokestatic_2, stw_0, stw_i, stw_l, stw_r, ofK0, ofK1, ofK2, lst1, lst2, lkill, kont_none, kont_some, Int.reduceToNat, List.length_cons, List.length_nil, Nat.reduceAdd, Nat.reduceLeDiff, Nat.zero_le, true_and, and_true, if_true, if_false, ne_eq, Int.reduceEq, Int.reduceNeg, not_false_eq_true, not_true_eq_false, ↓reduceIte, Int.reduceLT, Int.reduceLE, and_self, or_true, true_or, or_false, false_or, false_and, and_false, ah_t_w, ah_m_w, ah_n_w, lst1_0, List.tail_cons, w32_i, zbd, lst2_0, t1, e0, e1, teN, teB, r0, g1, c29, l3]
    have cn : ¬ cap + (cap + 2) = cap := by omega
    have b0 : 0 ≤ cap + (cap + 2) := by omega
    have b1 : cap + (cap + 2) ≤ 100000 := by omega
    rw [wpC_B]; refine ⟨⟨Nat.zero_lt_succ _, Nat.le_of_ble_eq_true rfl⟩, ?_⟩; simp only [lent]
    simp (disch := omega) only [q_25_0, b_25_0, q_25_14, b_25_14, ↓w_iconst, ↓w_aload_n_0, ↓w_iload_n_1, ↓w_aload_n_2, ↓w_astore_n_2, ↓w_newarray, ↓w_arraylength, ↓w_if_icmp_ne, ↓w_areturn, ↓w_invokestatic_0, ↓w_invokestatic_2, stw_0, stw_i, stw_l, stw_r, ofK0, ofK1, ofK2, lst1, lst2, lkill, kont_none, kont_some, Int.reduceToNat, List.length_cons, List.length_nil, Nat.reduceAdd, Nat.reduceLeDiff, Nat.zero_le, true_and, and_true, if_true, if_false, ne_eq, Int.reduceEq, Int.reduceNeg, not_false_eq_true, not_true_eq_false, ↓reduceIte, Int.reduceLT, Int.reduceLE, and_self, or_true, true_or, or_false, false_or, false_and, and_false, ah_t_w, ah_m_w, ah_n_w, lst1_0, List.tail_cons, w32_i, zbd, lst2_0, teN, teB, cn, b0, b1]
    simp only [arrT]
    generalize hP : ah_n h = P at *
    have hE1 : Ext (fun r i => r = s) h (ah_new h (-2, cap + (cap + 2)) (cap + (cap + 2))) := Ext_new Ext_rfl b0
    have T1 : ∀ r, r < P → ah_t (ah_new h (-2, cap + (cap + 2)) (cap + (cap + 2))) r = ah_t h r := fun r q => by rw [ah_t_new, hP, if_neg (by omega)]
    have tP : ah_t (ah_new h (-2, cap + (cap + 2)) (cap + (cap + 2))) P = (-2, cap + (cap + 2)) := by rw [ah_t_new, hP, if_pos rfl]
    have M1 : ∀ r i, r < P → ah_m (ah_new h (-2, cap + (cap + 2)) (cap + (cap + 2))) r i = ah_m h r i := fun r i q => by rw [ah_m_new, hP, if_neg (by omega)]
    have n1 : ah_n (ah_new h (-2, cap + (cap + 2)) (cap + (cap + 2))) = P + 1 := by rw [ah_n_new, hP]
    have s1 : ah_s (ah_new h (-2, cap + (cap + 2)) (cap + (cap + 2))) = ah_s h + (cap + (cap + 2)) := ah_s_new
    generalize hgg : ah_new h (-2, cap + (cap + 2)) (cap + (cap + 2)) = g3 at *
    have t3A : (ah_t g3 el).1 = -2 := by rw [T1 _ elN]; exact teA
    have t3N : (ah_t g3 el).1 < 0 := by rw [T1 _ elN]; exact teN
    have t3B : (ah_t g3 el).2 = cap := by rw [T1 _ elN]; exact teB
    have tP1 : (ah_t g3 P).1 = -2 := by rw [tP]
    have tP2 : (ah_t g3 P).2 = cap + (cap + 2) := by rw [tP]
    have c18 : ∀ {d : Nat} {Q : QQ}, wpC (d + 1) 18 [.inl cap, .inl (cap + (cap + 2))] g3 Q ↔ Q (.inl (some (.inl cap))) g3 := fun {d Q} => by rw [c_18, if_neg (by omega)]
    simp (disch := omega) only [b_25_14, ↓w_iconst, ↓w_aload_n_0, ↓w_iload_n_1, ↓w_aload_n_2, ↓w_astore_n_2, ↓w_newarray, ↓w_arraylength, ↓w_areturn, ↓w_invokestatic_0, ↓w_invokestatic_2, stw_0, stw_i, stw_l, stw_r, ofK0, ofK1, ofK2, lst1, lst2, lkill, kont_none, kont_some, Int.reduceToNat, List.length_cons, List.length_nil, Nat.reduceAdd, Nat.reduceLeDiff, Nat.zero_le, true_and, and_true, if_true, if_false, ne_eq, Int.reduceEq, Int.reduceNeg, not_false_eq_true, not_true_eq_false, ↓reduceIte, Int.reduceLT, Int.reduceLE, and_self, or_true, true_or, or_false, false_or, false_and, and_false, ah_t_w, ah_m_w, ah_n_w, lst1_0, List.tail_cons, w32_i, zbd, lst2_0, t3N, t3B, c18]
    rw [w_copy (by exact ⟨el0, by omega, by omega, Or.inl t3A, by rw [t3A, tP1], by omega, by omega, by omega, by rw [t3B]; omega, by rw [tP2]; omega, by simp [stw]⟩)]
    generalize hg4 : ah_row g3 P (fun j => if 0 ≤ j ∧ j < 0 + cap then ah_m g3 el (0 + (j - 0)) else ah_m g3 P j) = g4
    have T4 : ∀ r, ah_t g4 r = ah_t g3 r := fun r => by rw [← hg4, ah_t_row]
    have M4 : ∀ r i, r ≠ P → ah_m g4 r i = ah_m g3 r i := fun r i q => by rw [← hg4, ah_m_row, if_neg q]
    have P4 : ∀ i, 0 ≤ i → i < cap → ah_m g4 P i = ah_m h el i := fun i a b => by rw [← hg4, ah_m_row, if_pos rfl, if_pos (by omega), Int.zero_add, Int.sub_zero, M1 _ _ elN]
    have n4 : ah_n g4 = P + 1 := by rw [← hg4]; exact n1
    have s4 : ah_s g4 = ah_s h + (cap + (cap + 2)) := by rw [← hg4]; exact s1
    have hE4 : Ext (fun r i => r = s) h g4 := by
      refine ⟨⟨by omega, by omega⟩, fun r q => by rw [T4]; exact hE1.2.1 r (by rw [n1]; omega), fun r i q w => by rw [M4 _ _ (by omega)]; exact hE1.2.2 r i q w⟩
    have st4 : (ah_t g4 s).1 = 11 := by rw [T4, T1 _ sN]; exact t1
    simp (disch := omega) only [b_25_14, b_28_0, q_28_38, b_28_38, ↓w_iconst, ↓w_aload_n_0, ↓w_iload_n_1, ↓w_iload_n_2, ↓w_aload_n_2, ↓w_istore_n_2, ↓w_astore_n_2, ↓w_isub, ↓w_ishl, ↓w_ishr, ↓w_getfield, ↓w_putfield_2, ↓w_newarray, ↓w_arraylength, ↓w_nop, ↓w_ifCond_le, ↓w_return, ↓w_areturn, ↓w_invokestatic_0, ↓w_invokevirtual_1, ↓w_invokestatic_2, stw_0, stw_i, stw_l, stw_r, ofK0, ofK1, ofK2, lst1, lst2, lkill, kont_none, kont_some, Int.reduceToNat, List.length_cons, List.length_nil, Nat.reduceAdd, Nat.reduceLeDiff, Nat.zero_le, true_and, and_true, if_true, if_false, ne_eq, Int.reduceEq, Int.reduceNeg, not_false_eq_true, not_true_eq_false, ↓reduceIte, Int.reduceLT, Int.reduceLE, and_self, or_true, true_or, or_false, false_or, false_and, and_false, ah_t_w, ah_m_w, ah_n_w, lst1_0, List.tail_cons, w32_i, zbd, lst2_0, st4, s0]
    generalize hg7 : ah_w g4 s 0 P = g7
    refine hQ g7 (cap + (cap + 2)) P ⟨⟨?_, ?_, ?_, ?_⟩, ?_, by omega, by omega, fun i q => ?_⟩ (by omega) (by rw [← hg7]; exact Ext_w hE4 (Or.inl rfl)) (Or.inr (by omega)) (by rw [← hg7]; show ah_n g4 ≤ _; omega) (by rw [← hg7]; show ah_s g4 + _ ≤ _; omega) (Or.inr ⟨by omega, by omega⟩)
    · rw [← hg7]; show ah_t g4 s = _; rw [T4, T1 _ sN]; exact ts
    · rw [← hg7, ah_m_w, if_pos ⟨rfl, rfl⟩]
    · rw [← hg7, ah_m_w, if_neg (by omega), M4 _ _ (by omega), M1 _ _ sN]; exact e1
    · rw [← hg7, ah_m_w, if_neg (by omega), M4 _ _ (by omega), M1 _ _ sN]; exact e3
    · rw [← hg7]; show ah_t g4 P = _; rw [T4]; exact tP
    · rw [← hg7, ah_m_w, if_neg (by omega), P4 i (by omega) (by omega)]; exact eb i q
  · have g1 : ¬ 0 < (l.length : Int) + 1 - cap := by omega
    simp (disch := omega) only [q_28_0, b_28_0, q_28_38, b_28_38, ↓w_aload_n_0, ↓w_iload_n_1, ↓w_iload_n_2, ↓w_istore_n_2, ↓w_isub, ↓w_ishl, ↓w_ishr, ↓w_getfield, ↓w_putfield_2, ↓w_arraylength, ↓w_nop, ↓w_ifCond_le, ↓w_return, ↓w_invokevirtual_1, ↓w_invokestatic_2, stw_0, stw_i, stw_l, stw_r, ofK0, ofK1, ofK2, lst1, lst2, lkill, kont_none, kont_some, Int.reduceToNat, List.length_cons, List.length_nil, Nat.reduceAdd, Nat.reduceLeDiff, Nat.zero_le, true_and, and_true, if_true, if_false, ne_eq, Int.reduceEq, Int.reduceNeg, not_false_eq_true, not_true_eq_false, ↓reduceIte, Int.reduceLT, Int.reduceLE, and_self, or_true, true_or, or_false, false_or, false_and, and_false, ah_t_w, ah_m_w, ah_n_w, lst1_0, List.tail_cons, w32_i, zbd, lst2_0, t1, e0, e1, teN, teB, r0, g1]
    exact hQ h cap el hs' (by omega) Ext_rfl (Or.inl rfl) (by omega) (by omega) (Or.inl rfl)
/-- one more sign -/
theorem c_34 (hF : FRE h) (hs : SBD h s l cap el) (hc : isSg c) (hcap : 16 ≤ cap ∧ cap ≤ 5000)
    (hQ : ∀ h' cap' el', SBD h' s (l ++ [c]) cap' el' → Ext (fun r i => r = s ∨ r = el) h h' → (el' = el ∨ ah_n h ≤ el') → ah_n h' ≤ ah_n h + 1 → ah_s h' + 2 * cap ≤ ah_s h + 2 * cap' → (cap' = cap ∨ (16 ≤ cap' ∧ cap' ≤ 2 * l.length + 2)) → Q (.inl (some (.inr (.inr s)))) h') : wpC (d + 6) 34 [.inr (.inr s), .inl c] h Q := by
  have hs' := hs
  obtain ⟨⟨ts, e0, e1, e3⟩, te, hl, ⟨s0, el0, hne⟩, eb⟩ := hs
  have t1 : (ah_t h s).1 = 11 := by rw [ts]
  have hc' := hc
  unfold isSg at hc'
  have w1 : w8 c = c := by unfold w8; omega
  rw [wpC_B]; refine ⟨⟨Nat.zero_lt_succ _, Nat.le_of_ble_eq_true rfl⟩, ?_⟩; simp only [lent]
  simp (disch := omega) only [q_34_0, b_34_0, ↓w_aload_n_0, ↓w_iload_n_1, ↓w_pop_i, ↓w_pop_a, ↓w_areturn, ↓w_invokespecial_1, stw_0, stw_i, stw_l, stw_r, ofK0, ofK1, ofK2, lst1, lst2, lkill, kont_none, kont_some, Int.reduceToNat, List.length_cons, List.length_nil, Nat.reduceAdd, Nat.reduceLeDiff, Nat.zero_le, true_and, and_true, if_true, if_false, ne_eq, Int.reduceEq, Int.reduceNeg, not_false_eq_true, not_true_eq_false, ↓reduceIte, Int.reduceLT, Int.reduceLE, and_self, or_true, true_or, or_false, false_or, false_and, and_false, ah_t_w, ah_m_w, ah_n_w, lst1_0, List.tail_cons, w32_i, zbd, lst2_0, t1]
  rw [wpC_B]; refine ⟨⟨Nat.zero_lt_succ _, Nat.le_of_ble_eq_true rfl⟩, ?_⟩; simp only [lent]
  simp (disch := omega) only [q_27_0, b_27_0, ↓w_iconst, ↓w_aload_n_0, ↓w_iload_n_1, ↓w_dup_i, ↓w_dup_a, ↓w_dup_x1, ↓w_dup_x1a, ↓w_iadd, ↓w_i2b, ↓w_getfield, ↓w_putfield_0, ↓w_bastore, ↓w_goto, ↓w_ifCond_eq, ↓w_invokevirtual_0, ↓w_invokestatic_1, ↓w_invokevirtual_1, stw_0, stw_i, stw_l, stw_r, ofK0, ofK1, ofK2, lst1, lst2, lkill, kont_none, kont_some, Int.reduceToNat, List.length_cons, List.length_nil, Nat.reduceAdd, Nat.reduceLeDiff, Nat.zero_le, true_and, and_true, if_true, if_false, ne_eq, Int.reduceEq, Int.reduceNeg, not_false_eq_true, not_true_eq_false, ↓reduceIte, Int.reduceLT, Int.reduceLE, and_self, or_true, true_or, or_false, false_or, false_and, and_false, ah_t_w, ah_m_w, ah_n_w, lst1_0, List.tail_cons, w32_i, zbd, lst2_0, t1, e3]
  refine c_28 (d := d) hF hs' hcap (fun h2 cap' el' hs2 hlt hE2 hel n2 s2 hcp => ?_)
  obtain ⟨⟨ts2, e02, e12, e32⟩, te2, hl2, ⟨s02, el02, hne2⟩, eb2⟩ := hs2
  have t2 : (ah_t h2 s).1 = 11 := by rw [ts2]
  have teA2 : (ah_t h2 el').1 = -2 := by rw [te2]
  have teB2 : (ah_t h2 el').2 = cap' := by rw [te2]
  have c30 : ∀ {d : Nat} {Q : QQ}, wpC (d + 1) 30 [.inr (.inr s)] h2 Q ↔ Q (.inl (some (.inl 1))) h2 := by
    intro d Q
    apply CT_iff; apply CT_of; rw [wpC_B]; refine ⟨⟨Nat.zero_lt_succ _, Nat.le_of_ble_eq_true rfl⟩, ?_⟩; simp only [lent]
    simp (disch := omega) only [q_30_0, b_30_0, q_30_17, b_30_17, q_30_18, b_30_18, ↓w_iconst, ↓w_getstatic, ↓w_aload_n_0, ↓w_getfield, ↓w_nop, ↓w_goto, ↓w_ifCond_eq, ↓w_ifCond_ne, ↓w_ireturn1, stw_0, stw_i, stw_l, stw_r, ofK0, ofK1, ofK2, lst1, lst2, lkill, kont_none, kont_some, Int.reduceToNat, List.length_cons, List.length_nil, Nat.reduceAdd, Nat.reduceLeDiff, Nat.zero_le, true_and, and_true, if_true, if_false, ne_eq, Int.reduceEq, Int.reduceNeg, not_false_eq_true, not_true_eq_false, ↓reduceIte, Int.reduceLT, Int.reduceLE, and_self, or_true, true_or, or_false, false_or, false_and, and_false, ah_t_w, ah_m_w, ah_n_w, lst1_0, List.tail_cons, w32_i, zbd, lst2_0, t2, e12]
  have b0 : 0 ≤ (l.length : Int) := by omega
  simp (disch := omega) only [b_27_0, q_27_75, b_27_75, b_34_0, ↓w_iconst, ↓w_aload_n_0, ↓w_iload_n_1, ↓w_dup_i, ↓w_dup_a, ↓w_dup_x1, ↓w_dup_x1a, ↓w_pop_i, ↓w_pop_a, ↓w_iadd, ↓w_i2b, ↓w_getfield, ↓w_putfield_0, ↓w_bastore, ↓w_goto, ↓w_ifCond_eq, ↓w_areturn, ↓w_invokevirtual_0, ↓w_invokestatic_1, ↓w_invokespecial_1, ↓w_invokevirtual_1, stw_0, stw_i, stw_l, stw_r, ofK0, ofK1, ofK2, lst1, lst2, lkill, kont_none, kont_some, Int.reduceToNat, List.length_cons, List.length_nil, Nat.reduceAdd, Nat.reduceLeDiff, Nat.zero_le, true_and, and_true, if_true, if_false, ne_eq, Int.reduceEq, Int.reduceNeg, not_false_eq_true, not_true_eq_false, ↓reduceIte, Int.reduceLT, Int.reduceLE, and_self, or_true, true_or, or_false, false_or, false_and, and_false, ah_t_w, ah_m_w, ah_n_w, lst1_0, List.tail_cons, w32_i, zbd, lst2_0, t2, c30, c_5 hc, e02, e32, s02, teA2, teB2, el02, b0, hlt, w1]
  generalize hg7 : ah_w (ah_w h2 s 3 (l.length + 1)) el' l.length c = g7
  refine hQ g7 cap' el' ⟨⟨?_, ?_, ?_, ?_⟩, ?_, by simp; omega, ⟨s02, el02, hne2⟩, fun i q => ?_⟩ (by rw [← hg7]; exact Ext_w (Ext_w (Ext_mono (fun r i w => Or.inl w) hE2) (Or.inl (Or.inl rfl))) (by rcases hel with q | q; exact Or.inl (Or.inr q); exact Or.inr q)) hel (by rw [← hg7]; exact n2) (by rw [← hg7]; exact s2) hcp
  · rw [← hg7]; exact ts2
  · rw [← hg7, ah_m_w, if_neg (by omega), ah_m_w, if_neg (by omega)]; exact e02
  · rw [← hg7, ah_m_w, if_neg (by omega), ah_m_w, if_neg (by omega)]; exact e12
  · rw [← hg7, ah_m_w, if_neg (by omega), ah_m_w, if_pos ⟨rfl, rfl⟩]; simp
  · rw [← hg7]; exact te2
  · rw [List.length_append, List.length_singleton] at q
    rw [← hg7, ah_m_w]
    by_cases e : i = l.length
    · rw [if_pos ⟨rfl, by omega⟩, e]; simp
    · rw [if_neg (by omega), ah_m_w, if_neg (by omega), eb2 i (by omega)]
      rw [List.getD_eq_getElem?_getD, List.getD_eq_getElem?_getD, List.getElem?_append_left (by omega)]
theorem c_35 (hs : SBD h s l cap el) (hb : ∀ v ∈ l, 0 ≤ v ∧ v < 128) (hcap : cap ≤ 5000) (k : Nat) (hk : k < l.length) : wpC (d + 4) 35 [.inr (.inr s), .inl k] h Q ↔ Q (.inl (some (.inl (l.getD k 0)))) h := by
  obtain ⟨⟨ts, e0, e1, e3⟩, te, hl, ⟨s0, el0, hne⟩, eb⟩ := hs
  have t1 : (ah_t h s).1 = 11 := by rw [ts]
  have teA : (ah_t h el).1 = -2 := by rw [te]
  have teN : (ah_t h el).1 < 0 := by rw [te]; exact (by decide : (-2 : Int) < 0)
  have teB : (ah_t h el).2 = cap := by rw [te]
  have r0 := ishr_0 (z := cap) (by omega) (by omega)
  have em : (if cap < (l.length : Int) then cap else l.length) = l.length := by rw [if_neg (by omega)]
  have k0 : 0 ≤ (k : Int) := by omega
  have k1 : (k : Int) < l.length := by omega
  have k2 : (k : Int) < cap := by omega
  have ek := eb k hk
  have hv : 0 ≤ l.getD k 0 ∧ l.getD k 0 < 128 := by
    rw [List.getD_eq_getElem?_getD, List.getElem?_eq_getElem hk]
    exact hb _ (List.getElem_mem hk)
  have a1 : iand_ (l.getD k 0) 255 = l.getD k 0 := by rw [iand_255]; omega
  have w1 : w16 (l.getD k 0) = l.getD k 0 := by unfold w16; omega
  have c62 : ∀ {d : Nat} {Q : QQ}, wpC (d + 2) 62 [.inl (k : Int), .inl (l.length : Int)] h Q ↔ Q (.inl none) h := by
    intro d Q
    apply CT_iff; apply CT_of; rw [wpC_B]; refine ⟨⟨Nat.zero_lt_succ _, Nat.le_of_ble_eq_true rfl⟩, ?_⟩; simp only [lent]
    simp (disch := omega) only [q_62_0, b_62_0, ↓w_getstatic, ↓w_iload_n_0, ↓w_iload_n_1, ↓w_pop_i, ↓w_pop_a, ↓w_return, ↓w_invokestatic_3, stw_0, stw_i, stw_l, stw_r, ofK0, ofK1, ofK2, lst1, lst2, lkill, kont_none, kont_some, Int.reduceToNat, List.length_cons, List.length_nil, Nat.reduceAdd, Nat.reduceLeDiff, Nat.zero_le, true_and, and_true, if_true, if_false, ne_eq, Int.reduceEq, Int.reduceNeg, not_false_eq_true, not_true_eq_false, ↓reduceIte, Int.reduceLT, Int.reduceLE, and_self, or_true, true_or, or_false, false_or, false_and, and_false, ah_t_w, ah_m_w, ah_n_w, lst1_0, List.tail_cons, w32_i, zbd, lst2_0, c_51 k0 k1]
  have rg : (2 : Int) = 0 ∨ (2 : Int) = 1 ∧ (l.getD k 0 = 0 ∨ l.getD k 0 = 1) ∨ (2 : Int) = 2 ∧ 0 ≤ l.getD k 0 ∧ l.getD k 0 < 65536 ∨ (2 : Int) = 3 ∧ -128 ≤ l.getD k 0 ∧ l.getD k 0 < 128 := Or.inr (Or.inr (Or.inl ⟨rfl, hv.1, by omega⟩))
  have g1 := hv.1
  have g2 : l.getD k 0 < 65536 := by omega
  apply CT_iff; apply CT_of; rw [wpC_B]; refine ⟨⟨Nat.zero_lt_succ _, Nat.le_of_ble_eq_true rfl⟩, ?_⟩; simp only [lent]
  simp (disch := omega) only [q_35_0, b_35_0, ↓w_aload_n_0, ↓w_iload_n_1, ↓w_ireturn2, ↓w_invokespecial_1, stw_0, stw_i, stw_l, stw_r, ofK0, ofK1, ofK2, lst1, lst2, lkill, kont_none, kont_some, Int.reduceToNat, List.length_cons, List.length_nil, Nat.reduceAdd, Nat.reduceLeDiff, Nat.zero_le, true_and, and_true, if_true, if_false, ne_eq, Int.reduceEq, Int.reduceNeg, not_false_eq_true, not_true_eq_false, ↓reduceIte, Int.reduceLT, Int.reduceLE, and_self, or_true, true_or, or_false, false_or, false_and, and_false, ah_t_w, ah_m_w, ah_n_w, lst1_0, List.tail_cons, w32_i, zbd, lst2_0, t1]
  rw [wpC_B]; refine ⟨⟨Nat.zero_lt_succ _, Nat.le_of_ble_eq_true rfl⟩, ?_⟩; simp only [lent]
  simp (disch := omega) only [q_32_0, b_32_0, b_35_0, ↓w_sipush, ↓w_aload_n_0, ↓w_iload_n_1, ↓w_iload_n_2, ↓w_aload_n_3, ↓w_iload_4, ↓w_istore, ↓w_istore_n_2, ↓w_astore_n_3, ↓w_iand, ↓w_ishr, ↓w_i2c, ↓w_getfield, ↓w_arraylength, ↓w_baload, ↓w_ifCond_ne, ↓w_ireturn2, ↓w_invokespecial_1, ↓w_invokestatic_2, stw_0, stw_i, stw_l, stw_r, ofK0, ofK1, ofK2, lst1, lst2, lkill, kont_none, kont_some, Int.reduceToNat, List.length_cons, List.length_nil, Nat.reduceAdd, Nat.reduceLeDiff, Nat.zero_le, true_and, and_true, if_true, if_false, ne_eq, Int.reduceEq, Int.reduceNeg, not_false_eq_true, not_true_eq_false, ↓reduceIte, Int.reduceLT, Int.reduceLE, and_self, or_true, true_or, or_false, false_or, false_and, and_false, ah_t_w, ah_m_w, ah_n_w, lst1_0, List.tail_cons, w32_i, zbd, lst2_0, t1, e0, e1, e3, teA, teN, teB, r0, c_18, em, c62, k0, k2, ek, a1, w1, g1, g2]
end B8
