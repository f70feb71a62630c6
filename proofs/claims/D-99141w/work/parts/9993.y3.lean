/-! ===== X: how many moves a man has; a state copied ===== -/
def Wcp (s r i : Int) : Prop := (r = s ∧ (i = 0 ∨ i = 1 ∨ i = 2 ∨ i = 7)) ∨ r = s + 1 ∨ r = s + 2 ∨ r = s + 3 ∨ (s + 5 ≤ r ∧ r ≤ s + 44)
section Y3
variable {W : Int → Int → Prop} {d : Nat} {h h' h0 : AH} {Q : QQ} {x y z m k s l w a b c v n p r o i f : Int} {S T T' : Int → Int → Int} {t nw nw' : Int → Int} {tl : ALoc}
set_option maxHeartbeats 4000000
theorem sz_t (hK : XG T h) (hZ : isS s) : (ah_t h s).1 = 8 := congrArg Prod.fst (hK.1.2.2.1 s hZ).1.1
theorem sz_3 (hK : XG T h) (hZ : isS s) : ah_m h s 3 = s + 1 := (hK.1.2.2.1 s hZ).2.1
theorem sz_4 (hK : XG T h) (hZ : isS s) : ah_m h s 4 = s + 2 := (hK.1.2.2.1 s hZ).2.2.1
theorem sz_5 (hK : XG T h) (hZ : isS s) : ah_m h s 5 = s + 3 := (hK.1.2.2.1 s hZ).2.2.2.1
theorem sz_6 (hK : XG T h) (hZ : isS s) : ah_m h s 6 = s + 4 := (hK.1.2.2.1 s hZ).2.2.2.2.1
theorem sz_11 (hK : XG T h) (hZ : isS s) : ah_m h s 11 = 1 := (hK.1.2.2.1 s hZ).2.2.2.2.2
theorem sz_3a (hK : XG T h) (hZ : isS s) : (ah_t h (s + 1)).1 = -1 := congrArg Prod.fst (hK.1.2.2.1 s hZ).1.2.1
theorem sz_3b (hK : XG T h) (hZ : isS s) : (ah_t h (s + 1)).2 = 8 := congrArg Prod.snd (hK.1.2.2.1 s hZ).1.2.1
theorem sz_4a (hK : XG T h) (hZ : isS s) : (ah_t h (s + 2)).1 = -1 := congrArg Prod.fst (hK.1.2.2.1 s hZ).1.2.2.1
theorem sz_4b (hK : XG T h) (hZ : isS s) : (ah_t h (s + 2)).2 = 25 := congrArg Prod.snd (hK.1.2.2.1 s hZ).1.2.2.1
theorem sz_5a (hK : XG T h) (hZ : isS s) : (ah_t h (s + 3)).1 = -1 := congrArg Prod.fst (hK.1.2.2.1 s hZ).1.2.2.2.1
theorem sz_5b (hK : XG T h) (hZ : isS s) : (ah_t h (s + 3)).2 = 6 := congrArg Prod.snd (hK.1.2.2.1 s hZ).1.2.2.2.1
theorem sz_6a (hK : XG T h) (hZ : isS s) : (ah_t h (s + 4)).1 = -13 := congrArg Prod.fst (hK.1.2.2.1 s hZ).1.2.2.2.2.1
theorem sz_6b (hK : XG T h) (hZ : isS s) : (ah_t h (s + 4)).2 = 40 := congrArg Prod.snd (hK.1.2.2.1 s hZ).1.2.2.2.2.1
theorem sz_r (hK : XG T h) (hZ : isS s) (h1 : s + 5 ≤ r) (h2 : r ≤ s + 44) : ah_t h r = (-1, 5) := by
  have := (hK.1.2.2.1 s hZ).1.2.2.2.2.2 (r - s - 5) (by omega) (by omega)
  rw [show s + 5 + (r - s - 5) = r by omega] at this; exact this
theorem l_219 (hK : XG T h) (hS : XS T nw s h) (hN : NV T nw) (m0 : 0 ≤ m) (m1 : m < T 1072 4) : ∀ (j : Nat) (p a : Int), 0 ≤ p → p + j = 5 * T 1074 5 → (0 ≤ a ∧ a ≤ p) → wpB (d + 6) 219 4 [some (.inr (.inr s)), some (.inl m), some (.inl a), some (.inl p)] [] h (fun o h1 => o = .inl (some (.inl (a + (zx5 T nw m j p).length))) ∧ h1 = h) := by
  have hR := hK.2.2.2.2.2.2.1
  have hC := hK.2.2.2.2.2.1
  intro j
  induction j with
  | zero =>
    intro p a p0 p1 ha
    have hlt : ¬ p < 5 * T 1074 5 := by omega
    simp (disch := omega) only [q_219_4, b_219_4, q_219_59, b_219_59, ↓w_iconst, ↓w_aload_n_0, ↓w_iload_n_1, ↓w_iload_n_2, ↓w_iload_n_3, ↓w_imul, ↓w_irem, ↓w_getfield, ↓w_goto, ↓w_ifCond_eq, ↓w_if_icmp_ge, ↓w_ireturn0, ↓w_invokevirtual_2, stw_0, stw_i, stw_l, stw_r, ofK0, ofK1, ofK2, lst1, lst2, lkill, kont_none, kont_some, Int.reduceToNat, List.length_cons, List.length_nil, Nat.reduceAdd, Nat.reduceLeDiff, Nat.zero_le, true_and, and_true, if_true, if_false, ne_eq, Int.reduceEq, Int.reduceNeg, not_false_eq_true, not_true_eq_false, ↓reduceIte, Int.reduceLT, Int.reduceLE, and_self, or_true, true_or, or_false, false_or, false_and, and_false, ah_t_w, ah_m_w, ah_n_w, lst1_0, List.tail_cons, w32_i, zbd, lst2_0, xt_1a hK, x_0, xb_t hK, xb_1 hK, xb_2 hK, s_t hK hS, s_11 hK hS, hlt, zx5, Int.ofNat_zero, Int.add_zero]
  | succ j ih =>
    intro p a p0 p1 ha
    have hlt : p < 5 * T 1074 5 := by omega
    have tm := tm5 p0
    rw [q_219_4]
    simp only [zx5]
    by_cases g : p % 5 < T 1074 4
    · have cg : ∀ {d : Nat} {Q : QQ}, wpC (d + 6) 216 [.inr (.inr s), .inl m, .inl p] h Q ↔ Q (.inl (some (.inl (zb (zgo nw (T 1076) (T 1075) (zn T) (p % 5) (p / 5) m))))) h := fun {d Q} => by
        have := c_216 (d := d) (Q := Q) hK hS hN m0 m1 (x := p % 5) (y := p / 5) (by omega) (by omega)
        rw [show 5 * (p / 5) + p % 5 = p by omega] at this
        exact this
      by_cases g2 : zgo nw (T 1076) (T 1075) (zn T) (p % 5) (p / 5) m = true
      · rw [if_pos ⟨g, g2⟩]
        have ih := ih (p + 1) (a + 1) (by omega) (by omega) (by omega)
        simp (disch := omega) only [b_219_4, q_219_51, b_219_51, ↓w_iconst, ↓w_aload_n_0, ↓w_iload_n_1, ↓w_iload_n_2, ↓w_iload_n_3, ↓w_iinc_3, ↓w_istore_n_2, ↓w_iadd, ↓w_imul, ↓w_irem, ↓w_getfield, ↓w_goto, ↓w_ifCond_eq, ↓w_if_icmp_ge, ↓w_invokevirtual_2, stw_0, stw_i, stw_l, stw_r, ofK0, ofK1, ofK2, lst1, lst2, lkill, kont_none, kont_some, Int.reduceToNat, List.length_cons, List.length_nil, Nat.reduceAdd, Nat.reduceLeDiff, Nat.zero_le, true_and, and_true, if_true, if_false, ne_eq, Int.reduceEq, Int.reduceNeg, not_false_eq_true, not_true_eq_false, ↓reduceIte, Int.reduceLT, Int.reduceLE, and_self, or_true, true_or, or_false, false_or, false_and, and_false, ah_t_w, ah_m_w, ah_n_w, lst1_0, List.tail_cons, w32_i, zbd, lst2_0, xt_1a hK, x_0, xb_t hK, xb_1 hK, xb_2 hK, s_t hK hS, s_11 hK hS, hlt, tm, g, cg, g2, zb]
        refine wpB_mono ih (fun o h1 q => ⟨?_, q.2⟩)
        rw [q.1]; simp; omega
      · rw [if_neg (fun q => g2 q.2)]
        have ih := ih (p + 1) a (by omega) (by omega) (by omega)
        simp (disch := omega) only [b_219_4, q_219_50, b_219_50, q_219_51, b_219_51, ↓w_iconst, ↓w_aload_n_0, ↓w_iload_n_1, ↓w_iload_n_2, ↓w_iload_n_3, ↓w_iinc_3, ↓w_istore_n_2, ↓w_iadd, ↓w_imul, ↓w_irem, ↓w_getfield, ↓w_nop, ↓w_goto, ↓w_ifCond_eq, ↓w_if_icmp_ge, ↓w_invokevirtual_2, stw_0, stw_i, stw_l, stw_r, ofK0, ofK1, ofK2, lst1, lst2, lkill, kont_none, kont_some, Int.reduceToNat, List.length_cons, List.length_nil, Nat.reduceAdd, Nat.reduceLeDiff, Nat.zero_le, true_and, and_true, if_true, if_false, ne_eq, Int.reduceEq, Int.reduceNeg, not_false_eq_true, not_true_eq_false, ↓reduceIte, Int.reduceLT, Int.reduceLE, and_self, or_true, true_or, or_false, false_or, false_and, and_false, ah_t_w, ah_m_w, ah_n_w, lst1_0, List.tail_cons, w32_i, zbd, lst2_0, xt_1a hK, x_0, xb_t hK, xb_1 hK, xb_2 hK, s_t hK hS, s_11 hK hS, hlt, tm, g, cg, g2, zb, Bool.false_eq_true, Int.add_zero]
        exact ih
    · rw [if_neg (fun q => g q.1)]
      have ih := ih (p + 1) a (by omega) (by omega) (by omega)
      simp (disch := omega) only [b_219_4, q_219_50, b_219_50, q_219_51, b_219_51, ↓w_iconst, ↓w_aload_n_0, ↓w_iload_n_1, ↓w_iload_n_2, ↓w_iload_n_3, ↓w_iinc_3, ↓w_istore_n_2, ↓w_iadd, ↓w_imul, ↓w_irem, ↓w_getfield, ↓w_nop, ↓w_goto, ↓w_ifCond_eq, ↓w_if_icmp_ge, ↓w_invokevirtual_2, stw_0, stw_i, stw_l, stw_r, ofK0, ofK1, ofK2, lst1, lst2, lkill, kont_none, kont_some, Int.reduceToNat, List.length_cons, List.length_nil, Nat.reduceAdd, Nat.reduceLeDiff, Nat.zero_le, true_and, and_true, if_true, if_false, ne_eq, Int.reduceEq, Int.reduceNeg, not_false_eq_true, not_true_eq_false, ↓reduceIte, Int.reduceLT, Int.reduceLE, and_self, or_true, true_or, or_false, false_or, false_and, and_false, ah_t_w, ah_m_w, ah_n_w, lst1_0, List.tail_cons, w32_i, zbd, lst2_0, xt_1a hK, x_0, xb_t hK, xb_1 hK, xb_2 hK, s_t hK hS, s_11 hK hS, hlt, tm, g, Int.add_zero]
      exact ih
theorem c_219 (hK : XG T h) (hS : XS T nw s h) (hN : NV T nw) (m0 : 0 ≤ m) (m1 : m < T 1072 4) : wpC (d + 7) 219 [.inr (.inr s), .inl m] h Q ↔ Q (.inl (some (.inl (zmk T nw m (zP T) 0).length))) h := by
  have hR := hK.2.2.2.2.2.2.1
  have hC := hK.2.2.2.2.2.1
  apply CT_iff; apply CT_of; rw [wpC_B]; refine ⟨⟨Nat.zero_lt_succ _, Nat.le_of_ble_eq_true rfl⟩, ?_⟩; simp only [lent]
  simp (disch := omega) only [q_219_0, b_219_0, ↓w_iconst, ↓w_istore_n_2, ↓w_istore_n_3, ↓w_nop, stw_0, stw_i, stw_l, stw_r, ofK0, ofK1, ofK2, lst1, lst2, lkill, kont_none, kont_some, Int.reduceToNat, List.length_cons, List.length_nil, Nat.reduceAdd, Nat.reduceLeDiff, Nat.zero_le, true_and, and_true, if_true, if_false, ne_eq, Int.reduceEq, Int.reduceNeg, not_false_eq_true, not_true_eq_false, ↓reduceIte, Int.reduceLT, Int.reduceLE, and_self, or_true, true_or, or_false, false_or, false_and, and_false, ah_t_w, ah_m_w, ah_n_w, lst1_0, List.tail_cons, w32_i, zbd, lst2_0]
  have := l_219 (d := d) hK hS hN m0 m1 (5 * T 1074 5).toNat 0 0 (by omega) (by omega) (by omega)
  rw [zx5_mk hC hR.1, Int.zero_add] at this
  exact this
/-! copy -/
theorem l_220_34 (hK : XG T h) (hZ : isS s) (hZo : isS o) (hne : s ≠ o) (hQ : ∀ h', Off (fun r i => r = s + 1) h h' → (∀ i, 0 ≤ i → i < 8 → ah_m h' (s + 1) i = ah_m h (o + 1) i) → wpB d 220 58 (some (.inr (.inr s)) :: some (.inr (.inr o)) :: some (.inl 8) :: tl) [] h' Q) :
    ∀ (j : Nat) (i : Int) h', 0 ≤ i → i + j = 8 → Off (fun r i => r = s + 1) h h' → (∀ u, 0 ≤ u → u < i → ah_m h' (s + 1) u = ah_m h (o + 1) u) → wpB d 220 34 (some (.inr (.inr s)) :: some (.inr (.inr o)) :: some (.inl i) :: tl) [] h' Q := by
  intro j
  induction j with
  | zero =>
    intro i h' i0 i1 hO hi
    have e : i = 8 := by omega
    subst e
    simp (disch := omega) only [q_220_34, b_220_34, ↓w_bipush, ↓w_aload_n_0, ↓w_aload_n_1, ↓w_iload_n_2, ↓w_iinc_2, ↓w_getfield, ↓w_iaload, ↓w_iastore, ↓w_goto, ↓w_if_icmp_ge, stw_0, stw_i, stw_l, stw_r, ofK0, ofK1, ofK2, lst1, lst2, lkill, kont_none, kont_some, Int.reduceToNat, List.length_cons, List.length_nil, Nat.reduceAdd, Nat.reduceLeDiff, Nat.zero_le, true_and, and_true, if_true, if_false, ne_eq, Int.reduceEq, Int.reduceNeg, not_false_eq_true, not_true_eq_false, ↓reduceIte, Int.reduceLT, Int.reduceLE, and_self, or_true, true_or, or_false, false_or, false_and, and_false, ah_t_w, ah_m_w, ah_n_w, lst1_0, List.tail_cons, w32_i, zbd, lst2_0]
    exact hQ h' hO hi
  | succ j ih =>
    intro i h' i0 i1 hO hi
    have hlt : ¬ 8 ≤ i := by omega
    have hlt' : i < 8 := by omega
    have hK' : XG T h' := XG_off hK hO (fun r i w => by unfold isS at hZ; unfold fix BRr isS isV; omega)
    have f1 : 0 < s + 1 := by unfold isS at hZ; omega
    have eo : ah_m h' (o + 1) i = ah_m h (o + 1) i := hO.2 _ _ (by omega)
    rw [q_220_34]
    simp (disch := omega) only [b_220_34, ↓w_bipush, ↓w_aload_n_0, ↓w_aload_n_1, ↓w_iload_n_2, ↓w_iinc_2, ↓w_getfield, ↓w_iaload, ↓w_iastore, ↓w_goto, ↓w_if_icmp_ge, stw_0, stw_i, stw_l, stw_r, ofK0, ofK1, ofK2, lst1, lst2, lkill, kont_none, kont_some, Int.reduceToNat, List.length_cons, List.length_nil, Nat.reduceAdd, Nat.reduceLeDiff, Nat.zero_le, true_and, and_true, if_true, if_false, ne_eq, Int.reduceEq, Int.reduceNeg, not_false_eq_true, not_true_eq_false, ↓reduceIte, Int.reduceLT, Int.reduceLE, and_self, or_true, true_or, or_false, false_or, false_and, and_false, ah_t_w, ah_m_w, ah_n_w, lst1_0, List.tail_cons, w32_i, zbd, lst2_0, sz_t hK' hZ, sz_3 hK' hZ, sz_3a hK' hZ, sz_3b hK' hZ, sz_t hK' hZo, sz_3 hK' hZo, sz_3a hK' hZo, sz_3b hK' hZo, hlt, hlt', f1, eo, i0]
    refine ih (i + 1) _ (by omega) (by omega) (Off_w hO rfl) (fun u u0 u1 => ?_)
    rw [ah_m_w]
    by_cases g : u = i
    · rw [if_pos ⟨rfl, g⟩, g]
    · rw [if_neg (fun q => g q.2)]; exact hi u u0 (by omega)
theorem l_220_60 (hK : XG T h) (hZ : isS s) (hZo : isS o) (hne : s ≠ o) (hQ : ∀ h', Off (fun r i => r = s + 2) h h' → (∀ i, 0 ≤ i → i < 25 → ah_m h' (s + 2) i = ah_m h (o + 2) i) → wpB d 220 84 (some (.inr (.inr s)) :: some (.inr (.inr o)) :: some (.inl 25) :: tl) [] h' Q) :
    ∀ (j : Nat) (i : Int) h', 0 ≤ i → i + j = 25 → Off (fun r i => r = s + 2) h h' → (∀ u, 0 ≤ u → u < i → ah_m h' (s + 2) u = ah_m h (o + 2) u) → wpB d 220 60 (some (.inr (.inr s)) :: some (.inr (.inr o)) :: some (.inl i) :: tl) [] h' Q := by
  intro j
  induction j with
  | zero =>
    intro i h' i0 i1 hO hi
    have e : i = 25 := by omega
    subst e
    simp (disch := omega) only [q_220_60, b_220_60, ↓w_bipush, ↓w_aload_n_0, ↓w_aload_n_1, ↓w_iload_n_2, ↓w_iinc_2, ↓w_getfield, ↓w_iaload, ↓w_iastore, ↓w_goto, ↓w_if_icmp_ge, stw_0, stw_i, stw_l, stw_r, ofK0, ofK1, ofK2, lst1, lst2, lkill, kont_none, kont_some, Int.reduceToNat, List.length_cons, List.length_nil, Nat.reduceAdd, Nat.reduceLeDiff, Nat.zero_le, true_and, and_true, if_true, if_false, ne_eq, Int.reduceEq, Int.reduceNeg, not_false_eq_true, not_true_eq_false, ↓reduceIte, Int.reduceLT, Int.reduceLE, and_self, or_true, true_or, or_false, false_or, false_and, and_false, ah_t_w, ah_m_w, ah_n_w, lst1_0, List.tail_cons, w32_i, zbd, lst2_0]
    exact hQ h' hO hi
  | succ j ih =>
    intro i h' i0 i1 hO hi
    have hlt : ¬ 25 ≤ i := by omega
    have hlt' : i < 25 := by omega
    have hK' : XG T h' := XG_off hK hO (fun r i w => by unfold isS at hZ; unfold fix BRr isS isV; omega)
    have f1 : 0 < s + 2 := by unfold isS at hZ; omega
    have eo : ah_m h' (o + 2) i = ah_m h (o + 2) i := hO.2 _ _ (by omega)
    rw [q_220_60]
    simp (disch := omega) only [b_220_60, ↓w_bipush, ↓w_aload_n_0, ↓w_aload_n_1, ↓w_iload_n_2, ↓w_iinc_2, ↓w_getfield, ↓w_iaload, ↓w_iastore, ↓w_goto, ↓w_if_icmp_ge, stw_0, stw_i, stw_l, stw_r, ofK0, ofK1, ofK2, lst1, lst2, lkill, kont_none, kont_some, Int.reduceToNat, List.length_cons, List.length_nil, Nat.reduceAdd, Nat.reduceLeDiff, Nat.zero_le, true_and, and_true, if_true, if_false, ne_eq, Int.reduceEq, Int.reduceNeg, not_false_eq_true, not_true_eq_false, ↓reduceIte, Int.reduceLT, Int.reduceLE, and_self, or_true, true_or, or_false, false_or, false_and, and_false, ah_t_w, ah_m_w, ah_n_w, lst1_0, List.tail_cons, w32_i, zbd, lst2_0, sz_t hK' hZ, sz_4 hK' hZ, sz_4a hK' hZ, sz_4b hK' hZ, sz_t hK' hZo, sz_4 hK' hZo, sz_4a hK' hZo, sz_4b hK' hZo, hlt, hlt', f1, eo, i0]
    refine ih (i + 1) _ (by omega) (by omega) (Off_w hO rfl) (fun u u0 u1 => ?_)
    rw [ah_m_w]
    by_cases g : u = i
    · rw [if_pos ⟨rfl, g⟩, g]
    · rw [if_neg (fun q => g q.2)]; exact hi u u0 (by omega)
theorem l_220_86 (hK : XG T h) (hZ : isS s) (hZo : isS o) (hne : s ≠ o) (hQ : ∀ h', Off (fun r i => r = s + 3) h h' → (∀ i, 0 ≤ i → i < 6 → ah_m h' (s + 3) i = ah_m h (o + 3) i) → wpB d 220 110 (some (.inr (.inr s)) :: some (.inr (.inr o)) :: some (.inl 6) :: tl) [] h' Q) :
    ∀ (j : Nat) (i : Int) h', 0 ≤ i → i + j = 6 → Off (fun r i => r = s + 3) h h' → (∀ u, 0 ≤ u → u < i → ah_m h' (s + 3) u = ah_m h (o + 3) u) → wpB d 220 86 (some (.inr (.inr s)) :: some (.inr (.inr o)) :: some (.inl i) :: tl) [] h' Q := by
  intro j
  induction j with
  | zero =>
    intro i h' i0 i1 hO hi
    have e : i = 6 := by omega
    subst e
    simp (disch := omega) only [q_220_86, b_220_86, ↓w_bipush, ↓w_aload_n_0, ↓w_aload_n_1, ↓w_iload_n_2, ↓w_iinc_2, ↓w_getfield, ↓w_iaload, ↓w_iastore, ↓w_goto, ↓w_if_icmp_ge, stw_0, stw_i, stw_l, stw_r, ofK0, ofK1, ofK2, lst1, lst2, lkill, kont_none, kont_some, Int.reduceToNat, List.length_cons, List.length_nil, Nat.reduceAdd, Nat.reduceLeDiff, Nat.zero_le, true_and, and_true, if_true, if_false, ne_eq, Int.reduceEq, Int.reduceNeg, not_false_eq_true, not_true_eq_false, ↓reduceIte, Int.reduceLT, Int.reduceLE, and_self, or_true, true_or, or_false, false_or, false_and, and_false, ah_t_w, ah_m_w, ah_n_w, lst1_0, List.tail_cons, w32_i, zbd, lst2_0]
    exact hQ h' hO hi
  | succ j ih =>
    intro i h' i0 i1 hO hi
    have hlt : ¬ 6 ≤ i := by omega
    have hlt' : i < 6 := by omega
    have hK' : XG T h' := XG_off hK hO (fun r i w => by unfold isS at hZ; unfold fix BRr isS isV; omega)
    have f1 : 0 < s + 3 := by unfold isS at hZ; omega
    have eo : ah_m h' (o + 3) i = ah_m h (o + 3) i := hO.2 _ _ (by omega)
    rw [q_220_86]
    simp (disch := omega) only [b_220_86, ↓w_bipush, ↓w_aload_n_0, ↓w_aload_n_1, ↓w_iload_n_2, ↓w_iinc_2, ↓w_getfield, ↓w_iaload, ↓w_iastore, ↓w_goto, ↓w_if_icmp_ge, stw_0, stw_i, stw_l, stw_r, ofK0, ofK1, ofK2, lst1, lst2, lkill, kont_none, kont_some, Int.reduceToNat, List.length_cons, List.length_nil, Nat.reduceAdd, Nat.reduceLeDiff, Nat.zero_le, true_and, and_true, if_true, if_false, ne_eq, Int.reduceEq, Int.reduceNeg, not_false_eq_true, not_true_eq_false, ↓reduceIte, Int.reduceLT, Int.reduceLE, and_self, or_true, true_or, or_false, false_or, false_and, and_false, ah_t_w, ah_m_w, ah_n_w, lst1_0, List.tail_cons, w32_i, zbd, lst2_0, sz_t hK' hZ, sz_5 hK' hZ, sz_5a hK' hZ, sz_5b hK' hZ, sz_t hK' hZo, sz_5 hK' hZo, sz_5a hK' hZo, sz_5b hK' hZo, hlt, hlt', f1, eo, i0]
    refine ih (i + 1) _ (by omega) (by omega) (Off_w hO rfl) (fun u u0 u1 => ?_)
    rw [ah_m_w]
    by_cases g : u = i
    · rw [if_pos ⟨rfl, g⟩, g]
    · rw [if_neg (fun q => g q.2)]; exact hi u u0 (by omega)
def Wrw (s r i : Int) : Prop := s + 5 ≤ r ∧ r ≤ s + 44
theorem l_220_122 (hK : XG T h) (hZ : isS s) (hZo : isS o) (hne : s ≠ o) (hP : RP s h) (hPo : RP o h) (k0 : 0 ≤ k) (k1 : k < 40)
    (hQ : ∀ h', Off (Wrw s) h h' → (∀ u i, 0 ≤ u → u < k + 1 → 0 ≤ i → i < 5 → ah_m h' (ah_m h (s + 4) u) i = ah_m h (ah_m h (o + 4) u) i) → wpB d 220 149 (some (.inr (.inr s)) :: some (.inr (.inr o)) :: some (.inl k) :: some (.inl 5) :: tl) [] h' Q) :
    ∀ (j : Nat) (i : Int) h', 0 ≤ i → i + j = 5 → Off (Wrw s) h h' → (∀ u i, 0 ≤ u → u < k → 0 ≤ i → i < 5 → ah_m h' (ah_m h (s + 4) u) i = ah_m h (ah_m h (o + 4) u) i) → (∀ u, 0 ≤ u → u < i → ah_m h' (ah_m h (s + 4) k) u = ah_m h (ah_m h (o + 4) k) u) → wpB d 220 122 (some (.inr (.inr s)) :: some (.inr (.inr o)) :: some (.inl k) :: some (.inl i) :: tl) [] h' Q := by
  have ps := hP.1 k k0 k1
  have po := hPo.1 k k0 k1
  intro j
  induction j with
  | zero =>
    intro i h' i0 i1 hO hu hi
    have e : i = 5 := by omega
    subst e
    simp (disch := omega) only [q_220_122, b_220_122, ↓w_iconst, ↓w_aload_n_0, ↓w_aload_n_1, ↓w_iload_n_2, ↓w_iload_n_3, ↓w_iinc_3, ↓w_getfield, ↓w_iaload, ↓w_aaload, ↓w_iastore, ↓w_goto, ↓w_if_icmp_ge, stw_0, stw_i, stw_l, stw_r, ofK0, ofK1, ofK2, lst1, lst2, lkill, kont_none, kont_some, Int.reduceToNat, List.length_cons, List.length_nil, Nat.reduceAdd, Nat.reduceLeDiff, Nat.zero_le, true_and, and_true, if_true, if_false, ne_eq, Int.reduceEq, Int.reduceNeg, not_false_eq_true, not_true_eq_false, ↓reduceIte, Int.reduceLT, Int.reduceLE, and_self, or_true, true_or, or_false, false_or, false_and, and_false, ah_t_w, ah_m_w, ah_n_w, lst1_0, List.tail_cons, w32_i, zbd, lst2_0]
    refine hQ h' hO (fun u i u0 u1 i0 i1 => ?_)
    by_cases g : u = k
    · rw [g]; exact hi i i0 i1
    · exact hu u i u0 (by omega) i0 i1
  | succ j ih =>
    intro i h' i0 i1 hO hu hi
    have hlt : ¬ 5 ≤ i := by omega
    have hlt' : i < 5 := by omega
    have hK' : XG T h' := XG_off hK hO (fun r i w => by unfold Wrw at w; unfold isS at hZ; unfold fix BRr isS isV; omega)
    have e1 : ah_m h' (s + 4) k = ah_m h (s + 4) k := hO.2 _ _ (by unfold Wrw; omega)
    have e2 : ah_m h' (o + 4) k = ah_m h (o + 4) k := hO.2 _ _ (by unfold Wrw; unfold isS at hZ hZo; omega)
    have e3 : ah_m h' (ah_m h (o + 4) k) i = ah_m h (ah_m h (o + 4) k) i := hO.2 _ _ (by unfold Wrw; unfold isS at hZ hZo; omega)
    have t1 := sz_r hK' hZ ps.1 ps.2
    have t2 := sz_r hK' hZo po.1 po.2
    have f1 : 0 < ah_m h (s + 4) k := by unfold isS at hZ; omega
    rw [q_220_122]
    simp (disch := omega) only [b_220_122, ↓w_iconst, ↓w_aload_n_0, ↓w_aload_n_1, ↓w_iload_n_2, ↓w_iload_n_3, ↓w_iinc_3, ↓w_getfield, ↓w_iaload, ↓w_aaload, ↓w_iastore, ↓w_goto, ↓w_if_icmp_ge, stw_0, stw_i, stw_l, stw_r, ofK0, ofK1, ofK2, lst1, lst2, lkill, kont_none, kont_some, Int.reduceToNat, List.length_cons, List.length_nil, Nat.reduceAdd, Nat.reduceLeDiff, Nat.zero_le, true_and, and_true, if_true, if_false, ne_eq, Int.reduceEq, Int.reduceNeg, not_false_eq_true, not_true_eq_false, ↓reduceIte, Int.reduceLT, Int.reduceLE, and_self, or_true, true_or, or_false, false_or, false_and, and_false, ah_t_w, ah_m_w, ah_n_w, lst1_0, List.tail_cons, w32_i, zbd, lst2_0, sz_t hK' hZ, sz_6 hK' hZ, sz_6a hK' hZ, sz_6b hK' hZ, sz_t hK' hZo, sz_6 hK' hZo, sz_6a hK' hZo, sz_6b hK' hZo, hlt, hlt', f1, e1, e2, e3, t1, t2, i0, k0, k1]
    refine ih (i + 1) _ (by omega) (by omega) (Off_w hO (by unfold Wrw; omega)) (fun u v u0 u1 v0 v1 => ?_) (fun u u0 u1 => ?_)
    · rw [ah_m_w, if_neg (fun q => hP.2 u k u0 (by omega) k0 k1 (by omega) q.1)]; exact hu u v u0 u1 v0 v1
    · rw [ah_m_w]
      by_cases g : u = i
      · rw [if_pos ⟨rfl, g⟩, g]
      · rw [if_neg (fun q => g q.2)]; exact hi u u0 (by omega)
theorem l_220_112 (hK : XG T h) (hZ : isS s) (hZo : isS o) (hne : s ≠ o) (hP : RP s h) (hPo : RP o h) (en : ah_m h s 2 = n) (n1 : n ≤ 40)
    (hQ : ∀ h', Off (Wrw s) h h' → (∀ u i, 0 ≤ u → u < n → 0 ≤ i → i < 5 → ah_m h' (ah_m h (s + 4) u) i = ah_m h (ah_m h (o + 4) u) i) → Q (.inl (some (.inr (.inr s)))) h') :
    ∀ (j : Nat) (k : Int) tl h', 0 ≤ k → k + j = n → Off (Wrw s) h h' → (∀ u i, 0 ≤ u → u < k → 0 ≤ i → i < 5 → ah_m h' (ah_m h (s + 4) u) i = ah_m h (ah_m h (o + 4) u) i) → wpB d 220 112 (some (.inr (.inr s)) :: some (.inr (.inr o)) :: some (.inl k) :: tl) [] h' Q := by
  intro j
  induction j with
  | zero =>
    intro k tl h' k0 k1 hO hu
    have hK' : XG T h' := XG_off hK hO (fun r i w => by unfold Wrw at w; unfold isS at hZ; unfold fix BRr isS isV; omega)
    have en' : ah_m h' s 2 = n := by rw [hO.2 _ _ (by unfold Wrw; omega)]; exact en
    have hlt : ¬ k < n := by omega
    simp (disch := omega) only [q_220_112, b_220_112, q_220_155, b_220_155, ↓w_iconst, ↓w_aload_n_0, ↓w_iload_n_2, ↓w_istore_n_3, ↓w_getfield, ↓w_nop, ↓w_if_icmp_ge, ↓w_areturn, stw_0, stw_i, stw_l, stw_r, ofK0, ofK1, ofK2, lst1, lst2, lkill, kont_none, kont_some, Int.reduceToNat, List.length_cons, List.length_nil, Nat.reduceAdd, Nat.reduceLeDiff, Nat.zero_le, true_and, and_true, if_true, if_false, ne_eq, Int.reduceEq, Int.reduceNeg, not_false_eq_true, not_true_eq_false, ↓reduceIte, Int.reduceLT, Int.reduceLE, and_self, or_true, true_or, or_false, false_or, false_and, and_false, ah_t_w, ah_m_w, ah_n_w, lst1_0, List.tail_cons, w32_i, zbd, lst2_0, sz_t hK' hZ, sz_t hK' hZo, en', hlt]
    exact hQ h' hO (fun u i u0 u1 => hu u i u0 (by omega))
  | succ j ih =>
    intro k tl h' k0 k1 hO hu
    have hK' : XG T h' := XG_off hK hO (fun r i w => by unfold Wrw at w; unfold isS at hZ; unfold fix BRr isS isV; omega)
    have en' : ah_m h' s 2 = n := by rw [hO.2 _ _ (by unfold Wrw; omega)]; exact en
    have hlt : k < n := by omega
    rw [q_220_112]
    simp (disch := omega) only [b_220_112, ↓w_iconst, ↓w_aload_n_0, ↓w_iload_n_2, ↓w_istore_n_3, ↓w_getfield, ↓w_nop, ↓w_if_icmp_ge, stw_0, stw_i, stw_l, stw_r, ofK0, ofK1, ofK2, lst1, lst2, lkill, kont_none, kont_some, Int.reduceToNat, List.length_cons, List.length_nil, Nat.reduceAdd, Nat.reduceLeDiff, Nat.zero_le, true_and, and_true, if_true, if_false, ne_eq, Int.reduceEq, Int.reduceNeg, not_false_eq_true, not_true_eq_false, ↓reduceIte, Int.reduceLT, Int.reduceLE, and_self, or_true, true_or, or_false, false_or, false_and, and_false, ah_t_w, ah_m_w, ah_n_w, lst1_0, List.tail_cons, w32_i, zbd, lst2_0, sz_t hK' hZ, sz_t hK' hZo, en', hlt]
    refine l_220_122 hK hZ hZo hne hP hPo k0 (by omega) (fun h2 hO2 hu2 => ?_) 5 0 h' (by omega) (by omega) hO hu (fun u u0 u1 => by omega)
    simp (disch := omega) only [q_220_149, b_220_149, ↓w_iinc_2, ↓w_goto, stw_0, stw_i, stw_l, stw_r, ofK0, ofK1, ofK2, lst1, lst2, lkill, kont_none, kont_some, Int.reduceToNat, List.length_cons, List.length_nil, Nat.reduceAdd, Nat.reduceLeDiff, Nat.zero_le, true_and, and_true, if_true, if_false, ne_eq, Int.reduceEq, Int.reduceNeg, not_false_eq_true, not_true_eq_false, ↓reduceIte, Int.reduceLT, Int.reduceLE, and_self, or_true, true_or, or_false, false_or, false_and, and_false, ah_t_w, ah_m_w, ah_n_w, lst1_0, List.tail_cons, w32_i, zbd, lst2_0]
    exact ih (k + 1) _ h2 (by omega) (by omega) hO2 hu2
theorem Wcp_ok (hZ : isS s) : ∀ r i, Wcp s r i → ¬ fix r i ∧ ¬ BRr r ∧ ¬ (r = 1 ∧ i = 0) := by
  intro r i w
  unfold Wcp at w; unfold isS at hZ; unfold fix BRr isS isV
  omega
theorem Wcp_S (hZ : isS s) (hZo : isS o) (hne : s ≠ o) : ∀ r i, Wcp s r i → ¬ (o ≤ r ∧ r ≤ o + 44) := by
  intro r i w
  unfold Wcp at w; unfold isS at hZ hZo
  omega
theorem c_220 (hK : XG T h) (hS : XS T nw o h) (hZ : isS s) (hne : s ≠ o) (hP : RP s h) (n1 : nw 24 ≤ 40) (n0 : 0 ≤ nw 24)
    (hQ : ∀ h', XG T h' → XS T nw s h' → XS T nw o h' → Off (Wcp s) h h' → Q (.inl (some (.inr (.inr s)))) h') : wpC (d + 1) 220 [.inr (.inr s), .inr (.inr o)] h Q := by
  have hZo := hS.1
  have f1 : 0 < s := by unfold isS at hZ; omega
  have f2 : ¬ o = s := fun q => hne q.symm
  have n8 := hK.2.2.2.1; have n6 := hK.2.2.2.2.1
  rw [wpC_B]; refine ⟨⟨Nat.zero_lt_succ _, Nat.le_of_ble_eq_true rfl⟩, ?_⟩; simp only [lent]
  simp (disch := omega) only [q_220_0, b_220_0, ↓w_iconst, ↓w_aload_n_0, ↓w_aload_n_1, ↓w_istore_n_2, ↓w_getfield, ↓w_putfield_0, ↓w_nop, stw_0, stw_i, stw_l, stw_r, ofK0, ofK1, ofK2, lst1, lst2, lkill, kont_none, kont_some, Int.reduceToNat, List.length_cons, List.length_nil, Nat.reduceAdd, Nat.reduceLeDiff, Nat.zero_le, true_and, and_true, if_true, if_false, ne_eq, Int.reduceEq, Int.reduceNeg, not_false_eq_true, not_true_eq_false, ↓reduceIte, Int.reduceLT, Int.reduceLE, and_self, or_true, true_or, or_false, false_or, false_and, and_false, ah_t_w, ah_m_w, ah_n_w, lst1_0, List.tail_cons, w32_i, zbd, lst2_0, s_t hK hS, s_0 hS, sz_t hK hZ, s_1 hS, s_2 hS, s_7 hS, f1, f2]
  generalize hg : ah_w (ah_w (ah_w (ah_w h s 0 (nw 0)) s 1 (nw 1)) s 2 (nw 24)) s 7 (zcn T nw (zn T) 0) = g0
  have hO0 : Off (Wcp s) h g0 := by
    rw [← hg]
    exact Off_w (Off_w (Off_w (Off_w Off_rfl (by unfold Wcp; omega)) (by unfold Wcp; omega)) (by unfold Wcp; omega)) (by unfold Wcp; omega)
  have a0 : ah_m g0 s 0 = nw 0 := by rw [← hg]; simp only [ah_m_w]; simp
  have a1 : ah_m g0 s 1 = nw 1 := by rw [← hg]; simp only [ah_m_w]; simp
  have a2 : ah_m g0 s 2 = nw 24 := by rw [← hg]; simp only [ah_m_w]; simp
  have a7 : ah_m g0 s 7 = zcn T nw (zn T) 0 := by rw [← hg]; simp only [ah_m_w]; simp
  have eg : ∀ r i, r ≠ s → ah_m g0 r i = ah_m h r i := fun r i q => by rw [← hg]; simp only [ah_m_w, q, false_and, if_false]
  have hK0 := XG_off hK hO0 (Wcp_ok hZ)
  have eo : ∀ h', Off (Wcp s) h h' → ∀ r i, o ≤ r → r ≤ o + 44 → ah_m h' r i = ah_m h r i := fun h' hO r i q1 q2 => hO.2 _ _ (fun w => Wcp_S hZ hZo hne _ _ w ⟨q1, q2⟩)
  refine l_220_34 hK0 hZ hZo hne (fun h1 hO1 e1 => ?_) 8 0 g0 (by omega) (by omega) Off_rfl (fun u u0 u1 => by omega)
  have hO1' : Off (Wcp s) h h1 := Off_tr hO0 (Off_mono (fun r i w => by unfold Wcp; omega) hO1)
  have hK1 := XG_off hK hO1' (Wcp_ok hZ)
  simp (disch := omega) only [q_220_58, b_220_58, ↓w_iconst, ↓w_istore_n_2, ↓w_nop, stw_0, stw_i, stw_l, stw_r, ofK0, ofK1, ofK2, lst1, lst2, lkill, kont_none, kont_some, Int.reduceToNat, List.length_cons, List.length_nil, Nat.reduceAdd, Nat.reduceLeDiff, Nat.zero_le, true_and, and_true, if_true, if_false, ne_eq, Int.reduceEq, Int.reduceNeg, not_false_eq_true, not_true_eq_false, ↓reduceIte, Int.reduceLT, Int.reduceLE, and_self, or_true, true_or, or_false, false_or, false_and, and_false, ah_t_w, ah_m_w, ah_n_w, lst1_0, List.tail_cons, w32_i, zbd, lst2_0]
  refine l_220_60 hK1 hZ hZo hne (fun h2 hO2 e2 => ?_) 25 0 h1 (by omega) (by omega) Off_rfl (fun u u0 u1 => by omega)
  have hO2' : Off (Wcp s) h h2 := Off_tr hO1' (Off_mono (fun r i w => by unfold Wcp; omega) hO2)
  have hK2 := XG_off hK hO2' (Wcp_ok hZ)
  simp (disch := omega) only [q_220_84, b_220_84, ↓w_iconst, ↓w_istore_n_2, ↓w_nop, stw_0, stw_i, stw_l, stw_r, ofK0, ofK1, ofK2, lst1, lst2, lkill, kont_none, kont_some, Int.reduceToNat, List.length_cons, List.length_nil, Nat.reduceAdd, Nat.reduceLeDiff, Nat.zero_le, true_and, and_true, if_true, if_false, ne_eq, Int.reduceEq, Int.reduceNeg, not_false_eq_true, not_true_eq_false, ↓reduceIte, Int.reduceLT, Int.reduceLE, and_self, or_true, true_or, or_false, false_or, false_and, and_false, ah_t_w, ah_m_w, ah_n_w, lst1_0, List.tail_cons, w32_i, zbd, lst2_0]
  refine l_220_86 hK2 hZ hZo hne (fun h3 hO3 e3 => ?_) 6 0 h2 (by omega) (by omega) Off_rfl (fun u u0 u1 => by omega)
  have hO3' : Off (Wcp s) h h3 := Off_tr hO2' (Off_mono (fun r i w => by unfold Wcp; omega) hO3)
  have hK3 := XG_off hK hO3' (Wcp_ok hZ)
  have x3 : ∀ r i, r ≠ s + 3 → ah_m h3 r i = ah_m h2 r i := fun r i q => hO3.2 r i q
  have x2 : ∀ r i, r ≠ s + 2 → ah_m h2 r i = ah_m h1 r i := fun r i q => hO2.2 r i q
  have x1 : ∀ r i, r ≠ s + 1 → ah_m h1 r i = ah_m g0 r i := fun r i q => hO1.2 r i q
  have b2 : ah_m h3 s 2 = nw 24 := by rw [x3 _ _ (by omega), x2 _ _ (by omega), x1 _ _ (by omega)]; exact a2
  have r4 : ∀ i, ah_m h3 (s + 4) i = ah_m h (s + 4) i := fun i => hO3'.2 _ _ (by unfold Wcp; omega)
  have ro4 : ∀ r i, o ≤ r → r ≤ o + 44 → ah_m h3 r i = ah_m h r i := eo h3 hO3'
  have hP3 : RP s h3 := ⟨fun k p q => by rw [r4]; exact hP.1 k p q, fun j k a b c d e => by rw [r4, r4]; exact hP.2 j k a b c d e⟩
  have hPo := hS.2.2.2.2.2.2
  have hPo3 : RP o h3 := ⟨fun k p q => by rw [ro4 _ _ (by omega) (by omega)]; exact hPo.1 k p q, fun j k a b c d e => by rw [ro4 _ _ (by omega) (by omega), ro4 _ _ (by omega) (by omega)]; exact hPo.2 j k a b c d e⟩
  simp (disch := omega) only [q_220_110, b_220_110, ↓w_iconst, ↓w_istore_n_2, ↓w_nop, stw_0, stw_i, stw_l, stw_r, ofK0, ofK1, ofK2, lst1, lst2, lkill, kont_none, kont_some, Int.reduceToNat, List.length_cons, List.length_nil, Nat.reduceAdd, Nat.reduceLeDiff, Nat.zero_le, true_and, and_true, if_true, if_false, ne_eq, Int.reduceEq, Int.reduceNeg, not_false_eq_true, not_true_eq_false, ↓reduceIte, Int.reduceLT, Int.reduceLE, and_self, or_true, true_or, or_false, false_or, false_and, and_false, ah_t_w, ah_m_w, ah_n_w, lst1_0, List.tail_cons, w32_i, zbd, lst2_0]
  refine l_220_112 hK3 hZ hZo hne hP3 hPo3 b2 n1 (fun h4 hO4 e4 => ?_) (nw 24).toNat 0 _ h3 (by omega) (by omega) Off_rfl (fun u i u0 u1 => by omega)
  have hO4' : Off (Wcp s) h h4 := Off_tr hO3' (Off_mono (fun r i w => by unfold Wrw at w; unfold Wcp; omega) hO4)
  have x4 : ∀ r i, ¬ (s + 5 ≤ r ∧ r ≤ s + 44) → ah_m h4 r i = ah_m h3 r i := fun r i q => hO4.2 r i q
  have ho := eo h4 hO4'
  have r44 : ∀ i, ah_m h4 (s + 4) i = ah_m h (s + 4) i := fun i => hO4'.2 _ _ (by unfold Wcp; omega)
  refine hQ h4 (XG_off hK hO4' (Wcp_ok hZ)) ⟨hZ, ⟨?_, ?_, ?_, ?_⟩, fun m p q => ?_, fun m p q => ?_, fun m p q => ?_, fun k i p q u v => ?_, fun k p q => ?_, fun j k a b c d e => ?_⟩ (XS_off hS n1 hO4' (Wcp_S hZ hZo hne)) hO4'
  · rw [x4 _ _ (by omega), x3 _ _ (by omega), x2 _ _ (by omega), x1 _ _ (by omega)]; exact a0
  · rw [x4 _ _ (by omega), x3 _ _ (by omega), x2 _ _ (by omega), x1 _ _ (by omega)]; exact a1
  · rw [x4 _ _ (by omega)]; exact b2
  · rw [x4 _ _ (by omega), x3 _ _ (by omega), x2 _ _ (by omega), x1 _ _ (by omega)]; exact a7
  · rw [x4 _ _ (by omega), x3 _ _ (by omega), x2 _ _ (by omega), e1 m p (by omega), eg _ _ (by unfold isS at hZ hZo; omega)]; exact sp hS p q
  · rw [x4 _ _ (by omega), x3 _ _ (by omega), e2 m p (by omega), eo h1 hO1' _ _ (by omega) (by omega)]; exact so hS p q
  · rw [x4 _ _ (by omega), e3 m p (by omega), eo h2 hO2' _ _ (by omega) (by omega)]; exact sb hS p q
  · have pk := hPo.1 k p (by omega)
    have := e4 k i p q u v
    rw [r4 k, ro4 (o + 4) k (by omega) (by omega), ro4 _ _ (by omega) (by omega)] at this
    rw [r44 k, this]; exact hS.2.2.2.2.2.1 k i p q u v
  · rw [r44]; exact hP.1 k p q
  · rw [r44, r44]; exact hP.2 j k a b c d e
end Y3
