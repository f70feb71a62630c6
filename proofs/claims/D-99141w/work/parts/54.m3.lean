/-! ===== M: where a man can go ===== -/
/-- whether nobody of the man's own side stands there -/
def zfree (nw mn : Int → Int) (n : Nat) (x y m : Int) : Bool := decide (zman nw x y n 0 = -1 ∨ mn (17 + 2 * zman nw x y n 0) ≠ mn (17 + 2 * m))
/-- whether the way of a man fits: how far in columns p, in rows q -/
def zfits (nw kn : Int → Int) (n : Nat) (x y c r kd : Int) : Bool :=
  if kn (20 + 4 * kd) = 4 then decide (zabs (x - c) * zabs (y - r) = 2)
  else decide (zoff x y c r ≤ kn (21 + 4 * kd) ∧ (((zabs (x - c) = 0 ∨ zabs (y - r) = 0) ∧ kn (20 + 4 * kd) ≠ 2) ∨ (zabs (x - c) = zabs (y - r) ∧ kn (20 + 4 * kd) ≠ 1)) ∧ zway nw n (zsgn (x - c)) (zsgn (y - r)) (zsteps (zabs (x - c)) (zabs (y - r))) (c + zsgn (x - c)) (r + zsgn (y - r)) = 1)
def zgo (nw mn kn : Int → Int) (n : Nat) (x y m : Int) : Bool :=
  decide (nw (2 + 2 * m) ≠ -1) && !(decide (zabs (x - nw (2 + 2 * m)) = 0 ∧ zabs (y - nw (3 + 2 * m)) = 0)) && zfits nw kn n x y (nw (2 + 2 * m)) (nw (3 + 2 * m)) (mn (16 + 2 * m)) && zfree nw mn n x y m
def zb (b : Bool) : Int := if b then 1 else 0
section M3
variable {d : Nat} {h : AH} {Q : QQ} {x y z mm k : Int}
set_option maxHeartbeats 2000000
theorem zway_b {nw : Int → Int} {n : Nat} {dx dy : Int} : ∀ (k : Nat) (a b : Int), zway nw n dx dy k a b = 0 ∨ zway nw n dx dy k a b = 1 := by
  intro k
  induction k with
  | zero => intro a b; right; rfl
  | succ k ih => intro a b; unfold zway; split; exact ih _ _; left; rfl
theorem l_290_190 {w2 w5 w6 w7 : Int} {w8 : Option AV} (hM : MI h) (hV : MV h) (h1 : 0 ≤ mm) (h2 : mm < 8) (hx : 0 ≤ x ∧ x ≤ 5) (hy : 0 ≤ y ∧ y ≤ 5) (h8 : w8 = none ∨ ∃ z, w8 = some (.inl z)) : wpB (d + 3) 290 190 ([some (.inr (.inr 1036)), some (.inl mm), some (.inl w2), some (.inl x), some (.inl y), some (.inl w5), some (.inl w6), some (.inl w7)] ++ (match w8 with | none => [] | some v => [some v])) [] h (fun o h1 => o = .inl (some (.inl (zb (zfree (ah_m h 1083) (ah_m h 1076) (ah_m h 1072 4).toNat x y mm)))) ∧ h1 = h) := by
  have b := @zman_b x y (ah_m h 1083) (ah_m h 1072 4).toNat 0 (Int.le_refl 0)
  have b8 := hV.2.1
  generalize e : zman (ah_m h 1083) x y (ah_m h 1072 4).toNat 0 = t at *
  by_cases e1 : t = -1
  · rcases h8 with h8 | ⟨z, h8⟩ <;> subst h8 <;> simp (disch := omega) only [q_290_190, b_290_190, q_290_219, b_290_219, q_290_224, b_290_224, ↓w_iconst, ↓w_aload_n_0, ↓w_iload_n_1, ↓w_iload_n_3, ↓w_iload_4, ↓w_iload_8, ↓w_istore, ↓w_nop, ↓w_goto, ↓w_if_icmp_eq, ↓w_ireturn1, ↓w_invokevirtual_1, ↓w_invokevirtual_2, stw_0, stw_i, stw_l, stw_r, ofK0, ofK1, ofK2, lst1, lst2, lkill, kont_none, kont_some, Int.reduceToNat, List.length_cons, List.length_nil, Nat.reduceAdd, Nat.reduceLeDiff, Nat.zero_le, true_and, and_true, if_true, if_false, ne_eq, Int.reduceEq, Int.reduceNeg, not_false_eq_true, not_true_eq_false, ↓reduceIte, Int.reduceLT, Int.reduceLE, and_self, or_true, true_or, or_false, false_or, false_and, and_false, ah_t_w, ah_m_w, ah_n_w, mt_1036a hM, k_296 hM hV, e, e1, List.cons_append, List.nil_append, zfree, zb] <;> simp
  · by_cases e2 : ah_m h 1076 (17 + 2 * t) = ah_m h 1076 (17 + 2 * mm)
    · rcases h8 with h8 | ⟨z, h8⟩ <;> subst h8 <;> simp (disch := omega) only [q_290_190, b_290_190, q_290_219, b_290_219, q_290_223, b_290_223, q_290_224, b_290_224, ↓w_iconst, ↓w_aload_n_0, ↓w_iload_n_1, ↓w_iload_n_3, ↓w_iload_4, ↓w_iload_8, ↓w_istore, ↓w_nop, ↓w_goto, ↓w_if_icmp_eq, ↓w_ireturn1, ↓w_invokevirtual_1, ↓w_invokevirtual_2, stw_0, stw_i, stw_l, stw_r, ofK0, ofK1, ofK2, lst1, lst2, lkill, kont_none, kont_some, Int.reduceToNat, List.length_cons, List.length_nil, Nat.reduceAdd, Nat.reduceLeDiff, Nat.zero_le, true_and, and_true, if_true, if_false, ne_eq, Int.reduceEq, Int.reduceNeg, not_false_eq_true, not_true_eq_false, ↓reduceIte, Int.reduceLT, Int.reduceLE, and_self, or_true, true_or, or_false, false_or, false_and, and_false, ah_t_w, ah_m_w, ah_n_w, mt_1036a hM, k_296 hM hV, k_287 hM, e, e1, e2, List.cons_append, List.nil_append, zfree, zb] <;> simp
    · rcases h8 with h8 | ⟨z, h8⟩ <;> subst h8 <;> simp (disch := omega) only [q_290_190, b_290_190, q_290_219, b_290_219, q_290_223, b_290_223, q_290_224, b_290_224, ↓w_iconst, ↓w_aload_n_0, ↓w_iload_n_1, ↓w_iload_n_3, ↓w_iload_4, ↓w_iload_8, ↓w_istore, ↓w_nop, ↓w_goto, ↓w_if_icmp_eq, ↓w_ireturn1, ↓w_invokevirtual_1, ↓w_invokevirtual_2, stw_0, stw_i, stw_l, stw_r, ofK0, ofK1, ofK2, lst1, lst2, lkill, kont_none, kont_some, Int.reduceToNat, List.length_cons, List.length_nil, Nat.reduceAdd, Nat.reduceLeDiff, Nat.zero_le, true_and, and_true, if_true, if_false, ne_eq, Int.reduceEq, Int.reduceNeg, not_false_eq_true, not_true_eq_false, ↓reduceIte, Int.reduceLT, Int.reduceLE, and_self, or_true, true_or, or_false, false_or, false_and, and_false, ah_t_w, ah_m_w, ah_n_w, mt_1036a hM, k_296 hM hV, k_287 hM, e, e1, e2, List.cons_append, List.nil_append, zfree, zb] <;> simp
theorem k_290 (hM : MI h) (hV : MV h) (h1 : 0 ≤ mm) (h2 : mm < 8) (hk : 0 ≤ k) (hk2 : k < ah_m h 1074 4 * ah_m h 1074 5) : wpC (d + 4) 290 [.inr (.inr 1036), .inl mm, .inl k] h Q ↔ Q (.inl (some (.inl (zb (zgo (ah_m h 1083) (ah_m h 1076) (ah_m h 1075) (ah_m h 1072 4).toNat (k % ah_m h 1074 4) (k / ah_m h 1074 4) mm))))) h := by
  have b4 := hV.2.2.2.1
  have b5 := hV.2.2.2.2.1
  have hp := hV.2.2.2.2.2.2 mm h1 h2
  have hkd := hV.2.2.2.2.2.1 mm h1 h2
  have hC : 0 < ah_m h 1074 4 := by
    rcases Int.lt_or_le 0 (ah_m h 1074 4) with g | g
    · exact g
    · have : ah_m h 1074 4 = 0 := by omega
      rw [this, Int.zero_mul] at hk2; omega
  have x1 := Int.emod_nonneg k (by omega : ah_m h 1074 4 ≠ 0)
  have x2 := Int.emod_lt_of_pos k hC
  have y1 := Int.ediv_nonneg hk (by omega : 0 ≤ ah_m h 1074 4)
  have y2 : k / ah_m h 1074 4 < ah_m h 1074 5 := Int.ediv_lt_of_lt_mul hC (by rw [Int.mul_comm]; exact hk2)
  have t1 : k.tmod (ah_m h 1074 4) = k % ah_m h 1074 4 := Int.tmod_eq_emod_of_nonneg hk
  have t2 : k.tdiv (ah_m h 1074 4) = k / ah_m h 1074 4 := Int.tdiv_eq_ediv_of_nonneg hk
  have hC0 : ah_m h 1074 4 = 0 ↔ False := ⟨fun e => by omega, False.elim⟩
  apply CT_iff; apply CT_of; rw [wpC_B]; refine ⟨⟨Nat.zero_lt_succ _, Nat.le_of_ble_eq_true rfl⟩, ?_⟩; simp only [lent]
  generalize ex : k % ah_m h 1074 4 = x at *
  generalize ey : k / ah_m h 1074 4 = y at *
  generalize ec : ah_m h 1083 (2 + 2 * mm) = c at *
  generalize er : ah_m h 1083 (3 + 2 * mm) = r at *
  by_cases e1 : c = -1
  · simp (disch := omega) only [q_290_0, b_290_0, ↓w_iconst, ↓w_aload_n_0, ↓w_iload_n_1, ↓w_ifCond_eq, ↓w_ireturn1, ↓w_invokevirtual_1, stw_0, stw_i, stw_l, stw_r, ofK0, ofK1, ofK2, lst1, lst2, lkill, kont_none, kont_some, Int.reduceToNat, List.length_cons, List.length_nil, Nat.reduceAdd, Nat.reduceLeDiff, Nat.zero_le, true_and, and_true, if_true, if_false, ne_eq, Int.reduceEq, Int.reduceNeg, not_false_eq_true, not_true_eq_false, ↓reduceIte, Int.reduceLT, Int.reduceLE, and_self, or_true, true_or, or_false, false_or, false_and, and_false, ah_t_w, ah_m_w, ah_n_w, mt_1036a hM, k_284 hM, zgo, ec, er, e1, zb]
    simp
  · have p1 := @zabs_b (x - c) (by omega) (by omega)
    have q1 := @zabs_b (y - r) (by omega) (by omega)
    have rest : ¬ (zabs (x - c) = 0 ∧ zabs (y - r) = 0) → wpB (d + 3) 290 66 [some (.inr (.inr 1036)), some (.inl mm), some (.inl k), some (.inl x), some (.inl y), some (.inl (zabs (x - c))), some (.inl (zabs (y - r)))] [] h (fun o h1 => o = .inl (some (.inl (zb (zfits (ah_m h 1083) (ah_m h 1075) (ah_m h 1072 4).toNat x y c r (ah_m h 1076 (16 + 2 * mm)) && zfree (ah_m h 1083) (ah_m h 1076) (ah_m h 1072 4).toNat x y mm)))) ∧ h1 = h) := by
      intro hne
      have fr := fun w8 h8 => @l_290_190 d h x y mm k (zabs (x - c)) (zabs (y - r)) (ah_m h 1075 (20 + 4 * ah_m h 1076 (16 + 2 * mm))) w8 hM hV h1 h2 (by omega) (by omega) h8
      generalize ek : ah_m h 1076 (16 + 2 * mm) = kd at *
      generalize ew : ah_m h 1075 (20 + 4 * kd) = ways at *
      by_cases e4 : ways = 4
      · have pq : -2147483648 ≤ zabs (x - c) * zabs (y - r) ∧ zabs (x - c) * zabs (y - r) < 2147483648 := by
          have g1 := Int.mul_nonneg p1.1 q1.1
          have g2 := Int.mul_le_mul p1.2 q1.2 q1.1 (by decide)
          omega
        have pq1 := pq.1
        have pq2 := pq.2
        by_cases e5 : zabs (x - c) * zabs (y - r) = 2
        · simp (disch := omega) only [q_290_66, b_290_66, ↓w_iconst, ↓w_bipush, ↓w_aload_n_0, ↓w_iload_n_1, ↓w_iload_5, ↓w_iload_6, ↓w_iload_7, ↓w_istore, ↓w_iadd, ↓w_imul, ↓w_getfield, ↓w_iaload, ↓w_if_icmp_eq, ↓w_if_icmp_ne, ↓w_ireturn1, ↓w_invokevirtual_1, stw_0, stw_i, stw_l, stw_r, ofK0, ofK1, ofK2, lst1, lst2, lkill, kont_none, kont_some, Int.reduceToNat, List.length_cons, List.length_nil, Nat.reduceAdd, Nat.reduceLeDiff, Nat.zero_le, true_and, and_true, if_true, if_false, ne_eq, Int.reduceEq, Int.reduceNeg, not_false_eq_true, not_true_eq_false, ↓reduceIte, Int.reduceLT, Int.reduceLE, and_self, or_true, true_or, or_false, false_or, false_and, and_false, ah_t_w, ah_m_w, ah_n_w, mt_1036a hM, mt_1075a hM, mt_1075b hM, mf_48 hM, k_283 hM, ek, ew, e4, e5, w32_i, zfits]
          have := fr none (Or.inl rfl)
          rw [e4] at this
          refine ⟨by omega, ?_⟩
          simpa using this
        · simp (disch := omega) only [q_290_66, b_290_66, ↓w_iconst, ↓w_bipush, ↓w_aload_n_0, ↓w_iload_n_1, ↓w_iload_5, ↓w_iload_6, ↓w_iload_7, ↓w_istore, ↓w_iadd, ↓w_imul, ↓w_getfield, ↓w_iaload, ↓w_if_icmp_eq, ↓w_if_icmp_ne, ↓w_ireturn1, ↓w_invokevirtual_1, stw_0, stw_i, stw_l, stw_r, ofK0, ofK1, ofK2, lst1, lst2, lkill, kont_none, kont_some, Int.reduceToNat, List.length_cons, List.length_nil, Nat.reduceAdd, Nat.reduceLeDiff, Nat.zero_le, true_and, and_true, if_true, if_false, ne_eq, Int.reduceEq, Int.reduceNeg, not_false_eq_true, not_true_eq_false, ↓reduceIte, Int.reduceLT, Int.reduceLE, and_self, or_true, true_or, or_false, false_or, false_and, and_false, ah_t_w, ah_m_w, ah_n_w, mt_1036a hM, mt_1075a hM, mt_1075b hM, mf_48 hM, k_283 hM, ek, ew, e4, e5, w32_i, zfits, zb]
          simp; omega
      · have fr' : ∀ z : Int, wpB (d + 3) 290 190 [some (.inr (.inr 1036)), some (.inl mm), some (.inl k), some (.inl x), some (.inl y), some (.inl (zabs (x - c))), some (.inl (zabs (y - r))), some (.inl ways), some (.inl z)] [] h (fun o h1 => o = .inl (some (.inl (zb (zfree (ah_m h 1083) (ah_m h 1076) (ah_m h 1072 4).toNat x y mm)))) ∧ h1 = h) := fun z => fr (some (.inl z)) (Or.inr ⟨z, rfl⟩)
        have bad : ∀ L' : ALoc, wpB (d + 3) 290 188 L' [] h (fun o h1 => o = .inl (some (.inl (zb false))) ∧ h1 = h) := by
          intro L'
          simp (disch := omega) only [q_290_188, b_290_188, ↓w_iconst, ↓w_ireturn1, stw_0, stw_i, stw_l, stw_r, ofK0, ofK1, ofK2, lst1, lst2, lkill, kont_none, kont_some, Int.reduceToNat, List.length_cons, List.length_nil, Nat.reduceAdd, Nat.reduceLeDiff, Nat.zero_le, true_and, and_true, if_true, if_false, ne_eq, Int.reduceEq, Int.reduceNeg, not_false_eq_true, not_true_eq_false, ↓reduceIte, Int.reduceLT, Int.reduceLE, and_self, or_true, true_or, or_false, false_or, false_and, and_false, ah_t_w, ah_m_w, ah_n_w, zb]
          simp
        have way : ∀ st : Int, (zabs (x - c) = 0 ∨ zabs (y - r) = 0 ∨ zabs (x - c) = zabs (y - r)) → wpB (d + 3) 290 177 [some (.inr (.inr 1036)), some (.inl mm), some (.inl k), some (.inl x), some (.inl y), some (.inl (zabs (x - c))), some (.inl (zabs (y - r))), some (.inl ways), some (.inl st)] [] h (fun o h1 => o = .inl (some (.inl (zb (decide (zway (ah_m h 1083) (ah_m h 1072 4).toNat (zsgn (x - c)) (zsgn (y - r)) (zsteps (zabs (x - c)) (zabs (y - r))) (c + zsgn (x - c)) (r + zsgn (y - r)) = 1) && zfree (ah_m h 1083) (ah_m h 1076) (ah_m h 1072 4).toNat x y mm)))) ∧ h1 = h) := by
          intro st hst
          have kk := fun Q => @k_294 d h Q x y mm hM hV h1 h2 (by omega) (by omega) (by rw [ec, er]; exact hne) (by rw [ec, er]; exact hst)
          rw [ec, er] at kk
          have zw := @zway_b (ah_m h 1083) (ah_m h 1072 4).toNat (zsgn (x - c)) (zsgn (y - r)) (zsteps (zabs (x - c)) (zabs (y - r))) (c + zsgn (x - c)) (r + zsgn (y - r))
          generalize zway (ah_m h 1083) (ah_m h 1072 4).toNat (zsgn (x - c)) (zsgn (y - r)) (zsteps (zabs (x - c)) (zabs (y - r))) (c + zsgn (x - c)) (r + zsgn (y - r)) = zw' at *
          rcases zw with zw | zw <;> subst zw
          · simp (disch := omega) only [q_290_177, b_290_177, ↓w_aload_n_0, ↓w_iload_n_1, ↓w_iload_n_3, ↓w_iload_4, ↓w_nop, ↓w_ifCond_ne, ↓w_invokevirtual_3, stw_0, stw_i, stw_l, stw_r, ofK0, ofK1, ofK2, lst1, lst2, lkill, kont_none, kont_some, Int.reduceToNat, List.length_cons, List.length_nil, Nat.reduceAdd, Nat.reduceLeDiff, Nat.zero_le, true_and, and_true, if_true, if_false, ne_eq, Int.reduceEq, Int.reduceNeg, not_false_eq_true, not_true_eq_false, ↓reduceIte, Int.reduceLT, Int.reduceLE, and_self, or_true, true_or, or_false, false_or, false_and, and_false, ah_t_w, ah_m_w, ah_n_w, mt_1036a hM, kk]
            simpa using bad _
          · simp (disch := omega) only [q_290_177, b_290_177, ↓w_aload_n_0, ↓w_iload_n_1, ↓w_iload_n_3, ↓w_iload_4, ↓w_nop, ↓w_ifCond_ne, ↓w_invokevirtual_3, stw_0, stw_i, stw_l, stw_r, ofK0, ofK1, ofK2, lst1, lst2, lkill, kont_none, kont_some, Int.reduceToNat, List.length_cons, List.length_nil, Nat.reduceAdd, Nat.reduceLeDiff, Nat.zero_le, true_and, and_true, if_true, if_false, ne_eq, Int.reduceEq, Int.reduceNeg, not_false_eq_true, not_true_eq_false, ↓reduceIte, Int.reduceLT, Int.reduceLE, and_self, or_true, true_or, or_false, false_or, false_and, and_false, ah_t_w, ah_m_w, ah_n_w, mt_1036a hM, kk]
            simpa using fr' st
        have o1 := @k_293 (d + 1) h
        have l115 : ∀ st : Int, (st = 0 ∨ st = 1) → (st = 1 ↔ (zabs (x - c) = 0 ∨ zabs (y - r) = 0)) → wpB (d + 3) 290 115 [some (.inr (.inr 1036)), some (.inl mm), some (.inl k), some (.inl x), some (.inl y), some (.inl (zabs (x - c))), some (.inl (zabs (y - r))), some (.inl ways)] [.inl st] h (fun o h1 => o = .inl (some (.inl (zb (zfits (ah_m h 1083) (ah_m h 1075) (ah_m h 1072 4).toNat x y c r kd && zfree (ah_m h 1083) (ah_m h 1076) (ah_m h 1072 4).toNat x y mm)))) ∧ h1 = h) := by
          intro st hst hst1
          by_cases e6 : ah_m h 1075 (21 + 4 * kd) < zoff x y c r
          · have e6' : ¬ zoff x y c r ≤ ah_m h 1075 (21 + 4 * kd) := by omega
            simp (disch := omega) only [q_290_115, b_290_115, ↓w_iconst, ↓w_bipush, ↓w_aload_n_0, ↓w_iload_n_1, ↓w_iload_n_3, ↓w_iload_4, ↓w_istore, ↓w_iadd, ↓w_imul, ↓w_getfield, ↓w_iaload, ↓w_if_icmp_le, ↓w_ireturn1, ↓w_invokevirtual_1, ↓w_invokestatic_4, stw_0, stw_i, stw_l, stw_r, ofK0, ofK1, ofK2, lst1, lst2, lkill, kont_none, kont_some, Int.reduceToNat, List.length_cons, List.length_nil, Nat.reduceAdd, Nat.reduceLeDiff, Nat.zero_le, true_and, and_true, if_true, if_false, ne_eq, Int.reduceEq, Int.reduceNeg, not_false_eq_true, not_true_eq_false, ↓reduceIte, Int.reduceLT, Int.reduceLE, and_self, or_true, true_or, or_false, false_or, false_and, and_false, ah_t_w, ah_m_w, ah_n_w, mt_1036a hM, mt_1075a hM, mt_1075b hM, mf_48 hM, k_283 hM, k_285 hM, k_292 hM, k_293, ec, er, ek, ew, e4, e6, e6', zfits, zb, w32_i]
            simp; omega
          · have e6' : zoff x y c r ≤ ah_m h 1075 (21 + 4 * kd) := by omega
            simp (disch := omega) only [q_290_115, b_290_115, ↓w_iconst, ↓w_bipush, ↓w_aload_n_0, ↓w_iload_n_1, ↓w_iload_n_3, ↓w_iload_4, ↓w_istore, ↓w_iadd, ↓w_imul, ↓w_getfield, ↓w_iaload, ↓w_if_icmp_le, ↓w_ireturn1, ↓w_invokevirtual_1, ↓w_invokestatic_4, stw_0, stw_i, stw_l, stw_r, ofK0, ofK1, ofK2, lst1, lst2, lkill, kont_none, kont_some, Int.reduceToNat, List.length_cons, List.length_nil, Nat.reduceAdd, Nat.reduceLeDiff, Nat.zero_le, true_and, and_true, if_true, if_false, ne_eq, Int.reduceEq, Int.reduceNeg, not_false_eq_true, not_true_eq_false, ↓reduceIte, Int.reduceLT, Int.reduceLE, and_self, or_true, true_or, or_false, false_or, false_and, and_false, ah_t_w, ah_m_w, ah_n_w, mt_1036a hM, mt_1075a hM, mt_1075b hM, mf_48 hM, k_283 hM, k_285 hM, k_292 hM, k_293, ec, er, ek, ew, e4, e6, e6', zfits, w32_i]
            refine ⟨by omega, ?_⟩
            by_cases e7 : zabs (x - c) = 0 ∨ zabs (y - r) = 0
            · have st1 : st = 1 := hst1.mpr e7
              subst st1
              have wy := way 1 (by omega)
              by_cases e9 : ways = 2
              · by_cases e10 : zabs (x - c) = zabs (y - r)
                · exfalso; omega
                · have bd := bad
                  simp (disch := omega) only [q_290_153, b_290_153, q_290_164, b_290_164, ↓w_iconst, ↓w_iload_5, ↓w_iload_6, ↓w_iload_7, ↓w_iload_8, ↓w_nop, ↓w_ifCond_eq, ↓w_if_icmp_eq, ↓w_if_icmp_ne, stw_0, stw_i, stw_l, stw_r, ofK0, ofK1, ofK2, lst1, lst2, lkill, kont_none, kont_some, Int.reduceToNat, List.length_cons, List.length_nil, Nat.reduceAdd, Nat.reduceLeDiff, Nat.zero_le, true_and, and_true, if_true, if_false, ne_eq, Int.reduceEq, Int.reduceNeg, not_false_eq_true, not_true_eq_false, ↓reduceIte, Int.reduceLT, Int.reduceLE, and_self, or_true, true_or, or_false, false_or, false_and, and_false, ah_t_w, ah_m_w, ah_n_w, e9, e10, e7]
                  simpa using bd _
              · simp (disch := omega) only [q_290_153, b_290_153, ↓w_iconst, ↓w_iload_7, ↓w_iload_8, ↓w_nop, ↓w_ifCond_eq, ↓w_if_icmp_ne, stw_0, stw_i, stw_l, stw_r, ofK0, ofK1, ofK2, lst1, lst2, lkill, kont_none, kont_some, Int.reduceToNat, List.length_cons, List.length_nil, Nat.reduceAdd, Nat.reduceLeDiff, Nat.zero_le, true_and, and_true, if_true, if_false, ne_eq, Int.reduceEq, Int.reduceNeg, not_false_eq_true, not_true_eq_false, ↓reduceIte, Int.reduceLT, Int.reduceLE, and_self, or_true, true_or, or_false, false_or, false_and, and_false, ah_t_w, ah_m_w, ah_n_w, e9, e7]
                simpa [e9] using wy
            · have st0 : st = 0 := by
                rcases hst with g | g
                · exact g
                · exact absurd (hst1.mp g) e7
              subst st0
              by_cases e10 : zabs (x - c) = zabs (y - r)
              · have wy := way 0 (by omega)
                by_cases e11 : ways = 1
                · have bd := bad
                  simp (disch := omega) only [q_290_153, b_290_153, q_290_164, b_290_164, ↓w_iconst, ↓w_iload_5, ↓w_iload_6, ↓w_iload_7, ↓w_iload_8, ↓w_nop, ↓w_ifCond_eq, ↓w_if_icmp_eq, ↓w_if_icmp_ne, stw_0, stw_i, stw_l, stw_r, ofK0, ofK1, ofK2, lst1, lst2, lkill, kont_none, kont_some, Int.reduceToNat, List.length_cons, List.length_nil, Nat.reduceAdd, Nat.reduceLeDiff, Nat.zero_le, true_and, and_true, if_true, if_false, ne_eq, Int.reduceEq, Int.reduceNeg, not_false_eq_true, not_true_eq_false, ↓reduceIte, Int.reduceLT, Int.reduceLE, and_self, or_true, true_or, or_false, false_or, false_and, and_false, ah_t_w, ah_m_w, ah_n_w, e10, e11, e7]
                  have e7b : ¬ zabs (y - r) = 0 := fun e => e7 (Or.inr e)
                  simpa [e7b] using bd _
                · simp (disch := omega) only [q_290_153, b_290_153, q_290_164, b_290_164, ↓w_iconst, ↓w_iload_5, ↓w_iload_6, ↓w_iload_7, ↓w_iload_8, ↓w_nop, ↓w_ifCond_eq, ↓w_if_icmp_eq, ↓w_if_icmp_ne, stw_0, stw_i, stw_l, stw_r, ofK0, ofK1, ofK2, lst1, lst2, lkill, kont_none, kont_some, Int.reduceToNat, List.length_cons, List.length_nil, Nat.reduceAdd, Nat.reduceLeDiff, Nat.zero_le, true_and, and_true, if_true, if_false, ne_eq, Int.reduceEq, Int.reduceNeg, not_false_eq_true, not_true_eq_false, ↓reduceIte, Int.reduceLT, Int.reduceLE, and_self, or_true, true_or, or_false, false_or, false_and, and_false, ah_t_w, ah_m_w, ah_n_w, e10, e11, e7]
                  rw [e10] at wy
                  simpa [e11, e10] using wy
              · have bd := bad
                simp (disch := omega) only [q_290_153, b_290_153, q_290_164, b_290_164, ↓w_iconst, ↓w_iload_5, ↓w_iload_6, ↓w_iload_7, ↓w_iload_8, ↓w_nop, ↓w_ifCond_eq, ↓w_if_icmp_eq, ↓w_if_icmp_ne, stw_0, stw_i, stw_l, stw_r, ofK0, ofK1, ofK2, lst1, lst2, lkill, kont_none, kont_some, Int.reduceToNat, List.length_cons, List.length_nil, Nat.reduceAdd, Nat.reduceLeDiff, Nat.zero_le, true_and, and_true, if_true, if_false, ne_eq, Int.reduceEq, Int.reduceNeg, not_false_eq_true, not_true_eq_false, ↓reduceIte, Int.reduceLT, Int.reduceLE, and_self, or_true, true_or, or_false, false_or, false_and, and_false, ah_t_w, ah_m_w, ah_n_w, e10, e7]
                simpa using bd _
        by_cases g1 : zabs (x - c) = 0
        · have := l115 1 (Or.inr rfl) ⟨fun _ => Or.inl g1, fun _ => rfl⟩
          simp (disch := omega) only [q_290_66, b_290_66, q_290_100, b_290_100, q_290_110, b_290_110, ↓w_iconst, ↓w_bipush, ↓w_aload_n_0, ↓w_iload_n_1, ↓w_iload_5, ↓w_iload_6, ↓w_iload_7, ↓w_istore, ↓w_iadd, ↓w_imul, ↓w_getfield, ↓w_iaload, ↓w_nop, ↓w_goto, ↓w_ifCond_eq, ↓w_if_icmp_eq, ↓w_ifCond_ne, ↓w_if_icmp_ne, ↓w_ireturn1, ↓w_invokevirtual_1, stw_0, stw_i, stw_l, stw_r, ofK0, ofK1, ofK2, lst1, lst2, lkill, kont_none, kont_some, Int.reduceToNat, List.length_cons, List.length_nil, Nat.reduceAdd, Nat.reduceLeDiff, Nat.zero_le, true_and, and_true, if_true, if_false, ne_eq, Int.reduceEq, Int.reduceNeg, not_false_eq_true, not_true_eq_false, ↓reduceIte, Int.reduceLT, Int.reduceLE, and_self, or_true, true_or, or_false, false_or, false_and, and_false, ah_t_w, ah_m_w, ah_n_w, mt_1036a hM, mt_1075a hM, mt_1075b hM, mf_48 hM, k_283 hM, ek, ew, e4, g1, w32_i]
          rw [g1] at this
          exact ⟨by omega, this⟩
        · by_cases g2 : zabs (y - r) = 0
          · have := l115 1 (Or.inr rfl) ⟨fun _ => Or.inr g2, fun _ => rfl⟩
            simp (disch := omega) only [q_290_66, b_290_66, q_290_100, b_290_100, q_290_110, b_290_110, ↓w_iconst, ↓w_bipush, ↓w_aload_n_0, ↓w_iload_n_1, ↓w_iload_5, ↓w_iload_6, ↓w_iload_7, ↓w_istore, ↓w_iadd, ↓w_imul, ↓w_getfield, ↓w_iaload, ↓w_nop, ↓w_goto, ↓w_ifCond_eq, ↓w_if_icmp_eq, ↓w_ifCond_ne, ↓w_if_icmp_ne, ↓w_ireturn1, ↓w_invokevirtual_1, stw_0, stw_i, stw_l, stw_r, ofK0, ofK1, ofK2, lst1, lst2, lkill, kont_none, kont_some, Int.reduceToNat, List.length_cons, List.length_nil, Nat.reduceAdd, Nat.reduceLeDiff, Nat.zero_le, true_and, and_true, if_true, if_false, ne_eq, Int.reduceEq, Int.reduceNeg, not_false_eq_true, not_true_eq_false, ↓reduceIte, Int.reduceLT, Int.reduceLE, and_self, or_true, true_or, or_false, false_or, false_and, and_false, ah_t_w, ah_m_w, ah_n_w, mt_1036a hM, mt_1075a hM, mt_1075b hM, mf_48 hM, k_283 hM, ek, ew, e4, g1, g2, w32_i]
            rw [g2] at this
            exact ⟨by omega, this⟩
          · have := l115 0 (Or.inl rfl) ⟨fun e => by omega, fun e => by omega⟩
            simp (disch := omega) only [q_290_66, b_290_66, q_290_100, b_290_100, q_290_114, b_290_114, ↓w_iconst, ↓w_bipush, ↓w_aload_n_0, ↓w_iload_n_1, ↓w_iload_5, ↓w_iload_6, ↓w_iload_7, ↓w_istore, ↓w_iadd, ↓w_imul, ↓w_getfield, ↓w_iaload, ↓w_nop, ↓w_ifCond_eq, ↓w_if_icmp_eq, ↓w_ifCond_ne, ↓w_if_icmp_ne, ↓w_ireturn1, ↓w_invokevirtual_1, stw_0, stw_i, stw_l, stw_r, ofK0, ofK1, ofK2, lst1, lst2, lkill, kont_none, kont_some, Int.reduceToNat, List.length_cons, List.length_nil, Nat.reduceAdd, Nat.reduceLeDiff, Nat.zero_le, true_and, and_true, if_true, if_false, ne_eq, Int.reduceEq, Int.reduceNeg, not_false_eq_true, not_true_eq_false, ↓reduceIte, Int.reduceLT, Int.reduceLE, and_self, or_true, true_or, or_false, false_or, false_and, and_false, ah_t_w, ah_m_w, ah_n_w, mt_1036a hM, mt_1075a hM, mt_1075b hM, mf_48 hM, k_283 hM, ek, ew, e4, g1, g2, w32_i]
            exact ⟨by omega, this⟩
    by_cases e2 : zabs (x - c) = 0
    · by_cases e3 : zabs (y - r) = 0
      · simp (disch := omega) only [q_290_0, b_290_0, q_290_10, b_290_10, ↓w_iconst, ↓w_aload_n_0, ↓w_iload_n_1, ↓w_iload_n_2, ↓w_iload_n_3, ↓w_iload_4, ↓w_iload_5, ↓w_iload_6, ↓w_istore, ↓w_istore_n_3, ↓w_isub, ↓w_idiv, ↓w_irem, ↓w_getfield, ↓w_iaload, ↓w_ifCond_eq, ↓w_ifCond_ne, ↓w_ireturn1, ↓w_invokestatic_1, ↓w_invokevirtual_1, stw_0, stw_i, stw_l, stw_r, ofK0, ofK1, ofK2, lst1, lst2, lkill, kont_none, kont_some, Int.reduceToNat, List.length_cons, List.length_nil, Nat.reduceAdd, Nat.reduceLeDiff, Nat.zero_le, true_and, and_true, if_true, if_false, ne_eq, Int.reduceEq, Int.reduceNeg, not_false_eq_true, not_true_eq_false, ↓reduceIte, Int.reduceLT, Int.reduceLE, and_self, or_true, true_or, or_false, false_or, false_and, and_false, ah_t_w, ah_m_w, ah_n_w, mt_1036a hM, mt_1074a hM, mt_1074b hM, mf_47 hM, k_284 hM, k_285 hM, k_292 hM, k_291, zgo, ec, er, e1, e2, e3, zb, t1, t2, hC0, ex, ey, w32_i]
        simp
      · simp (disch := omega) only [q_290_0, b_290_0, q_290_10, b_290_10, ↓w_iconst, ↓w_aload_n_0, ↓w_iload_n_1, ↓w_iload_n_2, ↓w_iload_n_3, ↓w_iload_4, ↓w_iload_5, ↓w_iload_6, ↓w_istore, ↓w_istore_n_3, ↓w_isub, ↓w_idiv, ↓w_irem, ↓w_getfield, ↓w_iaload, ↓w_ifCond_eq, ↓w_ifCond_ne, ↓w_ireturn1, ↓w_invokestatic_1, ↓w_invokevirtual_1, stw_0, stw_i, stw_l, stw_r, ofK0, ofK1, ofK2, lst1, lst2, lkill, kont_none, kont_some, Int.reduceToNat, List.length_cons, List.length_nil, Nat.reduceAdd, Nat.reduceLeDiff, Nat.zero_le, true_and, and_true, if_true, if_false, ne_eq, Int.reduceEq, Int.reduceNeg, not_false_eq_true, not_true_eq_false, ↓reduceIte, Int.reduceLT, Int.reduceLE, and_self, or_true, true_or, or_false, false_or, false_and, and_false, ah_t_w, ah_m_w, ah_n_w, mt_1036a hM, mt_1074a hM, mt_1074b hM, mf_47 hM, k_284 hM, k_285 hM, k_292 hM, k_291, zgo, ec, er, e1, e2, e3, t1, t2, hC0, ex, ey, w32_i]
        have rest := rest (fun e => e3 e.2)
        rw [e2] at rest
        simpa using rest
    · simp (disch := omega) only [q_290_0, b_290_0, q_290_10, b_290_10, ↓w_iconst, ↓w_aload_n_0, ↓w_iload_n_1, ↓w_iload_n_2, ↓w_iload_n_3, ↓w_iload_4, ↓w_iload_5, ↓w_iload_6, ↓w_istore, ↓w_istore_n_3, ↓w_isub, ↓w_idiv, ↓w_irem, ↓w_getfield, ↓w_iaload, ↓w_ifCond_eq, ↓w_ifCond_ne, ↓w_ireturn1, ↓w_invokestatic_1, ↓w_invokevirtual_1, stw_0, stw_i, stw_l, stw_r, ofK0, ofK1, ofK2, lst1, lst2, lkill, kont_none, kont_some, Int.reduceToNat, List.length_cons, List.length_nil, Nat.reduceAdd, Nat.reduceLeDiff, Nat.zero_le, true_and, and_true, if_true, if_false, ne_eq, Int.reduceEq, Int.reduceNeg, not_false_eq_true, not_true_eq_false, ↓reduceIte, Int.reduceLT, Int.reduceLE, and_self, or_true, true_or, or_false, false_or, false_and, and_false, ah_t_w, ah_m_w, ah_n_w, mt_1036a hM, mt_1074a hM, mt_1074b hM, mf_47 hM, k_284 hM, k_285 hM, k_292 hM, k_291, zgo, ec, er, e1, e2, t1, t2, hC0, ex, ey, w32_i]
      have rest := rest (fun e => e2 e.1)
      simpa using rest
end M3
