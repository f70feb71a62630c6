/-! ===== X's reader: what stands in brackets ===== -/
def zwi (hm : Bool) (t : Int → Int) (n : Int) (f : Nat) (m k o : Int) : (Int × Int) ⊕ (Int × List Int) :=
  if zB t n (zsk t n k) = 40 then (if o = 6 then .inl (4, zsk t n k) else match zex hm t n f 0 (zsk t n k + 1) (o + 1) with
    | .inl e => .inl e
    | .inr (k1, c1) => if m = 0 then (if zB t n (zsk t n k1) = 41 then .inr (zsk t n k1 + 1, c1) else .inl (1, zsk t n k1))
      else if zB t n (zsk t n k1) = 44 then (match zex hm t n f 0 (zsk t n k1 + 1) (o + 1) with
        | .inl e => .inl e
        | .inr (k2, c2) => if zB t n (zsk t n k2) = 41 then .inr (zsk t n k2 + 1, c1 ++ (c2 ++ [if m = 1 then 5 else 6])) else .inl (1, zsk t n k2))
      else .inl (1, zsk t n k1))
  else .inl (1, zsk t n k)
section D7
variable {W' : Int → Int → Prop} {d : Nat} {h h' h1 h2 h0 : AH} {Q : QQ} {x y z k s a b c v n p q r o i N lo hi A B E cap el sp dp capL elL capS elS l' m : Int} {S T T' : Int → Int → Int} {t nw nw' pt of tp : Int → Int} {tl : ALoc} {w W l cs c1 c2 : List Int} {hm : Bool} {D f u : Nat} {its : List (Int × List Int)}
set_option maxHeartbeats 4000000
theorem VSi_lo (hv : VSi hm D a b h p cs) (hE : Ext Wrd h h') : VSi hm D a b h' p cs :=
  VSi_ext hv (fun r r0 r1 => ⟨hE.2.1 r (Or.inl (by have := hv.1; omega)), fun i => hE.2.2 r i (by have := hv.1; omega) (fun w => by have := Wrd_lt _ _ w; have := hv.1; omega)⟩) hE.1.1
theorem VSi_wide (hv : VSi hm D a b h p cs) (h1 : 1121 ≤ x ∧ x ≤ a ∧ b ≤ y ∧ y ≤ ah_n h) : VSi hm D x y h p cs :=
  ⟨by have := hv.1; omega, hv.2.1, hv.2.2.1, fun h' pt of Q ag ev hQ => hv.2.2.2 h' pt of Q (fun r r0 r1 => ag r (by omega) (by omega)) ev hQ⟩
theorem t_191 {l1 l2 : Option AV} (hR : RX t n k h) (e4 : ah_m h 11 4 = o) (ho : 0 ≤ o ∧ o ≤ 10)
    (hQ0 : ∀ h', zB t n (zsk t n k) ≠ 41 → RX t n (zsk t n k) h' → Off Wrd h h' → BXx 1 (zsk t n k) h' → Q (.inr 12) h')
    (hQ1 : ∀ h', zB t n (zsk t n k) = 41 → RX t n (zsk t n k + 1) h' → Off Wrd h h' → ah_m h' 11 4 = o - 1 → Q (.inl (some (.inr (.inr v)))) h') : wpB (d + 3) 191 77 [some (.inr (.inr 11)), l1, l2, some (.inr (.inr v))] [] h Q := by
  have t11 := r_11 hR.1
  simp (disch := omega) only [q_191_77, b_191_77, ↓w_iconst, ↓w_bipush, ↓w_aload_n_0, ↓w_aload_n_3, ↓w_dup_i, ↓w_dup_a, ↓w_isub, ↓w_getfield, ↓w_putfield_0, ↓w_areturn, ↓w_invokevirtual_1, stw_0, stw_i, stw_l, stw_r, ofK0, ofK1, ofK2, lst1, lst2, lkill, kont_none, kont_some, Int.reduceToNat, List.length_cons, List.length_nil, Nat.reduceAdd, Nat.reduceLeDiff, Nat.zero_le, true_and, and_true, if_true, if_false, ne_eq, Int.reduceEq, Int.reduceNeg, not_false_eq_true, not_true_eq_false, ↓reduceIte, Int.reduceLT, Int.reduceLE, and_self, or_true, true_or, or_false, false_or, false_and, and_false, ah_t_w, ah_m_w, ah_n_w, lst1_0, List.tail_cons, w32_i, zbd, lst2_0, t11]
  refine c_180 (d := d) hR (by decide) (fun h1 k' e hR1 hO1 hb => ?_) (fun h1 k' e hR1 hO1 => ?_)
  · rw [kont_0]
    unfold zsgn1 at e
    by_cases g : zB t n (zsk t n k) = 41
    · rw [if_pos g] at e; cases e
    · rw [if_neg g] at e
      simp only [Sum.inl.injEq, Prod.mk.injEq, true_and] at e
      subst e
      exact hQ0 h1 g hR1 hO1 hb
  · unfold zsgn1 at e
    by_cases g : zB t n (zsk t n k) = 41
    · rw [if_pos g] at e
      simp only [Sum.inr.injEq] at e
      subst e
      have t1 := r_11 hR1.1
      have e41 : ah_m h1 11 4 = o := by rw [(Wr2_e hO1).1]; exact e4
      have h2 := RX_fr hR1 (i := 4) (v := o - 1) (by omega)
      simp (disch := omega) only [b_191_77, ↓w_iconst, ↓w_bipush, ↓w_aload_n_0, ↓w_aload_n_3, ↓w_dup_i, ↓w_dup_a, ↓w_isub, ↓w_getfield, ↓w_putfield_0, ↓w_areturn, ↓w_invokevirtual_1, stw_0, stw_i, stw_l, stw_r, ofK0, ofK1, ofK2, lst1, lst2, lkill, kont_none, kont_some, Int.reduceToNat, List.length_cons, List.length_nil, Nat.reduceAdd, Nat.reduceLeDiff, Nat.zero_le, true_and, and_true, if_true, if_false, ne_eq, Int.reduceEq, Int.reduceNeg, not_false_eq_true, not_true_eq_false, ↓reduceIte, Int.reduceLT, Int.reduceLE, and_self, or_true, true_or, or_false, false_or, false_and, and_false, ah_t_w, ah_m_w, ah_n_w, lst1_0, List.tail_cons, w32_i, zbd, lst2_0, t1, e41]
      exact hQ1 _ g h2.1 (Off_tr (Off_mono Wr2_d hO1) (Off_mono (fun r j w => by unfold Wrd; omega) h2.2)) (by rw [ah_m_w, if_pos ⟨rfl, rfl⟩])
    · rw [if_neg g] at e; cases e
/-- what stands in brackets: one, the less, the more -/
theorem c_191 (hs : CEx hm t n f 0 188 12 0 0 30 300) (u1 : 1 ≤ u) (u7 : u ≤ 7) (hR : RX t n k h) (e4 : ah_m h 11 4 = 7 - (u : Int)) (e5 : ah_m h 11 5 = zctxt hm) (hf : 6 * (n - k) ≤ f + 3) (hm3 : m = 0 ∨ m = 1 ∨ m = 2)
    (hQ0 : ∀ h' k' a b, zwi hm t n f m k (7 - (u : Int)) = .inl (a, b) → RX t n k' h' → Ext Wrd h h' → BXx a b h' → CO h h' (60 * (n - k) + 10) (1000 * (n - k) + 100) → Q (.inr 12) h')
    (hQ1 : ∀ h' p k1 c, zwi hm t n f m k (7 - (u : Int)) = .inr (k1, c) → RX t n k1 h' → Ext Wrd h h' → ah_m h' 11 4 = 7 - (u : Int) → VSi hm (10 + 4 * u) (ah_n h) (ah_n h') h' p c → CO h h' (60 * (k1 - k) - 24) (1000 * (k1 - k) - 400) → Q (.inl (some (.inr (.inr p)))) h') : wpC (d + 9 + 5 * u) 191 [.inr (.inr 11), .inl m] h Q := by
  have t11 := r_11 hR.1
  have hx := hR.2.2.2.2.2
  have n16 := hR.2.2.2.2.1.1.2
  have hsk := zsk_le (t := t) hx.2
  have n0 := hR.1.2.1.1
  obtain ⟨e, he⟩ : ∃ e : Nat, d + 9 + 5 * u = e + 9 := ⟨d + 5 * u, by omega⟩
  rw [he]
  unfold zwi at hQ0 hQ1
  rw [wpC_B]; refine ⟨⟨Nat.zero_lt_succ _, Nat.le_of_ble_eq_true rfl⟩, ?_⟩; simp only [lent]
  simp (disch := omega) only [q_191_0, b_191_0, ↓w_iconst, ↓w_bipush, ↓w_aload_n_0, ↓w_getfield, ↓w_if_icmp_eq, ↓w_athrow, ↓w_invokevirtual_0, ↓w_invokevirtual_2, stw_0, stw_i, stw_l, stw_r, ofK0, ofK1, ofK2, lst1, lst2, lkill, kont_none, kont_some, Int.reduceToNat, List.length_cons, List.length_nil, Nat.reduceAdd, Nat.reduceLeDiff, Nat.zero_le, true_and, and_true, if_true, if_false, ne_eq, Int.reduceEq, Int.reduceNeg, not_false_eq_true, not_true_eq_false, ↓reduceIte, Int.reduceLT, Int.reduceLE, and_self, or_true, true_or, or_false, false_or, false_and, and_false, ah_t_w, ah_m_w, ah_n_w, lst1_0, List.tail_cons, w32_i, zbd, lst2_0, t11]
  refine c_174 (d := e + 6) hR (fun h1 hR1 hO1 => ?_)
  have t1 := r_11 hR1.1
  have e2 := hR1.2.2.1
  have hE1 : Ext Wrd h h1 := Ext_off (Off_mono Wr2_d hO1)
  have e41 := Wr2_e hO1
  have n1 := Off_n hO1
  have s1 := Off_s hO1
  by_cases g : ¬ zB t n (zsk t n k) = 40
  · rw [if_neg g] at hQ0
    simp (disch := omega) only [b_191_0, ↓w_iconst, ↓w_bipush, ↓w_aload_n_0, ↓w_getfield, ↓w_if_icmp_eq, ↓w_athrow, ↓w_invokevirtual_0, ↓w_invokevirtual_2, stw_0, stw_i, stw_l, stw_r, ofK0, ofK1, ofK2, lst1, lst2, lkill, kont_none, kont_some, Int.reduceToNat, List.length_cons, List.length_nil, Nat.reduceAdd, Nat.reduceLeDiff, Nat.zero_le, true_and, and_true, if_true, if_false, ne_eq, Int.reduceEq, Int.reduceNeg, not_false_eq_true, not_true_eq_false, ↓reduceIte, Int.reduceLT, Int.reduceLE, and_self, or_true, true_or, or_false, false_or, false_and, and_false, ah_t_w, ah_m_w, ah_n_w, lst1_0, List.tail_cons, w32_i, zbd, lst2_0, t1, e2, g]
    refine thrw (d := e + 7) hR1 (fun h2 hR2 hO2 hb => hQ0 h2 _ _ _ rfl hR2 (Ext_tr hE1 (Ext_off (Off_mono W12_d hO2))) hb ?_)
    have := Off_n hO2; have := Off_s hO2; unfold CO; omega
  have g : zB t n (zsk t n k) = 40 := Decidable.not_not.1 g
  rw [if_pos g] at hQ0 hQ1
  have hlt := zskn hx.2 (by rw [g]; decide)
  simp (disch := omega) only [b_191_0, q_191_19, b_191_19, ↓w_iconst, ↓w_bipush, ↓w_aload_n_0, ↓w_iload_n_1, ↓w_aload_n_2, ↓w_astore_n_2, ↓w_astore_n_3, ↓w_dup_i, ↓w_dup_a, ↓w_iadd, ↓w_getfield, ↓w_putfield_0, ↓w_new, ↓w_goto, ↓w_if_icmp_eq, ↓w_if_icmp_ne, ↓w_ifCond_le, ↓w_athrow, ↓w_invokevirtual_0, ↓w_invokevirtual_1, ↓w_invokevirtual_2, stw_0, stw_i, stw_l, stw_r, ofK0, ofK1, ofK2, lst1, lst2, lkill, kont_none, kont_some, Int.reduceToNat, List.length_cons, List.length_nil, Nat.reduceAdd, Nat.reduceLeDiff, Nat.zero_le, true_and, and_true, if_true, if_false, ne_eq, Int.reduceEq, Int.reduceNeg, not_false_eq_true, not_true_eq_false, ↓reduceIte, Int.reduceLT, Int.reduceLE, and_self, or_true, true_or, or_false, false_or, false_and, and_false, ah_t_w, ah_m_w, ah_n_w, lst1_0, List.tail_cons, w32_i, zbd, lst2_0, t1, e2, g]
  refine c_192 (d := e + 6) hR1 (show ah_m h1 11 4 = 7 - (u : Int) by rw [e41.1]; exact e4) (by omega) (fun h2 eo hR2 hO2 hb => ?_) (fun h2 eo hR2 hO2 e42 => ?_)
  · rw [kont_0]
    rw [if_pos eo] at hQ0
    refine hQ0 h2 _ _ _ rfl hR2 (Ext_tr hE1 (Ext_off (Off_mono W12_d hO2))) hb ?_
    have := Off_n hO2; have := Off_s hO2; unfold CO; omega
  rw [if_neg eo] at hQ0 hQ1
  have t2 := r_11 hR2.1
  have e22 := hR2.2.2.1
  have n2 := Off_n hO2
  have s2 := Off_s hO2
  have hE2 : Ext Wrd h h2 := Ext_tr hE1 (Ext_off (Off_mono (fun r i w => by unfold Wrd; omega) hO2))
  have e52 : ah_m h2 11 5 = zctxt hm := by rw [hO2.2 _ _ (by omega), e41.2]; exact e5
  simp (disch := omega) only [b_191_19, ↓w_iconst, ↓w_bipush, ↓w_aload_n_0, ↓w_iload_n_1, ↓w_aload_n_2, ↓w_astore_n_2, ↓w_astore_n_3, ↓w_dup_i, ↓w_dup_a, ↓w_iadd, ↓w_getfield, ↓w_putfield_0, ↓w_new, ↓w_goto, ↓w_if_icmp_ne, ↓w_ifCond_le, ↓w_invokevirtual_0, ↓w_invokevirtual_1, stw_0, stw_i, stw_l, stw_r, ofK0, ofK1, ofK2, lst1, lst2, lkill, kont_none, kont_some, Int.reduceToNat, List.length_cons, List.length_nil, Nat.reduceAdd, Nat.reduceLeDiff, Nat.zero_le, true_and, and_true, if_true, if_false, ne_eq, Int.reduceEq, Int.reduceNeg, not_false_eq_true, not_true_eq_false, ↓reduceIte, Int.reduceLT, Int.reduceLE, and_self, or_true, true_or, or_false, false_or, false_and, and_false, ah_t_w, ah_m_w, ah_n_w, lst1_0, List.tail_cons, w32_i, zbd, lst2_0, t2, e22]
  have h3 := RX_at hR2 (v := zsk t n k + 1) (by omega)
  generalize hg3 : ah_w h2 11 2 (zsk t n k + 1) = h3' at *
  obtain ⟨hR3, hO3⟩ := h3
  have hE3 : Ext Wrd h h3' := Ext_tr hE2 (Ext_off (Off_mono Wr2_d hO3))
  have e43 := Wr2_e hO3
  have n3 := Off_n hO3
  have s3 := Off_s hO3
  obtain ⟨u', hu⟩ : ∃ u' : Nat, u = u' + 1 := ⟨u - 1, by omega⟩
  have eou : 7 - (u : Int) + 1 = 7 - (u' : Int) := by omega
  rw [eou] at hQ0 hQ1
  refine wpC_deep (hs u' d (zsk t n k + 1) h3' _ (by omega) (by omega) hR3 (by rw [e43.1, e42]; omega) (by rw [e43.2]; exact e52) (by simp [zrk]; omega) (fun h4 k' a b ez hR4 hE4 hb co => ?_) (fun h4 p1 k1 c1 ez hR4 hE4 e44 hv1 co => ?_)) (by omega)
  · rw [kont_0]
    rw [ez] at hQ0
    refine hQ0 h4 _ _ _ rfl hR4 (Ext_tr hE3 hE4) hb ?_
    unfold CO at co ⊢; omega
  rw [ez] at hQ0 hQ1
  simp only [] at hQ0 hQ1
  have pr := (zex_pr (hm := hm) (t := t) (n := n) f 0 (zsk t n k + 1) (7 - (u' : Int)) (by omega) (by omega) (by omega) (by omega)).1 k1 c1 ez
  have hs1 := zsk_le (t := t) pr.2.1
  have t4 := r_11 hR4.1
  have e54 := Wrd_e hR3 hE4
  have hE4' : Ext Wrd h h4 := Ext_tr hE3 hE4
  unfold CO at co
  have n4 := hE4.1
  by_cases gm : m = 0
  · rw [if_pos gm] at hQ0 hQ1
    subst gm
    simp (disch := omega) only [b_191_19, ↓w_iconst, ↓w_bipush, ↓w_aload_n_0, ↓w_iload_n_1, ↓w_aload_n_2, ↓w_astore_n_2, ↓w_astore_n_3, ↓w_dup_i, ↓w_dup_a, ↓w_iadd, ↓w_getfield, ↓w_putfield_0, ↓w_new, ↓w_goto, ↓w_if_icmp_ne, ↓w_ifCond_le, ↓w_invokevirtual_0, ↓w_invokevirtual_1, stw_0, stw_i, stw_l, stw_r, ofK0, ofK1, ofK2, lst1, lst2, lkill, kont_none, kont_some, Int.reduceToNat, List.length_cons, List.length_nil, Nat.reduceAdd, Nat.reduceLeDiff, Nat.zero_le, true_and, and_true, if_true, if_false, ne_eq, Int.reduceEq, Int.reduceNeg, not_false_eq_true, not_true_eq_false, ↓reduceIte, Int.reduceLT, Int.reduceLE, and_self, or_true, true_or, or_false, false_or, false_and, and_false, ah_t_w, ah_m_w, ah_n_w, lst1_0, List.tail_cons, w32_i, zbd, lst2_0]
    refine t_191 (d := e + 5) hR4 e44 (by omega) (fun h5 g5 hR5 hO5 hb => ?_) (fun h5 g5 hR5 hO5 e45 => ?_)
    · rw [if_neg g5] at hQ0
      refine hQ0 h5 _ _ _ rfl hR5 (Ext_tr hE4' (Ext_off hO5)) hb ?_
      have := Off_n hO5; have := Off_s hO5; unfold CO; omega
    · rw [if_pos g5] at hQ1
      have n5 := Off_n hO5
      have s5 := Off_s hO5
      have := zskn pr.2.1 (by rw [g5]; decide)
      refine hQ1 h5 p1 _ _ rfl hR5 (Ext_tr hE4' (Ext_off hO5)) (by rw [e45]; omega) ?_ ?_
      · refine VSi_deep (VSi_wide (VSi_lo hv1 (Ext_off hO5)) ?_) (by omega)
        omega
      · unfold CO; omega
  · rw [if_neg gm] at hQ0 hQ1
    have gm0 : 0 < m := by omega
    simp (disch := omega) only [b_191_19, ↓w_iconst, ↓w_bipush, ↓w_aload_n_0, ↓w_iload_n_1, ↓w_aload_n_2, ↓w_astore_n_2, ↓w_astore_n_3, ↓w_dup_i, ↓w_dup_a, ↓w_iadd, ↓w_getfield, ↓w_putfield_0, ↓w_new, ↓w_goto, ↓w_if_icmp_ne, ↓w_ifCond_le, ↓w_invokevirtual_0, ↓w_invokevirtual_1, stw_0, stw_i, stw_l, stw_r, ofK0, ofK1, ofK2, lst1, lst2, lkill, kont_none, kont_some, Int.reduceToNat, List.length_cons, List.length_nil, Nat.reduceAdd, Nat.reduceLeDiff, Nat.zero_le, true_and, and_true, if_true, if_false, ne_eq, Int.reduceEq, Int.reduceNeg, not_false_eq_true, not_true_eq_false, ↓reduceIte, Int.reduceLT, Int.reduceLE, and_self, or_true, true_or, or_false, false_or, false_and, and_false, ah_t_w, ah_m_w, ah_n_w, lst1_0, List.tail_cons, w32_i, zbd, lst2_0, gm0, t4]
    refine c_180 (d := e + 5) hR4 (by decide) (fun h5 k' e5' hR5 hO5 hb => ?_) (fun h5 k' e5' hR5 hO5 => ?_)
    · rw [kont_0]
      unfold zsgn1 at e5'
      by_cases g5 : zB t n (zsk t n k1) = 44
      · rw [if_pos g5] at e5'; cases e5'
      · rw [if_neg g5] at e5' hQ0
        simp only [Sum.inl.injEq, Prod.mk.injEq, true_and] at e5'
        subst e5'
        refine hQ0 h5 _ _ _ rfl hR5 (Ext_tr hE4' (Ext_off hO5)) hb ?_
        have := Off_n hO5; have := Off_s hO5; unfold CO; omega
    unfold zsgn1 at e5'
    by_cases g5 : ¬ zB t n (zsk t n k1) = 44
    · rw [if_neg g5] at e5'; cases e5'
    have g5 := Decidable.not_not.1 g5
    rw [if_pos g5] at e5' hQ0 hQ1
    simp only [Sum.inr.injEq] at e5'
    subst e5'
    have hlt5 := zskn pr.2.1 (by rw [g5]; decide)
    have t5 := r_11 hR5.1
    have e45 := Wr2_e hO5
    have n5 := Off_n hO5
    have s5 := Off_s hO5
    have hE5' : Ext Wrd h h5 := Ext_tr hE4' (Ext_off (Off_mono Wr2_d hO5))
    have hv5 := VSi_lo hv1 (Ext_off (Off_mono Wr2_d hO5))
    -- the pair
    have key : ∀ mm : Int, (mm = 0 ∨ mm = 1) → mm = m - 1 → wpB (e + 8) 191 68 [some (.inr (.inr 11)), some (.inl m), some (.inr (.inr p1)), some (.inr (.inr p1))] [.inl mm, .inr (.inr (ah_n h5)), .inr (.inr (ah_n h5))] (ah_new h5 (16, 0) ((3 : Nat) : Int)) Q := by
      intro mm hmm emm
      have hR6 : RX t n (zsk t n k1 + 1) (ah_new h5 (16, 0) ((3 : Nat) : Int)) := RX_new hR5 (by omega)
      have hE6 : Ext Wrd h5 (ah_new h5 (16, 0) ((3 : Nat) : Int)) := Ext_new Ext_rfl (by omega)
      have m6 : ∀ i, ah_m (ah_new h5 (16, 0) ((3 : Nat) : Int)) 11 i = ah_m h5 11 i := fun i => by rw [ah_m_new, if_neg (by omega)]
      have tp6 : ah_t (ah_new h5 (16, 0) ((3 : Nat) : Int)) (ah_n h5) = (16, 0) := by rw [ah_t_new, if_pos rfl]
      have n6 : ah_n (ah_new h5 (16, 0) ((3 : Nat) : Int)) = ah_n h5 + 1 := ah_n_new
      have s6 : ah_s (ah_new h5 (16, 0) ((3 : Nat) : Int)) = ah_s h5 + 3 := by rw [ah_s_new]; rfl
      generalize ah_new h5 (16, 0) ((3 : Nat) : Int) = h6 at *
      have t6 := r_11 hR6.1
      simp (disch := omega) only [q_191_68, b_191_68, ↓w_aload_n_0, ↓w_aload_n_2, ↓w_astore_n_3, ↓w_nop, ↓w_invokevirtual_0, ↓w_invokespecial_3, stw_0, stw_i, stw_l, stw_r, ofK0, ofK1, ofK2, lst1, lst2, lkill, kont_none, kont_some, Int.reduceToNat, List.length_cons, List.length_nil, Nat.reduceAdd, Nat.reduceLeDiff, Nat.zero_le, true_and, and_true, if_true, if_false, ne_eq, Int.reduceEq, Int.reduceNeg, not_false_eq_true, not_true_eq_false, ↓reduceIte, Int.reduceLT, Int.reduceLE, and_self, or_true, true_or, or_false, false_or, false_and, and_false, ah_t_w, ah_m_w, ah_n_w, lst1_0, List.tail_cons, w32_i, zbd, lst2_0, t6]
      refine wpC_deep (hs u' d (zsk t n k1 + 1) h6 _ (by omega) (by omega) hR6 (by rw [m6, e45.1]; exact e44) (by rw [m6, e45.2, e54, e43.2]; exact e52) (by simp [zrk]; omega) (fun h7 k' a b ez7 hR7 hE7 hb co7 => ?_) (fun h7 p2 k2 c2 ez7 hR7 hE7 e47 hv2 co7 => ?_)) (by omega)
      · rw [kont_0]
        rw [ez7] at hQ0
        refine hQ0 h7 _ _ _ rfl hR7 (Ext_tr hE5' (Ext_tr hE6 hE7)) hb ?_
        unfold CO at co7 ⊢; omega
      rw [ez7] at hQ0 hQ1
      simp only [] at hQ0 hQ1
      unfold CO at co7
      have n7 := hE7.1
      have pr7 := (zex_pr (hm := hm) (t := t) (n := n) f 0 (zsk t n k1 + 1) (7 - (u' : Int)) (by omega) (by omega) (by omega) (by omega)).1 k2 c2 ez7
      have hs7 := zsk_le (t := t) pr7.2.1
      have tp7 : ah_t h7 (ah_n h5) = (16, 0) := by rw [hE7.2.1 _ (Or.inl (by omega))]; exact tp6
      have tp7' : (ah_t h7 (ah_n h5)).1 = 16 := by rw [tp7]
      simp (disch := omega) only [b_191_68, ↓w_aload_n_0, ↓w_aload_n_2, ↓w_astore_n_3, ↓w_nop, ↓w_invokevirtual_0, ↓w_invokespecial_3, stw_0, stw_i, stw_l, stw_r, ofK0, ofK1, ofK2, lst1, lst2, lkill, kont_none, kont_some, Int.reduceToNat, List.length_cons, List.length_nil, Nat.reduceAdd, Nat.reduceLeDiff, Nat.zero_le, true_and, and_true, if_true, if_false, ne_eq, Int.reduceEq, Int.reduceNeg, not_false_eq_true, not_true_eq_false, ↓reduceIte, Int.reduceLT, Int.reduceLE, and_self, or_true, true_or, or_false, false_or, false_and, and_false, ah_t_w, ah_m_w, ah_n_w, lst1_0, List.tail_cons, w32_i, zbd, lst2_0, tp7', c_158 (d := e + 6) tp7' (by omega) hmm]
      have hE8 : Ext (fun r i => r = ah_n h5) h7 (ah_w (ah_w (ah_w h7 (ah_n h5) 0 mm) (ah_n h5) 1 p1) (ah_n h5) 2 p2) := Ext_w (Ext_w (Ext_w Ext_rfl (Or.inl rfl)) (Or.inl rfl)) (Or.inl rfl)
      have q0 : ah_m (ah_w (ah_w (ah_w h7 (ah_n h5) 0 mm) (ah_n h5) 1 p1) (ah_n h5) 2 p2) (ah_n h5) 0 = mm := by rw [ah_m_w, if_neg (by omega), ah_m_w, if_neg (by omega), ah_m_w, if_pos ⟨rfl, rfl⟩]
      have q1 : ah_m (ah_w (ah_w (ah_w h7 (ah_n h5) 0 mm) (ah_n h5) 1 p1) (ah_n h5) 2 p2) (ah_n h5) 1 = p1 := by rw [ah_m_w, if_neg (by omega), ah_m_w, if_pos ⟨rfl, rfl⟩]
      have q2 : ah_m (ah_w (ah_w (ah_w h7 (ah_n h5) 0 mm) (ah_n h5) 1 p1) (ah_n h5) 2 p2) (ah_n h5) 2 = p2 := by rw [ah_m_w, if_pos ⟨rfl, rfl⟩]
      have n8 : ah_n (ah_w (ah_w (ah_w h7 (ah_n h5) 0 mm) (ah_n h5) 1 p1) (ah_n h5) 2 p2) = ah_n h7 := rfl
      have s8 : ah_s (ah_w (ah_w (ah_w h7 (ah_n h5) 0 mm) (ah_n h5) 1 p1) (ah_n h5) 2 p2) = ah_s h7 := rfl
      have tp8 : ah_t (ah_w (ah_w (ah_w h7 (ah_n h5) 0 mm) (ah_n h5) 1 p1) (ah_n h5) 2 p2) (ah_n h5) = (16, 0) := tp7
      generalize ah_w (ah_w (ah_w h7 (ah_n h5) 0 mm) (ah_n h5) 1 p1) (ah_n h5) 2 p2 = h8 at *
      have hr8 := RX_hi hR7 hE8 (fun r i w => by omega)
      have hE7' : Ext Wrd h h7 := Ext_tr hE5' (Ext_tr hE6 hE7)
      have hE8' : Ext Wrd h h8 := Ext_tr' hE7' hE8 (fun r i w => Or.inr (by omega))
      have v1 : VSi hm (12 + 4 * u') (ah_n h3') (ah_n h4) h8 p1 c1 := by
        have := VSi_lo hv5 (Ext_tr hE6 hE7)
        exact VSi_ext this (fun r r0 r1 => ⟨hE8.2.1 r (Or.inl (by omega)), fun i => hE8.2.2 r i (by omega) (by omega)⟩) hE8.1.1
      have v2 : VSi hm (12 + 4 * u') (ah_n h6) (ah_n h7) h8 p2 c2 := VSi_ext hv2 (fun r r0 r1 => ⟨hE8.2.1 r (Or.inl (by omega)), fun i => hE8.2.2 r i (by omega) (by omega)⟩) hE8.1.1
      have vp := VSi_pair (a := ah_n h) (b := ah_n h8) tp8 q0 hmm q1 q2 v1 v2 (by omega) (by omega)
      refine t_191 (d := e + 5) hr8.1 ((hr8.2 4).trans e47) (by omega) (fun h9 g9 hR9 hO9 hb => ?_) (fun h9 g9 hR9 hO9 e49 => ?_)
      · rw [if_neg g9] at hQ0
        refine hQ0 h9 _ _ _ rfl hR9 (Ext_tr hE8' (Ext_off hO9)) hb ?_
        have := Off_n hO9; have := Off_s hO9; unfold CO; omega
      · rw [if_pos g9] at hQ1
        have n9 := Off_n hO9
        have s9 := Off_s hO9
        have := zskn pr7.2.1 (by rw [g9]; decide)
        refine hQ1 h9 (ah_n h5) _ _ rfl hR9 (Ext_tr hE8' (Ext_off hO9)) (by rw [e49]; omega) ?_ ?_
        · have vq := VSi_deep (VSi_lo vp (Ext_off hO9)) (show 12 + 4 * u' + 1 ≤ 10 + 4 * u by omega)
          rw [n9]
          rw [show (if m = 1 then (5 : Int) else 6) = if mm = 1 then 6 else 5 by rcases hmm with q | q <;> rw [q] <;> simp <;> omega]
          exact vq
        · unfold CO; omega
    rcases hm3 with q | q | q
    · exact absurd q gm
    · subst q
      simp (disch := omega) only [b_191_19, q_191_67, b_191_67, ↓w_iconst, ↓w_bipush, ↓w_aload_n_0, ↓w_iload_n_1, ↓w_aload_n_2, ↓w_astore_n_2, ↓w_astore_n_3, ↓w_dup_i, ↓w_dup_a, ↓w_iadd, ↓w_getfield, ↓w_putfield_0, ↓w_new, ↓w_nop, ↓w_goto, ↓w_if_icmp_ne, ↓w_ifCond_le, ↓w_invokevirtual_0, ↓w_invokevirtual_1, stw_0, stw_i, stw_l, stw_r, ofK0, ofK1, ofK2, lst1, lst2, lkill, kont_none, kont_some, Int.reduceToNat, List.length_cons, List.length_nil, Nat.reduceAdd, Nat.reduceLeDiff, Nat.zero_le, true_and, and_true, if_true, if_false, ne_eq, Int.reduceEq, Int.reduceNeg, not_false_eq_true, not_true_eq_false, ↓reduceIte, Int.reduceLT, Int.reduceLE, and_self, or_true, true_or, or_false, false_or, false_and, and_false, ah_t_w, ah_m_w, ah_n_w, lst1_0, List.tail_cons, w32_i, zbd, lst2_0, t5]
      exact key 0 (Or.inl rfl) rfl
    · subst q
      simp (disch := omega) only [b_191_19, ↓w_iconst, ↓w_bipush, ↓w_aload_n_0, ↓w_iload_n_1, ↓w_aload_n_2, ↓w_astore_n_2, ↓w_astore_n_3, ↓w_dup_i, ↓w_dup_a, ↓w_iadd, ↓w_getfield, ↓w_putfield_0, ↓w_new, ↓w_goto, ↓w_if_icmp_ne, ↓w_ifCond_le, ↓w_invokevirtual_0, ↓w_invokevirtual_1, stw_0, stw_i, stw_l, stw_r, ofK0, ofK1, ofK2, lst1, lst2, lkill, kont_none, kont_some, Int.reduceToNat, List.length_cons, List.length_nil, Nat.reduceAdd, Nat.reduceLeDiff, Nat.zero_le, true_and, and_true, if_true, if_false, ne_eq, Int.reduceEq, Int.reduceNeg, not_false_eq_true, not_true_eq_false, ↓reduceIte, Int.reduceLT, Int.reduceLE, and_self, or_true, true_or, or_false, false_or, false_and, and_false, ah_t_w, ah_m_w, ah_n_w, lst1_0, List.tail_cons, w32_i, zbd, lst2_0, t5]
      exact key 1 (Or.inr rfl) rfl
end D7
