/-! ===== M: a sum is told ===== -/
/-- M between sums: W waits, b the base -/
def MZ (hm : Bool) (t : Int → Int) (n k : Int) (W cs : List Int) (o b : Int) (h : AH) : Prop := LX t n k h ∧ Stk h W ∧ ah_m h 1036 113 = W.length ∧ ah_m h 1036 115 = b ∧ Cods h cs ∧ ah_m h 1036 111 = cs.length ∧ ah_m h 1036 114 = o ∧ ah_m h 1036 59 = zb hm
def WZ (r i : Int) : Prop := WQ r i ∨ (r = 1036 ∧ i = 115)
def zF (n : Int) : Nat := 6 * n.toNat + 10
section Q7
variable {d : Nat} {h h0 : AH} {Q K1 K2 : QQ} {x y z m k s l a b c v n p r o : Int} {t : Int → Int} {hm : Bool} {w0 w cs W : List Int}
set_option maxHeartbeats 4000000
theorem WZ_f {r i : Int} (w : WZ r i) : fre r i ∧ ¬ (1072 ≤ r ∧ r ≤ 1083) := by unfold WZ WQ at w; unfold fre; omega
theorem BX_w5 {kk pp z : Int} (hB : BX kk pp h) : BX kk pp (ah_w h 1036 115 z) :=
  ⟨MI_w hB.1 (by unfold fre; omega), by rw [ah_m_w, if_neg (by omega)]; exact hB.2.1, by rw [ah_m_w, if_neg (by omega)]; exact hB.2.2.1, hB.2.2.2⟩
theorem l_261z {C : List Int} {z2 : Int} (hq : ∀ h', MZ hm t n k w0 C o b h' → Off WZ h h' → Q (.inl none) h') : ∀ (w cs : List Int) h', MQs hm t n k w0 w cs o h' → Off WZ h h' → (cs.length : Int) + w.length + w0.length ≤ 1690 → cs ++ w = C → wpB (d + 6) 261 53 [some (.inr (.inr 1036)), some (.inl b), some (.inl z2)] [] h' Q := by
  intro w
  induction w with
  | nil =>
    intro cs h' hQ hO hl e2
    obtain ⟨a0, a1, a2, a3, a4, a5, a6, a7⟩ := hQ
    have h5 := a0.2.2.2.2.1
    have hM := a0.1
    simp only [List.nil_append] at a1 a2
    simp only [List.append_nil] at e2
    rw [← e2] at hq
    have hlt : ¬ (w0.length : Int) < w0.length := by omega
    simp (disch := omega) only [q_261_53, b_261_53, q_261_78, b_261_78, ↓w_aload_n_0, ↓w_iload_n_1, ↓w_getfield, ↓w_putfield_0, ↓w_goto, ↓w_ifCond_ne, ↓w_if_icmp_le, ↓w_return, ↓w_invokevirtual_0, stw_0, stw_i, stw_l, stw_r, ofK0, ofK1, ofK2, lst1, lst2, lkill, kont_none, kont_some, Int.reduceToNat, List.length_cons, List.length_nil, Nat.reduceAdd, Nat.reduceLeDiff, Nat.zero_le, true_and, and_true, if_true, if_false, ne_eq, Int.reduceEq, Int.reduceNeg, not_false_eq_true, not_true_eq_false, ↓reduceIte, Int.reduceLT, Int.reduceLE, and_self, or_true, true_or, or_false, false_or, false_and, and_false, ah_t_w, ah_m_w, ah_n_w, lst1_0, List.tail_cons, w32_i, zbd, lst2_0, mt_1036a hM, h5, a2, a3, hlt]
    refine hq _ ⟨LX_w a0 (by omega), Stk_w a1 (by omega), ?_, ?_, Cods_w a4 (by omega), ?_, ?_, ?_⟩ (Off_w hO (by unfold WZ; omega))
    · rw [ah_m_w, if_neg (by omega)]; exact a2
    · rw [ah_m_w, if_pos ⟨rfl, rfl⟩]
    · rw [ah_m_w, if_neg (by omega)]; exact a5
    · rw [ah_m_w, if_neg (by omega)]; exact a6
    · rw [ah_m_w, if_neg (by omega)]; exact a7
  | cons x w ih =>
    intro cs h' hQ hO hl e2
    have hQ' := hQ
    obtain ⟨a0, a1, a2, a3, a4, a5, a6, a7⟩ := hQ
    have h5 := a0.2.2.2.2.1
    have hM := a0.1
    have hl2 : ((x :: w ++ w0).length : Int) = w.length + 1 + w0.length := by simp; omega
    have hlt : (w0.length : Int) < ((x :: w ++ w0).length : Int) := by omega
    simp only [List.length_cons] at hl
    rw [q_261_53]
    simp (disch := omega) only [b_261_53, ↓w_aload_n_0, ↓w_getfield, ↓w_goto, ↓w_ifCond_ne, ↓w_if_icmp_le, ↓w_invokevirtual_0, stw_0, stw_i, stw_l, stw_r, ofK0, ofK1, ofK2, lst1, lst2, lkill, kont_none, kont_some, Int.reduceToNat, List.length_cons, List.length_nil, Nat.reduceAdd, Nat.reduceLeDiff, Nat.zero_le, true_and, and_true, if_true, if_false, ne_eq, Int.reduceEq, Int.reduceNeg, not_false_eq_true, not_true_eq_false, ↓reduceIte, Int.reduceLT, Int.reduceLE, and_self, or_true, true_or, or_false, false_or, false_and, and_false, ah_t_w, ah_m_w, ah_n_w, lst1_0, List.tail_cons, w32_i, zbd, lst2_0, mt_1036a hM, h5, a2, a3, hlt]
    refine c_270 hQ' (by simp only [List.length_cons]; omega) (fun h2 hQ2 hO2 => ?_)
    simp (disch := omega) only [b_261_53, ↓w_aload_n_0, ↓w_getfield, ↓w_goto, ↓w_ifCond_ne, ↓w_if_icmp_le, ↓w_invokevirtual_0, stw_0, stw_i, stw_l, stw_r, ofK0, ofK1, ofK2, lst1, lst2, lkill, kont_none, kont_some, Int.reduceToNat, List.length_cons, List.length_nil, Nat.reduceAdd, Nat.reduceLeDiff, Nat.zero_le, true_and, and_true, if_true, if_false, ne_eq, Int.reduceEq, Int.reduceNeg, not_false_eq_true, not_true_eq_false, ↓reduceIte, Int.reduceLT, Int.reduceLE, and_self, or_true, true_or, or_false, false_or, false_and, and_false, ah_t_w, ah_m_w, ah_n_w, lst1_0, List.tail_cons, w32_i, zbd, lst2_0]
    refine ih (cs ++ [x]) h2 hQ2 (Off_tr hO (Off_mono (fun r i w => Or.inl w) hO2)) (by simp only [List.length_append, List.length_cons, List.length_nil]; omega) ?_
    rw [← e2]; simp
theorem zex_s3 : ∀ (f : Nat) (k o k1 : Int) (c : List Int), 0 ≤ k → k ≤ n → zex hm t n f 3 k o = .inr (k1, c) → zsk t n k1 = k1 := by
  intro f
  induction f with
  | zero => intro k o k1 c h0 h1 e; cases e
  | succ f ih =>
    intro k o k1 c h0 h1 e
    have hs := @zsk_le k n t h1
    simp only [zex, if_true, if_false, Int.reduceEq] at e
    by_cases g : zB t n (zsk t n k) = 43 ∨ zB t n (zsk t n k) = 45
    · rw [if_pos g] at e
      have hlt := zskn (t := t) h1 (by omega)
      have pr := (zex_pr (hm := hm) (t := t) (n := n) f 1 (zsk t n k + 1) o (by omega) (by omega) (by omega) (by omega)).1
      cases e1 : zex hm t n f 1 (zsk t n k + 1) o with
      | inl x => rw [e1] at e; cases e
      | inr x =>
        obtain ⟨ka, ca⟩ := x
        have j := pr ka ca e1
        rw [e1] at e
        simp only at e
        cases e2 : zex hm t n f 3 ka o with
        | inl x => rw [e2] at e; cases e
        | inr x =>
          obtain ⟨kb, cb⟩ := x
          rw [e2] at e
          simp only [Sum.inr.injEq, Prod.mk.injEq] at e
          rw [← e.1]
          exact ih _ _ _ _ (by omega) j.2.1 e2
    · rw [if_neg g] at e
      simp only [Sum.inr.injEq, Prod.mk.injEq] at e
      rw [← e.1]; exact zsk_zsk h0 h1
theorem zex_s0 {f : Nat} {k1 : Int} {c : List Int} (h0 : 0 ≤ k) (h1 : k ≤ n) (e : zex hm t n f 0 k o = .inr (k1, c)) : zsk t n k1 = k1 := by
  match f, e with
  | f + 1, e =>
    simp only [zex, if_true] at e
    have pr := (zex_pr (hm := hm) (t := t) (n := n) f 1 k o h0 h1 (by omega) (by omega)).1
    cases e1 : zex hm t n f 1 k o with
    | inl x => rw [e1] at e; cases e
    | inr x =>
      obtain ⟨ka, ca⟩ := x
      have j := pr ka ca e1
      rw [e1] at e
      simp only at e
      cases e2 : zex hm t n f 3 ka o with
      | inl x => rw [e2] at e; cases e
      | inr x =>
        obtain ⟨kb, cb⟩ := x
        rw [e2] at e
        simp only [Sum.inr.injEq, Prod.mk.injEq] at e
        rw [← e.1]
        exact zex_s3 _ _ _ _ _ (by omega) j.2.1 e2
theorem c_261 (hZ : MZ hm t n k W cs o b h) (hW : ntw W) (hl : (cs.length : Int) + W.length ≤ k) (ho : 0 ≤ o ∧ o ≤ 6)
    (hq0 : ∀ h' kk pp, zex hm t n (zF n) 0 k o = .inl (kk, pp) → BX kk pp h' → CB h' → Off WZ h h' → Q (.inl none) h')
    (hq1 : ∀ h' k1 c1, zex hm t n (zF n) 0 k o = .inr (k1, c1) → MZ hm t n k1 W (cs ++ c1) o b h' → Off WZ h h' → Q (.inl none) h') : wpC (d + 7) 261 [.inr (.inr 1036)] h Q := by
  obtain ⟨a0, a1, a2, a3, a4, a5, a6, a7⟩ := hZ
  have hM := a0.1
  have h5 := a0.2.2.2.2.1
  have hbk := a0.2.2.2.2.2.1
  rw [wpC_B]; refine ⟨⟨Nat.zero_lt_succ _, Nat.le_of_ble_eq_true rfl⟩, ?_⟩; simp only [lent]
  simp (disch := omega) only [q_261_0, b_261_0, ↓w_iconst, ↓w_aload_n_0, ↓w_istore_n_1, ↓w_istore_n_2, ↓w_getfield, ↓w_putfield_0, ↓w_nop, stw_0, stw_i, stw_l, stw_r, ofK0, ofK1, ofK2, lst1, lst2, lkill, kont_none, kont_some, Int.reduceToNat, List.length_cons, List.length_nil, Nat.reduceAdd, Nat.reduceLeDiff, Nat.zero_le, true_and, and_true, if_true, if_false, ne_eq, Int.reduceEq, Int.reduceNeg, not_false_eq_true, not_true_eq_false, ↓reduceIte, Int.reduceLT, Int.reduceLE, and_self, or_true, true_or, or_false, false_or, false_and, and_false, ah_t_w, ah_m_w, ah_n_w, lst1_0, List.tail_cons, w32_i, zbd, lst2_0, mt_1036a hM, a2, a3]
  have hO1 : Off WZ h (ah_w h 1036 115 W.length) := Off_w Off_rfl (by unfold WZ; omega)
  have hQ1 : MQs hm t n k W [] cs o (ah_w h 1036 115 W.length) := by
    refine ⟨LX_w a0 (by omega), Stk_w a1 (by omega), ?_, ?_, Cods_w a4 (by omega), ?_, ?_, ?_⟩
    · rw [ah_m_w, if_neg (by omega)]; exact a2
    · rw [ah_m_w, if_pos ⟨rfl, rfl⟩]
    · rw [ah_m_w, if_neg (by omega)]; exact a5
    · rw [ah_m_w, if_neg (by omega)]; exact a6
    · rw [ah_m_w, if_neg (by omega)]; exact a7
  generalize ah_w h 1036 115 W.length = h1 at hO1 hQ1
  generalize eL : [some (Sum.inr (Sum.inr (1036 : Int))), some (Sum.inl b), some (Sum.inl (1 : Int))] = L
  have hK1e : ∀ h', kont (d + 6) 261 (b_261_15.drop 7) 0 L [] Q (.inl none) h' ↔ wpL (d + 6) 261 (b_261_15.drop 7) L [] h' Q := fun h' => Iff.rfl
  have hK2e : ∀ h' z, kont (d + 6) 261 (b_261_15.drop 12) 0 L [] Q (.inl (some (.inl z))) h' ↔ wpL (d + 6) 261 (b_261_15.drop 12) L [.inl z] h' Q := fun h' z => Iff.rfl
  -- at fault
  have bad53 : ∀ h' kk pp z2, BX kk pp h' → CB h' → Off WZ h h' → zex hm t n (zF n) 0 k o = .inl (kk, pp) → wpB (d + 6) 261 53 [some (.inr (.inr 1036)), some (.inl b), some (.inl z2)] [] h' Q := by
    intro h' kk pp z2 hB hC hO' e
    have e5 := hB.2.1; have hk := hB.2.2.2
    simp (disch := omega) only [q_261_53, b_261_53, q_261_78, b_261_78, ↓w_aload_n_0, ↓w_iload_n_1, ↓w_getfield, ↓w_putfield_0, ↓w_goto, ↓w_ifCond_ne, ↓w_if_icmp_le, ↓w_return, ↓w_invokevirtual_0, stw_0, stw_i, stw_l, stw_r, ofK0, ofK1, ofK2, lst1, lst2, lkill, kont_none, kont_some, Int.reduceToNat, List.length_cons, List.length_nil, Nat.reduceAdd, Nat.reduceLeDiff, Nat.zero_le, true_and, and_true, if_true, if_false, ne_eq, Int.reduceEq, Int.reduceNeg, not_false_eq_true, not_true_eq_false, ↓reduceIte, Int.reduceLT, Int.reduceLE, and_self, or_true, true_or, or_false, false_or, false_and, and_false, ah_t_w, ah_m_w, ah_n_w, lst1_0, List.tail_cons, w32_i, zbd, lst2_0, mt_1036a hB.1, e5, hk]
    exact hq0 _ kk pp e (BX_w5 hB) (by unfold CB; rw [ah_m_w, if_neg (by omega)]; exact hC) (Off_w hO' (by unfold WZ; omega))
  -- one round
  have round : ∀ h' k' w' cs' o', MQs hm t n k' W w' cs' o' h' → (∀ tl, wpB (d + 5) 262 2 (some (.inr (.inr 1036)) :: some (.inl 1) :: tl) [] h' (kont (d + 6) 261 (b_261_15.drop 7) 0 L [] Q)) → wpB (d + 6) 261 15 [some (.inr (.inr 1036)), some (.inl b), some (.inl 1)] [] h' Q := by
    intro h' k' w' cs' o' hQ' hP
    have h5' := hQ'.1.2.2.2.2.1
    rw [q_261_15]
    simp (disch := omega) only [b_261_15, ↓w_iconst, ↓w_aload_n_0, ↓w_iload_n_2, ↓w_getfield, ↓w_goto, ↓w_ifCond_eq, ↓w_ifCond_ne, ↓w_invokevirtual_0, stw_0, stw_i, stw_l, stw_r, ofK0, ofK1, ofK2, lst1, lst2, lkill, kont_none, kont_some, Int.reduceToNat, List.length_cons, List.length_nil, Nat.reduceAdd, Nat.reduceLeDiff, Nat.zero_le, true_and, and_true, if_true, if_false, ne_eq, Int.reduceEq, Int.reduceNeg, not_false_eq_true, not_true_eq_false, ↓reduceIte, Int.reduceLT, Int.reduceLE, and_self, or_true, true_or, or_false, false_or, false_and, and_false, ah_t_w, ah_m_w, ah_n_w, lst1_0, List.tail_cons, w32_i, zbd, lst2_0, mt_1036a hQ'.1.1, h5']
    rw [wpC_B]; refine ⟨⟨Nat.zero_lt_succ _, Nat.le_of_ble_eq_true rfl⟩, ?_⟩; simp only [lent]
    simp (disch := omega) only [q_262_0, b_262_0, ↓w_iconst, ↓w_istore_n_1, ↓w_nop, stw_0, stw_i, stw_l, stw_r, ofK0, ofK1, ofK2, lst1, lst2, lkill, kont_none, kont_some, Int.reduceToNat, List.length_cons, List.length_nil, Nat.reduceAdd, Nat.reduceLeDiff, Nat.zero_le, true_and, and_true, if_true, if_false, ne_eq, Int.reduceEq, Int.reduceNeg, not_false_eq_true, not_true_eq_false, ↓reduceIte, Int.reduceLT, Int.reduceLE, and_self, or_true, true_or, or_false, false_or, false_and, and_false, ah_t_w, ah_m_w, ah_n_w, lst1_0, List.tail_cons, w32_i, zbd, lst2_0]
    have := hP []
    rw [← eL] at this
    exact this
  rw [← eL]
  refine round h1 k [] cs o hQ1 (fun tl => ?_)
  have hdr12 : b_261_15.drop 12 = b_261_15.drop 12 := rfl
  have hK2 : ∀ k' w' cs' o' h', MQb W w' cs' k' o' → MQs hm t n k' W w' cs' o' h' → Off WQ h1 h' → (∀ tl, wpB (d + 5) 262 2 (some (.inr (.inr 1036)) :: some (.inl 1) :: tl) [] h' (kont (d + 6) 261 (b_261_15.drop 7) 0 L [] Q)) → kont (d + 6) 261 (b_261_15.drop 12) 0 L [] Q (.inl (some (.inl 1))) h' := by
    intro k' w' cs' o' h' _ hQ' _ hP
    rw [hK2e, ← eL]
    simp (disch := omega) only [b_261_15, q_261_49, b_261_49, ↓w_iconst, ↓w_aload_n_0, ↓w_iload_n_2, ↓w_istore_n_2, ↓w_getfield, ↓w_goto, ↓w_ifCond_eq, ↓w_ifCond_ne, ↓w_invokevirtual_0, stw_0, stw_i, stw_l, stw_r, ofK0, ofK1, ofK2, lst1, lst2, lkill, kont_none, kont_some, Int.reduceToNat, List.length_cons, List.length_nil, Nat.reduceAdd, Nat.reduceLeDiff, Nat.zero_le, true_and, and_true, if_true, if_false, ne_eq, Int.reduceEq, Int.reduceNeg, not_false_eq_true, not_true_eq_false, ↓reduceIte, Int.reduceLT, Int.reduceLE, and_self, or_true, true_or, or_false, false_or, false_and, and_false, ah_t_w, ah_m_w, ah_n_w, lst1_0, List.tail_cons, w32_i, zbd, lst2_0, List.drop]
    exact round h' k' w' cs' o' hQ' hP
  have hK1 : ∀ k' w' cs' o' h', MQb W w' cs' k' o' → MQs hm t n k' W w' cs' o' h' → Off WQ h1 h' → wpB (d + 5) 271 0 [some (.inr (.inr 1036))] [] h' (kont (d + 6) 261 (b_261_15.drop 12) 0 L [] Q) → kont (d + 6) 261 (b_261_15.drop 7) 0 L [] Q (.inl none) h' := by
    intro k' w' cs' o' h' _ hQ' _ hP
    have h5' := hQ'.1.2.2.2.2.1
    rw [hK1e, ← eL]
    simp (disch := omega) only [b_261_15, ↓w_iconst, ↓w_aload_n_0, ↓w_iload_n_2, ↓w_getfield, ↓w_goto, ↓w_ifCond_eq, ↓w_ifCond_ne, ↓w_invokevirtual_0, stw_0, stw_i, stw_l, stw_r, ofK0, ofK1, ofK2, lst1, lst2, lkill, kont_none, kont_some, Int.reduceToNat, List.length_cons, List.length_nil, Nat.reduceAdd, Nat.reduceLeDiff, Nat.zero_le, true_and, and_true, if_true, if_false, ne_eq, Int.reduceEq, Int.reduceNeg, not_false_eq_true, not_true_eq_false, ↓reduceIte, Int.reduceLT, Int.reduceLE, and_self, or_true, true_or, or_false, false_or, false_and, and_false, ah_t_w, ah_m_w, ah_n_w, lst1_0, List.tail_cons, w32_i, zbd, lst2_0, mt_1036a hQ'.1.1, List.drop, h5']
    rw [wpC_B]; refine ⟨⟨Nat.zero_lt_succ _, Nat.le_of_ble_eq_true rfl⟩, ?_⟩; simp only [lent]
    rw [← eL] at hP
    exact hP
  have hFF : ∀ kk pp, zex hm t n (zF n) 0 k o = .inl (kk, pp) → FFw (kont (d + 6) 261 (b_261_15.drop 7) 0 L [] Q) (kont (d + 6) 261 (b_261_15.drop 12) 0 L [] Q) h1 kk pp := by
    intro kk pp e h' hB hC hO'
    have e5 := hB.2.1; have hk := hB.2.2.2
    have hO2 : Off WZ h h' := Off_tr hO1 (Off_mono (fun r i w => Or.inl w) hO')
    have b15 : wpB (d + 6) 261 15 [some (.inr (.inr 1036)), some (.inl b), some (.inl 0)] [] h' Q := by
      simp (disch := omega) only [q_261_15, b_261_15, ↓w_iconst, ↓w_aload_n_0, ↓w_iload_n_2, ↓w_getfield, ↓w_goto, ↓w_ifCond_eq, ↓w_ifCond_ne, ↓w_invokevirtual_0, stw_0, stw_i, stw_l, stw_r, ofK0, ofK1, ofK2, lst1, lst2, lkill, kont_none, kont_some, Int.reduceToNat, List.length_cons, List.length_nil, Nat.reduceAdd, Nat.reduceLeDiff, Nat.zero_le, true_and, and_true, if_true, if_false, ne_eq, Int.reduceEq, Int.reduceNeg, not_false_eq_true, not_true_eq_false, ↓reduceIte, Int.reduceLT, Int.reduceLE, and_self, or_true, true_or, or_false, false_or, false_and, and_false, ah_t_w, ah_m_w, ah_n_w, lst1_0, List.tail_cons, w32_i, zbd, lst2_0]
      exact bad53 h' kk pp 0 hB hC hO2 e
    constructor
    · rw [hK1e, ← eL]
      simp (disch := omega) only [b_261_15, q_261_48, b_261_48, q_261_49, b_261_49, ↓w_iconst, ↓w_aload_n_0, ↓w_iload_n_2, ↓w_istore_n_2, ↓w_getfield, ↓w_nop, ↓w_goto, ↓w_ifCond_eq, ↓w_ifCond_ne, ↓w_invokevirtual_0, stw_0, stw_i, stw_l, stw_r, ofK0, ofK1, ofK2, lst1, lst2, lkill, kont_none, kont_some, Int.reduceToNat, List.length_cons, List.length_nil, Nat.reduceAdd, Nat.reduceLeDiff, Nat.zero_le, true_and, and_true, if_true, if_false, ne_eq, Int.reduceEq, Int.reduceNeg, not_false_eq_true, not_true_eq_false, ↓reduceIte, Int.reduceLT, Int.reduceLE, and_self, or_true, true_or, or_false, false_or, false_and, and_false, ah_t_w, ah_m_w, ah_n_w, lst1_0, List.tail_cons, w32_i, zbd, lst2_0, mt_1036a hB.1, List.drop, e5, hk]
      exact b15
    · rw [hK2e, ← eL]
      simp (disch := omega) only [b_261_15, q_261_48, b_261_48, q_261_49, b_261_49, ↓w_iconst, ↓w_aload_n_0, ↓w_iload_n_2, ↓w_istore_n_2, ↓w_getfield, ↓w_nop, ↓w_goto, ↓w_ifCond_eq, ↓w_ifCond_ne, ↓w_invokevirtual_0, stw_0, stw_i, stw_l, stw_r, ofK0, ofK1, ofK2, lst1, lst2, lkill, kont_none, kont_some, Int.reduceToNat, List.length_cons, List.length_nil, Nat.reduceAdd, Nat.reduceLeDiff, Nat.zero_le, true_and, and_true, if_true, if_false, ne_eq, Int.reduceEq, Int.reduceNeg, not_false_eq_true, not_true_eq_false, ↓reduceIte, Int.reduceLT, Int.reduceLE, and_self, or_true, true_or, or_false, false_or, false_and, and_false, ah_t_w, ah_m_w, ah_n_w, lst1_0, List.tail_cons, w32_i, zbd, lst2_0, List.drop]
      exact b15
  have hsum := (zsim (hm := hm) (t := t) (n := n) (sA (hm := hm) (t := t) (n := n) (w0 := W) (h0 := h1) (d := d) hK1) (sE (hm := hm) (t := t) (n := n)) (sG (hm := hm) (t := t) (n := n) (w0 := W) (h0 := h1) (d := d) hK2 hW) (zF n)).2.2.1 k [] cs o hbk.1 hbk.2.1 trivial
  have hpr := zex_pr (hm := hm) (t := t) (n := n) (zF n) 0 k o hbk.1 hbk.2.1 (by omega) (by omega)
  refine hsum ?_ ⟨by simp; omega, by simp [zoc]; omega, ho.2⟩ h1 tl hQ1 Off_rfl
  cases e : zex hm t n (zF n) 0 k o with
  | inl x =>
    obtain ⟨kk, pp⟩ := x
    refine ⟨fun q => ?_, hFF kk pp e⟩
    have q : kk = 99 := q
    exact hpr.2 (by simp [zrk, zF]; omega) pp (by rw [e, q])
  | inr x =>
    obtain ⟨k1, c1⟩ := x
    have hj := hpr.1 k1 c1 e
    have jn := hj.2.2.2.2.2.1 rfl
    show SG t n _ _ _ _ k1 [] (cs ++ c1) o
    have hs1 := @zsk_le k1 n t hj.2.1
    unfold SG
    have eb : zbr [] = -1 := rfl
    unfold zop34 zop12 at jn
    rw [eb, if_neg (fun q => by omega), if_neg jn.1, if_neg jn.2, if_neg (by decide), if_neg (by decide)]
    intro w' cs' h' ec hb' hQ' hO'
    rw [List.append_nil] at ec
    rw [hK2e, ← eL]
    simp (disch := omega) only [b_261_15, q_261_15, b_261_15, q_261_48, b_261_48, q_261_49, b_261_49, ↓w_iconst, ↓w_aload_n_0, ↓w_iload_n_2, ↓w_istore_n_2, ↓w_getfield, ↓w_nop, ↓w_goto, ↓w_ifCond_eq, ↓w_ifCond_ne, ↓w_invokevirtual_0, stw_0, stw_i, stw_l, stw_r, ofK0, ofK1, ofK2, lst1, lst2, lkill, kont_none, kont_some, Int.reduceToNat, List.length_cons, List.length_nil, Nat.reduceAdd, Nat.reduceLeDiff, Nat.zero_le, true_and, and_true, if_true, if_false, ne_eq, Int.reduceEq, Int.reduceNeg, not_false_eq_true, not_true_eq_false, ↓reduceIte, Int.reduceLT, Int.reduceLE, and_self, or_true, true_or, or_false, false_or, false_and, and_false, ah_t_w, ah_m_w, ah_n_w, lst1_0, List.tail_cons, w32_i, zbd, lst2_0, List.drop]
    have hbl := hb'.1
    refine l_261z (h := h1) (fun h2 hZ2 hO2 => ?_) w' cs' h' hQ' (Off_mono (fun r i w => Or.inl w) hO') (by omega) ec.symm
    have ezk : zsk t n k1 = k1 := zex_s0 hbk.1 hbk.2.1 e
    rw [ezk] at hZ2
    exact hq1 h2 k1 c1 e hZ2 (Off_tr hO1 hO2)
end Q7
