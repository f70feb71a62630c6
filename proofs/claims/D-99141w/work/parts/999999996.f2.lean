/-! ===== X: a question meets a man ===== -/
/-- what X's question holds against the spec's (value, whether none yet) -/
def QRl (kd mt rs : Int) (a : Int × Bool) : Prop := (mt = 0 ∨ mt = 1) ∧ (mt = 0 → rs = -1 ∧ a.1 = (if kd < 2 then -1 else 0) ∧ (3 < kd → a.2 = true)) ∧ (mt = 1 → rs = a.1 ∧ (3 < kd → a.2 = false) ∧ (kd = 0 → 0 ≤ rs) ∧ (kd = 2 → 0 ≤ rs))
section F2
variable {W' : Int → Int → Prop} {d : Nat} {h h' h1 h2 h0 : AH} {Q : QQ} {x y z k s b v n p q r o i N lo hi A B E kd mt rs V : Int} {a : Int × Bool} {S T T' : Int → Int → Int} {t nw nw' pt of tp : Int → Int} {tl : ALoc} {w u W l cs c c1 c2 : List Int} {hm : Bool} {D f : Nat} {its : List (List Int)}
set_option maxHeartbeats 4000000
theorem QRl_ans (hr : QRl kd mt rs a) : (if mt = 0 ∧ 2 ≤ kd then 0 else rs) = a.1 := by
  obtain ⟨h1, h2, h3⟩ := hr
  rcases h1 with e | e
  · have := h2 e
    by_cases g : kd < 2
    · rw [if_neg (by omega)]; rw [if_pos g] at this; omega
    · rw [if_pos (by omega)]; rw [if_neg g] at this; omega
  · rw [if_neg (by omega)]; exact (h3 e).1.symm ▸ rfl
theorem zqf_0 : zqf 0 v i a = (if v = 1 ∧ a.1 = -1 then i else a.1, false) := rfl
theorem zqf_1 : zqf 1 v i a = (if v = 1 then i else a.1, false) := rfl
theorem zqf_2 : zqf 2 v i a = (if v = 1 then a.1 + 1 else a.1, false) := rfl
theorem zqf_3 : zqf 3 v i a = (a.1 + v, false) := rfl
theorem zqf_4 : zqf 4 v i a = (if a.2 = true ∨ a.1 < v then v else a.1, false) := rfl
theorem zqf_5 : zqf 5 v i a = (if a.2 = true ∨ v < a.1 then v else a.1, false) := rfl
theorem QRl_0 (hr : QRl kd mt rs a) (h3 : kd = 0 ∨ kd = 1 ∨ kd = 2) : QRl kd mt rs (zqf kd 0 i a) := by
  obtain ⟨a1, a2, a3⟩ := hr
  rcases h3 with e | e | e <;> subst e
  · rw [zqf_0, if_neg (by omega)]; exact ⟨a1, fun q => ⟨(a2 q).1, (a2 q).2.1, fun z => absurd z (by decide)⟩, fun q => ⟨(a3 q).1, fun _ => rfl, (a3 q).2.2⟩⟩
  · rw [zqf_1, if_neg (by omega)]; exact ⟨a1, fun q => ⟨(a2 q).1, (a2 q).2.1, fun z => absurd z (by decide)⟩, fun q => ⟨(a3 q).1, fun _ => rfl, (a3 q).2.2⟩⟩
  · rw [zqf_2, if_neg (by omega)]; exact ⟨a1, fun q => ⟨(a2 q).1, (a2 q).2.1, fun z => absurd z (by decide)⟩, fun q => ⟨(a3 q).1, fun _ => rfl, (a3 q).2.2⟩⟩
/-- of a man: told to a question -/
theorem c_167 (hq : QSi h p kd c) (ev : EV false pt of h) (m4 : ah_m h p 4 = mt) (m3 : ah_m h p 3 = rs) (hr : QRl kd mt rs a) (hi : 0 ≤ i ∧ i ≤ 100) (ha : -100000000 ≤ a.1 ∧ a.1 ≤ 100000000)
    (hQ : ∀ h' mt' rs', Off (fun r j => r = p ∧ (j = 3 ∨ j = 4)) h h' → ah_m h' p 3 = rs' → ah_m h' p 4 = mt' → QRl kd mt' rs' (zqf kd (ztop (zrun pt of c [])) i a) → Q (.inl none) h') : wpC (d + 46) 167 [.inr (.inr p), .inl i, .inr (.inr 15)] h Q := by
  obtain ⟨tp, hp, m0, hk, i1, j1, hpi, hv⟩ := hq
  have t1 : (ah_t h p).1 = 20 := by rw [tp]
  have p0 : 0 < p := by omega
  have ag1 : AgI i1 j1 h h := fun r _ _ => ⟨rfl, fun _ => rfl⟩
  have set : ∀ rs', QRl kd 1 rs' (zqf kd (ztop (zrun pt of c [])) i a) → Q (.inl none) (ah_w (ah_w h p 3 rs') p 4 1) := fun rs' hr' =>
    hQ _ 1 rs' (Off_w (Off_w Off_rfl ⟨rfl, Or.inl rfl⟩) ⟨rfl, Or.inr rfl⟩) (by rw [ah_m_w, if_neg (by omega), ah_m_w, if_pos ⟨rfl, rfl⟩]) (by rw [ah_m_w, if_pos ⟨rfl, rfl⟩]) hr'
  have same := hQ h mt rs Off_rfl m3 m4
  have hr0 := hr
  obtain ⟨a1, a2, a3⟩ := hr
  rcases hv with ⟨h3, hv⟩ | ⟨h3, hv⟩
  · have hv := TSi_deep hv (show 43 ≤ d + 45 by omega)
    have x01 := ztop_01 (pt := pt) (of := of) hv.2.2.1
    have nge : ¬ 3 ≤ kd := by omega
    have lt : kd < 3 := h3
    rw [wpC_B]; refine ⟨⟨Nat.zero_lt_succ _, Nat.le_of_ble_eq_true rfl⟩, ?_⟩; simp only [lent]
    simp (disch := omega) only [q_167_0, b_167_0, ↓w_iconst, ↓w_aload_n_0, ↓w_aload_n_2, ↓w_getfield, ↓w_ifCond_ne, ↓w_if_icmp_ge, ↓w_return, ↓w_invokevirtual_1, stw_0, stw_i, stw_l, stw_r, ofK0, ofK1, ofK2, lst1, lst2, lkill, kont_none, kont_some, Int.reduceToNat, List.length_cons, List.length_nil, Nat.reduceAdd, Nat.reduceLeDiff, Nat.zero_le, true_and, and_true, if_true, if_false, ne_eq, Int.reduceEq, Int.reduceNeg, not_false_eq_true, not_true_eq_false, ↓reduceIte, Int.reduceLT, Int.reduceLE, and_self, or_true, true_or, or_false, false_or, false_and, and_false, ah_t_w, ah_m_w, ah_n_w, lst1_0, List.tail_cons, w32_i, zbd, lst2_0, t1, m0, nge, lt]
    refine clTx hv ag1 ev (by simp [stw]) ?_
    generalize ztop (zrun pt of c []) = X at *
    have k3 : kd = 0 ∨ kd = 1 ∨ kd = 2 := by omega
    rcases x01 with e | e <;> subst e
    · simp (disch := omega) only [b_167_0, ↓w_iconst, ↓w_aload_n_0, ↓w_aload_n_2, ↓w_getfield, ↓w_ifCond_ne, ↓w_if_icmp_ge, ↓w_return, ↓w_invokevirtual_1, stw_0, stw_i, stw_l, stw_r, ofK0, ofK1, ofK2, lst1, lst2, lkill, kont_none, kont_some, Int.reduceToNat, List.length_cons, List.length_nil, Nat.reduceAdd, Nat.reduceLeDiff, Nat.zero_le, true_and, and_true, if_true, if_false, ne_eq, Int.reduceEq, Int.reduceNeg, not_false_eq_true, not_true_eq_false, ↓reduceIte, Int.reduceLT, Int.reduceLE, and_self, or_true, true_or, or_false, false_or, false_and, and_false, ah_t_w, ah_m_w, ah_n_w, lst1_0, List.tail_cons, w32_i, zbd, lst2_0]
      exact same (QRl_0 hr0 k3)
    · rcases k3 with e | e | e <;> subst e
      · rw [zqf_0] at set
        rcases a1 with q | q
        · rw [q] at m4
          have := a2 q
          simp (disch := omega) only [b_167_0, q_167_20, b_167_20, q_167_42, b_167_42, q_167_63, b_167_63, q_167_65, b_167_65, ↓w_iconst, ↓w_lconst, ↓w_aload_n_0, ↓w_iload_n_1, ↓w_aload_n_2, ↓w_ladd, ↓w_i2l, ↓w_getfield, ↓w_putfield_1, ↓w_putfield_3, ↓w_nop, ↓w_goto, ↓w_ifCond_eq, ↓w_ifCond_ne, ↓w_if_icmp_ne, ↓w_if_icmp_ge, ↓w_return, ↓w_invokevirtual_1, ↓w_invokestatic_2, stw_0, stw_i, stw_l, stw_r, ofK0, ofK1, ofK2, lst1, lst2, lkill, kont_none, kont_some, Int.reduceToNat, List.length_cons, List.length_nil, Nat.reduceAdd, Nat.reduceLeDiff, Nat.zero_le, true_and, and_true, if_true, if_false, ne_eq, Int.reduceEq, Int.reduceNeg, not_false_eq_true, not_true_eq_false, ↓reduceIte, Int.reduceLT, Int.reduceLE, and_self, or_true, true_or, or_false, false_or, false_and, and_false, ah_t_w, ah_m_w, ah_n_w, lst1_0, List.tail_cons, w32_i, zbd, lst2_0, t1, m0, m4, p0]
          refine set i ⟨Or.inr rfl, fun z => absurd z (by decide), fun _ => ⟨?_, fun z => rfl, fun _ => hi.1, fun z => absurd z (by decide)⟩⟩
          have e1 : a.1 = -1 := this.2.1
          show i = _
          rw [if_pos ⟨rfl, e1⟩]
        · rw [q] at m4
          have := a3 q
          simp (disch := omega) only [b_167_0, q_167_20, b_167_20, q_167_42, b_167_42, q_167_65, b_167_65, ↓w_iconst, ↓w_lconst, ↓w_aload_n_0, ↓w_aload_n_2, ↓w_ladd, ↓w_getfield, ↓w_putfield_1, ↓w_putfield_3, ↓w_goto, ↓w_ifCond_eq, ↓w_ifCond_ne, ↓w_if_icmp_ne, ↓w_if_icmp_ge, ↓w_return, ↓w_invokevirtual_1, ↓w_invokestatic_2, stw_0, stw_i, stw_l, stw_r, ofK0, ofK1, ofK2, lst1, lst2, lkill, kont_none, kont_some, Int.reduceToNat, List.length_cons, List.length_nil, Nat.reduceAdd, Nat.reduceLeDiff, Nat.zero_le, true_and, and_true, if_true, if_false, ne_eq, Int.reduceEq, Int.reduceNeg, not_false_eq_true, not_true_eq_false, ↓reduceIte, Int.reduceLT, Int.reduceLE, and_self, or_true, true_or, or_false, false_or, false_and, and_false, ah_t_w, ah_m_w, ah_n_w, lst1_0, List.tail_cons, w32_i, zbd, lst2_0, t1, m0, m4, m3, p0]
          refine set rs ⟨Or.inr rfl, fun z => absurd z (by decide), fun _ => ⟨?_, fun z => rfl, fun _ => this.2.2.1 rfl, fun z => absurd z (by decide)⟩⟩
          have := this.2.2.1 rfl
          show rs = _
          rw [if_neg (by omega)]; omega
      · rw [zqf_1] at set
        simp (disch := omega) only [b_167_0, q_167_20, b_167_20, q_167_42, b_167_42, q_167_63, b_167_63, q_167_65, b_167_65, ↓w_iconst, ↓w_lconst, ↓w_aload_n_0, ↓w_iload_n_1, ↓w_aload_n_2, ↓w_ladd, ↓w_i2l, ↓w_getfield, ↓w_putfield_1, ↓w_putfield_3, ↓w_nop, ↓w_goto, ↓w_ifCond_eq, ↓w_ifCond_ne, ↓w_if_icmp_ne, ↓w_if_icmp_ge, ↓w_return, ↓w_invokevirtual_1, ↓w_invokestatic_2, stw_0, stw_i, stw_l, stw_r, ofK0, ofK1, ofK2, lst1, lst2, lkill, kont_none, kont_some, Int.reduceToNat, List.length_cons, List.length_nil, Nat.reduceAdd, Nat.reduceLeDiff, Nat.zero_le, true_and, and_true, if_true, if_false, ne_eq, Int.reduceEq, Int.reduceNeg, not_false_eq_true, not_true_eq_false, ↓reduceIte, Int.reduceLT, Int.reduceLE, and_self, or_true, true_or, or_false, false_or, false_and, and_false, ah_t_w, ah_m_w, ah_n_w, lst1_0, List.tail_cons, w32_i, zbd, lst2_0, t1, m0, p0]
        refine set i ⟨Or.inr rfl, fun z => absurd z (by decide), fun _ => ⟨?_, fun z => rfl, fun z => absurd z (by decide), fun z => absurd z (by decide)⟩⟩
        show i = _
        rw [if_pos rfl]
      · rw [zqf_2] at set
        have hrs : (if (0 : Int) < rs then rs else 0) = a.1 := by
          rcases a1 with q | q
          · have := a2 q
            have e1 : a.1 = 0 := this.2.1
            rw [if_neg (by omega)]; omega
          · have := a3 q
            have := this.2.2.2 rfl
            split <;> omega
        have e64 : w64 (a.1 + 1) = a.1 + 1 := w64_i (by omega) (by omega)
        simp (disch := omega) only [b_167_0, q_167_20, b_167_20, q_167_65, b_167_65, ↓w_iconst, ↓w_lconst, ↓w_aload_n_0, ↓w_aload_n_2, ↓w_ladd, ↓w_getfield, ↓w_putfield_1, ↓w_putfield_3, ↓w_goto, ↓w_ifCond_ne, ↓w_if_icmp_ne, ↓w_if_icmp_ge, ↓w_return, ↓w_invokevirtual_1, ↓w_invokestatic_2, stw_0, stw_i, stw_l, stw_r, ofK0, ofK1, ofK2, lst1, lst2, lkill, kont_none, kont_some, Int.reduceToNat, List.length_cons, List.length_nil, Nat.reduceAdd, Nat.reduceLeDiff, Nat.zero_le, true_and, and_true, if_true, if_false, ne_eq, Int.reduceEq, Int.reduceNeg, not_false_eq_true, not_true_eq_false, ↓reduceIte, Int.reduceLT, Int.reduceLE, and_self, or_true, true_or, or_false, false_or, false_and, and_false, ah_t_w, ah_m_w, ah_n_w, lst1_0, List.tail_cons, w32_i, zbd, lst2_0, t1, m0, m3, p0, c_21, hrs, e64]
        refine set (a.1 + 1) ⟨Or.inr rfl, fun z => absurd z (by decide), fun _ => ⟨?_, fun z => rfl, fun z => absurd z (by decide), fun z => ?_⟩⟩
        · show a.1 + 1 = _
          rw [if_pos rfl]
        · have : 0 ≤ a.1 := by rw [← hrs]; split <;> omega
          omega
  · have hv := VSi_deep hv (show 40 ≤ d + 45 by omega)
    have xb := ztop_b (pt := pt) (of := of) hv.2.2.1
    have nge : 3 ≤ kd := by omega
    have lt : ¬ kd < 3 := by omega
    rw [wpC_B]; refine ⟨⟨Nat.zero_lt_succ _, Nat.le_of_ble_eq_true rfl⟩, ?_⟩; simp only [lent]
    simp (disch := omega) only [q_167_0, b_167_0, q_167_74, b_167_74, ↓w_iconst, ↓w_aload_n_0, ↓w_aload_n_2, ↓w_lload_n_3, ↓w_lstore_n_3, ↓w_getfield, ↓w_goto, ↓w_ifCond_ne, ↓w_if_icmp_ge, ↓w_return, ↓w_invokevirtual_1, stw_0, stw_i, stw_l, stw_r, ofK0, ofK1, ofK2, lst1, lst2, lkill, kont_none, kont_some, Int.reduceToNat, List.length_cons, List.length_nil, Nat.reduceAdd, Nat.reduceLeDiff, Nat.zero_le, true_and, and_true, if_true, if_false, ne_eq, Int.reduceEq, Int.reduceNeg, not_false_eq_true, not_true_eq_false, ↓reduceIte, Int.reduceLT, Int.reduceLE, and_self, or_true, true_or, or_false, false_or, false_and, and_false, ah_t_w, ah_m_w, ah_n_w, lst1_0, List.tail_cons, w32_i, zbd, lst2_0, t1, m0, nge, lt]
    refine clVx (hm := false) hv ag1 ev (by simp [stw]) ?_
    generalize ztop (zrun pt of c []) = X at *
    have k3 : kd = 3 ∨ kd = 4 ∨ kd = 5 := by omega
    rcases a1 with q | q
    · rw [q] at m4
      have h2 := a2 q
      simp (disch := omega) only [b_167_74, q_167_139, b_167_139, ↓w_iconst, ↓w_aload_n_0, ↓w_aload_n_2, ↓w_lload_n_3, ↓w_lstore_n_3, ↓w_getfield, ↓w_putfield_1, ↓w_putfield_3, ↓w_goto, ↓w_ifCond_ne, ↓w_return, ↓w_invokevirtual_1, stw_0, stw_i, stw_l, stw_r, ofK0, ofK1, ofK2, lst1, lst2, lkill, kont_none, kont_some, Int.reduceToNat, List.length_cons, List.length_nil, Nat.reduceAdd, Nat.reduceLeDiff, Nat.zero_le, true_and, and_true, if_true, if_false, ne_eq, Int.reduceEq, Int.reduceNeg, not_false_eq_true, not_true_eq_false, ↓reduceIte, Int.reduceLT, Int.reduceLE, and_self, or_true, true_or, or_false, false_or, false_and, and_false, ah_t_w, ah_m_w, ah_n_w, lst1_0, List.tail_cons, w32_i, zbd, lst2_0, t1, m4, p0]
      refine set X ⟨Or.inr rfl, fun z => absurd z (by decide), fun _ => ⟨?_, fun z => ?_, fun z => by omega, fun z => by omega⟩⟩
      · rcases k3 with e | e | e <;> subst e
        · rw [zqf_3]; have : a.1 = 0 := h2.2.1; show X = a.1 + X; omega
        · rw [zqf_4]; show X = _; rw [if_pos (Or.inl (h2.2.2 (by decide)))]
        · rw [zqf_5]; show X = _; rw [if_pos (Or.inl (h2.2.2 (by decide)))]
      · rcases k3 with e | e | e <;> subst e <;> rfl
    · rw [q] at m4
      have h2 := a3 q
      rcases k3 with e | e | e <;> subst e
      · have e64 : w64 (rs + X) = rs + X := w64_i (by omega) (by omega)
        simp (disch := omega) only [b_167_74, q_167_95, b_167_95, q_167_139, b_167_139, ↓w_iconst, ↓w_aload_n_0, ↓w_aload_n_2, ↓w_lload_n_3, ↓w_lstore_n_3, ↓w_ladd, ↓w_getfield, ↓w_putfield_1, ↓w_putfield_3, ↓w_goto, ↓w_ifCond_ne, ↓w_if_icmp_ne, ↓w_return, ↓w_invokevirtual_1, stw_0, stw_i, stw_l, stw_r, ofK0, ofK1, ofK2, lst1, lst2, lkill, kont_none, kont_some, Int.reduceToNat, List.length_cons, List.length_nil, Nat.reduceAdd, Nat.reduceLeDiff, Nat.zero_le, true_and, and_true, if_true, if_false, ne_eq, Int.reduceEq, Int.reduceNeg, not_false_eq_true, not_true_eq_false, ↓reduceIte, Int.reduceLT, Int.reduceLE, and_self, or_true, true_or, or_false, false_or, false_and, and_false, ah_t_w, ah_m_w, ah_n_w, lst1_0, List.tail_cons, w32_i, zbd, lst2_0, t1, m0, m4, m3, p0, e64]
        refine set (rs + X) ⟨Or.inr rfl, fun z => absurd z (by decide), fun _ => ⟨?_, fun z => rfl, fun z => absurd z (by decide), fun z => absurd z (by decide)⟩⟩
        rw [zqf_3]; show rs + X = a.1 + X; omega
      · simp (disch := omega) only [b_167_74, q_167_95, b_167_95, q_167_112, b_167_112, q_167_139, b_167_139, ↓w_iconst, ↓w_aload_n_0, ↓w_aload_n_2, ↓w_lload_n_3, ↓w_lstore_n_3, ↓w_ladd, ↓w_getfield, ↓w_putfield_1, ↓w_putfield_3, ↓w_goto, ↓w_ifCond_ne, ↓w_if_icmp_ne, ↓w_return, ↓w_invokevirtual_1, ↓w_invokestatic_2, stw_0, stw_i, stw_l, stw_r, ofK0, ofK1, ofK2, lst1, lst2, lkill, kont_none, kont_some, Int.reduceToNat, List.length_cons, List.length_nil, Nat.reduceAdd, Nat.reduceLeDiff, Nat.zero_le, true_and, and_true, if_true, if_false, ne_eq, Int.reduceEq, Int.reduceNeg, not_false_eq_true, not_true_eq_false, ↓reduceIte, Int.reduceLT, Int.reduceLE, and_self, or_true, true_or, or_false, false_or, false_and, and_false, ah_t_w, ah_m_w, ah_n_w, lst1_0, List.tail_cons, w32_i, zbd, lst2_0, t1, m0, m4, m3, p0, c_21]
        refine set _ ⟨Or.inr rfl, fun z => absurd z (by decide), fun _ => ⟨?_, fun z => rfl, fun z => absurd z (by decide), fun z => absurd z (by decide)⟩⟩
        rw [zqf_4, h2.2.1 (by decide)]
        show _ = if false = true ∨ a.1 < X then X else a.1
        rw [← h2.1]
        by_cases g : rs < X
        · rw [if_pos g, if_pos (Or.inr g)]
        · rw [if_neg g, if_neg (by simp; omega)]
      · simp (disch := omega) only [b_167_74, q_167_95, b_167_95, q_167_112, b_167_112, q_167_131, b_167_131, q_167_139, b_167_139, ↓w_iconst, ↓w_aload_n_0, ↓w_aload_n_2, ↓w_lload_n_3, ↓w_lstore_n_3, ↓w_ladd, ↓w_getfield, ↓w_putfield_1, ↓w_putfield_3, ↓w_nop, ↓w_goto, ↓w_ifCond_ne, ↓w_if_icmp_ne, ↓w_return, ↓w_invokevirtual_1, ↓w_invokestatic_2, stw_0, stw_i, stw_l, stw_r, ofK0, ofK1, ofK2, lst1, lst2, lkill, kont_none, kont_some, Int.reduceToNat, List.length_cons, List.length_nil, Nat.reduceAdd, Nat.reduceLeDiff, Nat.zero_le, true_and, and_true, if_true, if_false, ne_eq, Int.reduceEq, Int.reduceNeg, not_false_eq_true, not_true_eq_false, ↓reduceIte, Int.reduceLT, Int.reduceLE, and_self, or_true, true_or, or_false, false_or, false_and, and_false, ah_t_w, ah_m_w, ah_n_w, lst1_0, List.tail_cons, w32_i, zbd, lst2_0, t1, m0, m4, m3, p0, c_20]
        refine set _ ⟨Or.inr rfl, fun z => absurd z (by decide), fun _ => ⟨?_, fun z => rfl, fun z => absurd z (by decide), fun z => absurd z (by decide)⟩⟩
        rw [zqf_5, h2.2.1 (by decide)]
        show _ = if false = true ∨ X < a.1 then X else a.1
        rw [← h2.1]
        by_cases g : X < rs
        · rw [if_pos g, if_pos (Or.inr g)]
        · rw [if_neg g, if_neg (by simp; omega)]
/-- the answer -/
theorem c_168 (tp : ah_t h p = (20, 0)) (m0 : ah_m h p 0 = kd) (m4 : ah_m h p 4 = mt) (m3 : ah_m h p 3 = rs) (hr : QRl kd mt rs a) : wpC (d + 1) 168 [.inr (.inr p)] h Q ↔ Q (.inl (some (.inr (.inl a.1)))) h := by
  have t1 : (ah_t h p).1 = 20 := by rw [tp]
  rw [← QRl_ans hr]
  apply CT_iff; apply CT_of; rw [wpC_B]; refine ⟨⟨Nat.zero_lt_succ _, Nat.le_of_ble_eq_true rfl⟩, ?_⟩; simp only [lent]
  rcases hr.1 with e | e <;> subst e
  · by_cases g : 2 ≤ kd
    · have g' : ¬ kd < 2 := by omega
      rw [if_pos ⟨rfl, g⟩]
      simp (disch := omega) only [q_168_0, b_168_0, q_168_15, b_168_15, q_168_22, b_168_22, q_168_23, b_168_23, ↓w_iconst, ↓w_lconst, ↓w_aload_n_0, ↓w_getfield, ↓w_nop, ↓w_goto, ↓w_ifCond_ne, ↓w_if_icmp_ge, ↓w_lreturn, stw_0, stw_i, stw_l, stw_r, ofK0, ofK1, ofK2, lst1, lst2, lkill, kont_none, kont_some, Int.reduceToNat, List.length_cons, List.length_nil, Nat.reduceAdd, Nat.reduceLeDiff, Nat.zero_le, true_and, and_true, if_true, if_false, ne_eq, Int.reduceEq, Int.reduceNeg, not_false_eq_true, not_true_eq_false, ↓reduceIte, Int.reduceLT, Int.reduceLE, and_self, or_true, true_or, or_false, false_or, false_and, and_false, ah_t_w, ah_m_w, ah_n_w, lst1_0, List.tail_cons, w32_i, zbd, lst2_0, t1, m0, m4, m3, g, g']
    · have g' : kd < 2 := by omega
      rw [if_neg (by omega)]
      simp (disch := omega) only [q_168_0, b_168_0, q_168_15, b_168_15, q_168_22, b_168_22, q_168_23, b_168_23, ↓w_iconst, ↓w_lconst, ↓w_aload_n_0, ↓w_getfield, ↓w_nop, ↓w_goto, ↓w_ifCond_ne, ↓w_if_icmp_ge, ↓w_lreturn, stw_0, stw_i, stw_l, stw_r, ofK0, ofK1, ofK2, lst1, lst2, lkill, kont_none, kont_some, Int.reduceToNat, List.length_cons, List.length_nil, Nat.reduceAdd, Nat.reduceLeDiff, Nat.zero_le, true_and, and_true, if_true, if_false, ne_eq, Int.reduceEq, Int.reduceNeg, not_false_eq_true, not_true_eq_false, ↓reduceIte, Int.reduceLT, Int.reduceLE, and_self, or_true, true_or, or_false, false_or, false_and, and_false, ah_t_w, ah_m_w, ah_n_w, lst1_0, List.tail_cons, w32_i, zbd, lst2_0, t1, m0, m4, m3, g, g']
  · rw [if_neg (by omega)]
    simp (disch := omega) only [q_168_0, b_168_0, q_168_15, b_168_15, q_168_22, b_168_22, q_168_23, b_168_23, ↓w_iconst, ↓w_lconst, ↓w_aload_n_0, ↓w_getfield, ↓w_nop, ↓w_goto, ↓w_ifCond_ne, ↓w_if_icmp_ge, ↓w_lreturn, stw_0, stw_i, stw_l, stw_r, ofK0, ofK1, ofK2, lst1, lst2, lkill, kont_none, kont_some, Int.reduceToNat, List.length_cons, List.length_nil, Nat.reduceAdd, Nat.reduceLeDiff, Nat.zero_le, true_and, and_true, if_true, if_false, ne_eq, Int.reduceEq, Int.reduceNeg, not_false_eq_true, not_true_eq_false, ↓reduceIte, Int.reduceLT, Int.reduceLE, and_self, or_true, true_or, or_false, false_or, false_and, and_false, ah_t_w, ah_m_w, ah_n_w, lst1_0, List.tail_cons, w32_i, zbd, lst2_0, t1, m0, m4, m3]
end F2
