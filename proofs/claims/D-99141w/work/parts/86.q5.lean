/-! ===== M: a part is told, what goes on behind it ===== -/
def PGw (hm : Bool) (t : Int → Int) (n : Int) (w0 : List Int) (d : Nat) (K2 : QQ) (h0 : AH) (k : Int) (w cs : List Int) (o : Int) : Prop := MQb w0 w cs k o → ∀ h, MQs hm t n k w0 w cs o h → Off WQ h0 h → wpB (d + 5) 271 0 [some (.inr (.inr 1036))] [] h K2
def PEw (hm : Bool) (t : Int → Int) (n : Int) (w0 : List Int) (d : Nat) (K2 : QQ) (h0 : AH) (k : Int) (w cs : List Int) (o : Int) : Prop := PGw hm t n w0 d K2 h0 k (z60 w).2 (cs ++ (z60 w).1) (o - (z60 w).1.length)
def PAw (hm : Bool) (t : Int → Int) (n : Int) (w0 : List Int) (d : Nat) (K1 : QQ) (h0 : AH) (k : Int) (w cs : List Int) (o : Int) : Prop := MQb w0 w cs k o → ∀ h tl, MQs hm t n k w0 w cs o h → Off WQ h0 h → wpB (d + 5) 262 2 (some (.inr (.inr 1036)) :: some (.inl 1) :: tl) [] h K1
def CB (h : AH) : Prop := 0 ≤ ah_m h 1036 111 ∧ ah_m h 1036 111 ≤ 1690
def FFw (K1 K2 : QQ) (h0 : AH) (a b : Int) : Prop := ∀ h, BX a b h → CB h → Off WQ h0 h → K1 (.inl none) h ∧ K2 (.inl (some (.inl 0))) h
def PZw (hm : Bool) (t : Int → Int) (n : Int) (w0 : List Int) (K2 : QQ) (h0 : AH) (k : Int) (c : List Int) (o : Int) : Prop := ∀ w cs h, c = cs ++ w → MQb w0 w cs k o → MQs hm t n k w0 w cs o h → Off WQ h0 h → K2 (.inl (some (.inl 0))) h
section Q5
variable {d : Nat} {h h0 : AH} {Q K1 K2 : QQ} {x y z m k s l a b c v n p r o : Int} {t : Int → Int} {hm : Bool} {w0 w cs : List Int}
set_option maxHeartbeats 4000000
theorem sE : ∀ k w cs o, SE (PEw hm t n w0 d K2 h0) (PGw hm t n w0 d K2 h0) k w cs o → PEw hm t n w0 d K2 h0 k w cs o := by
  intro k w cs o hS
  unfold SE at hS
  unfold PEw at hS ⊢
  match w, hS with
  | [], hS =>
    simp only [z60, List.append_nil, List.length_nil, Int.natCast_zero, Int.cast_ofNat_Int, Int.sub_zero]
    exact hS
  | v :: w, hS =>
    simp only at hS
    simp only [z60]
    by_cases g : 60 ≤ v
    · rw [if_pos g] at hS ⊢
      simp only [List.append_assoc, List.cons_append, List.nil_append, List.length_cons] at hS ⊢
      have e : o - ((z60 w).1.length + 1 : Nat) = o - 1 - ((z60 w).1.length : Int) := by omega
      rw [e]; exact hS
    · rw [if_neg g] at hS ⊢
      simp only [List.append_nil, List.length_nil, Int.natCast_zero, Int.cast_ofNat_Int, Int.sub_zero]
      exact hS
theorem cb {W : Int → Int → Prop} {h' : AH} (hO : Off W h h') (hW : ¬ W 1036 111) (e : ah_m h 1036 111 = c) (hc : 0 ≤ c ∧ c ≤ 1690) : CB h' := by
  unfold CB; rw [hO.2 _ _ hW, e]; exact hc
theorem zqw_11 {p : Int} (e : zqw hm t n p = 11) : hm = false := by
  cases hm
  · rfl
  · exfalso; revert e; unfold zqw; simp only [if_true]
    repeat' split
    all_goals (intro q; first | omega | (simp at q))
theorem Wlx_Q {r i : Int} (w : Wlx r i) : WQ r i := by unfold Wlx at w; unfold WQ; omega
theorem Wat_Q {r i : Int} (w : Wat r i) : WQ r i := by unfold Wat at w; unfold WQ; omega
theorem Wat_lx {r i : Int} (w : Wat r i) : Wlx r i := by unfold Wat at w; unfold Wlx; omega
/-- at fault: qPartTold ends -/
theorem A_bad {tl : ALoc} {kk pp : Int} (hB : BX kk pp h) (hF : K1 (.inl none) h) (z1 : Int) : wpB (d + 5) 262 2 (some (.inr (.inr 1036)) :: some (.inl z1) :: tl) [] h K1 := by
  have e := hB.2.1; have hk := hB.2.2.2
  by_cases g : z1 = 0
  · simp (disch := omega) only [q_262_2, b_262_2, q_262_186, b_262_186, ↓w_iconst, ↓w_bipush, ↓w_aload_n_0, ↓w_iload_n_1, ↓w_iload_n_2, ↓w_istore_n_2, ↓w_istore_n_3, ↓w_dup_i, ↓w_dup_a, ↓w_iadd, ↓w_getfield, ↓w_putfield_0, ↓w_goto, ↓w_ifCond_eq, ↓w_ifCond_ne, ↓w_if_icmp_ne, ↓w_return, ↓w_invokevirtual_0, ↓w_invokevirtual_2, stw_0, stw_i, stw_l, stw_r, ofK0, ofK1, ofK2, lst1, lst2, lkill, kont_none, kont_some, Int.reduceToNat, List.length_cons, List.length_nil, Nat.reduceAdd, Nat.reduceLeDiff, Nat.zero_le, true_and, and_true, if_true, if_false, ne_eq, Int.reduceEq, Int.reduceNeg, not_false_eq_true, not_true_eq_false, ↓reduceIte, Int.reduceLT, Int.reduceLE, and_self, or_true, true_or, or_false, false_or, false_and, and_false, ah_t_w, ah_m_w, ah_n_w, lst1_0, List.tail_cons, w32_i, zbd, lst2_0, mt_1036a hB.1, e, hk, g]
    exact hF
  · simp (disch := omega) only [q_262_2, b_262_2, q_262_186, b_262_186, ↓w_iconst, ↓w_bipush, ↓w_aload_n_0, ↓w_iload_n_1, ↓w_iload_n_2, ↓w_istore_n_2, ↓w_istore_n_3, ↓w_dup_i, ↓w_dup_a, ↓w_iadd, ↓w_getfield, ↓w_putfield_0, ↓w_goto, ↓w_ifCond_eq, ↓w_ifCond_ne, ↓w_if_icmp_ne, ↓w_return, ↓w_invokevirtual_0, ↓w_invokevirtual_2, stw_0, stw_i, stw_l, stw_r, ofK0, ofK1, ofK2, lst1, lst2, lkill, kont_none, kont_some, Int.reduceToNat, List.length_cons, List.length_nil, Nat.reduceAdd, Nat.reduceLeDiff, Nat.zero_le, true_and, and_true, if_true, if_false, ne_eq, Int.reduceEq, Int.reduceNeg, not_false_eq_true, not_true_eq_false, ↓reduceIte, Int.reduceLT, Int.reduceLE, and_self, or_true, true_or, or_false, false_or, false_and, and_false, ah_t_w, ah_m_w, ah_n_w, lst1_0, List.tail_cons, w32_i, zbd, lst2_0, mt_1036a hB.1, e, hk, g]
    exact hF
theorem BX_w {kk pp r i z : Int} (hB : BX kk pp h) (hi : r = 1117 ∨ r = 1118 ∨ r = 1036 ∧ (i = 2 ∨ i = 111)) : BX kk pp (ah_w h r i z) :=
  ⟨MI_w hB.1 (by unfold fre; omega), by rw [ah_m_w, if_neg (by omega)]; exact hB.2.1, by rw [ah_m_w, if_neg (by omega)]; exact hB.2.2.1, hB.2.2.2⟩
/-- a code, then the end of a part -/
theorem A_end {tl : ALoc} {v : Int} (hK1 : ∀ k w cs o h, MQb w0 w cs k o → MQs hm t n k w0 w cs o h → Off WQ h0 h → wpB (d + 5) 271 0 [some (.inr (.inr 1036))] [] h K2 → K1 (.inl none) h)
    (hQ : MQs hm t n k w0 w cs o h) (hO : Off WQ h0 h) (hl : (cs.length : Int) + w.length + w0.length + 1 ≤ k) (ho : zoc w ≤ o ∧ o ≤ 6) (hE : PEw hm t n w0 d K2 h0 k w (cs ++ [v]) o) : wpB (d + 5) 262 237 (some (.inr (.inr 1036)) :: tl) [.inl v, .inr (.inr 1036)] h K1 := by
  have hX := hQ.1
  have hb := hX.2.2.2.2.2.1
  have hM := hX.1
  have e111 := hQ.2.2.2.2.2.1
  simp (disch := omega) only [q_262_237, b_262_237, ↓w_aload_n_0, ↓w_return, ↓w_invokevirtual_0, ↓w_invokevirtual_1, stw_0, stw_i, stw_l, stw_r, ofK0, ofK1, ofK2, lst1, lst2, lkill, kont_none, kont_some, Int.reduceToNat, List.length_cons, List.length_nil, Nat.reduceAdd, Nat.reduceLeDiff, Nat.zero_le, true_and, and_true, if_true, if_false, ne_eq, Int.reduceEq, Int.reduceNeg, not_false_eq_true, not_true_eq_false, ↓reduceIte, Int.reduceLT, Int.reduceLE, and_self, or_true, true_or, or_false, false_or, false_and, and_false, ah_t_w, ah_m_w, ah_n_w, lst1_0, List.tail_cons, w32_i, zbd, lst2_0, mt_1036a hM, c_268 hM e111]
  have hQ1 := MQ_code (v := v) hQ
  have hc := z60_ct w
  have hz := zct_nn (z60 w).2
  have hle : (((cs ++ [v]).length : Nat) : Int) = cs.length + 1 := by simp
  refine c_269 hQ1 (by omega) (by omega) ho.2 (fun h2 hQ2 hO2 => ?_)
  simp (disch := omega) only [b_262_237, ↓w_aload_n_0, ↓w_return, ↓w_invokevirtual_0, ↓w_invokevirtual_1, stw_0, stw_i, stw_l, stw_r, ofK0, ofK1, ofK2, lst1, lst2, lkill, kont_none, kont_some, Int.reduceToNat, List.length_cons, List.length_nil, Nat.reduceAdd, Nat.reduceLeDiff, Nat.zero_le, true_and, and_true, if_true, if_false, ne_eq, Int.reduceEq, Int.reduceNeg, not_false_eq_true, not_true_eq_false, ↓reduceIte, Int.reduceLT, Int.reduceLE, and_self, or_true, true_or, or_false, false_or, false_and, and_false, ah_t_w, ah_m_w, ah_n_w, lst1_0, List.tail_cons, w32_i, zbd, lst2_0]
  have hO2' : Off WQ h0 h2 := Off_tr hO (Off_tr (Off_w (Off_w Off_rfl (by unfold WQ; omega)) (by unfold WQ; omega)) hO2)
  have hb2 : MQb w0 (z60 w).2 (cs ++ [v] ++ (z60 w).1) k (o - (z60 w).1.length) := ⟨by simp only [List.length_append, List.length_cons, List.length_nil]; omega, by omega, by omega⟩
  exact hK1 _ _ _ _ _ hb2 hQ2 hO2' (hE hb2 h2 hQ2 hO2')
theorem sA (hK1 : ∀ k w cs o h, MQb w0 w cs k o → MQs hm t n k w0 w cs o h → Off WQ h0 h → wpB (d + 5) 271 0 [some (.inr (.inr 1036))] [] h K2 → K1 (.inl none) h) :
    ∀ k w cs o, 0 ≤ k → k ≤ n → SA hm t n (PAw hm t n w0 d K1 h0) (PEw hm t n w0 d K2 h0) (FFw K1 K2 h0) k w cs o → PAw hm t n w0 d K1 h0 k w cs o := by
  intro k w cs o h0' h1' hS hb h tl hQ hO
  have hX := hQ.1
  have hM := hX.1
  have h5 := hX.2.2.2.2.1
  have hbk := hX.2.2.2.2.2.1
  have hzc := zct_nn w
  have hle := hb.1
  have ho := hb.2
  rw [q_262_2]
  simp (disch := omega) only [b_262_2, ↓w_iconst, ↓w_bipush, ↓w_aload_n_0, ↓w_iload_n_1, ↓w_iload_n_2, ↓w_istore_n_2, ↓w_istore_n_3, ↓w_dup_i, ↓w_dup_a, ↓w_iadd, ↓w_getfield, ↓w_putfield_0, ↓w_goto, ↓w_ifCond_eq, ↓w_ifCond_ne, ↓w_if_icmp_ne, ↓w_invokevirtual_0, ↓w_invokevirtual_2, stw_0, stw_i, stw_l, stw_r, ofK0, ofK1, ofK2, lst1, lst2, lkill, kont_none, kont_some, Int.reduceToNat, List.length_cons, List.length_nil, Nat.reduceAdd, Nat.reduceLeDiff, Nat.zero_le, true_and, and_true, if_true, if_false, ne_eq, Int.reduceEq, Int.reduceNeg, not_false_eq_true, not_true_eq_false, ↓reduceIte, Int.reduceLT, Int.reduceLE, and_self, or_true, true_or, or_false, false_or, false_and, and_false, ah_t_w, ah_m_w, ah_n_w, lst1_0, List.tail_cons, w32_i, zbd, lst2_0, mt_1036a hM, h5]
  refine c_241 hX (fun h1 hX1 hO1 => ?_)
  have hQ1 := MQ_lx hQ hX1 hO1 (fun r i w => Wat_lx w)
  have hO1' : Off WQ h0 h1 := Off_tr hO (Off_mono (fun r i w => Wat_Q w) hO1)
  have hs : zsk t n (zsk t n k) = zsk t n k := zsk_zsk h0' h1'
  have hsl := @zsk_le k n t h1'
  have hM1 := hX1.1
  have e2 := hX1.2.2.2.1
  have e111 := hQ1.2.2.2.2.2.1
  have hc111 : (0 : Int) ≤ cs.length ∧ (cs.length : Int) ≤ 1690 := by omega
  have c63 : ∀ {Q}, wpC (d + 5) 263 [.inr (.inr 1036), .inl 11, .inl 12] h1 Q ↔ Q (.inl (some (.inl (if zqw hm t n (zsk t n k) = 11 then 11 else -1)))) h1 := by
    intro Q
    rw [c_263 hQ1 hs]
    by_cases q : zqw hm t n (zsk t n k) = 11
    · have hmf := zqw_11 q
      subst hmf
      rw [if_pos q, q]
      have : zal false 11 = true := by decide
      rw [if_pos ⟨by omega, this⟩]
    · rw [if_neg q, if_neg (by omega)]
  unfold SA at hS
  by_cases g1 : zB t n (zsk t n k) = 40
  · rw [if_pos g1] at hS
    have hlt := zskn (t := t) h1' (by rw [g1]; decide)
    simp (disch := omega) only [b_262_2, ↓w_iconst, ↓w_bipush, ↓w_aload_n_0, ↓w_iload_n_1, ↓w_iload_n_2, ↓w_istore_n_2, ↓w_istore_n_3, ↓w_dup_i, ↓w_dup_a, ↓w_iadd, ↓w_getfield, ↓w_putfield_0, ↓w_goto, ↓w_ifCond_eq, ↓w_ifCond_ne, ↓w_if_icmp_ne, ↓w_invokevirtual_0, ↓w_invokevirtual_2, stw_0, stw_i, stw_l, stw_r, ofK0, ofK1, ofK2, lst1, lst2, lkill, kont_none, kont_some, Int.reduceToNat, List.length_cons, List.length_nil, Nat.reduceAdd, Nat.reduceLeDiff, Nat.zero_le, true_and, and_true, if_true, if_false, ne_eq, Int.reduceEq, Int.reduceNeg, not_false_eq_true, not_true_eq_false, ↓reduceIte, Int.reduceLT, Int.reduceLE, and_self, or_true, true_or, or_false, false_or, false_and, and_false, ah_t_w, ah_m_w, ah_n_w, lst1_0, List.tail_cons, w32_i, zbd, lst2_0, mt_1036a hM1, c63, g1, e2]
    refine c_266 hQ1 (by omega) (by omega) (fun e6 => ?_) (fun h2 e6 hQ2 hO2 => ?_)
    · rw [if_pos e6] at hS
      have hB := BX_fail (k := 4) (p := zsk t n k) hM1 (by decide)
      have eB : ah_m (ah_w (ah_w h1 1036 5 4) 1036 6 (zsk t n k)) 1036 2 = zsk t n k := by rw [ah_m_w, if_neg (by omega), ah_m_w, if_neg (by omega)]; exact e2
      simp (disch := omega) only [b_262_2, q_262_183, b_262_183, ↓w_iconst, ↓w_bipush, ↓w_aload_n_0, ↓w_iload_n_1, ↓w_iload_n_2, ↓w_istore_n_2, ↓w_istore_n_3, ↓w_dup_i, ↓w_dup_a, ↓w_iadd, ↓w_getfield, ↓w_putfield_0, ↓w_goto, ↓w_ifCond_eq, ↓w_ifCond_ne, ↓w_if_icmp_ne, ↓w_invokevirtual_0, ↓w_invokevirtual_2, stw_0, stw_i, stw_l, stw_r, ofK0, ofK1, ofK2, lst1, lst2, lkill, kont_none, kont_some, Int.reduceToNat, List.length_cons, List.length_nil, Nat.reduceAdd, Nat.reduceLeDiff, Nat.zero_le, true_and, and_true, if_true, if_false, ne_eq, Int.reduceEq, Int.reduceNeg, not_false_eq_true, not_true_eq_false, ↓reduceIte, Int.reduceLT, Int.reduceLE, and_self, or_true, true_or, or_false, false_or, false_and, and_false, ah_t_w, ah_m_w, ah_n_w, lst1_0, List.tail_cons, w32_i, zbd, lst2_0, mt_1036a hM1, e2]
      have hB2 := BX_w (r := 1036) (i := 2) (z := zsk t n k + 1) hB (by omega)
      refine A_bad hB2 (hS _ hB2 (cb (W := Wlx) (Off_w (Off_w (Off_w Off_rfl (by unfold Wlx; omega)) (by unfold Wlx; omega)) (by unfold Wlx; omega)) (by unfold Wlx; omega) e111 hc111) (Off_w (Off_w (Off_w hO1' (by unfold WQ; omega)) (by unfold WQ; omega)) (by unfold WQ; omega))).1 _
    · rw [if_neg e6] at hS
      have e2' := hQ2.1.2.2.2.1
      simp (disch := omega) only [b_262_2, q_262_183, b_262_183, ↓w_iconst, ↓w_bipush, ↓w_aload_n_0, ↓w_iload_n_1, ↓w_iload_n_2, ↓w_istore_n_2, ↓w_istore_n_3, ↓w_dup_i, ↓w_dup_a, ↓w_iadd, ↓w_getfield, ↓w_putfield_0, ↓w_goto, ↓w_ifCond_eq, ↓w_ifCond_ne, ↓w_if_icmp_ne, ↓w_invokevirtual_0, ↓w_invokevirtual_2, stw_0, stw_i, stw_l, stw_r, ofK0, ofK1, ofK2, lst1, lst2, lkill, kont_none, kont_some, Int.reduceToNat, List.length_cons, List.length_nil, Nat.reduceAdd, Nat.reduceLeDiff, Nat.zero_le, true_and, and_true, if_true, if_false, ne_eq, Int.reduceEq, Int.reduceNeg, not_false_eq_true, not_true_eq_false, ↓reduceIte, Int.reduceLT, Int.reduceLE, and_self, or_true, true_or, or_false, false_or, false_and, and_false, ah_t_w, ah_m_w, ah_n_w, lst1_0, List.tail_cons, w32_i, zbd, lst2_0, mt_1036a hQ2.1.1, e2']
      have hX3 := LX_adv hQ2.1 hlt (by rw [g1]; decide)
      have hQ3 := MQ_lx (W := Wat) hQ2 hX3 (Off_w Off_rfl (by unfold Wat; omega)) (fun r i w => Wat_lx w)
      refine hS ⟨by simp only [List.length_cons]; omega, ?_, by omega⟩ _ _ hQ3 (Off_w (Off_tr hO1' hO2) (by unfold WQ; omega))
      simp only [zoc]; rw [if_pos (by decide)]; omega
  · rw [if_neg g1] at hS
    have c40a := fun {Q} => @c_240n (d + 3) h1 Q (zsk t n k) n 1104 t zmin hX1 (wb_1104 hM1) (by decide) hs
    have c40b := fun {Q} => @c_240n (d + 3) h1 Q (zsk t n k) n 1105 t zmax hX1 (wb_1105 hM1) (by decide) hs
    by_cases g2 : zhw t n (zsk t n k) zmin = true ∨ zhw t n (zsk t n k) zmax = true
    · rw [if_pos g2] at hS
      have hw3 : zsk t n k + 3 ≤ n := by
        rcases g2 with q | q
        · exact (zhw_r hsl.2 q).1
        · exact (zhw_r hsl.2 q).1
      have hs3 := @zsk_le (zsk t n k + 3) n t hw3
      have hss3 : zsk t n (zsk t n (zsk t n k + 3)) = zsk t n (zsk t n k + 3) := zsk_zsk (by omega) hw3
      -- behind the word
      have go : ∀ h3 tl, LX t n (zsk t n k + 3) h3 → Off Wlx h1 h3 → wpB (d + 5) 262 101 (some (.inr (.inr 1036)) :: some (.inl 1) :: some (.inl (zB t n (zsk t n k))) :: some (.inl (if zqw hm t n (zsk t n k) = 11 then 11 else -1)) :: some (.inl (zb (zhw t n (zsk t n k) zmin))) :: tl) [] h3 K1 := by
        intro h3 tl hX3 hO3
        have hQ3 := MQ_lx hQ1 hX3 hO3 (fun r i w => w)
        have hO3' : Off WQ h0 h3 := Off_tr hO1' (Off_mono (fun r i w => Wlx_Q w) hO3)
        simp (disch := omega) only [q_262_101, b_262_101, ↓w_bipush, ↓w_aload_n_0, ↓w_getfield, ↓w_goto, ↓w_if_icmp_ne, ↓w_invokevirtual_0, stw_0, stw_i, stw_l, stw_r, ofK0, ofK1, ofK2, lst1, lst2, lkill, kont_none, kont_some, Int.reduceToNat, List.length_cons, List.length_nil, Nat.reduceAdd, Nat.reduceLeDiff, Nat.zero_le, true_and, and_true, if_true, if_false, ne_eq, Int.reduceEq, Int.reduceNeg, not_false_eq_true, not_true_eq_false, ↓reduceIte, Int.reduceLT, Int.reduceLE, and_self, or_true, true_or, or_false, false_or, false_and, and_false, ah_t_w, ah_m_w, ah_n_w, lst1_0, List.tail_cons, w32_i, zbd, lst2_0, mt_1036a hX3.1]
        refine c_241 hX3 (fun h4 hX4 hO4 => ?_)
        have hQ4 := MQ_lx hQ3 hX4 hO4 (fun r i w => Wat_lx w)
        have hO4' : Off WQ h0 h4 := Off_tr hO3' (Off_mono (fun r i w => Wat_Q w) hO4)
        have e4 := hX4.2.2.2.1
        have hM4 := hX4.1
        by_cases g3 : zB t n (zsk t n (zsk t n k + 3)) = 40
        · rw [if_pos g3] at hS
          have hne : ¬ zsk t n (zsk t n k + 3) = -1 := by omega
          have opn : ∀ tl, wpB (d + 5) 262 139 (some (.inr (.inr 1036)) :: some (.inl 1) :: some (.inl (zB t n (zsk t n k))) :: some (.inl (if zqw hm t n (zsk t n k) = 11 then 11 else -1)) :: some (.inl (zb (zhw t n (zsk t n k) zmin))) :: some (.inl (zsk t n (zsk t n k + 3))) :: tl) [.inl (if zhw t n (zsk t n k) zmin = true then 21 else 22), .inr (.inr 1036)] h4 K1 := by
            intro tl
            simp (disch := omega) only [q_262_139, b_262_139, ↓w_iload_5, ↓w_nop, ↓w_invokevirtual_2, stw_0, stw_i, stw_l, stw_r, ofK0, ofK1, ofK2, lst1, lst2, lkill, kont_none, kont_some, Int.reduceToNat, List.length_cons, List.length_nil, Nat.reduceAdd, Nat.reduceLeDiff, Nat.zero_le, true_and, and_true, if_true, if_false, ne_eq, Int.reduceEq, Int.reduceNeg, not_false_eq_true, not_true_eq_false, ↓reduceIte, Int.reduceLT, Int.reduceLE, and_self, or_true, true_or, or_false, false_or, false_and, and_false, ah_t_w, ah_m_w, ah_n_w, lst1_0, List.tail_cons, w32_i, zbd, lst2_0, mt_1036a hM4]
            refine c_266 hQ4 (by omega) (by omega) (fun e6 => ?_) (fun h5' e6 hQ5 hO5 => ?_)
            · rw [if_pos e6] at hS
              have hB := BX_fail (k := 4) (p := zsk t n (zsk t n k + 3)) hM4 (by decide)
              simp (disch := omega) only [b_262_139, q_262_144, b_262_144, q_262_183, b_262_183, ↓w_bipush, ↓w_aload_n_0, ↓w_iload_5, ↓w_nop, ↓w_goto, ↓w_invokevirtual_1, ↓w_invokevirtual_2, stw_0, stw_i, stw_l, stw_r, ofK0, ofK1, ofK2, lst1, lst2, lkill, kont_none, kont_some, Int.reduceToNat, List.length_cons, List.length_nil, Nat.reduceAdd, Nat.reduceLeDiff, Nat.zero_le, true_and, and_true, if_true, if_false, ne_eq, Int.reduceEq, Int.reduceNeg, not_false_eq_true, not_true_eq_false, ↓reduceIte, Int.reduceLT, Int.reduceLE, and_self, or_true, true_or, or_false, false_or, false_and, and_false, ah_t_w, ah_m_w, ah_n_w, lst1_0, List.tail_cons, w32_i, zbd, lst2_0, mt_1036a hM4, b_247 hB]
              exact A_bad hB (hS _ hB (cb (W := Wlx) (Off_w (Off_w Off_rfl (by unfold Wlx; omega)) (by unfold Wlx; omega)) (by unfold Wlx; omega) hQ4.2.2.2.2.2.1 hc111) (Off_w (Off_w hO4' (by unfold WQ; omega)) (by unfold WQ; omega))).1 _
            · rw [if_neg e6] at hS
              simp (disch := omega) only [b_262_139, q_262_144, b_262_144, ↓w_bipush, ↓w_aload_n_0, ↓w_iload_5, ↓w_nop, ↓w_goto, ↓w_invokevirtual_1, ↓w_invokevirtual_2, stw_0, stw_i, stw_l, stw_r, ofK0, ofK1, ofK2, lst1, lst2, lkill, kont_none, kont_some, Int.reduceToNat, List.length_cons, List.length_nil, Nat.reduceAdd, Nat.reduceLeDiff, Nat.zero_le, true_and, and_true, if_true, if_false, ne_eq, Int.reduceEq, Int.reduceNeg, not_false_eq_true, not_true_eq_false, ↓reduceIte, Int.reduceLT, Int.reduceLE, and_self, or_true, true_or, or_false, false_or, false_and, and_false, ah_t_w, ah_m_w, ah_n_w, lst1_0, List.tail_cons, w32_i, zbd, lst2_0, mt_1036a hQ5.1.1]
              have hX5 := hQ5.1
              refine c_247 hX5 (by decide) (fun h6 ne _ _ => by rw [hss3] at ne; exact absurd g3 ne) (fun h6 _ hX6 hO6 => ?_)
              rw [hss3] at hX6
              simp (disch := omega) only [b_262_144, q_262_183, b_262_183, ↓w_bipush, ↓w_aload_n_0, ↓w_goto, ↓w_invokevirtual_1, stw_0, stw_i, stw_l, stw_r, ofK0, ofK1, ofK2, lst1, lst2, lkill, kont_none, kont_some, Int.reduceToNat, List.length_cons, List.length_nil, Nat.reduceAdd, Nat.reduceLeDiff, Nat.zero_le, true_and, and_true, if_true, if_false, ne_eq, Int.reduceEq, Int.reduceNeg, not_false_eq_true, not_true_eq_false, ↓reduceIte, Int.reduceLT, Int.reduceLE, and_self, or_true, true_or, or_false, false_or, false_and, and_false, ah_t_w, ah_m_w, ah_n_w, lst1_0, List.tail_cons, w32_i, zbd, lst2_0]
              have hQ6 := MQ_lx hQ5 hX6 hO6 (fun r i w => Wat_lx w)
              refine hS ⟨by simp only [List.length_cons]; omega, ?_, by omega⟩ _ _ hQ6 (Off_tr hO4' (Off_tr hO5 (Off_mono (fun r i w => Wat_Q w) hO6)))
              simp only [zoc]; split <;> omega
          cases g4 : zhw t n (zsk t n k) zmin
          · rw [g4] at opn
            simp only [Bool.false_eq_true, if_false] at opn
            simp (disch := omega) only [b_262_101, q_262_118, b_262_118, q_262_137, b_262_137, ↓w_iconst, ↓w_bipush, ↓w_aload_n_0, ↓w_iload_4, ↓w_iload_5, ↓w_istore, ↓w_getfield, ↓w_nop, ↓w_goto, ↓w_ifCond_eq, ↓w_if_icmp_eq, ↓w_if_icmp_ne, ↓w_invokevirtual_0, stw_0, stw_i, stw_l, stw_r, ofK0, ofK1, ofK2, lst1, lst2, lkill, kont_none, kont_some, Int.reduceToNat, List.length_cons, List.length_nil, Nat.reduceAdd, Nat.reduceLeDiff, Nat.zero_le, true_and, and_true, if_true, if_false, ne_eq, Int.reduceEq, Int.reduceNeg, not_false_eq_true, not_true_eq_false, ↓reduceIte, Int.reduceLT, Int.reduceLE, and_self, or_true, true_or, or_false, false_or, false_and, and_false, ah_t_w, ah_m_w, ah_n_w, lst1_0, List.tail_cons, w32_i, zbd, lst2_0, mt_1036a hM4, g3, e4, hne, zb_f]
            exact opn _
          · rw [g4] at opn
            simp only [if_true] at opn
            simp (disch := omega) only [b_262_101, q_262_118, b_262_118, ↓w_iconst, ↓w_bipush, ↓w_aload_n_0, ↓w_iload_4, ↓w_iload_5, ↓w_istore, ↓w_getfield, ↓w_goto, ↓w_ifCond_eq, ↓w_if_icmp_eq, ↓w_if_icmp_ne, ↓w_invokevirtual_0, stw_0, stw_i, stw_l, stw_r, ofK0, ofK1, ofK2, lst1, lst2, lkill, kont_none, kont_some, Int.reduceToNat, List.length_cons, List.length_nil, Nat.reduceAdd, Nat.reduceLeDiff, Nat.zero_le, true_and, and_true, if_true, if_false, ne_eq, Int.reduceEq, Int.reduceNeg, not_false_eq_true, not_true_eq_false, ↓reduceIte, Int.reduceLT, Int.reduceLE, and_self, or_true, true_or, or_false, false_or, false_and, and_false, ah_t_w, ah_m_w, ah_n_w, lst1_0, List.tail_cons, w32_i, zbd, lst2_0, mt_1036a hM4, g3, e4, hne, zb_t]
            exact opn _
        · rw [if_neg g3] at hS
          simp (disch := omega) only [b_262_101, q_262_117, b_262_117, q_262_118, b_262_118, q_262_144, b_262_144, ↓w_iconst, ↓w_bipush, ↓w_aload_n_0, ↓w_iload_4, ↓w_iload_5, ↓w_istore, ↓w_getfield, ↓w_nop, ↓w_goto, ↓w_ifCond_eq, ↓w_if_icmp_eq, ↓w_if_icmp_ne, ↓w_invokevirtual_0, ↓w_invokevirtual_1, stw_0, stw_i, stw_l, stw_r, ofK0, ofK1, ofK2, lst1, lst2, lkill, kont_none, kont_some, Int.reduceToNat, List.length_cons, List.length_nil, Nat.reduceAdd, Nat.reduceLeDiff, Nat.zero_le, true_and, and_true, if_true, if_false, ne_eq, Int.reduceEq, Int.reduceNeg, not_false_eq_true, not_true_eq_false, ↓reduceIte, Int.reduceLT, Int.reduceLE, and_self, or_true, true_or, or_false, false_or, false_and, and_false, ah_t_w, ah_m_w, ah_n_w, lst1_0, List.tail_cons, w32_i, zbd, lst2_0, mt_1036a hM4, g3]
          refine c_247 hX4 (by decide) (fun h6 _ hB hO6 => ?_) (fun h6 e _ _ => by rw [hss3] at e; exact absurd e g3)
          rw [hss3] at hB
          simp (disch := omega) only [b_262_144, q_262_183, b_262_183, ↓w_bipush, ↓w_aload_n_0, ↓w_goto, ↓w_invokevirtual_1, stw_0, stw_i, stw_l, stw_r, ofK0, ofK1, ofK2, lst1, lst2, lkill, kont_none, kont_some, Int.reduceToNat, List.length_cons, List.length_nil, Nat.reduceAdd, Nat.reduceLeDiff, Nat.zero_le, true_and, and_true, if_true, if_false, ne_eq, Int.reduceEq, Int.reduceNeg, not_false_eq_true, not_true_eq_false, ↓reduceIte, Int.reduceLT, Int.reduceLE, and_self, or_true, true_or, or_false, false_or, false_and, and_false, ah_t_w, ah_m_w, ah_n_w, lst1_0, List.tail_cons, w32_i, zbd, lst2_0]
          exact A_bad hB (hS _ hB (cb hO6 (by unfold Wlx; omega) hQ4.2.2.2.2.2.1 hc111) (Off_tr hO4' (Off_mono (fun r i w => Wlx_Q w) hO6))).1 _
      -- the word is taken
      have go2 : ∀ tl, wpB (d + 5) 262 78 (some (.inr (.inr 1036)) :: some (.inl 1) :: some (.inl (zB t n (zsk t n k))) :: some (.inl (if zqw hm t n (zsk t n k) = 11 then 11 else -1)) :: tl) [] h1 K1 := by
        intro tl
        simp (disch := omega) only [q_262_78, b_262_78, ↓w_aload_n_0, ↓w_iload_4, ↓w_istore, ↓w_getfield, ↓w_nop, ↓w_ifCond_ne, ↓w_invokevirtual_1, stw_0, stw_i, stw_l, stw_r, ofK0, ofK1, ofK2, lst1, lst2, lkill, kont_none, kont_some, Int.reduceToNat, List.length_cons, List.length_nil, Nat.reduceAdd, Nat.reduceLeDiff, Nat.zero_le, true_and, and_true, if_true, if_false, ne_eq, Int.reduceEq, Int.reduceNeg, not_false_eq_true, not_true_eq_false, ↓reduceIte, Int.reduceLT, Int.reduceLE, and_self, or_true, true_or, or_false, false_or, false_and, and_false, ah_t_w, ah_m_w, ah_n_w, lst1_0, List.tail_cons, w32_i, zbd, lst2_0, mt_1036a hM1, mt_1104a hM1, mt_1104b hM1, mf_97 hM1, mt_1105a hM1, mt_1105b hM1, mf_98 hM1]
        refine c_239 hX1 (wb_1104 hM1) (by decide) (by decide) (fun h2 e hX2 hO2 => ?_) (fun h2 e hX2 hO2 => ?_)
        · rw [hs] at e hX2
          have e' : zhw t n (zsk t n k) zmin = false := e
          have e3 : zhw t n (zsk t n k) zmax = true := by
            rcases g2 with q | q
            · rw [e'] at q; cases q
            · exact q
          rw [e'] at go
          simp (disch := omega) only [b_262_78, ↓w_aload_n_0, ↓w_iload_4, ↓w_istore, ↓w_getfield, ↓w_nop, ↓w_ifCond_ne, ↓w_invokevirtual_1, stw_0, stw_i, stw_l, stw_r, ofK0, ofK1, ofK2, lst1, lst2, lkill, kont_none, kont_some, Int.reduceToNat, List.length_cons, List.length_nil, Nat.reduceAdd, Nat.reduceLeDiff, Nat.zero_le, true_and, and_true, if_true, if_false, ne_eq, Int.reduceEq, Int.reduceNeg, not_false_eq_true, not_true_eq_false, ↓reduceIte, Int.reduceLT, Int.reduceLE, and_self, or_true, true_or, or_false, false_or, false_and, and_false, ah_t_w, ah_m_w, ah_n_w, lst1_0, List.tail_cons, w32_i, zbd, lst2_0, mt_1036a hX2.1, mt_1104a hX2.1, mt_1104b hX2.1, mf_97 hX2.1, mt_1105a hX2.1, mt_1105b hX2.1, mf_98 hX2.1]
          refine c_238 hX2 (wb_1105 hX2.1) (by decide) (by decide) (fun h3 e4 _ _ => by rw [hs] at e4; rw [show zhw t n (zsk t n k) [109, 97, 120] = true from e3] at e4; cases e4) (fun h3 e4 hX3 hO3 => ?_)
          rw [hs] at hX3
          simp (disch := omega) only [b_262_78, ↓w_aload_n_0, ↓w_iload_4, ↓w_istore, ↓w_getfield, ↓w_nop, ↓w_ifCond_ne, ↓w_invokevirtual_1, stw_0, stw_i, stw_l, stw_r, ofK0, ofK1, ofK2, lst1, lst2, lkill, kont_none, kont_some, Int.reduceToNat, List.length_cons, List.length_nil, Nat.reduceAdd, Nat.reduceLeDiff, Nat.zero_le, true_and, and_true, if_true, if_false, ne_eq, Int.reduceEq, Int.reduceNeg, not_false_eq_true, not_true_eq_false, ↓reduceIte, Int.reduceLT, Int.reduceLE, and_self, or_true, true_or, or_false, false_or, false_and, and_false, ah_t_w, ah_m_w, ah_n_w, lst1_0, List.tail_cons, w32_i, zbd, lst2_0]
          exact go h3 _ hX3 (Off_tr (Off_mono (fun r i w => Wat_lx w) hO2) hO3)
        · rw [hs] at e hX2
          have e' : zhw t n (zsk t n k) zmin = true := e
          rw [e'] at go
          simp (disch := omega) only [b_262_78, ↓w_aload_n_0, ↓w_iload_4, ↓w_istore, ↓w_getfield, ↓w_nop, ↓w_ifCond_ne, ↓w_invokevirtual_1, stw_0, stw_i, stw_l, stw_r, ofK0, ofK1, ofK2, lst1, lst2, lkill, kont_none, kont_some, Int.reduceToNat, List.length_cons, List.length_nil, Nat.reduceAdd, Nat.reduceLeDiff, Nat.zero_le, true_and, and_true, if_true, if_false, ne_eq, Int.reduceEq, Int.reduceNeg, not_false_eq_true, not_true_eq_false, ↓reduceIte, Int.reduceLT, Int.reduceLE, and_self, or_true, true_or, or_false, false_or, false_and, and_false, ah_t_w, ah_m_w, ah_n_w, lst1_0, List.tail_cons, w32_i, zbd, lst2_0, mt_1036a hX2.1, mt_1104a hX2.1, mt_1104b hX2.1, mf_97 hX2.1, mt_1105a hX2.1, mt_1105b hX2.1, mf_98 hX2.1]
          exact go h2 _ hX2 hO2
      cases g4 : zhw t n (zsk t n k) zmin
      · have e3 : zhw t n (zsk t n k) zmax = true := by
          rcases g2 with q | q
          · rw [g4] at q; cases q
          · exact q
        simp (disch := omega) only [b_262_2, q_262_56, b_262_56, ↓w_iconst, ↓w_bipush, ↓w_aload_n_0, ↓w_iload_n_1, ↓w_iload_n_2, ↓w_istore_n_2, ↓w_istore_n_3, ↓w_dup_i, ↓w_dup_a, ↓w_iadd, ↓w_getfield, ↓w_putfield_0, ↓w_nop, ↓w_goto, ↓w_ifCond_eq, ↓w_ifCond_ne, ↓w_if_icmp_ne, ↓w_invokevirtual_0, ↓w_invokevirtual_1, ↓w_invokevirtual_2, stw_0, stw_i, stw_l, stw_r, ofK0, ofK1, ofK2, lst1, lst2, lkill, kont_none, kont_some, Int.reduceToNat, List.length_cons, List.length_nil, Nat.reduceAdd, Nat.reduceLeDiff, Nat.zero_le, true_and, and_true, if_true, if_false, ne_eq, Int.reduceEq, Int.reduceNeg, not_false_eq_true, not_true_eq_false, ↓reduceIte, Int.reduceLT, Int.reduceLE, and_self, or_true, true_or, or_false, false_or, false_and, and_false, ah_t_w, ah_m_w, ah_n_w, lst1_0, List.tail_cons, w32_i, zbd, lst2_0, mt_1036a hM1, mt_1104a hM1, mt_1104b hM1, mf_97 hM1, mt_1105a hM1, mt_1105b hM1, mf_98 hM1, c63, g1, c40a, c40b, g4, e3, zb_t, zb_f]
        exact go2 _
      · simp (disch := omega) only [b_262_2, q_262_56, b_262_56, ↓w_iconst, ↓w_bipush, ↓w_aload_n_0, ↓w_iload_n_1, ↓w_iload_n_2, ↓w_istore_n_2, ↓w_istore_n_3, ↓w_dup_i, ↓w_dup_a, ↓w_iadd, ↓w_getfield, ↓w_putfield_0, ↓w_nop, ↓w_goto, ↓w_ifCond_eq, ↓w_ifCond_ne, ↓w_if_icmp_ne, ↓w_invokevirtual_0, ↓w_invokevirtual_1, ↓w_invokevirtual_2, stw_0, stw_i, stw_l, stw_r, ofK0, ofK1, ofK2, lst1, lst2, lkill, kont_none, kont_some, Int.reduceToNat, List.length_cons, List.length_nil, Nat.reduceAdd, Nat.reduceLeDiff, Nat.zero_le, true_and, and_true, if_true, if_false, ne_eq, Int.reduceEq, Int.reduceNeg, not_false_eq_true, not_true_eq_false, ↓reduceIte, Int.reduceLT, Int.reduceLE, and_self, or_true, true_or, or_false, false_or, false_and, and_false, ah_t_w, ah_m_w, ah_n_w, lst1_0, List.tail_cons, w32_i, zbd, lst2_0, mt_1036a hM1, mt_1104a hM1, mt_1104b hM1, mf_97 hM1, mt_1105a hM1, mt_1105b hM1, mf_98 hM1, c63, g1, c40a, c40b, g4, zb_t, zb_f]
        exact go2 _
    · rw [if_neg g2] at hS
      have e3 : zhw t n (zsk t n k) zmin = false := by
        cases q : zhw t n (zsk t n k) zmin
        · rfl
        · exact absurd (Or.inl q) g2
      have e4 : zhw t n (zsk t n k) zmax = false := by
        cases q : zhw t n (zsk t n k) zmax
        · rfl
        · exact absurd (Or.inr q) g2
      by_cases g3 : zqw hm t n (zsk t n k) = 11
      · rw [if_pos g3] at hS
        have hqr := @zqw_r hm t n (zsk t n k) hsl.2 (by omega)
        simp (disch := omega) only [b_262_2, q_262_56, b_262_56, q_262_153, b_262_153, ↓w_iconst, ↓w_bipush, ↓w_aload_n_0, ↓w_iload_n_1, ↓w_iload_n_2, ↓w_iload_n_3, ↓w_istore_n_2, ↓w_istore_n_3, ↓w_dup_i, ↓w_dup_a, ↓w_iadd, ↓w_isub, ↓w_getfield, ↓w_putfield_0, ↓w_nop, ↓w_goto, ↓w_ifCond_eq, ↓w_if_icmp_eq, ↓w_ifCond_ne, ↓w_if_icmp_ne, ↓w_invokevirtual_0, ↓w_invokevirtual_1, ↓w_invokevirtual_2, stw_0, stw_i, stw_l, stw_r, ofK0, ofK1, ofK2, lst1, lst2, lkill, kont_none, kont_some, Int.reduceToNat, List.length_cons, List.length_nil, Nat.reduceAdd, Nat.reduceLeDiff, Nat.zero_le, true_and, and_true, if_true, if_false, ne_eq, Int.reduceEq, Int.reduceNeg, not_false_eq_true, not_true_eq_false, ↓reduceIte, Int.reduceLT, Int.reduceLE, and_self, or_true, true_or, or_false, false_or, false_and, and_false, ah_t_w, ah_m_w, ah_n_w, lst1_0, List.tail_cons, w32_i, zbd, lst2_0, mt_1036a hM1, mt_1104a hM1, mt_1104b hM1, mf_97 hM1, mt_1105a hM1, mt_1105b hM1, mf_98 hM1, c63, g1, c40a, c40b, e3, e4, zb_f, g3, e2]
        refine c_266 hQ1 (by omega) (by omega) (fun e6 => ?_) (fun h2 e6 hQ2 hO2 => ?_)
        · rw [if_pos e6] at hS
          have hB := BX_fail (k := 4) (p := zsk t n k) hM1 (by decide)
          simp (disch := omega) only [b_262_153, q_262_183, b_262_183, ↓w_iconst, ↓w_bipush, ↓w_aload_n_0, ↓w_iload_n_3, ↓w_iadd, ↓w_isub, ↓w_getfield, ↓w_goto, ↓w_if_icmp_eq, ↓w_invokevirtual_1, ↓w_invokevirtual_2, stw_0, stw_i, stw_l, stw_r, ofK0, ofK1, ofK2, lst1, lst2, lkill, kont_none, kont_some, Int.reduceToNat, List.length_cons, List.length_nil, Nat.reduceAdd, Nat.reduceLeDiff, Nat.zero_le, true_and, and_true, if_true, if_false, ne_eq, Int.reduceEq, Int.reduceNeg, not_false_eq_true, not_true_eq_false, ↓reduceIte, Int.reduceLT, Int.reduceLE, and_self, or_true, true_or, or_false, false_or, false_and, and_false, ah_t_w, ah_m_w, ah_n_w, lst1_0, List.tail_cons, w32_i, zbd, lst2_0, mt_1036a hM1, b_267 hB]
          exact A_bad hB (hS _ hB (cb (W := Wlx) (Off_w (Off_w Off_rfl (by unfold Wlx; omega)) (by unfold Wlx; omega)) (by unfold Wlx; omega) e111 hc111) (Off_w (Off_w hO1' (by unfold WQ; omega)) (by unfold WQ; omega))).1 _
        · rw [if_neg e6] at hS
          simp (disch := omega) only [b_262_153, ↓w_iconst, ↓w_bipush, ↓w_aload_n_0, ↓w_iload_n_3, ↓w_iadd, ↓w_isub, ↓w_getfield, ↓w_goto, ↓w_if_icmp_eq, ↓w_invokevirtual_1, ↓w_invokevirtual_2, stw_0, stw_i, stw_l, stw_r, ofK0, ofK1, ofK2, lst1, lst2, lkill, kont_none, kont_some, Int.reduceToNat, List.length_cons, List.length_nil, Nat.reduceAdd, Nat.reduceLeDiff, Nat.zero_le, true_and, and_true, if_true, if_false, ne_eq, Int.reduceEq, Int.reduceNeg, not_false_eq_true, not_true_eq_false, ↓reduceIte, Int.reduceLT, Int.reduceLE, and_self, or_true, true_or, or_false, false_or, false_and, and_false, ah_t_w, ah_m_w, ah_n_w, lst1_0, List.tail_cons, w32_i, zbd, lst2_0, mt_1036a hQ2.1.1]
          refine c_267 (hm := hm) hQ2.1 hs g3 (by decide) (fun h3 hX3 hO3 => ?_)
          have ez : zln 11 = 3 := rfl
          rw [ez] at hX3
          simp (disch := omega) only [b_262_153, q_262_183, b_262_183, ↓w_iconst, ↓w_bipush, ↓w_aload_n_0, ↓w_iload_n_3, ↓w_iadd, ↓w_isub, ↓w_getfield, ↓w_goto, ↓w_if_icmp_eq, ↓w_invokevirtual_1, ↓w_invokevirtual_2, stw_0, stw_i, stw_l, stw_r, ofK0, ofK1, ofK2, lst1, lst2, lkill, kont_none, kont_some, Int.reduceToNat, List.length_cons, List.length_nil, Nat.reduceAdd, Nat.reduceLeDiff, Nat.zero_le, true_and, and_true, if_true, if_false, ne_eq, Int.reduceEq, Int.reduceNeg, not_false_eq_true, not_true_eq_false, ↓reduceIte, Int.reduceLT, Int.reduceLE, and_self, or_true, true_or, or_false, false_or, false_and, and_false, ah_t_w, ah_m_w, ah_n_w, lst1_0, List.tail_cons, w32_i, zbd, lst2_0]
          have hQ3 := MQ_lx hQ2 hX3 hO3 (fun r i w => w)
          refine hS ⟨by simp only [List.length_cons]; omega, ?_, by omega⟩ _ _ hQ3 (Off_tr hO1' (Off_tr hO2 (Off_mono (fun r i w => Wlx_Q w) hO3)))
          simp only [zoc]; rw [if_pos (by decide)]; omega
      · rw [if_neg g3] at hS
        have h51 := hX1.2.2.2.2.1
        simp (disch := omega) only [b_262_2, q_262_56, b_262_56, q_262_153, b_262_153, q_262_181, b_262_181, q_262_183, b_262_183, ↓w_iconst, ↓w_bipush, ↓w_aload_n_0, ↓w_iload_n_1, ↓w_iload_n_2, ↓w_iload_n_3, ↓w_istore_n_1, ↓w_istore_n_2, ↓w_istore_n_3, ↓w_dup_i, ↓w_dup_a, ↓w_iadd, ↓w_isub, ↓w_getfield, ↓w_putfield_0, ↓w_nop, ↓w_goto, ↓w_ifCond_eq, ↓w_if_icmp_eq, ↓w_ifCond_ne, ↓w_if_icmp_ne, ↓w_invokevirtual_0, ↓w_invokevirtual_1, ↓w_invokevirtual_2, stw_0, stw_i, stw_l, stw_r, ofK0, ofK1, ofK2, lst1, lst2, lkill, kont_none, kont_some, Int.reduceToNat, List.length_cons, List.length_nil, Nat.reduceAdd, Nat.reduceLeDiff, Nat.zero_le, true_and, and_true, if_true, if_false, ne_eq, Int.reduceEq, Int.reduceNeg, not_false_eq_true, not_true_eq_false, ↓reduceIte, Int.reduceLT, Int.reduceLE, and_self, or_true, true_or, or_false, false_or, false_and, and_false, ah_t_w, ah_m_w, ah_n_w, lst1_0, List.tail_cons, w32_i, zbd, lst2_0, mt_1036a hM1, mt_1104a hM1, mt_1104b hM1, mf_97 hM1, mt_1105a hM1, mt_1105b hM1, mf_98 hM1, c63, g1, c40a, c40b, e3, e4, zb_f, g3]
        rw [q_262_2]
        have c63b : ∀ {Q}, wpC (d + 5) 263 [.inr (.inr 1036), .inl 0, .inl 11] h1 Q ↔ Q (.inl (some (.inl (if 0 ≤ zqw hm t n (zsk t n k) ∧ zal hm (zqw hm t n (zsk t n k)) = true then zqw hm t n (zsk t n k) else -1)))) h1 := by
          intro Q
          rw [c_263 hQ1 hs]
          by_cases q0 : 0 ≤ zqw hm t n (zsk t n k)
          · have hqr := @zqw_r hm t n (zsk t n k) hsl.2 q0
            have e1 : ((0 ≤ zqw hm t n (zsk t n k) ∧ zqw hm t n (zsk t n k) < 11) ∧ zal hm (zqw hm t n (zsk t n k)) = true) = (0 ≤ zqw hm t n (zsk t n k) ∧ zal hm (zqw hm t n (zsk t n k)) = true) := by
              apply propext; constructor
              · intro q; exact ⟨q.1.1, q.2⟩
              · intro q; exact ⟨⟨q.1, by omega⟩, q.2⟩
            simp only [e1]
          · rw [if_neg (fun q => q0 q.1.1), if_neg (fun q => q0 q.1)]
        by_cases g4 : 0 ≤ zqw hm t n (zsk t n k) ∧ zal hm (zqw hm t n (zsk t n k)) = true
        · rw [if_pos g4] at hS
          have hqr := @zqw_r hm t n (zsk t n k) hsl.2 g4.1
          have hne : ¬ zqw hm t n (zsk t n k) = -1 := by omega
          have c63c : ∀ {Q}, wpC (d + 5) 263 [.inr (.inr 1036), .inl 0, .inl 11] h1 Q ↔ Q (.inl (some (.inl (zqw hm t n (zsk t n k))))) h1 := by
            intro Q; rw [c63b, if_pos g4]
          simp (disch := omega) only [b_262_2, q_262_186, b_262_186, q_262_194, b_262_194, ↓w_iconst, ↓w_bipush, ↓w_aload_n_0, ↓w_iload_n_1, ↓w_iload_n_2, ↓w_istore_n_2, ↓w_istore_n_3, ↓w_dup_i, ↓w_dup_a, ↓w_iadd, ↓w_getfield, ↓w_putfield_0, ↓w_nop, ↓w_goto, ↓w_ifCond_eq, ↓w_if_icmp_eq, ↓w_ifCond_ne, ↓w_if_icmp_ne, ↓w_return, ↓w_invokevirtual_0, ↓w_invokevirtual_1, ↓w_invokevirtual_2, stw_0, stw_i, stw_l, stw_r, ofK0, ofK1, ofK2, lst1, lst2, lkill, kont_none, kont_some, Int.reduceToNat, List.length_cons, List.length_nil, Nat.reduceAdd, Nat.reduceLeDiff, Nat.zero_le, true_and, and_true, if_true, if_false, ne_eq, Int.reduceEq, Int.reduceNeg, not_false_eq_true, not_true_eq_false, ↓reduceIte, Int.reduceLT, Int.reduceLE, and_self, or_true, true_or, or_false, false_or, false_and, and_false, ah_t_w, ah_m_w, ah_n_w, lst1_0, List.tail_cons, w32_i, zbd, lst2_0, mt_1036a hM1, h51, c63c, hne]
          refine c_267 (hm := hm) hX1 hs rfl g4.1 (fun h3 hX3 hO3 => ?_)
          have hQ3 := MQ_lx hQ1 hX3 hO3 (fun r i w => w)
          simp (disch := omega) only [b_262_194, q_262_212, b_262_212, ↓w_iconst, ↓w_bipush, ↓w_aload_n_0, ↓w_iload_n_2, ↓w_istore_n_2, ↓w_iadd, ↓w_nop, ↓w_goto, ↓w_if_icmp_eq, ↓w_invokevirtual_1, ↓w_invokevirtual_2, stw_0, stw_i, stw_l, stw_r, ofK0, ofK1, ofK2, lst1, lst2, lkill, kont_none, kont_some, Int.reduceToNat, List.length_cons, List.length_nil, Nat.reduceAdd, Nat.reduceLeDiff, Nat.zero_le, true_and, and_true, if_true, if_false, ne_eq, Int.reduceEq, Int.reduceNeg, not_false_eq_true, not_true_eq_false, ↓reduceIte, Int.reduceLT, Int.reduceLE, and_self, or_true, true_or, or_false, false_or, false_and, and_false, ah_t_w, ah_m_w, ah_n_w, lst1_0, List.tail_cons, w32_i, zbd, lst2_0, hne]
          exact A_end hK1 hQ3 (Off_tr hO1' (Off_mono (fun r i w => Wlx_Q w) hO3)) (by omega) ho hS
        · rw [if_neg g4] at hS
          have c63c : ∀ {Q}, wpC (d + 5) 263 [.inr (.inr 1036), .inl 0, .inl 11] h1 Q ↔ Q (.inl (some (.inl (-1)))) h1 := by
            intro Q; rw [c63b, if_neg g4]
          have enum : znum t n (zsk t n k) 0 9999 = znum t n k 0 9999 := by unfold znum; rw [hs]
          simp (disch := omega) only [b_262_2, q_262_186, b_262_186, q_262_194, b_262_194, q_262_212, b_262_212, q_262_225, b_262_225, ↓w_iconst, ↓w_bipush, ↓w_sipush, ↓w_aload_n_0, ↓w_iload_n_1, ↓w_iload_n_2, ↓w_istore_n_2, ↓w_istore_n_3, ↓w_dup_i, ↓w_dup_a, ↓w_iadd, ↓w_getfield, ↓w_putfield_0, ↓w_nop, ↓w_goto, ↓w_ifCond_eq, ↓w_if_icmp_eq, ↓w_ifCond_ne, ↓w_if_icmp_ne, ↓w_return, ↓w_invokevirtual_0, ↓w_invokevirtual_1, ↓w_invokevirtual_2, stw_0, stw_i, stw_l, stw_r, ofK0, ofK1, ofK2, lst1, lst2, lkill, kont_none, kont_some, Int.reduceToNat, List.length_cons, List.length_nil, Nat.reduceAdd, Nat.reduceLeDiff, Nat.zero_le, true_and, and_true, if_true, if_false, ne_eq, Int.reduceEq, Int.reduceNeg, not_false_eq_true, not_true_eq_false, ↓reduceIte, Int.reduceLT, Int.reduceLE, and_self, or_true, true_or, or_false, false_or, false_and, and_false, ah_t_w, ah_m_w, ah_n_w, lst1_0, List.tail_cons, w32_i, zbd, lst2_0, mt_1036a hM1, h51, c63c]
          refine c_244 hX1 (by decide) (by decide) (fun h3 z kk pp e hB hO3 => ?_) (fun h3 q v e hX3 hO3 _ => ?_)
          · rw [enum] at e
            rw [e] at hS
            have e111' : ah_m h3 1036 111 = cs.length := by rw [hO3.2 _ _ (by unfold Wlx; omega)]; exact hQ1.2.2.2.2.2.1
            have hB2 := fun v => BX_w (r := 1036) (i := 111) (z := (cs.length : Int) + 1) (BX_w (r := 1117) (i := cs.length) (z := v) hB (by omega)) (by omega)
            simp (disch := omega) only [b_262_225, q_262_237, b_262_237, ↓w_iconst, ↓w_sipush, ↓w_aload_n_0, ↓w_iadd, ↓w_nop, ↓w_return, ↓w_invokevirtual_0, ↓w_invokevirtual_1, ↓w_invokevirtual_2, stw_0, stw_i, stw_l, stw_r, ofK0, ofK1, ofK2, lst1, lst2, lkill, kont_none, kont_some, Int.reduceToNat, List.length_cons, List.length_nil, Nat.reduceAdd, Nat.reduceLeDiff, Nat.zero_le, true_and, and_true, if_true, if_false, ne_eq, Int.reduceEq, Int.reduceNeg, not_false_eq_true, not_true_eq_false, ↓reduceIte, Int.reduceLT, Int.reduceLE, and_self, or_true, true_or, or_false, false_or, false_and, and_false, ah_t_w, ah_m_w, ah_n_w, lst1_0, List.tail_cons, w32_i, zbd, lst2_0, mt_1036a hB.1, c_268 hB.1 e111', b_269 (hB2 _)]
            exact (hS _ (hB2 _) (by unfold CB; rw [ah_m_w, if_pos ⟨rfl, rfl⟩]; omega) (Off_w (Off_w (Off_tr hO1' (Off_mono (fun r i w => Wlx_Q w) hO3)) (by unfold WQ; omega)) (by unfold WQ; omega))).1
          · rw [enum] at e
            rw [e] at hS
            have hr := znum_r h0' h1' e
            have hQ3 := MQ_lx hQ1 hX3 hO3 (fun r i w => w)
            simp (disch := omega) only [b_262_225, ↓w_iconst, ↓w_sipush, ↓w_aload_n_0, ↓w_iadd, ↓w_nop, ↓w_invokevirtual_2, stw_0, stw_i, stw_l, stw_r, ofK0, ofK1, ofK2, lst1, lst2, lkill, kont_none, kont_some, Int.reduceToNat, List.length_cons, List.length_nil, Nat.reduceAdd, Nat.reduceLeDiff, Nat.zero_le, true_and, and_true, if_true, if_false, ne_eq, Int.reduceEq, Int.reduceNeg, not_false_eq_true, not_true_eq_false, ↓reduceIte, Int.reduceLT, Int.reduceLE, and_self, or_true, true_or, or_false, false_or, false_and, and_false, ah_t_w, ah_m_w, ah_n_w, lst1_0, List.tail_cons, w32_i, zbd, lst2_0]
            exact A_end hK1 hQ3 (Off_tr hO1' (Off_mono (fun r i w => Wlx_Q w) hO3)) (by omega) ho hS
end Q5
