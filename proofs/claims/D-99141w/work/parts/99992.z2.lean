/-! ===== X: what is asked of the board and of what is ===== -/
def XA (T : Int → Int → Int) (nw : Int → Int) (h : AH) : Prop := XG T h ∧ XS T nw 25 h ∧ XH T h ∧ ∀ s, isS s → RP s h
/-- what thinking writes -/
def Wth (r i : Int) : Prop := ((70 ≤ r ∧ r ≤ 114) ∨ (19 ≤ r ∧ r ≤ 24) ∨ (1020 ≤ r ∧ r ≤ 1034) ∨ r = 14 ∨ r = 16 ∨ r = 115 ∨ r = 118) ∧ ¬ fix r i
def zav (T : Int → Int → Int) (nw : Int → Int) : List (Int × Int) := if zcr T nw = true then [] else zmv T nw
section Z2
variable {W : Int → Int → Prop} {d : Nat} {h h' h1 h0 : AH} {Q : QQ} {x y z m k s l w a b v n p r o i f D0 D1 : Int} {S T T' : Int → Int → Int} {t nw nw' pt of : Int → Int} {tl : ALoc} {c : Int × Int × Int}
set_option maxHeartbeats 4000000
theorem is25 : isS 25 := by unfold isS; omega
theorem is70 : isS 70 := by unfold isS; omega
theorem Wth_ok : ∀ r i, Wth r i → ¬ fix r i ∧ ¬ BRr r ∧ ¬ (r = 1 ∧ i = 0) := fun r i w => ⟨w.2, by have := w.1; unfold BRr; omega, by have := w.1; omega⟩
theorem Wth_H : ∀ r i, Wth r i → r < 1121 ∧ ¬ BRr r ∧ ¬ (r = 1 ∧ i = 0) := fun r i w => ⟨by have := w.1; omega, (Wth_ok r i w).2⟩
theorem XA_th (hA : XA T nw h) (h40 : nw 24 ≤ 40) (hO : Off Wth h h') (h70 : RP 70 h') : XA T nw h' := by
  refine ⟨XG_off hA.1 hO Wth_ok, XS_off hA.2.1 h40 hO (fun r i w => by have := w.1; omega), XH_off hA.2.2.1 hA.1.2.1 hO Wth_H, fun s hs => ?_⟩
  by_cases g : s = 70
  · rw [g]; exact h70
  · have e : ∀ k, ah_m h' (s + 4) k = ah_m h (s + 4) k := fun k => hO.2 _ _ (fun w => by have := w.1; unfold isS at hs; omega)
    have := hA.2.2.2 s hs
    exact ⟨fun k p q => by rw [e]; exact this.1 k p q, fun j k a b c d ne => by rw [e, e]; exact this.2 j k a b c d ne⟩
theorem Wth_mv (hV : isV v) : ∀ r i, Wmv v r i → Wth r i := fun r i w => ⟨by unfold Wmv at w; unfold isV at hV; omega, (Wmv_ok hV r i w).1⟩
theorem Wth_cp : ∀ r i, Wcp 70 r i → Wth r i := fun r i w => ⟨by unfold Wcp at w; omega, (Wcp_ok is70 r i w).1⟩
theorem Wth_ss : ∀ r i, WSs 70 r i → Wth r i := fun r i w => ⟨by unfold WSs at w; omega, (WSs_ok is70 r i w).1⟩
theorem Wth_be : ∀ r i, Wbe 3 70 r i → Wth r i := fun r i w => ⟨by unfold Wbe Wva WSs Wmv at w; omega, (Wbe_ok is70 r i w).1⟩
theorem Wth_be25 : ∀ r i, Wbe 3 25 r i → Wth r i ∨ WSs 25 r i := fun r i w => by
  rcases w with (w | w) | w
  · exact Or.inr w
  · exact Or.inl ⟨by omega, (Wva_ok (j := 3) (by omega) is25 r i (Or.inr w)).1⟩
  · exact Or.inl (Wth_mv (by unfold isV; omega) r i w)
theorem Wth_dy : ∀ r i, Wdy 70 r i → Wth r i := fun r i w => by
  rcases w with w | w
  · exact ⟨by unfold Wps Wmv at w; omega, (Wps_ok is70 r i w).1⟩
  · exact Wth_be r i w
theorem RP_off (hP : RP s h) (hO : Off W h h') (hW : ∀ r i, W r i → r ≠ s + 4) : RP s h' := by
  have e : ∀ k, ah_m h' (s + 4) k = ah_m h (s + 4) k := fun k => hO.2 _ _ (fun w => hW _ _ w rfl)
  exact ⟨fun k p q => by rw [e]; exact hP.1 k p q, fun j k a b c d ne => by rw [e, e]; exact hP.2 j k a b c d ne⟩
theorem XA_mv (hA : XA T nw h) (h40 : nw 24 ≤ 40) (hV : isV v) (hO : Off (Wmv v) h h') : XA T nw h' :=
  XA_th hA h40 (Off_mono (Wth_mv hV) hO) (RP_off (hA.2.2.2 70 is70) hO (fun r i w => by unfold Wmv at w; unfold isV at hV; omega))
theorem zmv_0 (e : T 1074 4 = 0) : zmv T nw = [] := by
  have hz : zP T = 0 := by unfold zP; rw [e]; simp
  have : ∀ (s : Int) (j : Nat) (m : Int), zmm T nw s j m = [] := by
    intro s j
    induction j with
    | zero => intro m; rfl
    | succ j ih => intro m; simp only [zmm]; rw [hz, ih]; simp [zmk]
  exact this _ _ _
theorem zav_len : (zav T nw).length = zall T nw := by unfold zav zall; split <;> rfl
theorem zav_0 (e : T 1074 4 = 0) : zav T nw = [] := by unfold zav; rw [zmv_0 e]; split <;> rfl
theorem c_85 (hK : XG T h) (w0 : 0 ≤ w) (w1 : w < 6) : wpC (d + 1) 85 [.inr (.inr 1), .inl w] h Q ↔ Q (.inl (some (.inl (-1)))) (ah_w h 17 w (w32 (ah_m h 17 w + 1))) := by
  have e : ∀ z, w32 z = w32 z := fun _ => rfl
  apply CT_iff; apply CT_of; rw [wpC_B]; refine ⟨⟨Nat.zero_lt_succ _, Nat.le_of_ble_eq_true rfl⟩, ?_⟩; simp only [lent]
  simp (disch := omega) only [q_85_0, b_85_0, ↓w_iconst, ↓w_aload_n_0, ↓w_iload_n_1, ↓w_dup2, ↓w_iadd, ↓w_getfield, ↓w_iaload, ↓w_iastore, ↓w_ireturn0, stw_0, stw_i, stw_l, stw_r, ofK0, ofK1, ofK2, lst1, lst2, lkill, kont_none, kont_some, Int.reduceToNat, List.length_cons, List.length_nil, Nat.reduceAdd, Nat.reduceLeDiff, Nat.zero_le, true_and, and_true, if_true, if_false, ne_eq, Int.reduceEq, Int.reduceNeg, not_false_eq_true, not_true_eq_false, ↓reduceIte, Int.reduceLT, Int.reduceLE, and_self, or_true, true_or, or_false, false_or, false_and, and_false, ah_t_w, ah_m_w, ah_n_w, xt_1a hK, xf_1_8 hK, xt_17a hK, xt_17b hK, w0, w1, Int.reduceLT]
theorem c_89 (hK : XG T h) : wpC (d + 1) 89 [.inr (.inr 1)] h Q ↔ Q (.inl (some (.inl (ah_m h 1 2)))) (ah_w h 1 2 0) := by
  apply CT_iff; apply CT_of; rw [wpC_B]; refine ⟨⟨Nat.zero_lt_succ _, Nat.le_of_ble_eq_true rfl⟩, ?_⟩; simp only [lent]
  simp (disch := omega) only [q_89_0, b_89_0, ↓w_iconst, ↓w_aload_n_0, ↓w_iload_n_1, ↓w_istore_n_1, ↓w_getfield, ↓w_putfield_0, ↓w_ireturn0, stw_0, stw_i, stw_l, stw_r, ofK0, ofK1, ofK2, lst1, lst2, lkill, kont_none, kont_some, Int.reduceToNat, List.length_cons, List.length_nil, Nat.reduceAdd, Nat.reduceLeDiff, Nat.zero_le, true_and, and_true, if_true, if_false, ne_eq, Int.reduceEq, Int.reduceNeg, not_false_eq_true, not_true_eq_false, ↓reduceIte, Int.reduceLT, Int.reduceLE, and_self, or_true, true_or, or_false, false_or, false_and, and_false, ah_t_w, ah_m_w, ah_n_w, lst1_0, List.tail_cons, w32_i, zbd, lst2_0, xt_1a hK]
theorem c_96 (hK : XG T h) : wpC (d + 1) 96 [.inr (.inr 1), .inl w] h Q ↔ Q (.inl (some (.inl (if w = 0 then ah_m h 1 3 else if w = 1 then ah_m h 1 4 else -1)))) h := by
  apply CT_iff; apply CT_of; rw [wpC_B]; refine ⟨⟨Nat.zero_lt_succ _, Nat.le_of_ble_eq_true rfl⟩, ?_⟩; simp only [lent]
  by_cases e : w = 0
  · simp (disch := omega) only [q_96_0, b_96_0, q_96_11, b_96_11, q_96_23, b_96_23, q_96_24, b_96_24, ↓w_iconst, ↓w_aload_n_0, ↓w_iload_n_1, ↓w_getfield, ↓w_nop, ↓w_goto, ↓w_ifCond_ne, ↓w_if_icmp_ne, ↓w_ireturn0, stw_0, stw_i, stw_l, stw_r, ofK0, ofK1, ofK2, lst1, lst2, lkill, kont_none, kont_some, Int.reduceToNat, List.length_cons, List.length_nil, Nat.reduceAdd, Nat.reduceLeDiff, Nat.zero_le, true_and, and_true, if_true, if_false, ne_eq, Int.reduceEq, Int.reduceNeg, not_false_eq_true, not_true_eq_false, ↓reduceIte, Int.reduceLT, Int.reduceLE, and_self, or_true, true_or, or_false, false_or, false_and, and_false, ah_t_w, ah_m_w, ah_n_w, lst1_0, List.tail_cons, w32_i, zbd, lst2_0, xt_1a hK, e]
  · by_cases e1 : w = 1
    · simp (disch := omega) only [q_96_0, b_96_0, q_96_11, b_96_11, q_96_23, b_96_23, q_96_24, b_96_24, ↓w_iconst, ↓w_aload_n_0, ↓w_iload_n_1, ↓w_getfield, ↓w_nop, ↓w_goto, ↓w_ifCond_ne, ↓w_if_icmp_ne, ↓w_ireturn0, stw_0, stw_i, stw_l, stw_r, ofK0, ofK1, ofK2, lst1, lst2, lkill, kont_none, kont_some, Int.reduceToNat, List.length_cons, List.length_nil, Nat.reduceAdd, Nat.reduceLeDiff, Nat.zero_le, true_and, and_true, if_true, if_false, ne_eq, Int.reduceEq, Int.reduceNeg, not_false_eq_true, not_true_eq_false, ↓reduceIte, Int.reduceLT, Int.reduceLE, and_self, or_true, true_or, or_false, false_or, false_and, and_false, ah_t_w, ah_m_w, ah_n_w, lst1_0, List.tail_cons, w32_i, zbd, lst2_0, xt_1a hK, e1]
    · simp (disch := omega) only [q_96_0, b_96_0, q_96_11, b_96_11, q_96_23, b_96_23, q_96_24, b_96_24, ↓w_iconst, ↓w_aload_n_0, ↓w_iload_n_1, ↓w_getfield, ↓w_nop, ↓w_goto, ↓w_ifCond_ne, ↓w_if_icmp_ne, ↓w_ireturn0, stw_0, stw_i, stw_l, stw_r, ofK0, ofK1, ofK2, lst1, lst2, lkill, kont_none, kont_some, Int.reduceToNat, List.length_cons, List.length_nil, Nat.reduceAdd, Nat.reduceLeDiff, Nat.zero_le, true_and, and_true, if_true, if_false, ne_eq, Int.reduceEq, Int.reduceNeg, not_false_eq_true, not_true_eq_false, ↓reduceIte, Int.reduceLT, Int.reduceLE, and_self, or_true, true_or, or_false, false_or, false_and, and_false, ah_t_w, ah_m_w, ah_n_w, lst1_0, List.tail_cons, w32_i, zbd, lst2_0, xt_1a hK, e, e1]
theorem c_97 (hA : XA T nw h) (hX : NX T nw) (hF : FV nw) (hQ : ∀ h', XA T nw h' → Off (Wmv 19) h h' → Q (.inl (some (.inl (zha T nw (T 1074 4) (ah_m h 1 17) (ah_m h 1 20) w)))) h') : wpC (d + 9) 97 [.inr (.inr 1), .inl w] h Q := by
  have hK := hA.1
  have hS := hA.2.1
  have hN := NX_N hX
  have h40 := hF.2.2.2
  have h8 := hK.2.2.2.1
  have hC := hK.2.2.2.2.2.1
  have b0 := @zmen_b 0 T nw hK.2.2
  have b1 := @zmen_b 1 T nw hK.2.2
  have hQ0 := hQ h hA Off_rfl
  rw [wpC_B]; refine ⟨⟨Nat.zero_lt_succ _, Nat.le_of_ble_eq_true rfl⟩, ?_⟩; simp only [lent]
  by_cases e : 0 ≤ w ∧ w ≤ 12
  · have : w = 0 ∨ w = 1 ∨ w = 2 ∨ w = 3 ∨ w = 4 ∨ w = 5 ∨ w = 6 ∨ w = 7 ∨ w = 8 ∨ w = 9 ∨ w = 10 ∨ w = 11 ∨ w = 12 := by omega
    rcases this with e | e | e | e | e | e | e | e | e | e | e | e | e <;> subst e
    · simp (disch := omega) only [q_97_0, b_97_0, q_97_68, b_97_68, ↓w_aload_n_0, ↓w_iload_n_1, ↓w_getfield, ↓w_tableswitch, ↓w_ireturn0, stw_0, stw_i, stw_l, stw_r, ofK0, ofK1, ofK2, lst1, lst2, lkill, kont_none, kont_some, Int.reduceToNat, List.length_cons, List.length_nil, Nat.reduceAdd, Nat.reduceLeDiff, Nat.zero_le, true_and, and_true, if_true, if_false, ne_eq, Int.reduceEq, Int.reduceNeg, not_false_eq_true, not_true_eq_false, ↓reduceIte, Int.reduceLT, Int.reduceLE, and_self, or_true, true_or, or_false, false_or, false_and, and_false, ah_t_w, ah_m_w, ah_n_w, lst1_0, List.tail_cons, w32_i, zbd, lst2_0, asc, Option.getD_some, Option.getD_none, xt_1a hK, x_0, xb_t hK, xb_1 hK]
      exact hQ0
    · simp (disch := omega) only [q_97_0, b_97_0, q_97_76, b_97_76, ↓w_aload_n_0, ↓w_iload_n_1, ↓w_getfield, ↓w_tableswitch, ↓w_ireturn0, stw_0, stw_i, stw_l, stw_r, ofK0, ofK1, ofK2, lst1, lst2, lkill, kont_none, kont_some, Int.reduceToNat, List.length_cons, List.length_nil, Nat.reduceAdd, Nat.reduceLeDiff, Nat.zero_le, true_and, and_true, if_true, if_false, ne_eq, Int.reduceEq, Int.reduceNeg, not_false_eq_true, not_true_eq_false, ↓reduceIte, Int.reduceLT, Int.reduceLE, and_self, or_true, true_or, or_false, false_or, false_and, and_false, ah_t_w, ah_m_w, ah_n_w, lst1_0, List.tail_cons, w32_i, zbd, lst2_0, asc, Option.getD_some, Option.getD_none, xt_1a hK, x_0, xb_t hK, xb_2 hK]
      exact hQ0
    · simp (disch := omega) only [q_97_0, b_97_0, q_97_84, b_97_84, ↓w_aload_n_0, ↓w_iload_n_1, ↓w_getfield, ↓w_tableswitch, ↓w_ireturn0, ↓w_invokeinterface_0, stw_0, stw_i, stw_l, stw_r, ofK0, ofK1, ofK2, lst1, lst2, lkill, kont_none, kont_some, Int.reduceToNat, List.length_cons, List.length_nil, Nat.reduceAdd, Nat.reduceLeDiff, Nat.zero_le, true_and, and_true, if_true, if_false, ne_eq, Int.reduceEq, Int.reduceNeg, not_false_eq_true, not_true_eq_false, ↓reduceIte, Int.reduceLT, Int.reduceLE, and_self, or_true, true_or, or_false, false_or, false_and, and_false, ah_t_w, ah_m_w, ah_n_w, lst1_0, List.tail_cons, w32_i, zbd, lst2_0, asc, Option.getD_some, Option.getD_none, xt_1a hK, x_0, xb_t hK, xl_6t hK, c_39 (xl_6 hK)]
      exact hQ0
    · simp (disch := omega) only [q_97_0, b_97_0, q_97_97, b_97_97, ↓w_aload_n_0, ↓w_iload_n_1, ↓w_tableswitch, ↓w_ireturn0, ↓w_invokevirtual_0, stw_0, stw_i, stw_l, stw_r, ofK0, ofK1, ofK2, lst1, lst2, lkill, kont_none, kont_some, Int.reduceToNat, List.length_cons, List.length_nil, Nat.reduceAdd, Nat.reduceLeDiff, Nat.zero_le, true_and, and_true, if_true, if_false, ne_eq, Int.reduceEq, Int.reduceNeg, not_false_eq_true, not_true_eq_false, ↓reduceIte, Int.reduceLT, Int.reduceLE, and_self, or_true, true_or, or_false, false_or, false_and, and_false, ah_t_w, ah_m_w, ah_n_w, lst1_0, List.tail_cons, w32_i, zbd, lst2_0, asc, Option.getD_some, Option.getD_none, xt_1a hK, c_81 hK]
      exact hQ0
    · simp (disch := omega) only [q_97_0, b_97_0, q_97_102, b_97_102, ↓w_aload_n_0, ↓w_iload_n_1, ↓w_tableswitch, ↓w_ireturn0, ↓w_invokevirtual_0, stw_0, stw_i, stw_l, stw_r, ofK0, ofK1, ofK2, lst1, lst2, lkill, kont_none, kont_some, Int.reduceToNat, List.length_cons, List.length_nil, Nat.reduceAdd, Nat.reduceLeDiff, Nat.zero_le, true_and, and_true, if_true, if_false, ne_eq, Int.reduceEq, Int.reduceNeg, not_false_eq_true, not_true_eq_false, ↓reduceIte, Int.reduceLT, Int.reduceLE, and_self, or_true, true_or, or_false, false_or, false_and, and_false, ah_t_w, ah_m_w, ah_n_w, lst1_0, List.tail_cons, w32_i, zbd, lst2_0, asc, Option.getD_some, Option.getD_none, xt_1a hK, c_95 hK]
      exact hQ0
    · simp (disch := omega) only [q_97_0, b_97_0, q_97_107, b_97_107, ↓w_aload_n_0, ↓w_iload_n_1, ↓w_getfield, ↓w_tableswitch, ↓w_ireturn0, stw_0, stw_i, stw_l, stw_r, ofK0, ofK1, ofK2, lst1, lst2, lkill, kont_none, kont_some, Int.reduceToNat, List.length_cons, List.length_nil, Nat.reduceAdd, Nat.reduceLeDiff, Nat.zero_le, true_and, and_true, if_true, if_false, ne_eq, Int.reduceEq, Int.reduceNeg, not_false_eq_true, not_true_eq_false, ↓reduceIte, Int.reduceLT, Int.reduceLE, and_self, or_true, true_or, or_false, false_or, false_and, and_false, ah_t_w, ah_m_w, ah_n_w, lst1_0, List.tail_cons, w32_i, zbd, lst2_0, asc, Option.getD_some, Option.getD_none, xt_1a hK, xf_1_12 hK, s_t hK hS, s_0 hS]
      exact hQ0
    · simp (disch := omega) only [q_97_0, b_97_0, q_97_115, b_97_115, ↓w_aload_n_0, ↓w_iload_n_1, ↓w_getfield, ↓w_tableswitch, ↓w_ireturn0, stw_0, stw_i, stw_l, stw_r, ofK0, ofK1, ofK2, lst1, lst2, lkill, kont_none, kont_some, Int.reduceToNat, List.length_cons, List.length_nil, Nat.reduceAdd, Nat.reduceLeDiff, Nat.zero_le, true_and, and_true, if_true, if_false, ne_eq, Int.reduceEq, Int.reduceNeg, not_false_eq_true, not_true_eq_false, ↓reduceIte, Int.reduceLT, Int.reduceLE, and_self, or_true, true_or, or_false, false_or, false_and, and_false, ah_t_w, ah_m_w, ah_n_w, lst1_0, List.tail_cons, w32_i, zbd, lst2_0, asc, Option.getD_some, Option.getD_none, xt_1a hK, xf_1_12 hK, s_t hK hS, s_1 hS]
      exact hQ0
    · by_cases e7 : T 1074 4 = 0
      · have g : ¬ 0 < T 1074 4 := by omega
        simp (disch := omega) only [q_97_0, b_97_0, q_97_123, b_97_123, q_97_144, b_97_144, q_97_145, b_97_145, ↓w_iconst, ↓w_aload_n_0, ↓w_iload_n_1, ↓w_getfield, ↓w_nop, ↓w_goto, ↓w_ifCond_eq, ↓w_tableswitch, ↓w_ireturn0, ↓w_invokevirtual_0, stw_0, stw_i, stw_l, stw_r, ofK0, ofK1, ofK2, lst1, lst2, lkill, kont_none, kont_some, Int.reduceToNat, List.length_cons, List.length_nil, Nat.reduceAdd, Nat.reduceLeDiff, Nat.zero_le, true_and, and_true, if_true, if_false, ne_eq, Int.reduceEq, Int.reduceNeg, not_false_eq_true, not_true_eq_false, ↓reduceIte, Int.reduceLT, Int.reduceLE, and_self, or_true, true_or, or_false, false_or, false_and, and_false, ah_t_w, ah_m_w, ah_n_w, lst1_0, List.tail_cons, w32_i, zbd, lst2_0, asc, Option.getD_some, Option.getD_none, xt_1a hK, xf_1_12 hK, s_t hK hS, c_98 hK, g]
        simp only [zha, e7] at hQ0
        exact hQ0
      · have g : 0 < T 1074 4 := by omega
        simp (disch := omega) only [q_97_0, b_97_0, q_97_123, b_97_123, ↓w_iconst, ↓w_aload_n_0, ↓w_iload_n_1, ↓w_getfield, ↓w_goto, ↓w_ifCond_eq, ↓w_tableswitch, ↓w_invokevirtual_0, stw_0, stw_i, stw_l, stw_r, ofK0, ofK1, ofK2, lst1, lst2, lkill, kont_none, kont_some, Int.reduceToNat, List.length_cons, List.length_nil, Nat.reduceAdd, Nat.reduceLeDiff, Nat.zero_le, true_and, and_true, if_true, if_false, ne_eq, Int.reduceEq, Int.reduceNeg, not_false_eq_true, not_true_eq_false, ↓reduceIte, Int.reduceLT, Int.reduceLE, and_self, or_true, true_or, or_false, false_or, false_and, and_false, ah_t_w, ah_m_w, ah_n_w, lst1_0, List.tail_cons, w32_i, zbd, lst2_0, asc, Option.getD_some, Option.getD_none, xt_1a hK, xf_1_12 hK, s_t hK hS, c_98 hK, g]
        refine c_214 (d := d) hK hS hX h40 (fun h1 hK1 hS1 hx hO1 => ?_)
        have hQ1 := hQ h1 (XA_mv hA h40 (by unfold isV; omega) hO1) hO1
        simp only [zha, e7, ↓reduceIte] at hQ1
        cases e8 : (zcr T nw || (zmv T nw).isEmpty)
        · rw [e8] at hQ1
          simp (disch := omega) only [b_97_123, q_97_144, b_97_144, q_97_145, b_97_145, ↓w_iconst, ↓w_aload_n_0, ↓w_getfield, ↓w_nop, ↓w_goto, ↓w_ifCond_eq, ↓w_ireturn0, ↓w_invokevirtual_0, stw_0, stw_i, stw_l, stw_r, ofK0, ofK1, ofK2, lst1, lst2, lkill, kont_none, kont_some, Int.reduceToNat, List.length_cons, List.length_nil, Nat.reduceAdd, Nat.reduceLeDiff, Nat.zero_le, true_and, and_true, if_true, if_false, ne_eq, Int.reduceEq, Int.reduceNeg, not_false_eq_true, not_true_eq_false, ↓reduceIte, Int.reduceLT, Int.reduceLE, and_self, or_true, true_or, or_false, false_or, false_and, and_false, ah_t_w, ah_m_w, ah_n_w, lst1_0, List.tail_cons, w32_i, zbd, lst2_0, zb_f]
          exact hQ1
        · rw [e8] at hQ1
          simp (disch := omega) only [b_97_123, q_97_145, b_97_145, ↓w_iconst, ↓w_aload_n_0, ↓w_getfield, ↓w_goto, ↓w_ifCond_eq, ↓w_ireturn0, ↓w_invokevirtual_0, stw_0, stw_i, stw_l, stw_r, ofK0, ofK1, ofK2, lst1, lst2, lkill, kont_none, kont_some, Int.reduceToNat, List.length_cons, List.length_nil, Nat.reduceAdd, Nat.reduceLeDiff, Nat.zero_le, true_and, and_true, if_true, if_false, ne_eq, Int.reduceEq, Int.reduceNeg, not_false_eq_true, not_true_eq_false, ↓reduceIte, Int.reduceLT, Int.reduceLE, and_self, or_true, true_or, or_false, false_or, false_and, and_false, ah_t_w, ah_m_w, ah_n_w, lst1_0, List.tail_cons, w32_i, zbd, lst2_0, zb_t]
          exact hQ1
    · simp (disch := omega) only [q_97_0, b_97_0, q_97_146, b_97_146, ↓w_iconst, ↓w_aload_n_0, ↓w_iload_n_1, ↓w_isub, ↓w_getfield, ↓w_tableswitch, ↓w_ireturn0, ↓w_invokevirtual_0, ↓w_invokevirtual_1, stw_0, stw_i, stw_l, stw_r, ofK0, ofK1, ofK2, lst1, lst2, lkill, kont_none, kont_some, Int.reduceToNat, List.length_cons, List.length_nil, Nat.reduceAdd, Nat.reduceLeDiff, Nat.zero_le, true_and, and_true, if_true, if_false, ne_eq, Int.reduceEq, Int.reduceNeg, not_false_eq_true, not_true_eq_false, ↓reduceIte, Int.reduceLT, Int.reduceLE, and_self, or_true, true_or, or_false, false_or, false_and, and_false, ah_t_w, ah_m_w, ah_n_w, lst1_0, List.tail_cons, w32_i, zbd, lst2_0, asc, Option.getD_some, Option.getD_none, xt_1a hK, xf_1_12 hK, s_t hK hS, c_81 hK, c_217 hK hS hN]
      exact hQ0
    · simp (disch := omega) only [q_97_0, b_97_0, q_97_169, b_97_169, ↓w_aload_n_0, ↓w_iload_n_1, ↓w_getfield, ↓w_tableswitch, ↓w_ireturn0, ↓w_invokevirtual_0, stw_0, stw_i, stw_l, stw_r, ofK0, ofK1, ofK2, lst1, lst2, lkill, kont_none, kont_some, Int.reduceToNat, List.length_cons, List.length_nil, Nat.reduceAdd, Nat.reduceLeDiff, Nat.zero_le, true_and, and_true, if_true, if_false, ne_eq, Int.reduceEq, Int.reduceNeg, not_false_eq_true, not_true_eq_false, ↓reduceIte, Int.reduceLT, Int.reduceLE, and_self, or_true, true_or, or_false, false_or, false_and, and_false, ah_t_w, ah_m_w, ah_n_w, lst1_0, List.tail_cons, w32_i, zbd, lst2_0, asc, Option.getD_some, Option.getD_none, xt_1a hK, xf_1_12 hK, s_t hK hS, c_218 hK hS hF]
      exact hQ0
    · simp (disch := omega) only [q_97_0, b_97_0, q_97_177, b_97_177, ↓w_aload_n_0, ↓w_iload_n_1, ↓w_getfield, ↓w_tableswitch, ↓w_ireturn0, stw_0, stw_i, stw_l, stw_r, ofK0, ofK1, ofK2, lst1, lst2, lkill, kont_none, kont_some, Int.reduceToNat, List.length_cons, List.length_nil, Nat.reduceAdd, Nat.reduceLeDiff, Nat.zero_le, true_and, and_true, if_true, if_false, ne_eq, Int.reduceEq, Int.reduceNeg, not_false_eq_true, not_true_eq_false, ↓reduceIte, Int.reduceLT, Int.reduceLE, and_self, or_true, true_or, or_false, false_or, false_and, and_false, ah_t_w, ah_m_w, ah_n_w, lst1_0, List.tail_cons, w32_i, zbd, lst2_0, asc, Option.getD_some, Option.getD_none, xt_1a hK, xf_1_12 hK, s_t hK hS, s_2 hS]
      exact hQ0
    · simp (disch := omega) only [q_97_0, b_97_0, q_97_185, b_97_185, ↓w_aload_n_0, ↓w_iload_n_1, ↓w_getfield, ↓w_tableswitch, ↓w_ireturn0, stw_0, stw_i, stw_l, stw_r, ofK0, ofK1, ofK2, lst1, lst2, lkill, kont_none, kont_some, Int.reduceToNat, List.length_cons, List.length_nil, Nat.reduceAdd, Nat.reduceLeDiff, Nat.zero_le, true_and, and_true, if_true, if_false, ne_eq, Int.reduceEq, Int.reduceNeg, not_false_eq_true, not_true_eq_false, ↓reduceIte, Int.reduceLT, Int.reduceLE, and_self, or_true, true_or, or_false, false_or, false_and, and_false, ah_t_w, ah_m_w, ah_n_w, lst1_0, List.tail_cons, w32_i, zbd, lst2_0, asc, Option.getD_some, Option.getD_none, xt_1a hK]
      exact hQ0
    · simp (disch := omega) only [q_97_0, b_97_0, q_97_190, b_97_190, ↓w_aload_n_0, ↓w_iload_n_1, ↓w_getfield, ↓w_tableswitch, ↓w_ireturn0, stw_0, stw_i, stw_l, stw_r, ofK0, ofK1, ofK2, lst1, lst2, lkill, kont_none, kont_some, Int.reduceToNat, List.length_cons, List.length_nil, Nat.reduceAdd, Nat.reduceLeDiff, Nat.zero_le, true_and, and_true, if_true, if_false, ne_eq, Int.reduceEq, Int.reduceNeg, not_false_eq_true, not_true_eq_false, ↓reduceIte, Int.reduceLT, Int.reduceLE, and_self, or_true, true_or, or_false, false_or, false_and, and_false, ah_t_w, ah_m_w, ah_n_w, lst1_0, List.tail_cons, w32_i, zbd, lst2_0, asc, Option.getD_some, Option.getD_none, xt_1a hK]
      exact hQ0
  · have f0 : ¬ w = 0 := by omega
    have f1 : ¬ w = 1 := by omega
    have f2 : ¬ w = 2 := by omega
    have f3 : ¬ w = 3 := by omega
    have f4 : ¬ w = 4 := by omega
    have f5 : ¬ w = 5 := by omega
    have f6 : ¬ w = 6 := by omega
    have f7 : ¬ w = 7 := by omega
    have f8 : ¬ w = 8 := by omega
    have f9 : ¬ w = 9 := by omega
    have f10 : ¬ w = 10 := by omega
    have f11 : ¬ w = 11 := by omega
    have f12 : ¬ w = 12 := by omega
    simp only [zha, f0, f1, f2, f3, f4, f5, f6, f7, f8, f9, f10, f11, f12, ↓reduceIte] at hQ0
    simp (disch := omega) only [q_97_0, b_97_0, q_97_195, b_97_195, ↓w_iconst, ↓w_iload_n_1, ↓w_tableswitch, ↓w_ireturn0, stw_0, stw_i, stw_l, stw_r, ofK0, ofK1, ofK2, lst1, lst2, lkill, kont_none, kont_some, Int.reduceToNat, List.length_cons, List.length_nil, Nat.reduceAdd, Nat.reduceLeDiff, Nat.zero_le, true_and, and_true, if_true, if_false, ne_eq, Int.reduceEq, Int.reduceNeg, not_false_eq_true, not_true_eq_false, ↓reduceIte, Int.reduceLT, Int.reduceLE, and_self, or_true, true_or, or_false, false_or, false_and, and_false, ah_t_w, ah_m_w, ah_n_w, lst1_0, List.tail_cons, w32_i, zbd, lst2_0, asc, Option.getD_some, Option.getD_none, f0, f1, f2, f3, f4, f5, f6, f7, f8, f9, f10, f11, f12]
    exact hQ0
theorem c_100 (hK : XG T h) : wpC (d + 4) 100 [.inr (.inr 1), .inl k, .inl w] h Q ↔ Q (.inl (some (.inl (if (0 ≤ k ∧ k < T 1072 3) ∧ (0 ≤ w ∧ w ≤ 3) then T 1075 (20 + 4 * k + w) else -1)))) h := by
  have h3 := hK.2.2.1
  apply CT_iff; apply CT_of; rw [wpC_B]; refine ⟨⟨Nat.zero_lt_succ _, Nat.le_of_ble_eq_true rfl⟩, ?_⟩; simp only [lent]
  by_cases g : 0 ≤ k ∧ k ≤ T 1072 3 - 1
  · have g0 := g.1
    have g1 : k < T 1072 3 := by omega
    have xe : xel h (ah_m h (xb h) 6) k = xki h k := rfl
    have hcr := (hK.2.2.2.2.2.2.2.2.1 k g0 (by omega)).2.2.2
    by_cases e : w = 0 ∨ w = 1 ∨ w = 2 ∨ w = 3
    · rw [if_pos (by omega)]
      rcases e with e | e | e | e <;> subst e
      · simp (disch := omega) only [q_100_0, b_100_0, q_100_24, b_100_24, q_100_52, b_100_52, q_100_64, b_100_64, q_100_76, b_100_76, q_100_92, b_100_92, q_100_96, b_100_96, q_100_97, b_100_97, ↓w_iconst, ↓w_aload_n_0, ↓w_iload_n_1, ↓w_iload_n_2, ↓w_aload_n_3, ↓w_astore_n_3, ↓w_isub, ↓w_getfield, ↓w_checkcast, ↓w_nop, ↓w_goto, ↓w_ifCond_eq, ↓w_ifCond_ne, ↓w_if_icmp_ne, ↓w_ireturn0, ↓w_invokeinterface_0, ↓w_invokeinterface_1, ↓w_invokestatic_3, stw_0, stw_i, stw_l, stw_r, ofK0, ofK1, ofK2, lst1, lst2, lkill, kont_none, kont_some, Int.reduceToNat, List.length_cons, List.length_nil, Nat.reduceAdd, Nat.reduceLeDiff, Nat.zero_le, true_and, and_true, if_true, if_false, ne_eq, Int.reduceEq, Int.reduceNeg, not_false_eq_true, not_true_eq_false, ↓reduceIte, Int.reduceLT, Int.reduceLE, and_self, or_true, true_or, or_false, false_or, false_and, and_false, ah_t_w, ah_m_w, ah_n_w, lst1_0, List.tail_cons, w32_i, zbd, lst2_0, xt_1a hK, x_0, xb_t hK, xl_6t hK, c_39 (xl_6 hK), c_92, eq_true g, c_40 (xl_6 hK) g0 g1, xe, ki_t hK g0 g1, ki_1 hK g0 g1, asc, Option.isSome_some, Int.add_zero]
      · rw [show 20 + 4 * k + 1 = 21 + 4 * k by omega]
        simp (disch := omega) only [q_100_0, b_100_0, q_100_24, b_100_24, q_100_52, b_100_52, q_100_64, b_100_64, q_100_76, b_100_76, q_100_92, b_100_92, q_100_96, b_100_96, q_100_97, b_100_97, ↓w_iconst, ↓w_aload_n_0, ↓w_iload_n_1, ↓w_iload_n_2, ↓w_aload_n_3, ↓w_astore_n_3, ↓w_isub, ↓w_getfield, ↓w_checkcast, ↓w_nop, ↓w_goto, ↓w_ifCond_eq, ↓w_ifCond_ne, ↓w_if_icmp_ne, ↓w_ireturn0, ↓w_invokeinterface_0, ↓w_invokeinterface_1, ↓w_invokestatic_3, stw_0, stw_i, stw_l, stw_r, ofK0, ofK1, ofK2, lst1, lst2, lkill, kont_none, kont_some, Int.reduceToNat, List.length_cons, List.length_nil, Nat.reduceAdd, Nat.reduceLeDiff, Nat.zero_le, true_and, and_true, if_true, if_false, ne_eq, Int.reduceEq, Int.reduceNeg, not_false_eq_true, not_true_eq_false, ↓reduceIte, Int.reduceLT, Int.reduceLE, and_self, or_true, true_or, or_false, false_or, false_and, and_false, ah_t_w, ah_m_w, ah_n_w, lst1_0, List.tail_cons, w32_i, zbd, lst2_0, xt_1a hK, x_0, xb_t hK, xl_6t hK, c_39 (xl_6 hK), c_92, eq_true g, c_40 (xl_6 hK) g0 g1, xe, ki_t hK g0 g1, ki_2 hK g0 g1, asc, Option.isSome_some]
      · rw [show 20 + 4 * k + 2 = 22 + 4 * k by omega]
        simp (disch := omega) only [q_100_0, b_100_0, q_100_24, b_100_24, q_100_52, b_100_52, q_100_64, b_100_64, q_100_76, b_100_76, q_100_92, b_100_92, q_100_96, b_100_96, q_100_97, b_100_97, ↓w_iconst, ↓w_aload_n_0, ↓w_iload_n_1, ↓w_iload_n_2, ↓w_aload_n_3, ↓w_astore_n_3, ↓w_isub, ↓w_getfield, ↓w_checkcast, ↓w_nop, ↓w_goto, ↓w_ifCond_eq, ↓w_ifCond_ne, ↓w_if_icmp_ne, ↓w_ireturn0, ↓w_invokeinterface_0, ↓w_invokeinterface_1, ↓w_invokestatic_3, stw_0, stw_i, stw_l, stw_r, ofK0, ofK1, ofK2, lst1, lst2, lkill, kont_none, kont_some, Int.reduceToNat, List.length_cons, List.length_nil, Nat.reduceAdd, Nat.reduceLeDiff, Nat.zero_le, true_and, and_true, if_true, if_false, ne_eq, Int.reduceEq, Int.reduceNeg, not_false_eq_true, not_true_eq_false, ↓reduceIte, Int.reduceLT, Int.reduceLE, and_self, or_true, true_or, or_false, false_or, false_and, and_false, ah_t_w, ah_m_w, ah_n_w, lst1_0, List.tail_cons, w32_i, zbd, lst2_0, xt_1a hK, x_0, xb_t hK, xl_6t hK, c_39 (xl_6 hK), c_92, eq_true g, c_40 (xl_6 hK) g0 g1, xe, ki_t hK g0 g1, ki_3 hK g0 g1, asc, Option.isSome_some]
      · rw [show 20 + 4 * k + 3 = 23 + 4 * k by omega]
        have k4 := ki_4 hK g0 g1
        rcases hcr with q | q
        · rw [q] at k4 ⊢
          simp (disch := omega) only [q_100_0, b_100_0, q_100_24, b_100_24, q_100_52, b_100_52, q_100_64, b_100_64, q_100_76, b_100_76, q_100_92, b_100_92, q_100_96, b_100_96, q_100_97, b_100_97, ↓w_iconst, ↓w_aload_n_0, ↓w_iload_n_1, ↓w_iload_n_2, ↓w_aload_n_3, ↓w_astore_n_3, ↓w_isub, ↓w_getfield, ↓w_checkcast, ↓w_nop, ↓w_goto, ↓w_ifCond_eq, ↓w_ifCond_ne, ↓w_if_icmp_ne, ↓w_ireturn0, ↓w_invokeinterface_0, ↓w_invokeinterface_1, ↓w_invokestatic_3, stw_0, stw_i, stw_l, stw_r, ofK0, ofK1, ofK2, lst1, lst2, lkill, kont_none, kont_some, Int.reduceToNat, List.length_cons, List.length_nil, Nat.reduceAdd, Nat.reduceLeDiff, Nat.zero_le, true_and, and_true, if_true, if_false, ne_eq, Int.reduceEq, Int.reduceNeg, not_false_eq_true, not_true_eq_false, ↓reduceIte, Int.reduceLT, Int.reduceLE, and_self, or_true, true_or, or_false, false_or, false_and, and_false, ah_t_w, ah_m_w, ah_n_w, lst1_0, List.tail_cons, w32_i, zbd, lst2_0, xt_1a hK, x_0, xb_t hK, xl_6t hK, c_39 (xl_6 hK), c_92, eq_true g, c_40 (xl_6 hK) g0 g1, xe, ki_t hK g0 g1, k4, asc, Option.isSome_some]
        · rw [q] at k4 ⊢
          simp (disch := omega) only [q_100_0, b_100_0, q_100_24, b_100_24, q_100_52, b_100_52, q_100_64, b_100_64, q_100_76, b_100_76, q_100_92, b_100_92, q_100_96, b_100_96, q_100_97, b_100_97, ↓w_iconst, ↓w_aload_n_0, ↓w_iload_n_1, ↓w_iload_n_2, ↓w_aload_n_3, ↓w_astore_n_3, ↓w_isub, ↓w_getfield, ↓w_checkcast, ↓w_nop, ↓w_goto, ↓w_ifCond_eq, ↓w_ifCond_ne, ↓w_if_icmp_ne, ↓w_ireturn0, ↓w_invokeinterface_0, ↓w_invokeinterface_1, ↓w_invokestatic_3, stw_0, stw_i, stw_l, stw_r, ofK0, ofK1, ofK2, lst1, lst2, lkill, kont_none, kont_some, Int.reduceToNat, List.length_cons, List.length_nil, Nat.reduceAdd, Nat.reduceLeDiff, Nat.zero_le, true_and, and_true, if_true, if_false, ne_eq, Int.reduceEq, Int.reduceNeg, not_false_eq_true, not_true_eq_false, ↓reduceIte, Int.reduceLT, Int.reduceLE, and_self, or_true, true_or, or_false, false_or, false_and, and_false, ah_t_w, ah_m_w, ah_n_w, lst1_0, List.tail_cons, w32_i, zbd, lst2_0, xt_1a hK, x_0, xb_t hK, xl_6t hK, c_39 (xl_6 hK), c_92, eq_true g, c_40 (xl_6 hK) g0 g1, xe, ki_t hK g0 g1, k4, asc, Option.isSome_some]
    · rw [if_neg (by omega)]
      have f0 : ¬ w = 0 := by omega
      have f1 : ¬ w = 1 := by omega
      have f2 : ¬ w = 2 := by omega
      have f3 : ¬ w = 3 := by omega
      simp (disch := omega) only [q_100_0, b_100_0, q_100_24, b_100_24, q_100_52, b_100_52, q_100_64, b_100_64, q_100_76, b_100_76, q_100_92, b_100_92, q_100_96, b_100_96, q_100_97, b_100_97, ↓w_iconst, ↓w_aload_n_0, ↓w_iload_n_1, ↓w_iload_n_2, ↓w_aload_n_3, ↓w_astore_n_3, ↓w_isub, ↓w_getfield, ↓w_checkcast, ↓w_nop, ↓w_goto, ↓w_ifCond_eq, ↓w_ifCond_ne, ↓w_if_icmp_ne, ↓w_ireturn0, ↓w_invokeinterface_0, ↓w_invokeinterface_1, ↓w_invokestatic_3, stw_0, stw_i, stw_l, stw_r, ofK0, ofK1, ofK2, lst1, lst2, lkill, kont_none, kont_some, Int.reduceToNat, List.length_cons, List.length_nil, Nat.reduceAdd, Nat.reduceLeDiff, Nat.zero_le, true_and, and_true, if_true, if_false, ne_eq, Int.reduceEq, Int.reduceNeg, not_false_eq_true, not_true_eq_false, ↓reduceIte, Int.reduceLT, Int.reduceLE, and_self, or_true, true_or, or_false, false_or, false_and, and_false, ah_t_w, ah_m_w, ah_n_w, lst1_0, List.tail_cons, w32_i, zbd, lst2_0, xt_1a hK, x_0, xb_t hK, xl_6t hK, c_39 (xl_6 hK), c_92, eq_true g, c_40 (xl_6 hK) g0 g1, xe, ki_t hK g0 g1, asc, Option.isSome_some, f0, f1, f2, f3]
  · rw [if_neg (by omega)]
    simp (disch := omega) only [q_100_0, b_100_0, ↓w_iconst, ↓w_aload_n_0, ↓w_iload_n_1, ↓w_isub, ↓w_getfield, ↓w_ifCond_ne, ↓w_ireturn0, ↓w_invokeinterface_0, ↓w_invokestatic_3, stw_0, stw_i, stw_l, stw_r, ofK0, ofK1, ofK2, lst1, lst2, lkill, kont_none, kont_some, Int.reduceToNat, List.length_cons, List.length_nil, Nat.reduceAdd, Nat.reduceLeDiff, Nat.zero_le, true_and, and_true, if_true, if_false, ne_eq, Int.reduceEq, Int.reduceNeg, not_false_eq_true, not_true_eq_false, ↓reduceIte, Int.reduceLT, Int.reduceLE, and_self, or_true, true_or, or_false, false_or, false_and, and_false, ah_t_w, ah_m_w, ah_n_w, lst1_0, List.tail_cons, w32_i, zbd, lst2_0, xt_1a hK, x_0, xb_t hK, xl_6t hK, c_39 (xl_6 hK), c_92, eq_false g]
theorem c_101 (hA : XA T nw h) (hX : NX T nw) : wpC (d + 8) 101 [.inr (.inr 1), .inl m, .inl w] h Q ↔ Q (.inl (some (.inl (if 0 ≤ m ∧ m < T 1072 4 then (if w = 0 then nw (2 + 2 * m) else if w = 1 then nw (3 + 2 * m) else if w = 2 then T 1076 (16 + 2 * m) else if w = 3 then zs T m else if w = 4 then (if nw (2 + 2 * m) = -1 then 0 else (zmk T nw m (zP T) 0).length) else -1) else -1)))) h := by
  have hK := hA.1
  have hS := hA.2.1
  have hN := NX_N hX
  have h8 := hK.2.2.2.1
  have hC := hK.2.2.2.2.2.1; have hR := hK.2.2.2.2.2.2.1
  apply CT_iff; apply CT_of; rw [wpC_B]; refine ⟨⟨Nat.zero_lt_succ _, Nat.le_of_ble_eq_true rfl⟩, ?_⟩; simp only [lent]
  by_cases g : 0 ≤ m ∧ m < T 1072 4
  · have g0 := g.1
    have g1 := g.2
    have m8 : m < 8 := by omega
    have ep := sp hS g0 g1
    have hb := zpl5_b hN hC.2 hR.2 g0 g1
    have hv := hN.2.1 m g0 g1
    rw [if_pos g]
    by_cases e : w = 0 ∨ w = 1 ∨ w = 2 ∨ w = 3 ∨ w = 4
    · rcases e with e | e | e | e | e <;> subst e
      · rcases hb with q | q
        · have q1 := q.1; have q2 := q.2
          simp (disch := omega) only [q_101_0, b_101_0, q_101_10, b_101_10, q_101_56, b_101_56, q_101_68, b_101_68, ↓w_iconst, ↓w_aload_n_0, ↓w_iload_n_1, ↓w_iload_n_2, ↓w_iload_n_3, ↓w_istore_n_3, ↓w_getfield, ↓w_iaload, ↓w_goto, ↓w_ifCond_ne, ↓w_if_icmp_ne, ↓w_tableswitch, ↓w_ireturn0, ↓w_invokevirtual_1, stw_0, stw_i, stw_l, stw_r, ofK0, ofK1, ofK2, lst1, lst2, lkill, kont_none, kont_some, Int.reduceToNat, List.length_cons, List.length_nil, Nat.reduceAdd, Nat.reduceLeDiff, Nat.zero_le, true_and, and_true, if_true, if_false, ne_eq, Int.reduceEq, Int.reduceNeg, not_false_eq_true, not_true_eq_false, ↓reduceIte, Int.reduceLT, Int.reduceLE, and_self, or_true, true_or, or_false, false_or, false_and, and_false, ah_t_w, ah_m_w, ah_n_w, lst1_0, List.tail_cons, w32_i, zbd, lst2_0, asc, Option.getD_some, Option.getD_none, xt_1a hK, xf_1_12 hK, s_t hK hS, s_3 hK hS, s_3a hK hS, s_3b hK hS, c_102 hK, eq_true g0, eq_true g1, ep, g0, m8, q1, q2]
        · have q1 : ¬ zpl5 nw m = -1 := by omega
          have q2 := tm5 q.1.1; have q3 := q.2.1
          simp (disch := omega) only [q_101_0, b_101_0, q_101_10, b_101_10, q_101_56, b_101_56, q_101_65, b_101_65, q_101_68, b_101_68, ↓w_iconst, ↓w_aload_n_0, ↓w_iload_n_1, ↓w_iload_n_2, ↓w_iload_n_3, ↓w_istore_n_3, ↓w_irem, ↓w_getfield, ↓w_iaload, ↓w_nop, ↓w_goto, ↓w_ifCond_ne, ↓w_if_icmp_ne, ↓w_tableswitch, ↓w_ireturn0, ↓w_invokevirtual_1, stw_0, stw_i, stw_l, stw_r, ofK0, ofK1, ofK2, lst1, lst2, lkill, kont_none, kont_some, Int.reduceToNat, List.length_cons, List.length_nil, Nat.reduceAdd, Nat.reduceLeDiff, Nat.zero_le, true_and, and_true, if_true, if_false, ne_eq, Int.reduceEq, Int.reduceNeg, not_false_eq_true, not_true_eq_false, ↓reduceIte, Int.reduceLT, Int.reduceLE, and_self, or_true, true_or, or_false, false_or, false_and, and_false, ah_t_w, ah_m_w, ah_n_w, lst1_0, List.tail_cons, w32_i, zbd, lst2_0, asc, Option.getD_some, Option.getD_none, xt_1a hK, xf_1_12 hK, s_t hK hS, s_3 hK hS, s_3a hK hS, s_3b hK hS, c_102 hK, eq_true g0, eq_true g1, ep, g0, m8, q1, q2, q3]
      · rcases hb with q | q
        · have q1 := q.1
          have q2 : nw (3 + 2 * m) = -1 := by rcases hv with u | u; exact u.2; omega
          simp (disch := omega) only [q_101_0, b_101_0, q_101_10, b_101_10, q_101_69, b_101_69, q_101_81, b_101_81, ↓w_iconst, ↓w_aload_n_0, ↓w_iload_n_1, ↓w_iload_n_2, ↓w_iload_n_3, ↓w_istore_n_3, ↓w_getfield, ↓w_iaload, ↓w_goto, ↓w_ifCond_ne, ↓w_if_icmp_ne, ↓w_tableswitch, ↓w_ireturn0, ↓w_invokevirtual_1, stw_0, stw_i, stw_l, stw_r, ofK0, ofK1, ofK2, lst1, lst2, lkill, kont_none, kont_some, Int.reduceToNat, List.length_cons, List.length_nil, Nat.reduceAdd, Nat.reduceLeDiff, Nat.zero_le, true_and, and_true, if_true, if_false, ne_eq, Int.reduceEq, Int.reduceNeg, not_false_eq_true, not_true_eq_false, ↓reduceIte, Int.reduceLT, Int.reduceLE, and_self, or_true, true_or, or_false, false_or, false_and, and_false, ah_t_w, ah_m_w, ah_n_w, lst1_0, List.tail_cons, w32_i, zbd, lst2_0, asc, Option.getD_some, Option.getD_none, xt_1a hK, xf_1_12 hK, s_t hK hS, s_3 hK hS, s_3a hK hS, s_3b hK hS, c_102 hK, eq_true g0, eq_true g1, ep, g0, m8, q1, q2]
        · have q1 : ¬ zpl5 nw m = -1 := by omega
          have q2 := td5 q.1.1; have q3 := q.2.2.1
          simp (disch := omega) only [q_101_0, b_101_0, q_101_10, b_101_10, q_101_69, b_101_69, q_101_78, b_101_78, q_101_81, b_101_81, ↓w_iconst, ↓w_aload_n_0, ↓w_iload_n_1, ↓w_iload_n_2, ↓w_iload_n_3, ↓w_istore_n_3, ↓w_idiv, ↓w_getfield, ↓w_iaload, ↓w_nop, ↓w_goto, ↓w_ifCond_ne, ↓w_if_icmp_ne, ↓w_tableswitch, ↓w_ireturn0, ↓w_invokevirtual_1, stw_0, stw_i, stw_l, stw_r, ofK0, ofK1, ofK2, lst1, lst2, lkill, kont_none, kont_some, Int.reduceToNat, List.length_cons, List.length_nil, Nat.reduceAdd, Nat.reduceLeDiff, Nat.zero_le, true_and, and_true, if_true, if_false, ne_eq, Int.reduceEq, Int.reduceNeg, not_false_eq_true, not_true_eq_false, ↓reduceIte, Int.reduceLT, Int.reduceLE, and_self, or_true, true_or, or_false, false_or, false_and, and_false, ah_t_w, ah_m_w, ah_n_w, lst1_0, List.tail_cons, w32_i, zbd, lst2_0, asc, Option.getD_some, Option.getD_none, xt_1a hK, xf_1_12 hK, s_t hK hS, s_3 hK hS, s_3a hK hS, s_3b hK hS, c_102 hK, eq_true g0, eq_true g1, ep, g0, m8, q1, q2, q3]
      · simp (disch := omega) only [q_101_0, b_101_0, q_101_10, b_101_10, q_101_82, b_101_82, ↓w_iconst, ↓w_aload_n_0, ↓w_iload_n_1, ↓w_iload_n_2, ↓w_istore_n_3, ↓w_getfield, ↓w_iaload, ↓w_ifCond_ne, ↓w_tableswitch, ↓w_ireturn0, ↓w_invokevirtual_1, stw_0, stw_i, stw_l, stw_r, ofK0, ofK1, ofK2, lst1, lst2, lkill, kont_none, kont_some, Int.reduceToNat, List.length_cons, List.length_nil, Nat.reduceAdd, Nat.reduceLeDiff, Nat.zero_le, true_and, and_true, if_true, if_false, ne_eq, Int.reduceEq, Int.reduceNeg, not_false_eq_true, not_true_eq_false, ↓reduceIte, Int.reduceLT, Int.reduceLE, and_self, or_true, true_or, or_false, false_or, false_and, and_false, ah_t_w, ah_m_w, ah_n_w, lst1_0, List.tail_cons, w32_i, zbd, lst2_0, asc, Option.getD_some, Option.getD_none, xt_1a hK, xf_1_12 hK, s_t hK hS, s_3 hK hS, s_3a hK hS, s_3b hK hS, c_102 hK, eq_true g0, eq_true g1, ep, g0, m8, c_83 hK g0 g1, ma_t hK g0 g1, ma_1 hK g0 g1]
      · simp (disch := omega) only [q_101_0, b_101_0, q_101_10, b_101_10, q_101_91, b_101_91, ↓w_iconst, ↓w_aload_n_0, ↓w_iload_n_1, ↓w_iload_n_2, ↓w_istore_n_3, ↓w_getfield, ↓w_iaload, ↓w_ifCond_ne, ↓w_tableswitch, ↓w_ireturn0, ↓w_invokevirtual_1, stw_0, stw_i, stw_l, stw_r, ofK0, ofK1, ofK2, lst1, lst2, lkill, kont_none, kont_some, Int.reduceToNat, List.length_cons, List.length_nil, Nat.reduceAdd, Nat.reduceLeDiff, Nat.zero_le, true_and, and_true, if_true, if_false, ne_eq, Int.reduceEq, Int.reduceNeg, not_false_eq_true, not_true_eq_false, ↓reduceIte, Int.reduceLT, Int.reduceLE, and_self, or_true, true_or, or_false, false_or, false_and, and_false, ah_t_w, ah_m_w, ah_n_w, lst1_0, List.tail_cons, w32_i, zbd, lst2_0, asc, Option.getD_some, Option.getD_none, xt_1a hK, xf_1_12 hK, s_t hK hS, s_3 hK hS, s_3a hK hS, s_3b hK hS, c_102 hK, eq_true g0, eq_true g1, ep, g0, m8, c_83 hK g0 g1, ma_t hK g0 g1, ma_2 hK g0 g1]
      · have em : (if nw (2 + 2 * m) = -1 then (0 : Int) else (zmk T nw m (zP T) 0).length) = (zmk T nw m (zP T) 0).length := by
          by_cases q : nw (2 + 2 * m) = -1
          · rw [if_pos q]
            have : ∀ (j : Nat) (k : Int), zmk T nw m j k = [] := by
              intro j
              induction j with
              | zero => intro k; rfl
              | succ j ih =>
                intro k; simp only [zmk]
                have : zG T nw m k = false := by unfold zG zgo; simp [q]
                rw [this, ih]; rfl
            rw [this]; rfl
          · rw [if_neg q]
        rw [em]
        simp (disch := omega) only [q_101_0, b_101_0, q_101_10, b_101_10, q_101_100, b_101_100, ↓w_iconst, ↓w_aload_n_0, ↓w_iload_n_1, ↓w_iload_n_2, ↓w_istore_n_3, ↓w_getfield, ↓w_iaload, ↓w_ifCond_ne, ↓w_tableswitch, ↓w_ireturn0, ↓w_invokevirtual_1, stw_0, stw_i, stw_l, stw_r, ofK0, ofK1, ofK2, lst1, lst2, lkill, kont_none, kont_some, Int.reduceToNat, List.length_cons, List.length_nil, Nat.reduceAdd, Nat.reduceLeDiff, Nat.zero_le, true_and, and_true, if_true, if_false, ne_eq, Int.reduceEq, Int.reduceNeg, not_false_eq_true, not_true_eq_false, ↓reduceIte, Int.reduceLT, Int.reduceLE, and_self, or_true, true_or, or_false, false_or, false_and, and_false, ah_t_w, ah_m_w, ah_n_w, lst1_0, List.tail_cons, w32_i, zbd, lst2_0, asc, Option.getD_some, Option.getD_none, xt_1a hK, xf_1_12 hK, s_t hK hS, s_3 hK hS, s_3a hK hS, s_3b hK hS, c_102 hK, eq_true g0, eq_true g1, ep, g0, m8, c_219 hK hS hN g0 g1]
    · have f0 : ¬ w = 0 := by omega
      have f1 : ¬ w = 1 := by omega
      have f2 : ¬ w = 2 := by omega
      have f3 : ¬ w = 3 := by omega
      have f4 : ¬ w = 4 := by omega
      simp (disch := omega) only [q_101_0, b_101_0, q_101_10, b_101_10, q_101_109, b_101_109, ↓w_iconst, ↓w_aload_n_0, ↓w_iload_n_1, ↓w_iload_n_2, ↓w_istore_n_3, ↓w_getfield, ↓w_iaload, ↓w_ifCond_ne, ↓w_tableswitch, ↓w_ireturn0, ↓w_invokevirtual_1, stw_0, stw_i, stw_l, stw_r, ofK0, ofK1, ofK2, lst1, lst2, lkill, kont_none, kont_some, Int.reduceToNat, List.length_cons, List.length_nil, Nat.reduceAdd, Nat.reduceLeDiff, Nat.zero_le, true_and, and_true, if_true, if_false, ne_eq, Int.reduceEq, Int.reduceNeg, not_false_eq_true, not_true_eq_false, ↓reduceIte, Int.reduceLT, Int.reduceLE, and_self, or_true, true_or, or_false, false_or, false_and, and_false, ah_t_w, ah_m_w, ah_n_w, lst1_0, List.tail_cons, w32_i, zbd, lst2_0, asc, Option.getD_some, Option.getD_none, xt_1a hK, xf_1_12 hK, s_t hK hS, s_3 hK hS, s_3a hK hS, s_3b hK hS, c_102 hK, eq_true g0, eq_true g1, ep, g0, m8, f0, f1, f2, f3, f4]
  · rw [if_neg g]
    simp (disch := omega) only [q_101_0, b_101_0, ↓w_iconst, ↓w_aload_n_0, ↓w_iload_n_1, ↓w_ifCond_ne, ↓w_ireturn0, ↓w_invokevirtual_1, stw_0, stw_i, stw_l, stw_r, ofK0, ofK1, ofK2, lst1, lst2, lkill, kont_none, kont_some, Int.reduceToNat, List.length_cons, List.length_nil, Nat.reduceAdd, Nat.reduceLeDiff, Nat.zero_le, true_and, and_true, if_true, if_false, ne_eq, Int.reduceEq, Int.reduceNeg, not_false_eq_true, not_true_eq_false, ↓reduceIte, Int.reduceLT, Int.reduceLE, and_self, or_true, true_or, or_false, false_or, false_and, and_false, ah_t_w, ah_m_w, ah_n_w, lst1_0, List.tail_cons, w32_i, zbd, lst2_0, xt_1a hK, c_102 hK, eq_false g]
theorem c_103 (hA : XA T nw h) : wpC (d + 4) 103 [.inr (.inr 1), .inl m, .inl w] h Q ↔ Q (.inl (some (.inl (if 0 ≤ m ∧ m < T 1072 5 then (if w = 0 then T 1078 (18 + 3 * m) else if w = 1 then T 1078 (19 + 3 * m) else if w = 2 then nw (18 + m) else -1) else -1)))) h := by
  have hK := hA.1
  have hS := hA.2.1
  have h8 := hK.2.2.2.2.1
  apply CT_iff; apply CT_of; rw [wpC_B]; refine ⟨⟨Nat.zero_lt_succ _, Nat.le_of_ble_eq_true rfl⟩, ?_⟩; simp only [lent]
  by_cases g : 0 ≤ m ∧ m < T 1072 5
  · have g0 := g.1
    have g1 := g.2
    have m8 : m < 6 := by omega
    have xe : xel h (ah_m h (xb h) 8) m = xfi h m := rfl
    have eb := sb hS g0 g1
    rw [if_pos g]
    by_cases f0 : w = 0
    · simp (disch := omega) only [q_103_0, b_103_0, q_103_10, b_103_10, q_103_38, b_103_38, q_103_50, b_103_50, q_103_67, b_103_67, q_103_68, b_103_68, ↓w_iconst, ↓w_aload_n_0, ↓w_iload_n_1, ↓w_iload_n_2, ↓w_aload_n_3, ↓w_astore_n_3, ↓w_getfield, ↓w_iaload, ↓w_checkcast, ↓w_nop, ↓w_goto, ↓w_ifCond_ne, ↓w_if_icmp_ne, ↓w_ireturn0, ↓w_invokevirtual_1, ↓w_invokeinterface_1, stw_0, stw_i, stw_l, stw_r, ofK0, ofK1, ofK2, lst1, lst2, lkill, kont_none, kont_some, Int.reduceToNat, List.length_cons, List.length_nil, Nat.reduceAdd, Nat.reduceLeDiff, Nat.zero_le, true_and, and_true, if_true, if_false, ne_eq, Int.reduceEq, Int.reduceNeg, not_false_eq_true, not_true_eq_false, ↓reduceIte, Int.reduceLT, Int.reduceLE, and_self, or_true, true_or, or_false, false_or, false_and, and_false, ah_t_w, ah_m_w, ah_n_w, lst1_0, List.tail_cons, w32_i, zbd, lst2_0, xt_1a hK, x_0, xf_1_12 hK, xb_t hK, xl_8t hK, s_t hK hS, s_5 hK hS, s_5a hK hS, s_5b hK hS, c_104 hK, eq_true g0, eq_true g1, c_40 (xl_8 hK) g0 g1, xe, fi_t hK g0 g1, fi_1 hK g0 g1, asc, Option.isSome_some, f0]
    · by_cases f1 : w = 1
      · simp (disch := omega) only [q_103_0, b_103_0, q_103_10, b_103_10, q_103_38, b_103_38, q_103_50, b_103_50, q_103_67, b_103_67, q_103_68, b_103_68, ↓w_iconst, ↓w_aload_n_0, ↓w_iload_n_1, ↓w_iload_n_2, ↓w_aload_n_3, ↓w_astore_n_3, ↓w_getfield, ↓w_iaload, ↓w_checkcast, ↓w_nop, ↓w_goto, ↓w_ifCond_ne, ↓w_if_icmp_ne, ↓w_ireturn0, ↓w_invokevirtual_1, ↓w_invokeinterface_1, stw_0, stw_i, stw_l, stw_r, ofK0, ofK1, ofK2, lst1, lst2, lkill, kont_none, kont_some, Int.reduceToNat, List.length_cons, List.length_nil, Nat.reduceAdd, Nat.reduceLeDiff, Nat.zero_le, true_and, and_true, if_true, if_false, ne_eq, Int.reduceEq, Int.reduceNeg, not_false_eq_true, not_true_eq_false, ↓reduceIte, Int.reduceLT, Int.reduceLE, and_self, or_true, true_or, or_false, false_or, false_and, and_false, ah_t_w, ah_m_w, ah_n_w, lst1_0, List.tail_cons, w32_i, zbd, lst2_0, xt_1a hK, x_0, xf_1_12 hK, xb_t hK, xl_8t hK, s_t hK hS, s_5 hK hS, s_5a hK hS, s_5b hK hS, c_104 hK, eq_true g0, eq_true g1, c_40 (xl_8 hK) g0 g1, xe, fi_t hK g0 g1, fi_2 hK g0 g1, asc, Option.isSome_some, f1]
      · by_cases f2 : w = 2
        · simp (disch := omega) only [q_103_0, b_103_0, q_103_10, b_103_10, q_103_38, b_103_38, q_103_50, b_103_50, q_103_67, b_103_67, q_103_68, b_103_68, ↓w_iconst, ↓w_aload_n_0, ↓w_iload_n_1, ↓w_iload_n_2, ↓w_aload_n_3, ↓w_astore_n_3, ↓w_getfield, ↓w_iaload, ↓w_checkcast, ↓w_nop, ↓w_goto, ↓w_ifCond_ne, ↓w_if_icmp_ne, ↓w_ireturn0, ↓w_invokevirtual_1, ↓w_invokeinterface_1, stw_0, stw_i, stw_l, stw_r, ofK0, ofK1, ofK2, lst1, lst2, lkill, kont_none, kont_some, Int.reduceToNat, List.length_cons, List.length_nil, Nat.reduceAdd, Nat.reduceLeDiff, Nat.zero_le, true_and, and_true, if_true, if_false, ne_eq, Int.reduceEq, Int.reduceNeg, not_false_eq_true, not_true_eq_false, ↓reduceIte, Int.reduceLT, Int.reduceLE, and_self, or_true, true_or, or_false, false_or, false_and, and_false, ah_t_w, ah_m_w, ah_n_w, lst1_0, List.tail_cons, w32_i, zbd, lst2_0, xt_1a hK, x_0, xf_1_12 hK, xb_t hK, xl_8t hK, s_t hK hS, s_5 hK hS, s_5a hK hS, s_5b hK hS, c_104 hK, eq_true g0, eq_true g1, c_40 (xl_8 hK) g0 g1, xe, fi_t hK g0 g1, asc, Option.isSome_some, f2, eb, g0, m8]
        · simp (disch := omega) only [q_103_0, b_103_0, q_103_10, b_103_10, q_103_38, b_103_38, q_103_50, b_103_50, q_103_67, b_103_67, q_103_68, b_103_68, ↓w_iconst, ↓w_aload_n_0, ↓w_iload_n_1, ↓w_iload_n_2, ↓w_aload_n_3, ↓w_astore_n_3, ↓w_getfield, ↓w_iaload, ↓w_checkcast, ↓w_nop, ↓w_goto, ↓w_ifCond_ne, ↓w_if_icmp_ne, ↓w_ireturn0, ↓w_invokevirtual_1, ↓w_invokeinterface_1, stw_0, stw_i, stw_l, stw_r, ofK0, ofK1, ofK2, lst1, lst2, lkill, kont_none, kont_some, Int.reduceToNat, List.length_cons, List.length_nil, Nat.reduceAdd, Nat.reduceLeDiff, Nat.zero_le, true_and, and_true, if_true, if_false, ne_eq, Int.reduceEq, Int.reduceNeg, not_false_eq_true, not_true_eq_false, ↓reduceIte, Int.reduceLT, Int.reduceLE, and_self, or_true, true_or, or_false, false_or, false_and, and_false, ah_t_w, ah_m_w, ah_n_w, lst1_0, List.tail_cons, w32_i, zbd, lst2_0, xt_1a hK, x_0, xf_1_12 hK, xb_t hK, xl_8t hK, s_t hK hS, s_5 hK hS, s_5a hK hS, s_5b hK hS, c_104 hK, eq_true g0, eq_true g1, c_40 (xl_8 hK) g0 g1, xe, fi_t hK g0 g1, asc, Option.isSome_some, f0, f1, f2]
  · rw [if_neg g]
    simp (disch := omega) only [q_103_0, b_103_0, ↓w_iconst, ↓w_aload_n_0, ↓w_iload_n_1, ↓w_ifCond_ne, ↓w_ireturn0, ↓w_invokevirtual_1, stw_0, stw_i, stw_l, stw_r, ofK0, ofK1, ofK2, lst1, lst2, lkill, kont_none, kont_some, Int.reduceToNat, List.length_cons, List.length_nil, Nat.reduceAdd, Nat.reduceLeDiff, Nat.zero_le, true_and, and_true, if_true, if_false, ne_eq, Int.reduceEq, Int.reduceNeg, not_false_eq_true, not_true_eq_false, ↓reduceIte, Int.reduceLT, Int.reduceLE, and_self, or_true, true_or, or_false, false_or, false_and, and_false, ah_t_w, ah_m_w, ah_n_w, lst1_0, List.tail_cons, w32_i, zbd, lst2_0, xt_1a hK, c_104 hK, eq_false g]
theorem c_105 (hA : XA T nw h) : wpC (d + 3) 105 [.inr (.inr 1), .inl x, .inl y] h Q ↔ Q (.inl (some (.inl (if (0 ≤ x ∧ x < T 1074 4) ∧ (0 ≤ y ∧ y < T 1074 5) then zat T nw x y else -1)))) h := by
  have hK := hA.1
  have hS := hA.2.1
  have hC := hK.2.2.2.2.2.1; have hR := hK.2.2.2.2.2.2.1
  apply CT_iff; apply CT_of; rw [wpC_B]; refine ⟨⟨Nat.zero_lt_succ _, Nat.le_of_ble_eq_true rfl⟩, ?_⟩; simp only [lent]
  by_cases g : (0 ≤ x ∧ x < T 1074 4) ∧ (0 ≤ y ∧ y < T 1074 5)
  · have eo : ah_m h (25 + 2) (5 * y + x) = zat T nw x y := by
      rw [so hS (by omega) (by omega)]; unfold zon5
      rw [show (5 * y + x) % 5 = x by omega, show (5 * y + x) / 5 = y by omega]
    have b0 : 0 ≤ 5 * y + x := by omega
    have b1 : 5 * y + x < 25 := by omega
    rw [if_pos g]
    simp (disch := omega) only [q_105_0, b_105_0, q_105_25, b_105_25, q_105_26, b_105_26, ↓w_iconst, ↓w_aload_n_0, ↓w_iload_n_1, ↓w_iload_n_2, ↓w_iadd, ↓w_imul, ↓w_getfield, ↓w_iaload, ↓w_nop, ↓w_goto, ↓w_ifCond_eq, ↓w_ireturn0, ↓w_invokevirtual_2, stw_0, stw_i, stw_l, stw_r, ofK0, ofK1, ofK2, lst1, lst2, lkill, kont_none, kont_some, Int.reduceToNat, List.length_cons, List.length_nil, Nat.reduceAdd, Nat.reduceLeDiff, Nat.zero_le, true_and, and_true, if_true, if_false, ne_eq, Int.reduceEq, Int.reduceNeg, not_false_eq_true, not_true_eq_false, ↓reduceIte, Int.reduceLT, Int.reduceLE, and_self, or_true, true_or, or_false, false_or, false_and, and_false, ah_t_w, ah_m_w, ah_n_w, lst1_0, List.tail_cons, w32_i, zbd, lst2_0, xt_1a hK, xf_1_12 hK, s_t hK hS, s_4 hK hS, s_4a hK hS, s_4b hK hS, c_106 hK, eq_true g, eo, b0, b1]
  · rw [if_neg g]
    simp (disch := omega) only [q_105_0, b_105_0, q_105_25, b_105_25, q_105_26, b_105_26, ↓w_iconst, ↓w_aload_n_0, ↓w_iload_n_1, ↓w_iload_n_2, ↓w_iadd, ↓w_imul, ↓w_getfield, ↓w_iaload, ↓w_nop, ↓w_goto, ↓w_ifCond_eq, ↓w_ireturn0, ↓w_invokevirtual_2, stw_0, stw_i, stw_l, stw_r, ofK0, ofK1, ofK2, lst1, lst2, lkill, kont_none, kont_some, Int.reduceToNat, List.length_cons, List.length_nil, Nat.reduceAdd, Nat.reduceLeDiff, Nat.zero_le, true_and, and_true, if_true, if_false, ne_eq, Int.reduceEq, Int.reduceNeg, not_false_eq_true, not_true_eq_false, ↓reduceIte, Int.reduceLT, Int.reduceLE, and_self, or_true, true_or, or_false, false_or, false_and, and_false, ah_t_w, ah_m_w, ah_n_w, lst1_0, List.tail_cons, w32_i, zbd, lst2_0, xt_1a hK, xf_1_12 hK, s_t hK hS, s_4 hK hS, s_4a hK hS, s_4b hK hS, c_106 hK, eq_false g]
theorem c_108 (hA : XA T nw h) (hX : NX T nw) (h40 : nw 24 ≤ 40) (hQ : ∀ h', XA T nw h' → XM T 22 (zav T nw) h' → ((zav T nw).length : Int) ≤ 200 → Off (Wmv 22) h h' → Q (.inl (some (.inl (zall T nw)))) h') : wpC (d + 8) 108 [.inr (.inr 1)] h Q := by
  have hK := hA.1
  have hS := hA.2.1
  have hN := NX_N hX
  have hC := hK.2.2.2.2.2.1
  have hVv : isV 22 := by unfold isV; omega
  have hz := @zcn_z T nw (zn T) 0
  have hz0 := @zcn_0 T nw (zn T) 0
  have hO0 : Off (Wmv 22) h (ah_w h 22 2 0) := Off_w Off_rfl (Or.inl ⟨rfl, rfl⟩)
  have hA0 := XA_mv hA h40 hVv hO0
  have emp : zav T nw = [] → XM T 22 (zav T nw) (ah_w h 22 2 0) := fun e => by rw [e]; exact ⟨by rw [ah_m_w, if_pos ⟨rfl, rfl⟩]; rfl, trivial⟩
  rw [wpC_B]; refine ⟨⟨Nat.zero_lt_succ _, Nat.le_of_ble_eq_true rfl⟩, ?_⟩; simp only [lent]
  have hK0 := hA0.1
  have hS0 := hA0.2.1
  simp (disch := omega) only [q_108_0, b_108_0, ↓w_iconst, ↓w_aload_n_0, ↓w_getfield, ↓w_putfield_0, ↓w_nop, ↓w_ifCond_eq, ↓w_ifCond_ne, ↓w_invokevirtual_0, ↓w_invokevirtual_2, stw_0, stw_i, stw_l, stw_r, ofK0, ofK1, ofK2, lst1, lst2, lkill, kont_none, kont_some, Int.reduceToNat, List.length_cons, List.length_nil, Nat.reduceAdd, Nat.reduceLeDiff, Nat.zero_le, true_and, and_true, if_true, if_false, ne_eq, Int.reduceEq, Int.reduceNeg, not_false_eq_true, not_true_eq_false, ↓reduceIte, Int.reduceLT, Int.reduceLE, and_self, or_true, true_or, or_false, false_or, false_and, and_false, ah_t_w, ah_m_w, ah_n_w, lst1_0, List.tail_cons, w32_i, zbd, lst2_0, xt_1a hK, xf_1_11 hK, xf_1_12 hK, vv_t hK hVv, s_t hK hS, s_1 hS, s_7 hS]
  generalize hg : ah_w h 22 2 0 = g0 at *
  have many : ∀ {h'}, XG T h' → ∀ L, XM T 22 L h' → wpB (d + 7) 108 43 [some (.inr (.inr 1))] [] h' (fun o h1 => o = .inl (some (.inl L.length)) ∧ h1 = h') := by
    intro h' hK' L hx
    have e2 := hx.1
    simp (disch := omega) only [q_108_43, b_108_43, ↓w_aload_n_0, ↓w_getfield, ↓w_ireturn0, stw_0, stw_i, stw_l, stw_r, ofK0, ofK1, ofK2, lst1, lst2, lkill, kont_none, kont_some, Int.reduceToNat, List.length_cons, List.length_nil, Nat.reduceAdd, Nat.reduceLeDiff, Nat.zero_le, true_and, and_true, if_true, if_false, ne_eq, Int.reduceEq, Int.reduceNeg, not_false_eq_true, not_true_eq_false, ↓reduceIte, Int.reduceLT, Int.reduceLE, and_self, or_true, true_or, or_false, false_or, false_and, and_false, ah_t_w, ah_m_w, ah_n_w, lst1_0, List.tail_cons, w32_i, zbd, lst2_0, xt_1a hK', xf_1_11 hK', vv_t hK' hVv, e2]
  by_cases g : 0 < T 1074 4
  · by_cases g2 : zcr T nw = true
    · have g3 : ¬ zcn T nw (zn T) 0 = 0 := by have := hz.1 g2; omega
      have ez : zav T nw = [] := by unfold zav; rw [if_pos g2]
      have hQ := hQ _ hA0 (emp ez) (by rw [ez]; simp) hO0
      rw [← zav_len] at hQ
      simp (disch := omega) only [b_108_0, ↓w_iconst, ↓w_aload_n_0, ↓w_getfield, ↓w_putfield_0, ↓w_nop, ↓w_ifCond_eq, ↓w_ifCond_ne, ↓w_invokevirtual_0, ↓w_invokevirtual_2, stw_0, stw_i, stw_l, stw_r, ofK0, ofK1, ofK2, lst1, lst2, lkill, kont_none, kont_some, Int.reduceToNat, List.length_cons, List.length_nil, Nat.reduceAdd, Nat.reduceLeDiff, Nat.zero_le, true_and, and_true, if_true, if_false, ne_eq, Int.reduceEq, Int.reduceNeg, not_false_eq_true, not_true_eq_false, ↓reduceIte, Int.reduceLT, Int.reduceLE, and_self, or_true, true_or, or_false, false_or, false_and, and_false, ah_t_w, ah_m_w, ah_n_w, lst1_0, List.tail_cons, w32_i, zbd, lst2_0, xt_1a hK0, xf_1_11 hK0, xf_1_12 hK0, vv_t hK0 hVv, s_t hK0 hS0, s_1 hS0, s_7 hS0, c_98 hK0, g, g3]
      exact wpB_mono (many hK0 _ (emp ez)) (fun o h1 q => by rw [q.1, q.2]; exact hQ)
    · have g3 : zcn T nw (zn T) 0 = 0 := by
        have : ¬ 0 < zcn T nw (zn T) 0 := fun q => g2 (hz.2 q)
        omega
      have ez : zav T nw = zmv T nw := by unfold zav; rw [if_neg g2]
      simp (disch := omega) only [b_108_0, ↓w_iconst, ↓w_aload_n_0, ↓w_getfield, ↓w_putfield_0, ↓w_nop, ↓w_ifCond_eq, ↓w_ifCond_ne, ↓w_invokevirtual_0, ↓w_invokevirtual_2, stw_0, stw_i, stw_l, stw_r, ofK0, ofK1, ofK2, lst1, lst2, lkill, kont_none, kont_some, Int.reduceToNat, List.length_cons, List.length_nil, Nat.reduceAdd, Nat.reduceLeDiff, Nat.zero_le, true_and, and_true, if_true, if_false, ne_eq, Int.reduceEq, Int.reduceNeg, not_false_eq_true, not_true_eq_false, ↓reduceIte, Int.reduceLT, Int.reduceLE, and_self, or_true, true_or, or_false, false_or, false_and, and_false, ah_t_w, ah_m_w, ah_n_w, lst1_0, List.tail_cons, w32_i, zbd, lst2_0, xt_1a hK0, xf_1_11 hK0, xf_1_12 hK0, vv_t hK0 hVv, s_t hK0 hS0, s_1 hS0, s_7 hS0, c_98 hK0, g, g3]
      refine c_215 (d := d) hK0 hS0 h40 hN hVv (fun h1 hx hlen hO1 => ?_)
      have hx : XM T 22 (zav T nw) h1 := by rw [ez]; exact hx
      have hA1 := XA_mv hA0 h40 hVv hO1
      have hQ := hQ h1 hA1 hx (by rw [ez]; exact hlen) (Off_tr hO0 hO1)
      rw [← zav_len] at hQ
      simp (disch := omega) only [b_108_0, ↓w_iconst, ↓w_aload_n_0, ↓w_getfield, ↓w_putfield_0, ↓w_nop, ↓w_ifCond_eq, ↓w_ifCond_ne, ↓w_invokevirtual_0, ↓w_invokevirtual_2, stw_0, stw_i, stw_l, stw_r, ofK0, ofK1, ofK2, lst1, lst2, lkill, kont_none, kont_some, Int.reduceToNat, List.length_cons, List.length_nil, Nat.reduceAdd, Nat.reduceLeDiff, Nat.zero_le, true_and, and_true, if_true, if_false, ne_eq, Int.reduceEq, Int.reduceNeg, not_false_eq_true, not_true_eq_false, ↓reduceIte, Int.reduceLT, Int.reduceLE, and_self, or_true, true_or, or_false, false_or, false_and, and_false, ah_t_w, ah_m_w, ah_n_w, lst1_0, List.tail_cons, w32_i, zbd, lst2_0]
      exact wpB_mono (many hA1.1 _ hx) (fun o h1 q => by rw [q.1, q.2]; exact hQ)
  · have ez : zav T nw = [] := zav_0 (by omega)
    have hQ := hQ _ hA0 (emp ez) (by rw [ez]; simp) hO0
    rw [← zav_len] at hQ
    simp (disch := omega) only [b_108_0, ↓w_iconst, ↓w_aload_n_0, ↓w_getfield, ↓w_putfield_0, ↓w_nop, ↓w_ifCond_eq, ↓w_ifCond_ne, ↓w_invokevirtual_0, ↓w_invokevirtual_2, stw_0, stw_i, stw_l, stw_r, ofK0, ofK1, ofK2, lst1, lst2, lkill, kont_none, kont_some, Int.reduceToNat, List.length_cons, List.length_nil, Nat.reduceAdd, Nat.reduceLeDiff, Nat.zero_le, true_and, and_true, if_true, if_false, ne_eq, Int.reduceEq, Int.reduceNeg, not_false_eq_true, not_true_eq_false, ↓reduceIte, Int.reduceLT, Int.reduceLE, and_self, or_true, true_or, or_false, false_or, false_and, and_false, ah_t_w, ah_m_w, ah_n_w, lst1_0, List.tail_cons, w32_i, zbd, lst2_0, xt_1a hK0, xf_1_11 hK0, xf_1_12 hK0, vv_t hK0 hVv, s_t hK0 hS0, s_1 hS0, s_7 hS0, c_98 hK0, g]
    exact wpB_mono (many hK0 _ (emp ez)) (fun o h1 q => by rw [q.1, q.2]; exact hQ)
end Z2
