/-! ===== X: undo, play, tend, days, chance ===== -/
section A3
variable {W : Int → Int → Prop} {d : Nat} {h h' h1 h0 : AH} {Q : QQ} {x y z m k s l w a b v n p r o i f D0 D1 rm fr R : Int} {S T T' : Int → Int → Int} {t nw nw' pt of tp sr hm g : Int → Int} {tl : ALoc} {c : Int × Int × Int} {ul : List (Int → Int)}
set_option maxHeartbeats 4000000
/-- what acts on what is write -/
def Wac (r i : Int) : Prop := ((14 ≤ r ∧ r ≤ 16 ∧ r ≠ 15) ∨ (19 ≤ r ∧ r ≤ 24) ∨ (25 ≤ r ∧ r ≤ 69) ∨ (1020 ≤ r ∧ r ≤ 1034)) ∧ ¬ fix r i
theorem Wac_ok : ∀ r i, Wac r i → ¬ fix r i ∧ ¬ BRr r ∧ ¬ (r = 1 ∧ i = 0) := fun r i w => ⟨w.2, by have := w.1; unfold BRr; omega, by have := w.1; omega⟩
theorem Wac_H : ∀ r i, Wac r i → r < 1121 ∧ ¬ BRr r ∧ ¬ (r = 1 ∧ i = 0) := fun r i w => ⟨by have := w.1; omega, (Wac_ok r i w).2⟩
theorem XA_ac (hA : XA T nw h) (hO : Off Wac h h') (hS : XS T nw' 25 h') : XA T nw' h' := by
  refine ⟨XG_off hA.1 hO Wac_ok, hS, XH_off hA.2.2.1 hA.1.2.1 hO Wac_H, fun s hs => ?_⟩
  by_cases g : s = 25
  · rw [g]; exact hS.2.2.2.2.2.2
  · exact RP_off (hA.2.2.2 s hs) hO (fun r i w => by have := w.1; unfold isS at hs; omega)
theorem XU_ac (hU : XU T ul h) (hO : Off Wac h h') : XU T ul h' := XU_off hU hO (fun r i w => by have := w.1; omega)
theorem Wac_cp : ∀ r i, Wcp 25 r i → Wac r i := fun r i w => ⟨by unfold Wcp at w; omega, (Wcp_ok is25 r i w).1⟩
theorem Wac_ps : ∀ r i, Wps 25 r i → Wac r i := fun r i w => ⟨by unfold Wps Wmv at w; omega, (Wps_ok is25 r i w).1⟩
theorem Wac_be : ∀ r i, Wbe 3 25 r i → Wac r i := fun r i w => ⟨by unfold Wbe Wva WSs Wmv at w; omega, (Wbe_ok is25 r i w).1⟩
theorem Wac_dy : ∀ r i, Wdy 25 r i → Wac r i := fun r i w => w.elim (Wac_ps r i) (Wac_be r i)
theorem Wac_mv (hV : isV v) : ∀ r i, Wmv v r i → Wac r i := fun r i w => ⟨by unfold Wmv at w; unfold isV at hV; omega, (Wmv_ok hV r i w).1⟩
theorem c_133 (hA : XA T nw h) (hF : FV nw) (hU : XU T ul h)
    (hQ0 : ul = [] → Q (.inl (some (.inl 0))) (ah_w h 17 4 (w32 (ah_m h 17 4 + 1))))
    (hQ1 : ∀ h' r l, ul = r :: l → XA T (zmix r nw) h' → XU T l h' → Off (fun r i => Wac r i ∨ (r = 1 ∧ i = 20)) h h' → Q (.inl (some (.inl 1))) h') : wpC (d + 2) 133 [.inr (.inr 1)] h Q := by
  have hK := hA.1
  have n8 := hK.2.2.2.1; have n6 := hK.2.2.2.2.1
  have e20 := hU.1
  rw [wpC_B]; refine ⟨⟨Nat.zero_lt_succ _, Nat.le_of_ble_eq_true rfl⟩, ?_⟩; simp only [lent]
  cases ul with
  | nil =>
    have e20 : ah_m h 1 20 = 0 := e20
    simp (disch := omega) only [q_133_0, b_133_0, q_133_19, b_133_19, q_133_20, b_133_20, ↓w_iconst, ↓w_aload_n_0, ↓w_getfield, ↓w_nop, ↓w_goto, ↓w_ifCond_ne, ↓w_ifCond_lt, ↓w_ireturn1, ↓w_invokevirtual_1, stw_0, stw_i, stw_l, stw_r, ofK0, ofK1, ofK2, lst1, lst2, lkill, kont_none, kont_some, Int.reduceToNat, List.length_cons, List.length_nil, Nat.reduceAdd, Nat.reduceLeDiff, Nat.zero_le, true_and, and_true, if_true, if_false, ne_eq, Int.reduceEq, Int.reduceNeg, not_false_eq_true, not_true_eq_false, ↓reduceIte, Int.reduceLT, Int.reduceLE, and_self, or_true, true_or, or_false, false_or, false_and, and_false, ah_t_w, ah_m_w, ah_n_w, lst1_0, List.tail_cons, w32_i, zbd, lst2_0, xt_1a hK, e20, c_85 hK]
    exact hQ0 rfl
  | cons r0 l0 =>
    have hl := hU.2.1
    simp only [List.length_cons] at e20 hl
    have e20 : ah_m h 1 20 = l0.length + 1 := by rw [e20]; omega
    have g : ¬ (l0.length : Int) + 1 = 0 := by omega
    have g2 : (l0.length : Int) + 1 - 1 = l0.length := by omega
    have hx := hU.2.2.2
    have hP := hU.2.2.1
    have pk := hP.1 l0.length (by omega) (by omega)
    have hx1 := hx.1.1
    rw [show (0 : Int) + l0.length = l0.length by omega] at hx1
    generalize eo : ah_m h 119 l0.length = o at *
    have b0 : 0 ≤ (l0.length : Int) := by omega
    have b1 : (l0.length : Int) < 20 := by omega
    have tS := sz_t hK is25
    have hOw : Off (fun r i => r = 1 ∧ i = 20) h (ah_w h 1 20 l0.length) := Off_w Off_rfl ⟨rfl, rfl⟩
    have okw : ∀ r i, (r = 1 ∧ i = 20) → ¬ fix r i ∧ ¬ BRr r ∧ ¬ (r = 1 ∧ i = 0) := fun r i w => by unfold fix BRr isS isV; omega
    simp (disch := omega) only [q_133_0, b_133_0, q_133_21, b_133_21, ↓w_iconst, ↓w_aload_n_0, ↓w_dup_i, ↓w_dup_a, ↓w_pop_i, ↓w_pop_a, ↓w_isub, ↓w_getfield, ↓w_putfield_0, ↓w_aaload, ↓w_goto, ↓w_ifCond_ne, ↓w_ifCond_lt, ↓w_ireturn1, ↓w_invokevirtual_1, stw_0, stw_i, stw_l, stw_r, ofK0, ofK1, ofK2, lst1, lst2, lkill, kont_none, kont_some, Int.reduceToNat, List.length_cons, List.length_nil, Nat.reduceAdd, Nat.reduceLeDiff, Nat.zero_le, true_and, and_true, if_true, if_false, ne_eq, Int.reduceEq, Int.reduceNeg, not_false_eq_true, not_true_eq_false, ↓reduceIte, Int.reduceLT, Int.reduceLE, and_self, or_true, true_or, or_false, false_or, false_and, and_false, ah_t_w, ah_m_w, ah_n_w, lst1_0, List.tail_cons, w32_i, zbd, lst2_0, xt_1a hK, xf_1_12 hK, xf_1_19 hK, xt_119a hK, xt_119b hK, e20, g, g2, b0, b1, eo, tS]
    generalize hg0 : ah_w h 1 20 l0.length = g0 at *
    have hK0 := XG_off hK hOw okw
    have hs := pk.1
    have hx0 := XS_off hx1 hx.1.2.2 hOw (fun r i w => by unfold isS at hs; omega)
    have hS0 := XS_off hA.2.1 hF.2.2.2 hOw (fun r i w => by omega)
    have hA0 : XA T nw g0 := ⟨hK0, hS0, XH_off hA.2.2.1 hK.2.1 hOw (fun r i w => ⟨by omega, (okw r i w).2⟩), fun s hs => RP_off (hA.2.2.2 s hs) hOw (fun r i w => by unfold isS at hs; omega)⟩
    refine c_220 (d := d) hK0 hx0 is25 (by omega) (hA0.2.2.2 25 is25) hx.1.2.2 hx.1.2.1 (fun h2 hK2 hS2 hS2' hO2 => ?_)
    have hO2' := Off_mono Wac_cp hO2
    have hmx : ∀ i, 0 ≤ i → i < 225 → zmix r0 nw i = r0 i := fun i a b => by unfold zmix; rw [if_pos ⟨a, b⟩]
    have hS3 := XS_c hS2 n8 n6 hx.1.2 hmx
    have hU0 : XU T l0 g0 := ⟨by rw [← hg0, ah_m_w, if_pos ⟨rfl, rfl⟩], by omega, KP_off hP hOw (fun r i w => by omega), XUo_off hP hOw (fun r i w => by omega) (by omega) l0 (by omega) hx.2⟩
    simp (disch := omega) only [b_133_21, ↓w_iconst, ↓w_aload_n_0, ↓w_dup_i, ↓w_dup_a, ↓w_pop_i, ↓w_pop_a, ↓w_isub, ↓w_getfield, ↓w_putfield_0, ↓w_aaload, ↓w_ireturn1, ↓w_invokevirtual_1, stw_0, stw_i, stw_l, stw_r, ofK0, ofK1, ofK2, lst1, lst2, lkill, kont_none, kont_some, Int.reduceToNat, List.length_cons, List.length_nil, Nat.reduceAdd, Nat.reduceLeDiff, Nat.zero_le, true_and, and_true, if_true, if_false, ne_eq, Int.reduceEq, Int.reduceNeg, not_false_eq_true, not_true_eq_false, ↓reduceIte, Int.reduceLT, Int.reduceLE, and_self, or_true, true_or, or_false, false_or, false_and, and_false, ah_t_w, ah_m_w, ah_n_w, lst1_0, List.tail_cons, w32_i, zbd, lst2_0]
    exact hQ1 h2 r0 l0 rfl (XA_ac hA0 hO2' hS3) (XU_ac hU0 hO2') (Off_tr (Off_mono (fun r i w => Or.inr w) hOw) (Off_mono (fun r i w => Or.inl w) hO2'))
theorem zpc_no (hh : ¬ (0 ≤ k ∧ k < zall T nw)) : (zpc T nw k 0 0).1 = -1 := by
  unfold zpc
  split
  · rfl
  · rename_i q
    have : zpk (zmv T nw) 0 k = none := by
      refine zpk_none _ _ _ (fun u => hh ⟨by omega, ?_⟩)
      unfold zall
      rw [if_neg (fun z => q (Or.inr z))]; omega
    rw [this]
theorem c_134 (hA : XA T nw h) (hX : NX T nw) (hF : FV nw) (hU : XU T ul h)
    (hQ0 : ∀ h', (zpc T nw k 0 0).1 = -1 ∨ nw 0 + 1 > 999 → XA T nw h' → XU T ul h' → Off (fun r i => Wmv 22 r i ∨ (r = 17 ∧ i = 2)) h h' → ah_m h' 17 2 = w32 (ah_m h 17 2 + 1) → Q (.inl (some (.inl (-1)))) h')
    (hQ1 : ∀ h', ¬ ((zpc T nw k 0 0).1 = -1 ∨ nw 0 + 1 > 999) → XA T (zdy T nw 0 (zpc T nw k 0 0)) h' → XU T ((nw :: ul).take 20) h' → Off (fun r i => Wac r i ∨ Wkp r i) h h' → Q (.inl (some (.inl (ztl' T nw (zpc T nw k 0 0).2.2)))) h') : wpC (d + 44) 134 [.inr (.inr 1), .inl k] h Q := by
  have hK := hA.1
  have h40 := hF.2.2.2
  have hV : isV 22 := by unfold isV; omega
  have el := @zav_len T nw
  have d0 := hF.1
  rw [wpC_B]; refine ⟨⟨Nat.zero_lt_succ _, Nat.le_of_ble_eq_true rfl⟩, ?_⟩; simp only [lent]
  simp (disch := omega) only [q_134_0, b_134_0, ↓w_iconst, ↓w_aload_n_0, ↓w_iload_n_1, ↓w_isub, ↓w_nop, ↓w_ifCond_eq, ↓w_ifCond_ne, ↓w_invokevirtual_0, ↓w_invokestatic_3, ↓w_invokevirtual_3, stw_0, stw_i, stw_l, stw_r, ofK0, ofK1, ofK2, lst1, lst2, lkill, kont_none, kont_some, Int.reduceToNat, List.length_cons, List.length_nil, Nat.reduceAdd, Nat.reduceLeDiff, Nat.zero_le, true_and, and_true, if_true, if_false, ne_eq, Int.reduceEq, Int.reduceNeg, not_false_eq_true, not_true_eq_false, ↓reduceIte, Int.reduceLT, Int.reduceLE, and_self, or_true, true_or, or_false, false_or, false_and, and_false, ah_t_w, ah_m_w, ah_n_w, lst1_0, List.tail_cons, w32_i, zbd, lst2_0, xt_1a hK]
  refine c_108 (d := d + 35) hA hX h40 (fun h1 hA1 hx hlen hO1 => ?_)
  have hK1 := hA1.1
  have hb : 0 ≤ (zall T nw : Int) ∧ (zall T nw : Int) ≤ 200 := by rw [← el]; omega
  have hU1 := XU_ac hU (Off_mono (Wac_mv hV) hO1)
  have r17 : ah_m h1 17 2 = ah_m h 17 2 := hO1.2 _ _ (by unfold Wmv; omega)
  have bad : ((zpc T nw k 0 0).1 = -1 ∨ nw 0 + 1 > 999) → wpB (d + 43) 134 24 [some (.inr (.inr 1)), some (.inl k)] [] h1 Q := by
    intro e
    simp (disch := omega) only [q_134_24, b_134_24, ↓w_iconst, ↓w_aload_n_0, ↓w_ireturn0, ↓w_invokevirtual_1, stw_0, stw_i, stw_l, stw_r, ofK0, ofK1, ofK2, lst1, lst2, lkill, kont_none, kont_some, Int.reduceToNat, List.length_cons, List.length_nil, Nat.reduceAdd, Nat.reduceLeDiff, Nat.zero_le, true_and, and_true, if_true, if_false, ne_eq, Int.reduceEq, Int.reduceNeg, not_false_eq_true, not_true_eq_false, ↓reduceIte, Int.reduceLT, Int.reduceLE, and_self, or_true, true_or, or_false, false_or, false_and, and_false, ah_t_w, ah_m_w, ah_n_w, lst1_0, List.tail_cons, w32_i, zbd, lst2_0, xt_1a hK1, c_85 hK1]
    have hO2 : Off (fun r i => r = 17 ∧ i = 2) h1 (ah_w h1 17 2 (w32 (ah_m h1 17 2 + 1))) := Off_w Off_rfl ⟨rfl, rfl⟩
    have okw : ∀ r i, (r = 17 ∧ i = 2) → ¬ fix r i ∧ ¬ BRr r ∧ ¬ (r = 1 ∧ i = 0) := fun r i w => by unfold fix BRr isS isV; omega
    refine hQ0 _ e ⟨XG_off hK1 hO2 okw, XS_off hA1.2.1 h40 hO2 (fun r i w => by omega), XH_off hA1.2.2.1 hK1.2.1 hO2 (fun r i w => ⟨by omega, (okw r i w).2⟩), fun s hs => RP_off (hA1.2.2.2 s hs) hO2 (fun r i w => by unfold isS at hs; omega)⟩ (XU_off hU1 hO2 (fun r i w => by omega)) (Off_tr (Off_mono (fun r i w => Or.inl w) hO1) (Off_mono (fun r i w => Or.inr w) hO2)) ?_
    rw [ah_m_w, if_pos ⟨rfl, rfl⟩, r17]
  by_cases g : 0 ≤ k ∧ k ≤ (zall T nw : Int) - 1
  · have e1 := zpc_1 (T := T) (nw := nw) g.1 (by omega)
    have gT : 0 < T 1074 4 := by
      have hC := hK.2.2.2.2.2.1
      by_cases q : T 1074 4 = 0
      · rw [← el, zav_0 q] at g; simp at g; omega
      · omega
    by_cases gd : nw 0 + 1 ≤ 999
    · have ne : ¬ ((zpc T nw k 0 0).1 = -1 ∨ nw 0 + 1 > 999) := by omega
      simp (disch := omega) only [b_134_0, q_134_30, b_134_30, ↓w_iconst, ↓w_sipush, ↓w_aload_n_0, ↓w_iload_n_1, ↓w_iload_n_2, ↓w_istore_n_2, ↓w_isub, ↓w_getfield, ↓w_nop, ↓w_goto, ↓w_ifCond_eq, ↓w_ifCond_ne, ↓w_if_icmp_ne, ↓w_invokevirtual_0, ↓w_invokevirtual_1, ↓w_invokestatic_3, ↓w_invokevirtual_3, stw_0, stw_i, stw_l, stw_r, ofK0, ofK1, ofK2, lst1, lst2, lkill, kont_none, kont_some, Int.reduceToNat, List.length_cons, List.length_nil, Nat.reduceAdd, Nat.reduceLeDiff, Nat.zero_le, true_and, and_true, if_true, if_false, ne_eq, Int.reduceEq, Int.reduceNeg, not_false_eq_true, not_true_eq_false, ↓reduceIte, Int.reduceLT, Int.reduceLE, and_self, or_true, true_or, or_false, false_or, false_and, and_false, ah_t_w, ah_m_w, ah_n_w, lst1_0, List.tail_cons, w32_i, zbd, lst2_0, xt_1a hK1, xf_1_12 hK1, is_1 g, ahd_1 hA1 hF (n := 1) (a := 1) (b := 1) (by omega) (by omega) (by omega) ⟨gT, by omega, gd⟩]
      refine c_135 (d := d + 41) hA1 hF hU1 (fun h2 hA2 hU2 hO2 => ?_)
      have hK2 := hA2.1
      have hcp : zcpk T nw (zpc T nw k 0 0) := zpc_cp
      have tS := sz_t hK2 is25
      simp (disch := omega) only [b_134_30, ↓w_iconst, ↓w_sipush, ↓w_aload_n_0, ↓w_iload_n_1, ↓w_iload_n_2, ↓w_istore_n_2, ↓w_getfield, ↓w_goto, ↓w_if_icmp_ne, ↓w_invokevirtual_0, ↓w_invokevirtual_1, stw_0, stw_i, stw_l, stw_r, ofK0, ofK1, ofK2, lst1, lst2, lkill, kont_none, kont_some, Int.reduceToNat, List.length_cons, List.length_nil, Nat.reduceAdd, Nat.reduceLeDiff, Nat.zero_le, true_and, and_true, if_true, if_false, ne_eq, Int.reduceEq, Int.reduceNeg, not_false_eq_true, not_true_eq_false, ↓reduceIte, Int.reduceLT, Int.reduceLE, and_self, or_true, true_or, or_false, false_or, false_and, and_false, ah_t_w, ah_m_w, ah_n_w, lst1_0, List.tail_cons, w32_i, zbd, lst2_0, xt_1a hK2, xf_1_12 hK2, tS]
      rw [← e1]
      refine c_230 (d := d) hK2 hA2.2.1 hX hA2.2.2.1 hF (by omega) hcp (fun h3 hK3 hS3 hH3 hO3 _ => ?_)
      rw [e1]
      have hO3' := Off_mono Wac_ps hO3
      have hQ3 := hQ1 h3 ne (XA_ac hA2 hO3' hS3) (XU_ac hU2 hO3') (Off_tr (Off_mono (fun r i w => Or.inl (Wac_mv hV r i w)) hO1) (Off_tr (Off_mono (fun r i w => Or.inr w) hO2) (Off_mono (fun r i w => Or.inl w) hO3')))
      have kn : ¬ k = -1 := by omega
      rw [if_neg kn]
      unfold ztl' at hQ3
      by_cases g4 : zat T nw ((zpc T nw k 0 0).2.2 % T 1074 4) ((zpc T nw k 0 0).2.2 / T 1074 4) = -1
      · rw [if_pos g4] at hQ3
        simp (disch := omega) only [b_134_30, q_134_55, b_134_55, ↓w_iconst, ↓w_sipush, ↓w_aload_n_0, ↓w_iload_n_1, ↓w_iload_n_2, ↓w_istore_n_2, ↓w_getfield, ↓w_goto, ↓w_if_icmp_ne, ↓w_ireturn0, ↓w_invokevirtual_0, ↓w_invokevirtual_1, stw_0, stw_i, stw_l, stw_r, ofK0, ofK1, ofK2, lst1, lst2, lkill, kont_none, kont_some, Int.reduceToNat, List.length_cons, List.length_nil, Nat.reduceAdd, Nat.reduceLeDiff, Nat.zero_le, true_and, and_true, if_true, if_false, ne_eq, Int.reduceEq, Int.reduceNeg, not_false_eq_true, not_true_eq_false, ↓reduceIte, Int.reduceLT, Int.reduceLE, and_self, or_true, true_or, or_false, false_or, false_and, and_false, ah_t_w, ah_m_w, ah_n_w, lst1_0, List.tail_cons, w32_i, zbd, lst2_0, g4]
        exact hQ3
      · rw [if_neg g4] at hQ3
        simp (disch := omega) only [b_134_30, q_134_54, b_134_54, q_134_55, b_134_55, ↓w_iconst, ↓w_sipush, ↓w_aload_n_0, ↓w_iload_n_1, ↓w_iload_n_2, ↓w_istore_n_2, ↓w_getfield, ↓w_nop, ↓w_goto, ↓w_if_icmp_ne, ↓w_ireturn0, ↓w_invokevirtual_0, ↓w_invokevirtual_1, stw_0, stw_i, stw_l, stw_r, ofK0, ofK1, ofK2, lst1, lst2, lkill, kont_none, kont_some, Int.reduceToNat, List.length_cons, List.length_nil, Nat.reduceAdd, Nat.reduceLeDiff, Nat.zero_le, true_and, and_true, if_true, if_false, ne_eq, Int.reduceEq, Int.reduceNeg, not_false_eq_true, not_true_eq_false, ↓reduceIte, Int.reduceLT, Int.reduceLE, and_self, or_true, true_or, or_false, false_or, false_and, and_false, ah_t_w, ah_m_w, ah_n_w, lst1_0, List.tail_cons, w32_i, zbd, lst2_0, g4]
        exact hQ3
    · simp (disch := omega) only [b_134_0, ↓w_iconst, ↓w_aload_n_0, ↓w_iload_n_1, ↓w_isub, ↓w_nop, ↓w_ifCond_eq, ↓w_ifCond_ne, ↓w_invokevirtual_0, ↓w_invokestatic_3, ↓w_invokevirtual_3, stw_0, stw_i, stw_l, stw_r, ofK0, ofK1, ofK2, lst1, lst2, lkill, kont_none, kont_some, Int.reduceToNat, List.length_cons, List.length_nil, Nat.reduceAdd, Nat.reduceLeDiff, Nat.zero_le, true_and, and_true, if_true, if_false, ne_eq, Int.reduceEq, Int.reduceNeg, not_false_eq_true, not_true_eq_false, ↓reduceIte, Int.reduceLT, Int.reduceLE, and_self, or_true, true_or, or_false, false_or, false_and, and_false, ah_t_w, ah_m_w, ah_n_w, lst1_0, List.tail_cons, w32_i, zbd, lst2_0, xt_1a hK1, is_1 g, ahd_0 hA1 hF (n := 1) (a := 1) (b := 1) (by omega) (by omega) (by omega) (fun q => gd q.2.2)]
      exact bad (Or.inr (by omega))
  · simp (disch := omega) only [b_134_0, ↓w_iconst, ↓w_aload_n_0, ↓w_iload_n_1, ↓w_isub, ↓w_nop, ↓w_ifCond_eq, ↓w_ifCond_ne, ↓w_invokevirtual_0, ↓w_invokestatic_3, ↓w_invokevirtual_3, stw_0, stw_i, stw_l, stw_r, ofK0, ofK1, ofK2, lst1, lst2, lkill, kont_none, kont_some, Int.reduceToNat, List.length_cons, List.length_nil, Nat.reduceAdd, Nat.reduceLeDiff, Nat.zero_le, true_and, and_true, if_true, if_false, ne_eq, Int.reduceEq, Int.reduceNeg, not_false_eq_true, not_true_eq_false, ↓reduceIte, Int.reduceLT, Int.reduceLE, and_self, or_true, true_or, or_false, false_or, false_and, and_false, ah_t_w, ah_m_w, ah_n_w, lst1_0, List.tail_cons, w32_i, zbd, lst2_0, xt_1a hK1, is_0 g]
    exact bad (Or.inl (zpc_no (by omega)))
theorem c_136 (hA : XA T nw h) (hF : FV nw) (hU : XU T ul h)
    (hQ0 : ¬ ((0 ≤ f ∧ f < T 1072 5) ∧ (1 ≤ a ∧ a ≤ 99)) → Q (.inl (some (.inl (-1)))) (ah_w h 17 2 (w32 (ah_m h 17 2 + 1))))
    (hQ1 : ∀ h', ((0 ≤ f ∧ f < T 1072 5) ∧ (1 ≤ a ∧ a ≤ 99)) → XA T (ztnd nw f a) h' → XU T ((nw :: ul).take 20) h' → Off (fun r i => Wac r i ∨ Wkp r i) h h' → Q (.inl (some (.inl (ztnd nw f a (18 + f))))) h') : wpC (d + 4) 136 [.inr (.inr 1), .inl f, .inl a] h Q := by
  have hK := hA.1
  have n8 := hK.2.2.2.1; have n6 := hK.2.2.2.2.1
  have h40 := hF.2.2
  rw [wpC_B]; refine ⟨⟨Nat.zero_lt_succ _, Nat.le_of_ble_eq_true rfl⟩, ?_⟩; simp only [lent]
  by_cases gf : 0 ≤ f ∧ f < T 1072 5
  · by_cases ga : 1 ≤ a ∧ a ≤ 99
    · simp (disch := omega) only [q_136_0, b_136_0, q_136_24, b_136_24, ↓w_iconst, ↓w_bipush, ↓w_sipush, ↓w_aload_n_0, ↓w_iload_n_1, ↓w_iload_n_2, ↓w_iadd, ↓w_getfield, ↓w_iaload, ↓w_iastore, ↓w_nop, ↓w_ifCond_eq, ↓w_ifCond_ne, ↓w_ireturn0, ↓w_invokevirtual_0, ↓w_invokevirtual_1, ↓w_invokestatic_2, ↓w_invokestatic_3, stw_0, stw_i, stw_l, stw_r, ofK0, ofK1, ofK2, lst1, lst2, lkill, kont_none, kont_some, Int.reduceToNat, List.length_cons, List.length_nil, Nat.reduceAdd, Nat.reduceLeDiff, Nat.zero_le, true_and, and_true, if_true, if_false, ne_eq, Int.reduceEq, Int.reduceNeg, not_false_eq_true, not_true_eq_false, ↓reduceIte, Int.reduceLT, Int.reduceLE, and_self, or_true, true_or, or_false, false_or, false_and, and_false, ah_t_w, ah_m_w, ah_n_w, lst1_0, List.tail_cons, w32_i, zbd, lst2_0, xt_1a hK, xf_1_12 hK, fld_1 hK gf, is_1 ga]
      refine c_135 (d := d + 1) hA hF hU (fun h1 hA1 hU1 hO1 => ?_)
      have hK1 := hA1.1
      have hS1 := hA1.2.1
      have f0 := gf.1
      have f6 : f < 6 := by omega
      have eb := sb hS1 gf.1 gf.2
      have hb := hF.2.1 f f0 f6
      have em : (if nw (18 + f) + a < 999 then nw (18 + f) + a else 999) = ztnd nw f a (18 + f) := by
        unfold ztnd; rw [if_pos rfl]; split <;> split <;> omega
      have q1 : ¬ (1 : Int) = 25 + 3 := by omega
      have q2 : ¬ (25 : Int) = 25 + 3 := by omega
      have q3 : (0 : Int) < 25 + 3 := by omega
      simp (disch := omega) only [b_136_24, ↓w_sipush, ↓w_aload_n_0, ↓w_iload_n_1, ↓w_iload_n_2, ↓w_iadd, ↓w_getfield, ↓w_iaload, ↓w_iastore, ↓w_ireturn0, ↓w_invokevirtual_0, ↓w_invokestatic_2, stw_0, stw_i, stw_l, stw_r, ofK0, ofK1, ofK2, lst1, lst2, lkill, kont_none, kont_some, Int.reduceToNat, List.length_cons, List.length_nil, Nat.reduceAdd, Nat.reduceLeDiff, Nat.zero_le, true_and, and_true, if_true, if_false, ne_eq, Int.reduceEq, Int.reduceNeg, not_false_eq_true, not_true_eq_false, ↓reduceIte, Int.reduceLT, Int.reduceLE, and_self, or_true, true_or, or_false, false_or, false_and, and_false, ah_t_w, ah_m_w, ah_n_w, lst1_0, List.tail_cons, w32_i, zbd, lst2_0, xt_1a hK1, xf_1_12 hK1, s_t hK1 hS1, s_5 hK1 hS1, s_5a hK1 hS1, s_5b hK1 hS1, f0, f6, eb, c_18, em, q1, q2, q3]
      have hO2 : Off (fun r i => (r = 25 ∧ (i = 0 ∨ i = 1)) ∨ r = 14 ∨ r = 25 + 3) h1 (ah_w h1 (25 + 3) f (ztnd nw f a (18 + f))) := Off_w Off_rfl (by omega)
      have hO2' : Off Wac h1 (ah_w h1 (25 + 3) f (ztnd nw f a (18 + f))) := Off_w Off_rfl ⟨by omega, by unfold fix isS isV; omega⟩
      have hS2 : XS T (ztnd nw f a) 25 (ah_w h1 (25 + 3) f (ztnd nw f a (18 + f))) := XS_by hS1 n8 n6 h40.2 hO2 (fun i q => by unfold ztnd; rw [if_neg (by omega)]) (by rw [ah_m_w, if_neg (by omega), s_0 hS1]; unfold ztnd; rw [if_neg (by omega)]) (by rw [ah_m_w, if_neg (by omega), s_1 hS1]; unfold ztnd; rw [if_neg (by omega)]) (fun u u0 u1 => by
        rw [ah_m_w]
        by_cases q : u = f
        · rw [if_pos ⟨rfl, q⟩, q]
        · rw [if_neg (fun z => q z.2), sb hS1 u0 u1]; unfold ztnd; rw [if_neg (by omega)])
      exact hQ1 _ ⟨gf, ga⟩ (XA_ac hA1 hO2' hS2) (XU_ac hU1 hO2') (Off_tr (Off_mono (fun r i w => Or.inr w) hO1) (Off_mono (fun r i w => Or.inl w) hO2'))
    · simp (disch := omega) only [q_136_0, b_136_0, q_136_18, b_136_18, ↓w_iconst, ↓w_bipush, ↓w_aload_n_0, ↓w_iload_n_1, ↓w_iload_n_2, ↓w_nop, ↓w_ifCond_eq, ↓w_ifCond_ne, ↓w_ireturn0, ↓w_invokevirtual_1, ↓w_invokestatic_3, stw_0, stw_i, stw_l, stw_r, ofK0, ofK1, ofK2, lst1, lst2, lkill, kont_none, kont_some, Int.reduceToNat, List.length_cons, List.length_nil, Nat.reduceAdd, Nat.reduceLeDiff, Nat.zero_le, true_and, and_true, if_true, if_false, ne_eq, Int.reduceEq, Int.reduceNeg, not_false_eq_true, not_true_eq_false, ↓reduceIte, Int.reduceLT, Int.reduceLE, and_self, or_true, true_or, or_false, false_or, false_and, and_false, ah_t_w, ah_m_w, ah_n_w, lst1_0, List.tail_cons, w32_i, zbd, lst2_0, xt_1a hK, fld_1 hK gf, is_0 ga, c_85 hK]
      exact hQ0 (fun q => ga q.2)
  · simp (disch := omega) only [q_136_0, b_136_0, q_136_18, b_136_18, ↓w_iconst, ↓w_bipush, ↓w_aload_n_0, ↓w_iload_n_1, ↓w_iload_n_2, ↓w_nop, ↓w_ifCond_eq, ↓w_ifCond_ne, ↓w_ireturn0, ↓w_invokevirtual_1, ↓w_invokestatic_3, stw_0, stw_i, stw_l, stw_r, ofK0, ofK1, ofK2, lst1, lst2, lkill, kont_none, kont_some, Int.reduceToNat, List.length_cons, List.length_nil, Nat.reduceAdd, Nat.reduceLeDiff, Nat.zero_le, true_and, and_true, if_true, if_false, ne_eq, Int.reduceEq, Int.reduceNeg, not_false_eq_true, not_true_eq_false, ↓reduceIte, Int.reduceLT, Int.reduceLE, and_self, or_true, true_or, or_false, false_or, false_and, and_false, ah_t_w, ah_m_w, ah_n_w, lst1_0, List.tail_cons, w32_i, zbd, lst2_0, xt_1a hK, fld_0 hK gf, c_85 hK]
    exact hQ0 (fun q => gf q.1)
theorem c_137 (hA : XA T nw h) (hX : NX T nw) (hF : FV nw) (hL : 0 < T 1074 4 → LV T) (hU : XU T ul h) (hn : -2147483648 ≤ n ∧ n < 2147483648)
    (hQ0 : ¬ (0 < T 1074 4 ∧ (1 ≤ n ∧ n ≤ 30) ∧ nw 0 + n ≤ 999) → Q (.inl (some (.inl (-1)))) (ah_w h 17 3 (w32 (ah_m h 17 3 + 1))))
    (hQ1 : ∀ h', (0 < T 1074 4 ∧ (1 ≤ n ∧ n ≤ 30) ∧ nw 0 + n ≤ 999) → XA T (zdc T (T 1074 6) (T 1074 7) n.toNat nw 0).1 h' → XU T ((nw :: ul).take 20) h' → Off (fun r i => Wac r i ∨ Wkp r i) h h' → Q (.inl (some (.inl (zdc T (T 1074 6) (T 1074 7) n.toNat nw 0).2))) h') : wpC (d + 46) 137 [.inr (.inr 1), .inl n] h Q := by
  have hK := hA.1
  rw [wpC_B]; refine ⟨⟨Nat.zero_lt_succ _, Nat.le_of_ble_eq_true rfl⟩, ?_⟩; simp only [lent]
  by_cases g : 0 < T 1074 4 ∧ (1 ≤ n ∧ n ≤ 30) ∧ nw 0 + n ≤ 999
  · have l1 := (hL g.1).1; have l2 := (hL g.1).2
    simp (disch := omega) only [q_137_0, b_137_0, q_137_17, b_137_17, ↓w_iconst, ↓w_bipush, ↓w_aload_n_0, ↓w_iload_n_1, ↓w_getfield, ↓w_iaload, ↓w_ifCond_ne, ↓w_ireturn0, ↓w_invokevirtual_0, ↓w_invokevirtual_1, ↓w_invokevirtual_3, stw_0, stw_i, stw_l, stw_r, ofK0, ofK1, ofK2, lst1, lst2, lkill, kont_none, kont_some, Int.reduceToNat, List.length_cons, List.length_nil, Nat.reduceAdd, Nat.reduceLeDiff, Nat.zero_le, true_and, and_true, if_true, if_false, ne_eq, Int.reduceEq, Int.reduceNeg, not_false_eq_true, not_true_eq_false, ↓reduceIte, Int.reduceLT, Int.reduceLE, and_self, or_true, true_or, or_false, false_or, false_and, and_false, ah_t_w, ah_m_w, ah_n_w, lst1_0, List.tail_cons, w32_i, zbd, lst2_0, xt_1a hK, x_0, xf_1_12 hK, xb_t hK, x_lk, xlk_a hK, xlk_b hK, xlk_0 hK, xlk_1 hK, ahd_1 hA hF hn (by decide) (by decide) g]
    refine c_135 (d := d + 43) hA hF hU (fun h1 hA1 hU1 hO1 => ?_)
    have hK1 := hA1.1
    have tS := sz_t hK1 is25
    simp (disch := omega) only [b_137_17, ↓w_iconst, ↓w_aload_n_0, ↓w_iload_n_1, ↓w_getfield, ↓w_iaload, ↓w_ireturn0, ↓w_invokevirtual_0, ↓w_invokevirtual_3, stw_0, stw_i, stw_l, stw_r, ofK0, ofK1, ofK2, lst1, lst2, lkill, kont_none, kont_some, Int.reduceToNat, List.length_cons, List.length_nil, Nat.reduceAdd, Nat.reduceLeDiff, Nat.zero_le, true_and, and_true, if_true, if_false, ne_eq, Int.reduceEq, Int.reduceNeg, not_false_eq_true, not_true_eq_false, ↓reduceIte, Int.reduceLT, Int.reduceLE, and_self, or_true, true_or, or_false, false_or, false_and, and_false, ah_t_w, ah_m_w, ah_n_w, lst1_0, List.tail_cons, w32_i, zbd, lst2_0, xt_1a hK1, x_0, xf_1_12 hK1, xb_t hK1, x_lk, xlk_a hK1, xlk_b hK1, xlk_0 hK1, xlk_1 hK1, tS]
    refine c_229 (d := d + 1) hK1 hA1.2.1 hX hA1.2.2.1 hF (by omega) (by omega) (by omega) (by omega) (by omega) (fun h2 hK2 hS2 hH2 hX2 hF2 hO2 => ?_)
    have hO2' := Off_mono Wac_dy hO2
    rw [zdc_1] at hQ1
    simp (disch := omega) only [b_137_17, ↓w_iconst, ↓w_aload_n_0, ↓w_iload_n_1, ↓w_getfield, ↓w_iaload, ↓w_ireturn0, ↓w_invokevirtual_0, ↓w_invokevirtual_3, stw_0, stw_i, stw_l, stw_r, ofK0, ofK1, ofK2, lst1, lst2, lkill, kont_none, kont_some, Int.reduceToNat, List.length_cons, List.length_nil, Nat.reduceAdd, Nat.reduceLeDiff, Nat.zero_le, true_and, and_true, if_true, if_false, ne_eq, Int.reduceEq, Int.reduceNeg, not_false_eq_true, not_true_eq_false, ↓reduceIte, Int.reduceLT, Int.reduceLE, and_self, or_true, true_or, or_false, false_or, false_and, and_false, ah_t_w, ah_m_w, ah_n_w, lst1_0, List.tail_cons, w32_i, zbd, lst2_0]
    exact hQ1 h2 g (XA_ac hA1 hO2' hS2) (XU_ac hU1 hO2') (Off_tr (Off_mono (fun r i w => Or.inr w) hO1) (Off_mono (fun r i w => Or.inl w) hO2'))
  · simp (disch := omega) only [q_137_0, b_137_0, ↓w_iconst, ↓w_bipush, ↓w_aload_n_0, ↓w_iload_n_1, ↓w_ifCond_ne, ↓w_ireturn0, ↓w_invokevirtual_1, ↓w_invokevirtual_3, stw_0, stw_i, stw_l, stw_r, ofK0, ofK1, ofK2, lst1, lst2, lkill, kont_none, kont_some, Int.reduceToNat, List.length_cons, List.length_nil, Nat.reduceAdd, Nat.reduceLeDiff, Nat.zero_le, true_and, and_true, if_true, if_false, ne_eq, Int.reduceEq, Int.reduceNeg, not_false_eq_true, not_true_eq_false, ↓reduceIte, Int.reduceLT, Int.reduceLE, and_self, or_true, true_or, or_false, false_or, false_and, and_false, ah_t_w, ah_m_w, ah_n_w, lst1_0, List.tail_cons, w32_i, zbd, lst2_0, xt_1a hK, ahd_0 hA hF hn (by decide) (by decide) g, c_85 hK]
    exact hQ0 g
theorem c_139 (hK : XG T h) (es : ah_m h 1 21 = s) (hs : 0 ≤ s ∧ s < 2147483648) (hn : 0 < n ∧ n ≤ 1000) : wpC (d + 1) 139 [.inr (.inr 1), .inl n] h Q ↔ Q (.inl (some (.inl (zsd s / 64 % n)))) (ah_w h 1 21 (zsd s)) := by
  have h1 : 0 ≤ 1103515245 * s + 12345 := by omega
  have e1 : (1103515245 * s + 12345).tmod 2147483648 = zsd s := by unfold zsd; exact Int.tmod_eq_emod_of_nonneg h1
  have zb0 : 0 ≤ zsd s ∧ zsd s < 2147483648 := by unfold zsd; omega
  have e2 : (zsd s).tdiv 64 = zsd s / 64 := Int.tdiv_eq_ediv_of_nonneg zb0.1
  have e3 : (zsd s / 64).tmod n = zsd s / 64 % n := Int.tmod_eq_emod_of_nonneg (by omega)
  have e4 : 0 ≤ zsd s / 64 % n := Int.emod_nonneg _ (by omega)
  have e5 : zsd s / 64 % n < n := Int.emod_lt_of_pos _ (by omega)
  have n0 : ¬ n = 0 := by omega
  have w1 : w64 (1103515245 * s) = 1103515245 * s := w64_i (by omega) (by omega)
  have w2 : w64 (1103515245 * s + 12345) = 1103515245 * s + 12345 := w64_i (by omega) (by omega)
  apply CT_iff; apply CT_of; rw [wpC_B]; refine ⟨⟨Nat.zero_lt_succ _, Nat.le_of_ble_eq_true rfl⟩, ?_⟩; simp only [lent]
  simp (disch := omega) only [q_139_0, b_139_0, ↓w_ldc2_w, ↓w_aload_n_0, ↓w_iload_n_1, ↓w_ladd, ↓w_lmul, ↓w_ldiv, ↓w_lrem, ↓w_i2l, ↓w_l2i, ↓w_getfield, ↓w_putfield_1, ↓w_ireturn0, stw_0, stw_i, stw_l, stw_r, ofK0, ofK1, ofK2, lst1, lst2, lkill, kont_none, kont_some, Int.reduceToNat, List.length_cons, List.length_nil, Nat.reduceAdd, Nat.reduceLeDiff, Nat.zero_le, true_and, and_true, if_true, if_false, ne_eq, Int.reduceEq, Int.reduceNeg, not_false_eq_true, not_true_eq_false, ↓reduceIte, Int.reduceLT, Int.reduceLE, and_self, or_true, true_or, or_false, false_or, false_and, and_false, ah_t_w, ah_m_w, ah_n_w, lst1_0, List.tail_cons, w32_i, zbd, lst2_0, xt_1a hK, es, w1, w2, e1, e2, e3, w64_i, n0]
end A3
