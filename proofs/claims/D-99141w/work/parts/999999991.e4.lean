/-! ===== tests joined: what they tell ===== -/
section E4
variable {W' : Int → Int → Prop} {d : Nat} {h h' h1 h2 h0 : AH} {Q : QQ} {x y z k s a b c v n p q r o i N lo hi A B E F cap el sp dp capL elL capS elS l' m op : Int} {S T T' : Int → Int → Int} {t nw nw' pt of tp : Int → Int} {tl : ALoc} {w W V l cs c1 c2 : List Int} {hm : Bool} {D f u : Nat} {its : List (List Int)}
set_option maxHeartbeats 4000000
theorem FCT_ty (hC : FCT D a h p m its cap el) : ∀ g ∈ its, TyT g := by
  intro g hg
  obtain ⟨u, hu, e2⟩ := List.getElem_of_mem hg
  have h9 := hC.2.2.2.2 u hu
  rw [List.getD_eq_getElem?_getD, List.getElem?_eq_getElem hu, e2] at h9
  simp only [Option.getD_some] at h9
  obtain ⟨i1, j1, v1, _⟩ := h9
  exact v1.2.2.1
theorem l_200 (hF : FRE h) (hC : FCT D a h p m its cap el) (ag : AgI a (ah_n h) h h') (ev : EV false pt of h') (hD : 3 ≤ D) (hl : its.length ≤ 2000) :
    ∀ (j k : Nat), k + j = its.length → Q (.inl (some (.inl (ztop (zrun pt of (zjr (zjop m) (its.drop k)) [m]))))) h' → wpB D 200 2 [some (.inr (.inr p)), some (.inr (.inr 15)), some (.inl k)] [] h' Q := by
  have hty := FCT_ty hC
  obtain ⟨⟨c1, c2, c3, c31, c32⟩, c4, c6, c7, c9⟩ := hC
  have pN : p < ah_n h := FRE_lt hF (by rw [c1]; decide)
  have lN : ah_m h p 0 < ah_n h := FRE_lt hF (by rw [c4.1.1]; decide)
  have eN : el < ah_n h := FRE_lt hF (by rw [c4.2.1]; exact (by decide : (-10 : Int) ≠ 0))
  have agp := ag p c2 pN
  have t1 : (ah_t h' p).1 = 21 := by rw [agp.1, c1]
  have m0 : ah_m h' p 0 = ah_m h p 0 := agp.2 0
  have m1 : ah_m h' p 1 = m := by rw [agp.2]; exact c31
  have hL : LST h' (ah_m h p 0) its.length cap el := by
    obtain ⟨⟨a1, a2, a3⟩, a4, a5, a6⟩ := c4
    exact ⟨⟨by rw [(ag _ c6.1 lN).1]; exact a1, by rw [(ag _ c6.1 lN).2]; exact a2, by rw [(ag _ c6.1 lN).2]; exact a3⟩, by rw [(ag _ c6.2 eN).1]; exact a4, a5, a6⟩
  have tl1 : (ah_t h' (ah_m h p 0)).1 = 3 := by rw [hL.1.1]
  obtain ⟨d3, hd3⟩ : ∃ u : Nat, D = u + 3 := ⟨D - 3, by omega⟩
  have c39 : ∀ {Q : QQ}, wpC D 39 [.inr (.inr (ah_m h p 0))] h' Q ↔ Q (.inl (some (.inl (its.length : Int)))) h' := fun {Q} => by rw [hd3]; exact g_39 (d := d3 + 2) hL
  intro j
  induction j with
  | zero =>
    intro k k2 hQ
    have hlt : ¬ (k : Int) < its.length := by omega
    rw [List.drop_eq_nil_of_le (by omega)] at hQ
    have hQ : Q (.inl (some (.inl m))) h' := hQ
    have e1 : m % 2 = m := by omega
    simp (disch := omega) only [q_200_2, b_200_2, q_200_58, b_200_58, ↓w_iconst, ↓w_aload_n_0, ↓w_aload_n_1, ↓w_iload_n_2, ↓w_getfield, ↓w_checkcast, ↓w_goto, ↓w_if_icmp_eq, ↓w_ifCond_ne, ↓w_if_icmp_ge, ↓w_ireturn1, ↓w_invokeinterface_0, ↓w_invokevirtual_1, ↓w_invokeinterface_1, stw_0, stw_i, stw_l, stw_r, ofK0, ofK1, ofK2, lst1, lst2, lkill, kont_none, kont_some, Int.reduceToNat, List.length_cons, List.length_nil, Nat.reduceAdd, Nat.reduceLeDiff, Nat.zero_le, true_and, and_true, if_true, if_false, ne_eq, Int.reduceEq, Int.reduceNeg, not_false_eq_true, not_true_eq_false, ↓reduceIte, Int.reduceLT, Int.reduceLE, and_self, or_true, true_or, or_false, false_or, false_and, and_false, ah_t_w, ah_m_w, ah_n_w, lst1_0, List.tail_cons, w32_i, zbd, lst2_0, t1, m0, m1, tl1, c39, hlt, c32, e1]
    exact hQ
  | succ j ih =>
    intro k k2 hQ
    have hlt : (k : Int) < its.length := by omega
    have hk := c9 k (by omega)
    obtain ⟨i1, j1, v1, v2, v3⟩ := hk
    have vb := v1.1
    have agv : AgI i1 j1 h h' := fun r r0 r1 => ag r (by omega) (by omega)
    have eel : ah_m h' el k = ah_m h el k := (ag _ c6.2 eN).2 k
    have tv := v1.2.1
    have etv := (agv (ah_m h el k) (by omega) (by omega)).1
    have cv := cst_t (t := (ah_t h' (ah_m h el k)).1) (by rw [etv]; exact tv.1) (by rw [etv]; exact tv.2)
    have ed : its.drop k = its.getD k [] :: its.drop (k + 1) := by
      rw [List.getD_eq_getElem?_getD, List.getElem?_eq_getElem (by omega)]
      exact List.drop_eq_getElem_cons (by omega)
    have x01 := ztop_01 (pt := pt) (of := of) v1.2.2.1
    rw [ed, zrun_zjr v1.2.2.1 zjop_2, (zjo_n c32 x01).1] at hQ
    have c40 : ∀ {Q : QQ}, wpC D 40 [.inr (.inr (ah_m h p 0)), .inl (k : Int)] h' Q ↔ Q (.inl (some (.inr (.inr (ah_m h' el k))))) h' := fun {Q} => by rw [hd3]; exact g_40 (d := d3) hL (show 0 ≤ (k : Int) by omega) hlt
    rw [q_200_2]
    simp (disch := omega) only [b_200_2, ↓w_iconst, ↓w_aload_n_0, ↓w_aload_n_1, ↓w_iload_n_2, ↓w_getfield, ↓w_checkcast, ↓w_goto, ↓w_if_icmp_eq, ↓w_ifCond_ne, ↓w_if_icmp_ge, ↓w_invokeinterface_0, ↓w_invokevirtual_1, ↓w_invokeinterface_1, stw_0, stw_i, stw_l, stw_r, ofK0, ofK1, ofK2, lst1, lst2, lkill, kont_none, kont_some, Int.reduceToNat, List.length_cons, List.length_nil, Nat.reduceAdd, Nat.reduceLeDiff, Nat.zero_le, true_and, and_true, if_true, if_false, ne_eq, Int.reduceEq, Int.reduceNeg, not_false_eq_true, not_true_eq_false, ↓reduceIte, Int.reduceLT, Int.reduceLE, and_self, or_true, true_or, or_false, false_or, false_and, and_false, ah_t_w, ah_m_w, ah_n_w, lst1_0, List.tail_cons, w32_i, zbd, lst2_0, t1, m0, m1, tl1, c39, hlt, c40, eel, cv]
    refine clTx v1 agv ev (by simp [stw]) ?_
    have habs := zjr_abs (pt := pt) (of := of) c32 (its.drop (k + 1)) (fun g hg => hty g (List.mem_of_mem_drop hg))
    generalize ztop (zrun pt of (its.getD k []) []) = X at *
    by_cases g : X = m
    · rw [g] at hQ
      have ih := ih (k + 1) (by omega) hQ
      rw [show ((k + 1 : Nat) : Int) = (k : Int) + 1 by omega] at ih
      simp (disch := omega) only [b_200_2, q_200_52, b_200_52, ↓w_iconst, ↓w_aload_n_0, ↓w_aload_n_1, ↓w_iload_n_2, ↓w_iinc_2, ↓w_getfield, ↓w_checkcast, ↓w_goto, ↓w_if_icmp_eq, ↓w_ifCond_ne, ↓w_if_icmp_ge, ↓w_invokeinterface_0, ↓w_invokevirtual_1, ↓w_invokeinterface_1, stw_0, stw_i, stw_l, stw_r, ofK0, ofK1, ofK2, lst1, lst2, lkill, kont_none, kont_some, Int.reduceToNat, List.length_cons, List.length_nil, Nat.reduceAdd, Nat.reduceLeDiff, Nat.zero_le, true_and, and_true, if_true, if_false, ne_eq, Int.reduceEq, Int.reduceNeg, not_false_eq_true, not_true_eq_false, ↓reduceIte, Int.reduceLT, Int.reduceLE, and_self, or_true, true_or, or_false, false_or, false_and, and_false, ah_t_w, ah_m_w, ah_n_w, lst1_0, List.tail_cons, w32_i, zbd, lst2_0, t1, m1, eq_true g]
      exact ih
    · have gx : X = 1 - m := by omega
      rw [gx, habs] at hQ
      rcases c32 with e | e
      · rw [e] at hQ m1 g
        simp (disch := omega) only [b_200_2, q_200_51, b_200_51, ↓w_iconst, ↓w_aload_n_0, ↓w_aload_n_1, ↓w_iload_n_2, ↓w_getfield, ↓w_checkcast, ↓w_goto, ↓w_if_icmp_eq, ↓w_ifCond_ne, ↓w_if_icmp_ge, ↓w_ireturn1, ↓w_invokeinterface_0, ↓w_invokevirtual_1, ↓w_invokeinterface_1, stw_0, stw_i, stw_l, stw_r, ofK0, ofK1, ofK2, lst1, lst2, lkill, kont_none, kont_some, Int.reduceToNat, List.length_cons, List.length_nil, Nat.reduceAdd, Nat.reduceLeDiff, Nat.zero_le, true_and, and_true, if_true, if_false, ne_eq, Int.reduceEq, Int.reduceNeg, not_false_eq_true, not_true_eq_false, ↓reduceIte, Int.reduceLT, Int.reduceLE, and_self, or_true, true_or, or_false, false_or, false_and, and_false, ah_t_w, ah_m_w, ah_n_w, lst1_0, List.tail_cons, w32_i, zbd, lst2_0, t1, m1, g, e]
        exact hQ
      · rw [e] at hQ m1 g
        simp (disch := omega) only [b_200_2, q_200_50, b_200_50, q_200_51, b_200_51, ↓w_iconst, ↓w_aload_n_0, ↓w_aload_n_1, ↓w_iload_n_2, ↓w_getfield, ↓w_checkcast, ↓w_nop, ↓w_goto, ↓w_if_icmp_eq, ↓w_ifCond_ne, ↓w_if_icmp_ge, ↓w_ireturn1, ↓w_invokeinterface_0, ↓w_invokevirtual_1, ↓w_invokeinterface_1, stw_0, stw_i, stw_l, stw_r, ofK0, ofK1, ofK2, lst1, lst2, lkill, kont_none, kont_some, Int.reduceToNat, List.length_cons, List.length_nil, Nat.reduceAdd, Nat.reduceLeDiff, Nat.zero_le, true_and, and_true, if_true, if_false, ne_eq, Int.reduceEq, Int.reduceNeg, not_false_eq_true, not_true_eq_false, ↓reduceIte, Int.reduceLT, Int.reduceLE, and_self, or_true, true_or, or_false, false_or, false_and, and_false, ah_t_w, ah_m_w, ah_n_w, lst1_0, List.tail_cons, w32_i, zbd, lst2_0, t1, m1, g, e]
        exact hQ
theorem TSi_facts (hF : FRE h) (hC : FCT D a h p m its cap el) (hD : 3 ≤ D) (hl : its.length ≤ 2000) (hne : its ≠ []) : TSi (D + 1) a (ah_n h) h p (zjc (zjop m) its) := by
  have hty := FCT_ty hC
  have hC' := hC
  obtain ⟨⟨c1, c2, c3, c31, c32⟩, c4, c6, c7, c9⟩ := hC'
  have pN : p < ah_n h := FRE_lt hF (by rw [c1]; decide)
  have e21 : (ah_t h p).1 = 21 := by rw [c1]
  refine ⟨⟨c3, c2, pN, Int.le_refl _⟩, by omega, ?_, fun h' pt of Q ag ev hQ => ?_⟩
  · cases its with
    | nil => exact absurd rfl hne
    | cons g L =>
      intro ts
      simp only [zjc]
      rw [ztl_app, hty g List.mem_cons_self ts]
      exact ztl_zjr L (fun u hu => hty u (List.mem_cons_of_mem _ hu)) zjop_2
  · rw [e21]
    show wpC (D + 1) 200 _ h' Q
    have hz : ztop (zrun pt of (zjc (zjop m) its) []) = ztop (zrun pt of (zjr (zjop m) (its.drop 0)) [m]) := by
      rw [List.drop_zero]
      cases its with
      | nil => exact absurd rfl hne
      | cons g L =>
        have hg := hty g List.mem_cons_self
        rw [zrun_zjr hg zjop_2, (zjo_n c32 (ztop_01 hg)).1]
        simp only [zjc]
        rw [zrun_app, zrun_topT hg]; rfl
    rw [hz] at hQ
    rw [wpC_B]; refine ⟨⟨Nat.zero_lt_succ _, Nat.le_of_ble_eq_true rfl⟩, ?_⟩; simp only [lent]
    simp (disch := omega) only [q_200_0, b_200_0, ↓w_iconst, ↓w_istore_n_2, ↓w_nop, stw_0, stw_i, stw_l, stw_r, ofK0, ofK1, ofK2, lst1, lst2, lkill, kont_none, kont_some, Int.reduceToNat, List.length_cons, List.length_nil, Nat.reduceAdd, Nat.reduceLeDiff, Nat.zero_le, true_and, and_true, if_true, if_false, ne_eq, Int.reduceEq, Int.reduceNeg, not_false_eq_true, not_true_eq_false, ↓reduceIte, Int.reduceLT, Int.reduceLE, and_self, or_true, true_or, or_false, false_or, false_and, and_false, ah_t_w, ah_m_w, ah_n_w, lst1_0, List.tail_cons, w32_i, zbd, lst2_0]
    exact l_200 hF hC ag ev hD hl its.length 0 (by omega) hQ
end E4
