/-! ===== chains: at ===== -/
section D3
variable {W' : Int → Int → Prop} {d : Nat} {h h' h1 h2 h0 : AH} {Q : QQ} {x y z k s a b c v n p q r o i f N lo hi A B E cap el sp dp capL elL capS elS l' : Int} {S T T' : Int → Int → Int} {t nw nw' pt of tp : Int → Int} {tl : ALoc} {w u W l cs : List Int} {hm : Bool} {D : Nat} {its : List (Int × List Int)}
set_option maxHeartbeats 4000000
theorem g_39 (hL : LST h l' n cap el) : wpC (d + 1) 39 [.inr (.inr l')] h Q ↔ Q (.inl (some (.inl n))) h := by
  have t1 : (ah_t h l').1 = 3 := by rw [hL.1.1]
  have t2 := hL.1.2.2
  apply CT_iff; apply CT_of; rw [wpC_B]; refine ⟨⟨Nat.zero_lt_succ _, Nat.le_of_ble_eq_true rfl⟩, ?_⟩; simp only [lent]
  simp (disch := omega) only [q_39_0, b_39_0, ↓w_aload_n_0, ↓w_getfield, ↓w_ireturn0, stw_0, stw_i, stw_l, stw_r, ofK0, ofK1, ofK2, lst1, lst2, lkill, kont_none, kont_some, Int.reduceToNat, List.length_cons, List.length_nil, Nat.reduceAdd, Nat.reduceLeDiff, Nat.zero_le, true_and, and_true, if_true, if_false, ne_eq, Int.reduceEq, Int.reduceNeg, not_false_eq_true, not_true_eq_false, ↓reduceIte, Int.reduceLT, Int.reduceLE, and_self, or_true, true_or, or_false, false_or, false_and, and_false, ah_t_w, ah_m_w, ah_n_w, lst1_0, List.tail_cons, w32_i, zbd, lst2_0, t1, t2]
theorem g_40 (hL : LST h l' n cap el) (h0 : 0 ≤ x) (h1 : x < n) : wpC (d + 3) 40 [.inr (.inr l'), .inl x] h Q ↔ Q (.inl (some (.inr (.inr (ah_m h el x))))) h := by
  have t1 : (ah_t h l').1 = 3 := by rw [hL.1.1]
  have t2 := hL.1.2.2
  have e1 := hL.1.2.1
  have te : (ah_t h el).1 = -10 := by rw [hL.2.1]
  have tc : (ah_t h el).2 = cap := by rw [hL.2.1]
  have hc : x < cap := by have := hL.2.2.1; omega
  have c41 : ∀ {d : Nat} {Q : QQ}, wpC (d + 1) 41 [.inr (.inr l'), .inl x] h Q ↔ Q (.inl (some (.inr (.inr (ah_m h el x))))) h := by
    intro d Q
    apply CT_iff; apply CT_of; rw [wpC_B]; refine ⟨⟨Nat.zero_lt_succ _, Nat.le_of_ble_eq_true rfl⟩, ?_⟩; simp only [lent]
    simp (disch := omega) only [q_41_0, b_41_0, ↓w_aload_n_0, ↓w_iload_n_1, ↓w_getfield, ↓w_aaload, ↓w_areturn, stw_0, stw_i, stw_l, stw_r, ofK0, ofK1, ofK2, lst1, lst2, lkill, kont_none, kont_some, Int.reduceToNat, List.length_cons, List.length_nil, Nat.reduceAdd, Nat.reduceLeDiff, Nat.zero_le, true_and, and_true, if_true, if_false, ne_eq, Int.reduceEq, Int.reduceNeg, not_false_eq_true, not_true_eq_false, ↓reduceIte, Int.reduceLT, Int.reduceLE, and_self, or_true, true_or, or_false, false_or, false_and, and_false, ah_t_w, ah_m_w, ah_n_w, lst1_0, List.tail_cons, w32_i, zbd, lst2_0, t1, e1, te, tc, h0, hc]
  apply CT_iff; apply CT_of; rw [wpC_B]; refine ⟨⟨Nat.zero_lt_succ _, Nat.le_of_ble_eq_true rfl⟩, ?_⟩; simp only [lent]
  simp (disch := omega) only [q_40_0, b_40_0, ↓w_aload_n_0, ↓w_iload_n_1, ↓w_pop_i, ↓w_pop_a, ↓w_getfield, ↓w_areturn, ↓w_invokevirtual_1, ↓w_invokestatic_2, stw_0, stw_i, stw_l, stw_r, ofK0, ofK1, ofK2, lst1, lst2, lkill, kont_none, kont_some, Int.reduceToNat, List.length_cons, List.length_nil, Nat.reduceAdd, Nat.reduceLeDiff, Nat.zero_le, true_and, and_true, if_true, if_false, ne_eq, Int.reduceEq, Int.reduceNeg, not_false_eq_true, not_true_eq_false, ↓reduceIte, Int.reduceLT, Int.reduceLE, and_self, or_true, true_or, or_false, false_or, false_and, and_false, ah_t_w, ah_m_w, ah_n_w, lst1_0, List.tail_cons, w32_i, zbd, lst2_0, t1, t2, c_50 h0 h1, c41]
theorem ztl_chr {ts : List Bool} : ∀ (L : List (Int × List Int)), (∀ g ∈ L, TyS hm g.2 ∧ isSg g.1) → ztl hm (zchr L) (false :: ts) = some (false :: ts) := by
  intro L
  induction L with
  | nil => intro _; rfl
  | cons g L ih =>
    intro hg
    have h1 := hg g List.mem_cons_self
    simp only [zchr]
    rw [ztl_app, h1.1 (false :: ts)]
    have ho : 1 ≤ zop g.1 ∧ zop g.1 ≤ 6 := by have := h1.2; unfold isSg at this; unfold zop; split; omega; split; omega; split <;> omega
    simp only [ztl]
    rw [zty_j ho]
    exact ih (fun u hu => hg u (List.mem_cons_of_mem _ hu))
theorem TyS_chc {g : Int × List Int} {L : List (Int × List Int)} (hg : ∀ u ∈ g :: L, TyS hm u.2 ∧ isSg u.1) : TyS hm (zchc (g :: L)) := by
  intro ts
  simp only [zchc]
  rw [ztl_app, (hg g List.mem_cons_self).1 ts]
  exact ztl_chr L (fun u hu => hg u (List.mem_cons_of_mem _ hu))
theorem cst_v {t : Int} (h0 : 15 ≤ t) (h1 : t ≤ 19) : (asc [(15, 0), (16, 0), (17, 0), (18, 0), (19, 0)] t).isSome = true := by
  have : t = 15 ∨ t = 16 ∨ t = 17 ∨ t = 18 ∨ t = 19 := by omega
  rcases this with e | e | e | e | e <;> subst e <;> rfl
/-- a value called -/
theorem clVx {m cc : Nat} {is : List AI} {L : ALoc} {st : AStk} (hv : VSi hm D i o h v cs) (ag : AgI i o h h') (ev : EV hm pt of h') (hst : stw st ≤ 8) (hQ : wpL D m is L (.inr (.inl (ztop (zrun pt of cs []))) :: st) h' Q) : wpL D m ((.invokevirtual cc, 0, 1, [(18, 163), (15, 156), (17, 161), (19, 165), (16, 159)]) :: is) L (.inr (.inr (vmo hm)) :: .inr (.inr v) :: st) h' Q := by
  obtain ⟨v1, v2, v3, v4⟩ := hv
  have e := (ag v (by omega) (by omega)).1
  rw [w_invokevirtual_1p (by decide) (by rw [e]; exact vme_a v2.1 v2.2), Int.toNat_natCast]
  exact ⟨hst, v4 h' pt of _ ag ev (by rw [kont_some]; exact hQ)⟩
theorem l_156 (hF : FRE h) (hC : CHN hm D a h p its capL elL capS elS) (ag : AgI a (ah_n h) h h') (ev : EV hm pt of h') (hD : 5 ≤ D) (hl : its.length ≤ 2000) :
    ∀ (j k : Nat) (v : Int), 1 ≤ k → k + j = its.length → (-1000000 ≤ v ∧ v ≤ 1000000) → Q (.inl (some (.inr (.inl (ztop (zrun pt of (zchr (its.drop k)) [v])))))) h' → wpB D 156 21 [some (.inr (.inr p)), some (.inr (.inr (vmo hm))), some (.inr (.inl v)), none, some (.inl k)] [] h' Q := by
  obtain ⟨⟨c1, c2, c3⟩, c4, c5, c6, c7, c8, c9⟩ := hC
  have ltn : ∀ r, (ah_t h r).1 ≠ 0 → r < ah_n h := fun r q => FRE_lt hF q
  have pN : p < ah_n h := ltn p (by rw [c1]; decide)
  have agp := ag p c2 pN
  have t1 : (ah_t h' p).1 = 15 := by rw [agp.1, c1]
  have m0 : ah_m h' p 0 = ah_m h p 0 := agp.2 0
  have m1 : ah_m h' p 1 = ah_m h p 1 := agp.2 1
  have hE : Ext (fun r i => r < a) h h' ∨ True := Or.inr trivial
  have lN : ah_m h p 0 < ah_n h := ltn _ (by rw [c4.1.1]; decide)
  have eN : elL < ah_n h := ltn _ (by rw [c4.2.1]; exact (by decide : (-10 : Int) ≠ 0))
  have sN : ah_m h p 1 < ah_n h := ltn _ (by rw [c5.1.1]; decide)
  have fN : elS < ah_n h := ltn _ (by rw [c5.2.1]; exact (by decide : (-2 : Int) ≠ 0))
  have hL : LST h' (ah_m h p 0) its.length capL elL := by
    obtain ⟨⟨a1, a2, a3⟩, a4, a5, a6⟩ := c4
    exact ⟨⟨by rw [(ag _ c6.1 lN).1]; exact a1, by rw [(ag _ c6.1 lN).2]; exact a2, by rw [(ag _ c6.1 lN).2]; exact a3⟩, by rw [(ag _ c6.2.2.1 eN).1]; exact a4, a5, a6⟩
  have hS : SBD h' (ah_m h p 1) (its.map Prod.fst) capS elS := by
    obtain ⟨⟨a1, a2, a3, a4⟩, a5, a6, a7, a8⟩ := c5
    exact ⟨⟨by rw [(ag _ c6.2.1 sN).1]; exact a1, by rw [(ag _ c6.2.1 sN).2]; exact a2, by rw [(ag _ c6.2.1 sN).2]; exact a3, by rw [(ag _ c6.2.1 sN).2]; exact a4⟩, by rw [(ag _ c6.2.2.2 fN).1]; exact a5, a6, a7, fun i q => by rw [(ag _ c6.2.2.2 fN).2]; exact a8 i q⟩
  have tl1 : (ah_t h' (ah_m h p 0)).1 = 3 := by rw [hL.1.1]
  have ts1 : (ah_t h' (ah_m h p 1)).1 = 11 := by rw [hS.1.1]
  have sgb : ∀ v ∈ its.map Prod.fst, 0 ≤ v ∧ v < 128 := by
    intro v hv
    obtain ⟨g, hg, e⟩ := List.mem_map.1 hv
    obtain ⟨u, hu, e2⟩ := List.getElem_of_mem hg
    have := (c9 u hu).1
    rw [List.getD_eq_getElem?_getD, List.getElem?_eq_getElem hu, e2] at this
    simp only [Option.getD_some] at this
    rw [e] at this
    unfold isSg at this; omega
  obtain ⟨d5, hd5⟩ : ∃ u : Nat, D = u + 5 := ⟨D - 5, by omega⟩
  intro j
  induction j with
  | zero =>
    intro k v k1 k2 hv hQ
    have hlt : ¬ (k : Int) < its.length := by omega
    rw [List.drop_eq_nil_of_le (by omega)] at hQ
    have hQ : Q (.inl (some (.inr (.inl v)))) h' := hQ
    have c39 : ∀ {Q : QQ}, wpC D 39 [.inr (.inr (ah_m h p 0))] h' Q ↔ Q (.inl (some (.inl (its.length : Int)))) h' := fun {Q} => by rw [hd5]; exact g_39 (d := d5 + 4) hL
    simp (disch := omega) only [q_156_21, b_156_21, q_156_76, b_156_76, ↓w_aload_n_0, ↓w_aload_n_1, ↓w_lload_n_2, ↓w_iload_4, ↓w_iinc_4, ↓w_lstore_n_2, ↓w_getfield, ↓w_checkcast, ↓w_goto, ↓w_if_icmp_ge, ↓w_lreturn, ↓w_invokeinterface_0, ↓w_invokestatic_1, ↓w_invokevirtual_1, ↓w_invokeinterface_1, ↓w_invokestatic_3, stw_0, stw_i, stw_l, stw_r, ofK0, ofK1, ofK2, lst1, lst2, lkill, kont_none, kont_some, Int.reduceToNat, List.length_cons, List.length_nil, Nat.reduceAdd, Nat.reduceLeDiff, Nat.zero_le, true_and, and_true, if_true, if_false, ne_eq, Int.reduceEq, Int.reduceNeg, not_false_eq_true, not_true_eq_false, ↓reduceIte, Int.reduceLT, Int.reduceLE, and_self, or_true, true_or, or_false, false_or, false_and, and_false, ah_t_w, ah_m_w, ah_n_w, lst1_0, List.tail_cons, w32_i, zbd, lst2_0, t1, m0, tl1, c39, hlt]
    exact hQ
  | succ j ih =>
    intro k v k1 k2 hv hQ
    have hlt : (k : Int) < its.length := by omega
    have hk := c9 k (by omega)
    obtain ⟨i1, j1, v1, v2, v3⟩ := hk.2
    have vb := v1.1
    have agv : AgI i1 j1 h h' := fun r r0 r1 => ag r (by omega) (by omega)
    have eel : ah_m h' elL k = ah_m h elL k := (ag _ c6.2.2.1 eN).2 k
    have tv := v1.2.1
    have etv := (agv (ah_m h elL k) (by omega) (by omega)).1
    have cv := cst_v (t := (ah_t h' (ah_m h elL k)).1) (by rw [etv]; exact tv.1) (by rw [etv]; exact tv.2)
    have ed : its.drop k = its.getD k (0, []) :: its.drop (k + 1) := by
      rw [List.getD_eq_getElem?_getD, List.getElem?_eq_getElem (by omega)]
      exact List.drop_eq_getElem_cons (by omega)
    rw [ed, zrun_chr v1.2.2.1 hk.1] at hQ
    have xb := ztop_b (pt := pt) (of := of) v1.2.2.1
    have ho : 1 ≤ zop (its.getD k (0, [])).1 ∧ zop (its.getD k (0, [])).1 ≤ 6 := by have := hk.1; unfold isSg at this; unfold zop; split; omega; split; omega; split <;> omega
    have jb := zjo_b (a := v) (b := ztop (zrun pt of (its.getD k (0, [])).2 [])) (c := zop (its.getD k (0, [])).1) hv xb ho
    have esg : (its.map Prod.fst).getD k 0 = (its.getD k (0, [])).1 := by
      rw [List.getD_eq_getElem?_getD, List.getD_eq_getElem?_getD, List.getElem?_map, List.getElem?_eq_getElem (by omega)]; rfl
    have ih := ih (k + 1) _ (by omega) (by omega) jb hQ
    rw [show ((k + 1 : Nat) : Int) = (k : Int) + 1 by omega] at ih
    have c39 : ∀ {Q : QQ}, wpC D 39 [.inr (.inr (ah_m h p 0))] h' Q ↔ Q (.inl (some (.inl (its.length : Int)))) h' := fun {Q} => by rw [hd5]; exact g_39 (d := d5 + 4) hL
    have c40 : ∀ {Q : QQ}, wpC D 40 [.inr (.inr (ah_m h p 0)), .inl (k : Int)] h' Q ↔ Q (.inl (some (.inr (.inr (ah_m h' elL k))))) h' := fun {Q} => by rw [hd5]; exact g_40 (d := d5 + 2) hL (show 0 ≤ (k : Int) by omega) hlt
    have c35 : ∀ {Q : QQ}, wpC D 35 [.inr (.inr (ah_m h p 1)), .inl (k : Int)] h' Q ↔ Q (.inl (some (.inl (its.getD k (0, [])).1))) h' := fun {Q} => by rw [hd5, ← esg]; exact c_35 (d := d5 + 1) hS sgb (by omega) k (by simp; omega)
    rw [q_156_21]
    simp (disch := omega) only [b_156_21, ↓w_aload_n_0, ↓w_aload_n_1, ↓w_lload_n_2, ↓w_iload_4, ↓w_iinc_4, ↓w_lstore_n_2, ↓w_getfield, ↓w_checkcast, ↓w_goto, ↓w_if_icmp_ge, ↓w_invokeinterface_0, ↓w_invokestatic_1, ↓w_invokevirtual_1, ↓w_invokeinterface_1, ↓w_invokestatic_3, stw_0, stw_i, stw_l, stw_r, ofK0, ofK1, ofK2, lst1, lst2, lkill, kont_none, kont_some, Int.reduceToNat, List.length_cons, List.length_nil, Nat.reduceAdd, Nat.reduceLeDiff, Nat.zero_le, true_and, and_true, if_true, if_false, ne_eq, Int.reduceEq, Int.reduceNeg, not_false_eq_true, not_true_eq_false, ↓reduceIte, Int.reduceLT, Int.reduceLE, and_self, or_true, true_or, or_false, false_or, false_and, and_false, ah_t_w, ah_m_w, ah_n_w, lst1_0, List.tail_cons, w32_i, zbd, lst2_0, t1, m0, m1, tl1, ts1, c39, hlt, c35, c40, eel, cv]
    refine clVx v1 agv ev (by simp [stw]) ?_
    have c157 : ∀ {Q : QQ}, wpC D 157 [.inl (its.getD k (0, [])).1, .inr (.inl v), .inr (.inl (ztop (zrun pt of (its.getD k (0, [])).2 [])))] h' Q ↔ Q (.inl (some (.inr (.inl (if (its.getD k (0, [])).1 = 43 then v + ztop (zrun pt of (its.getD k (0, [])).2 []) else if (its.getD k (0, [])).1 = 45 then v - ztop (zrun pt of (its.getD k (0, [])).2 []) else if (its.getD k (0, [])).1 = 42 then v * ztop (zrun pt of (its.getD k (0, [])).2 []) else zfl v (ztop (zrun pt of (its.getD k (0, [])).2 []))))))) h' := fun {Q} => by rw [hd5]; exact c_157 (d := d5 + 3) hk.1 hv xb
    have c119 : ∀ {x : Int} {Q : QQ}, wpC D 119 [.inr (.inl x)] h' Q ↔ Q (.inl (some (.inr (.inl (zclip x))))) h' := fun {x Q} => by rw [hd5]; exact c_119 (d := d5 + 3)
    simp (disch := omega) only [b_156_21, ↓w_aload_n_0, ↓w_aload_n_1, ↓w_lload_n_2, ↓w_iload_4, ↓w_iinc_4, ↓w_lstore_n_2, ↓w_getfield, ↓w_checkcast, ↓w_goto, ↓w_if_icmp_ge, ↓w_invokeinterface_0, ↓w_invokestatic_1, ↓w_invokevirtual_1, ↓w_invokeinterface_1, ↓w_invokestatic_3, stw_0, stw_i, stw_l, stw_r, ofK0, ofK1, ofK2, lst1, lst2, lkill, kont_none, kont_some, Int.reduceToNat, List.length_cons, List.length_nil, Nat.reduceAdd, Nat.reduceLeDiff, Nat.zero_le, true_and, and_true, if_true, if_false, ne_eq, Int.reduceEq, Int.reduceNeg, not_false_eq_true, not_true_eq_false, ↓reduceIte, Int.reduceLT, Int.reduceLE, and_self, or_true, true_or, or_false, false_or, false_and, and_false, ah_t_w, ah_m_w, ah_n_w, lst1_0, List.tail_cons, w32_i, zbd, lst2_0, c157, c119, held_zjo hk.1 hv]
    exact ih
theorem VSi_chain (hF : FRE h) (hC : CHN hm D a h p its capL elL capS elS) (hD : 5 ≤ D) (hl : its.length ≤ 2000) (hne : its ≠ []) : VSi hm (D + 1) a (ah_n h) h p (zchc its) := by
  have hC' := hC
  obtain ⟨⟨c1, c2, c3⟩, c4, c5, c6, c7, c8, c9⟩ := hC'
  have pN : p < ah_n h := FRE_lt hF (by rw [c1]; decide)
  have e15 : (ah_t h p).1 = 15 := by rw [c1]
  have hall : ∀ u ∈ its, TyS hm u.2 ∧ isSg u.1 := by
    intro g hg
    obtain ⟨u, hu, e2⟩ := List.getElem_of_mem hg
    have h9 := c9 u hu
    rw [List.getD_eq_getElem?_getD, List.getElem?_eq_getElem hu, e2] at h9
    simp only [Option.getD_some] at h9
    obtain ⟨i1, j1, v1, _⟩ := h9.2
    exact ⟨v1.2.2.1, h9.1⟩
  cases its with
  | nil => exact absurd rfl hne
  | cons g L =>
    refine ⟨⟨c3, c2, pN, Int.le_refl _⟩, by omega, TyS_chc hall, fun h' pt of Q ag ev hQ => ?_⟩
    rw [e15]
    show wpC (D + 1) 156 _ h' Q
    have lN : ah_m h p 0 < ah_n h := FRE_lt hF (by rw [c4.1.1]; decide)
    have eN : elL < ah_n h := FRE_lt hF (by rw [c4.2.1]; exact (by decide : (-10 : Int) ≠ 0))
    have agp := ag p c2 pN
    have t1 : (ah_t h' p).1 = 15 := by rw [agp.1, c1]
    have m0 : ah_m h' p 0 = ah_m h p 0 := agp.2 0
    have hL : LST h' (ah_m h p 0) ((g :: L).length : Int) capL elL := by
      obtain ⟨⟨a1, a2, a3⟩, a4, a5, a6⟩ := c4
      exact ⟨⟨by rw [(ag _ c6.1 lN).1]; exact a1, by rw [(ag _ c6.1 lN).2]; exact a2, by rw [(ag _ c6.1 lN).2]; exact a3⟩, by rw [(ag _ c6.2.2.1 eN).1]; exact a4, a5, a6⟩
    have tl1 : (ah_t h' (ah_m h p 0)).1 = 3 := by rw [hL.1.1]
    have h90 := c9 0 (by simp)
    obtain ⟨i1, j1, v1, v2, v3⟩ := h90.2
    have vb := v1.1
    have agv : AgI i1 j1 h h' := fun r r0 r1 => ag r (by omega) (by omega)
    rw [show ((0 : Nat) : Int) = 0 from rfl] at v1
    have v1 : VSi hm D i1 j1 h (ah_m h elL 0) g.2 := v1
    have eel : ah_m h' elL 0 = ah_m h elL 0 := (ag _ c6.2.2.1 eN).2 0
    have tv := v1.2.1
    have etv := (agv (ah_m h elL 0) v1.1.2.1 v1.1.2.2.1).1
    have cv := cst_v (t := (ah_t h' (ah_m h elL 0)).1) (by rw [etv]; exact tv.1) (by rw [etv]; exact tv.2)
    obtain ⟨d5, hd5⟩ : ∃ u : Nat, D = u + 5 := ⟨D - 5, by omega⟩
    have c40 : ∀ {Q : QQ}, wpC D 40 [.inr (.inr (ah_m h p 0)), .inl 0] h' Q ↔ Q (.inl (some (.inr (.inr (ah_m h' elL 0))))) h' := fun {Q} => by rw [hd5]; exact g_40 (d := d5 + 2) hL (Int.le_refl 0) (by simp)
    rw [wpC_B]; refine ⟨⟨Nat.zero_lt_succ _, Nat.le_of_ble_eq_true rfl⟩, ?_⟩; simp only [lent]
    simp (disch := omega) only [q_156_0, b_156_0, ↓w_iconst, ↓w_aload_n_0, ↓w_aload_n_1, ↓w_istore, ↓w_lstore_n_2, ↓w_getfield, ↓w_checkcast, ↓w_nop, ↓w_invokevirtual_1, ↓w_invokeinterface_1, stw_0, stw_i, stw_l, stw_r, ofK0, ofK1, ofK2, lst1, lst2, lkill, kont_none, kont_some, Int.reduceToNat, List.length_cons, List.length_nil, Nat.reduceAdd, Nat.reduceLeDiff, Nat.zero_le, true_and, and_true, if_true, if_false, ne_eq, Int.reduceEq, Int.reduceNeg, not_false_eq_true, not_true_eq_false, ↓reduceIte, Int.reduceLT, Int.reduceLE, and_self, or_true, true_or, or_false, false_or, false_and, and_false, ah_t_w, ah_m_w, ah_n_w, lst1_0, List.tail_cons, w32_i, zbd, lst2_0, t1, m0, tl1, c40, eel, cv]
    refine clVx v1 agv ev (by simp [stw]) ?_
    simp (disch := omega) only [b_156_0, ↓w_iconst, ↓w_aload_n_0, ↓w_aload_n_1, ↓w_istore, ↓w_lstore_n_2, ↓w_getfield, ↓w_checkcast, ↓w_nop, ↓w_invokevirtual_1, ↓w_invokeinterface_1, stw_0, stw_i, stw_l, stw_r, ofK0, ofK1, ofK2, lst1, lst2, lkill, kont_none, kont_some, Int.reduceToNat, List.length_cons, List.length_nil, Nat.reduceAdd, Nat.reduceLeDiff, Nat.zero_le, true_and, and_true, if_true, if_false, ne_eq, Int.reduceEq, Int.reduceNeg, not_false_eq_true, not_true_eq_false, ↓reduceIte, Int.reduceLT, Int.reduceLE, and_self, or_true, true_or, or_false, false_or, false_and, and_false, ah_t_w, ah_m_w, ah_n_w, lst1_0, List.tail_cons, w32_i, zbd, lst2_0]
    have xb := ztop_b (pt := pt) (of := of) v1.2.2.1
    refine l_156 hF hC ag ev hD hl L.length 1 _ (by omega) (by simp; omega) xb ?_
    have : zrun pt of (zchc (g :: L)) [] = zrun pt of (zchr L) [ztop (zrun pt of g.2 [])] := by
      simp only [zchc]
      rw [zrun_app, zrun_top v1.2.2.1]; rfl
    rw [this] at hQ
    exact hQ
end D3
