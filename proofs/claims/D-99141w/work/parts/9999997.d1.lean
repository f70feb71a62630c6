/-! ===== chains in the heap ===== -/
/-- a value whose rows lie apart from X -/
def VSq (hm : Bool) (D : Nat) (a : Int) (X : Int → Prop) (h : AH) (v : Int) (cs : List Int) : Prop := ∃ i j, VSi hm D i j h v cs ∧ a ≤ i ∧ ∀ r, X r → r < i ∨ j ≤ r
def chX (h : AH) (p elL elS : Int) (r : Int) : Prop := r = p ∨ r = ah_m h p 0 ∨ r = ah_m h p 1 ∨ r = elL ∨ r = elS
def CHN (hm : Bool) (D : Nat) (a : Int) (h : AH) (p : Int) (its : List (Int × List Int)) (capL elL capS elS : Int) : Prop :=
  (ah_t h p = (15, 0) ∧ a ≤ p ∧ 1121 ≤ a) ∧ LST h (ah_m h p 0) its.length capL elL ∧ SBD h (ah_m h p 1) (its.map Prod.fst) capS elS ∧ (a ≤ ah_m h p 0 ∧ a ≤ ah_m h p 1 ∧ a ≤ elL ∧ a ≤ elS)
  ∧ (2 ≤ capL ∧ capL ≤ 2 * its.length + 2) ∧ (16 ≤ capS ∧ capS ≤ 2 * its.length + 16) ∧ ∀ i : Nat, i < its.length → isSg (its.getD i (0, [])).1 ∧ VSq hm D a (chX h p elL elS) h (ah_m h elL i) (its.getD i (0, [])).2
section D1
variable {W' : Int → Int → Prop} {d : Nat} {h h' h1 h2 h0 : AH} {Q : QQ} {x y z k s a b c v n p q r o i f N lo hi A B E cap el sp dp capL elL capS elS l' : Int} {S T T' : Int → Int → Int} {t nw nw' pt of tp : Int → Int} {tl : ALoc} {w u W l cs : List Int} {hm : Bool} {D : Nat} {its : List (Int × List Int)}
set_option maxHeartbeats 4000000
/-- a chain begins -/
theorem c_154 (hF : FRE h) (tp : ah_t h p = (15, 0)) (hz : ∀ i, ah_m h p i = 0) (ha : a ≤ p ∧ 1121 ≤ a) (hQ : ∀ h' elL elS, CHN hm D a h' p [] 2 elL 16 elS → Ext (fun r i => r = p) h h' → ah_n h' = ah_n h + 4 → ah_s h' = ah_s h + 25 → Q (.inl none) h') : wpC (d + 4) 154 [.inr (.inr p)] h Q := by
  have t1 : (ah_t h p).1 = 15 := by rw [tp]
  have pN : p < ah_n h := FRE_lt hF (by rw [tp]; decide)
  have p0 : 0 < p := by omega
  have c153 : ∀ {d : Nat} {Q : QQ}, wpC (d + 1) 153 [.inr (.inr p)] h Q ↔ Q (.inl none) h := by
    intro d Q
    apply CT_iff; apply CT_of; rw [wpC_B]; refine ⟨⟨Nat.zero_lt_succ _, Nat.le_of_ble_eq_true rfl⟩, ?_⟩; simp only [lent]
    simp (disch := omega) only [q_153_0, b_153_0, ↓w_aload_n_0, ↓w_return, ↓w_objinit, stw_0, stw_i, stw_l, stw_r, ofK0, ofK1, ofK2, lst1, lst2, lkill, kont_none, kont_some, Int.reduceToNat, List.length_cons, List.length_nil, Nat.reduceAdd, Nat.reduceLeDiff, Nat.zero_le, true_and, and_true, if_true, if_false, ne_eq, Int.reduceEq, Int.reduceNeg, not_false_eq_true, not_true_eq_false, ↓reduceIte, Int.reduceLT, Int.reduceLE, and_self, or_true, true_or, or_false, false_or, false_and, and_false, ah_t_w, ah_m_w, ah_n_w, lst1_0, List.tail_cons, w32_i, zbd, lst2_0, p0]
  rw [wpC_B]; refine ⟨⟨Nat.zero_lt_succ _, Nat.le_of_ble_eq_true rfl⟩, ?_⟩; simp only [lent]
  simp (disch := omega) only [q_154_0, b_154_0, ↓w_iconst, ↓w_aload_n_0, ↓w_dup_i, ↓w_dup_a, ↓w_putfield_2, ↓w_new, ↓w_return, ↓w_invokespecial_0, ↓w_invokespecial_1, stw_0, stw_i, stw_l, stw_r, ofK0, ofK1, ofK2, lst1, lst2, lkill, kont_none, kont_some, Int.reduceToNat, List.length_cons, List.length_nil, Nat.reduceAdd, Nat.reduceLeDiff, Nat.zero_le, true_and, and_true, if_true, if_false, ne_eq, Int.reduceEq, Int.reduceNeg, not_false_eq_true, not_true_eq_false, ↓reduceIte, Int.reduceLT, Int.reduceLE, and_self, or_true, true_or, or_false, false_or, false_and, and_false, ah_t_w, ah_m_w, ah_n_w, lst1_0, List.tail_cons, w32_i, zbd, lst2_0, t1, c153, ah_t_new]
  have n0 := hF.1
  generalize hP : ah_n h = P at *
  have hE1 : Ext (fun r i => r = p) h (ah_new h (3, 0) ((3 : Nat) : Int)) := Ext_new Ext_rfl (by omega)
  have hF1 := FRE_ext hF hE1
  have tP : ah_t (ah_new h (3, 0) ((3 : Nat) : Int)) P = (3, 0) := by rw [ah_t_new, hP, if_pos rfl]
  have mP : ∀ i, ah_m (ah_new h (3, 0) ((3 : Nat) : Int)) P i = 0 := fun i => by rw [ah_m_new, hP, if_pos rfl]
  have n1 : ah_n (ah_new h (3, 0) ((3 : Nat) : Int)) = P + 1 := by rw [ah_n_new, hP]
  have s1 : ah_s (ah_new h (3, 0) ((3 : Nat) : Int)) = ah_s h + 3 := by rw [ah_s_new]; rfl
  generalize hg1 : ah_new h (3, 0) ((3 : Nat) : Int) = g1 at *
  refine c_38 (d := d) tP (by omega) (by omega) (mP 2) (by omega) (fun h2 hL2 hE2 n2 s2 => ?_)
  rw [n1] at hL2
  have hE2' : Ext (fun r i => r = p) h h2 := Ext_tr' hE1 hE2 (fun r i w => Or.inr (by omega))
  have hF2 := FRE_ext hF hE2'
  have t2 : ah_t h2 p = (15, 0) := by rw [hE2'.2.1 _ (Or.inl (by omega))]; exact tp
  have t2' : (ah_t h2 p).1 = 15 := by rw [t2]
  simp (disch := omega) only [b_154_0, ↓w_iconst, ↓w_aload_n_0, ↓w_dup_i, ↓w_dup_a, ↓w_putfield_2, ↓w_new, ↓w_return, ↓w_invokespecial_0, ↓w_invokespecial_1, stw_0, stw_i, stw_l, stw_r, ofK0, ofK1, ofK2, lst1, lst2, lkill, kont_none, kont_some, Int.reduceToNat, List.length_cons, List.length_nil, Nat.reduceAdd, Nat.reduceLeDiff, Nat.zero_le, true_and, and_true, if_true, if_false, ne_eq, Int.reduceEq, Int.reduceNeg, not_false_eq_true, not_true_eq_false, ↓reduceIte, Int.reduceLT, Int.reduceLE, and_self, or_true, true_or, or_false, false_or, false_and, and_false, ah_t_w, ah_m_w, ah_n_w, lst1_0, List.tail_cons, w32_i, zbd, lst2_0, t2', p0, ah_t_new, ah_n_w]
  have hO3 : Off (fun r i => r = p) h2 (ah_w h2 p 0 P) := Off_w Off_rfl rfl
  have n3 : ah_n (ah_w h2 p 0 P) = P + 2 := by rw [ah_n_w, n2, n1]; omega
  have s3 : ah_s (ah_w h2 p 0 P) = ah_s h + 5 := by rw [ah_s_w, s2, s1]; omega
  have hE3' : Ext (fun r i => r = p) h (ah_w h2 p 0 P) := Ext_tr hE2' (Ext_off hO3)
  have hL3 : LST (ah_w h2 p 0 P) P 0 2 (P + 1) := by
    obtain ⟨⟨a1, a2, a3⟩, a4, a5, a6⟩ := hL2
    exact ⟨⟨a1, by rw [ah_m_w, if_neg (by omega)]; exact a2, by rw [ah_m_w, if_neg (by omega)]; exact a3⟩, a4, a5, a6⟩
  have t3 : ah_t (ah_w h2 p 0 P) p = (15, 0) := t2
  have m30 : ah_m (ah_w h2 p 0 P) p 0 = P := by rw [ah_m_w, if_pos ⟨rfl, rfl⟩]
  rw [show ah_n h2 = P + 2 by rw [n2, n1]; omega]
  generalize hg3 : ah_w h2 p 0 P = g3 at *
  have hE4 : Ext (fun r i => r = p) h (ah_new g3 (11, 0) ((4 : Nat) : Int)) := Ext_new hE3' (by omega)
  have hE34 : Ext WN g3 (ah_new g3 (11, 0) ((4 : Nat) : Int)) := Ext_new Ext_rfl (by omega)
  have tS : ah_t (ah_new g3 (11, 0) ((4 : Nat) : Int)) (P + 2) = (11, 0) := by rw [ah_t_new, n3, if_pos rfl]
  have mS : ∀ i, ah_m (ah_new g3 (11, 0) ((4 : Nat) : Int)) (P + 2) i = 0 := fun i => by rw [ah_m_new, n3, if_pos rfl]
  have n4 : ah_n (ah_new g3 (11, 0) ((4 : Nat) : Int)) = P + 3 := by rw [ah_n_new, n3]; omega
  have s4 : ah_s (ah_new g3 (11, 0) ((4 : Nat) : Int)) = ah_s h + 9 := by rw [ah_s_new, s3]; show ah_s h + 5 + 4 = _; omega
  generalize hg4 : ah_new g3 (11, 0) ((4 : Nat) : Int) = g4 at *
  refine c_33 (d := d + 1) tS (by omega) (by omega) (mS 3) (fun h5 hS5 hE5 n5 s5 => ?_)
  rw [n4] at hS5
  have hE35 : Ext (fun r i => r = P + 2) g3 h5 := Ext_tr' (Ext_mono (fun r i w => w.elim) hE34) hE5 (fun r i w => Or.inl w)
  have hE5' : Ext (fun r i => r = p) h h5 := Ext_tr' hE4 hE5 (fun r i w => Or.inr (by omega))
  have t5 : ah_t h5 p = (15, 0) := by rw [hE5'.2.1 _ (Or.inl (by omega))]; exact tp
  have t5' : (ah_t h5 p).1 = 15 := by rw [t5]
  have m50 : ah_m h5 p 0 = P := by rw [hE35.2.2 _ _ (by omega) (by omega)]; exact m30
  have hL5 : LST h5 P 0 2 (P + 1) := by
    obtain ⟨⟨a1, a2, a3⟩, a4, a5, a6⟩ := hL3
    exact ⟨⟨by rw [hE35.2.1 _ (Or.inl (by omega))]; exact a1, by rw [hE35.2.2 _ _ (by omega) (by omega)]; exact a2, by rw [hE35.2.2 _ _ (by omega) (by omega)]; exact a3⟩, by rw [hE35.2.1 _ (Or.inl (by omega))]; exact a4, a5, a6⟩
  simp (disch := omega) only [b_154_0, ↓w_iconst, ↓w_aload_n_0, ↓w_dup_i, ↓w_dup_a, ↓w_putfield_2, ↓w_new, ↓w_return, ↓w_invokespecial_0, ↓w_invokespecial_1, stw_0, stw_i, stw_l, stw_r, ofK0, ofK1, ofK2, lst1, lst2, lkill, kont_none, kont_some, Int.reduceToNat, List.length_cons, List.length_nil, Nat.reduceAdd, Nat.reduceLeDiff, Nat.zero_le, true_and, and_true, if_true, if_false, ne_eq, Int.reduceEq, Int.reduceNeg, not_false_eq_true, not_true_eq_false, ↓reduceIte, Int.reduceLT, Int.reduceLE, and_self, or_true, true_or, or_false, false_or, false_and, and_false, ah_t_w, ah_m_w, ah_n_w, lst1_0, List.tail_cons, w32_i, zbd, lst2_0, t5', p0]
  generalize hg7 : ah_w h5 p 1 (P + 2) = g7
  have hO7 : Off (fun r i => r = p ∧ i = 1) h5 g7 := by rw [← hg7]; exact Off_w Off_rfl ⟨rfl, rfl⟩
  have m70 : ah_m g7 p 0 = P := by rw [hO7.2 _ _ (by omega)]; exact m50
  have m71 : ah_m g7 p 1 = P + 2 := by rw [← hg7, ah_m_w, if_pos ⟨rfl, rfl⟩]
  have T7 : ∀ r, ah_t g7 r = ah_t h5 r := fun r => by rw [Off_t hO7]
  refine hQ g7 (P + 1) (P + 3) ⟨⟨by rw [T7]; exact t5, ha.1, ha.2⟩, ?_, ?_, by omega, by simp, by simp, fun i q => by simp at q⟩ (Ext_tr' hE5' (Ext_off hO7) (fun r i w => Or.inl w.1)) (by rw [Off_n hO7, n5, n4]; omega) (by rw [Off_s hO7, s5, s4]; omega)
  · rw [m70]
    obtain ⟨⟨a1, a2, a3⟩, a4, a5, a6⟩ := hL5
    exact ⟨⟨by rw [T7]; exact a1, by rw [hO7.2 _ _ (by omega)]; exact a2, by rw [hO7.2 _ _ (by omega)]; exact a3⟩, by rw [T7]; exact a4, a5, a6⟩
  · rw [m71]
    obtain ⟨⟨a1, a2, a3, a4⟩, a5, a6, a7, a8⟩ := hS5
    exact ⟨⟨by rw [T7]; exact a1, by rw [hO7.2 _ _ (by omega)]; exact a2, by rw [hO7.2 _ _ (by omega)]; exact a3, by rw [hO7.2 _ _ (by omega)]; exact a4⟩, by rw [T7]; exact a5, a6, a7, fun i q => by simp at q⟩
theorem VSq_ext {X X' : Int → Prop} (hv : VSq hm D a X h v cs) (hE : Ext W' h h') (hW : ∀ r i, W' r i → X r) (hX : ∀ r, X' r → X r ∨ ah_n h ≤ r) : VSq hm D a X' h' v cs := by
  obtain ⟨i, j, h1, h2, h3⟩ := hv
  have hb := h1.1
  refine ⟨i, j, VSi_ext h1 (fun r r0 r1 => ⟨hE.2.1 r (Or.inl (by omega)), fun k => hE.2.2 r k (by omega) (fun w => by have := h3 r (hW r k w); omega)⟩) hE.1.1, h2, fun r x => ?_⟩
  rcases hX r x with q | q
  · exact h3 r q
  · exact Or.inr (by omega)
theorem LST_ext (hL : LST h l' n cap el) (hF : FRE h) (hE : Ext W' h h') (hW : ∀ i, ¬ W' l' i ∧ ¬ W' el i) : LST h' l' n cap el := by
  obtain ⟨⟨a1, a2, a3⟩, a4, a5, a6⟩ := hL
  have l1 : l' < ah_n h := FRE_lt hF (by rw [a1]; decide)
  have l2 : el < ah_n h := FRE_lt hF (by rw [a4]; exact (by decide : (-10 : Int) ≠ 0))
  exact ⟨⟨by rw [hE.2.1 _ (Or.inl l1)]; exact a1, by rw [hE.2.2 _ _ l1 (hW 1).1]; exact a2, by rw [hE.2.2 _ _ l1 (hW 2).1]; exact a3⟩, by rw [hE.2.1 _ (Or.inl l2)]; exact a4, a5, a6⟩
theorem SBD_ext (hs : SBD h s l cap el) (hF : FRE h) (hE : Ext W' h h') (hW : ∀ i, ¬ W' s i ∧ ¬ W' el i) : SBD h' s l cap el := by
  obtain ⟨⟨a1, a2, a3, a4⟩, a5, a6, a7, a8⟩ := hs
  have l1 : s < ah_n h := FRE_lt hF (by rw [a1]; decide)
  have l2 : el < ah_n h := FRE_lt hF (by rw [a5]; exact (by decide : (-2 : Int) ≠ 0))
  exact ⟨⟨by rw [hE.2.1 _ (Or.inl l1)]; exact a1, by rw [hE.2.2 _ _ l1 (hW 0).1]; exact a2, by rw [hE.2.2 _ _ l1 (hW 1).1]; exact a3, by rw [hE.2.2 _ _ l1 (hW 3).1]; exact a4⟩, by rw [hE.2.1 _ (Or.inl l2)]; exact a5, a6, a7, fun i q => by rw [hE.2.2 _ _ l2 (hW i).2]; exact a8 i q⟩
/-- a chain under what else is made -/
theorem CHN_ext (hC : CHN hm D a h p its capL elL capS elS) (hF : FRE h) (hE : Ext W' h h') (hW : ∀ r i, W' r i → r < a) : CHN hm D a h' p its capL elL capS elS := by
  obtain ⟨⟨c1, c2, c3⟩, c4, c5, c6, c7, c8, c9⟩ := hC
  have pN : p < ah_n h := FRE_lt hF (by rw [c1]; decide)
  have w0 : ∀ r i, a ≤ r → ¬ W' r i := fun r i q w => by have := hW r i w; omega
  have m0 : ah_m h' p 0 = ah_m h p 0 := hE.2.2 _ _ pN (w0 _ _ c2)
  have m1 : ah_m h' p 1 = ah_m h p 1 := hE.2.2 _ _ pN (w0 _ _ c2)
  have elN : elL < ah_n h := FRE_lt hF (by rw [c4.2.1]; exact (by decide : (-10 : Int) ≠ 0))
  refine ⟨⟨by rw [hE.2.1 _ (Or.inl pN)]; exact c1, c2, c3⟩, by rw [m0]; exact LST_ext c4 hF hE (fun i => ⟨w0 _ _ c6.1, w0 _ _ c6.2.2.1⟩), by rw [m1]; exact SBD_ext c5 hF hE (fun i => ⟨w0 _ _ c6.2.1, w0 _ _ c6.2.2.2⟩), by rw [m0, m1]; exact c6, c7, c8, fun i q => ⟨(c9 i q).1, ?_⟩⟩
  rw [hE.2.2 _ _ elN (w0 _ _ c6.2.2.1)]
  obtain ⟨i1, j1, v1, v2, v3⟩ := (c9 i q).2
  have vb := v1.1
  refine ⟨i1, j1, VSi_ext v1 (fun r r0 r1 => ⟨hE.2.1 r (Or.inl (by omega)), fun k => hE.2.2 r k (by omega) (w0 _ _ (by omega))⟩) hE.1.1, v2, fun r x => v3 r ?_⟩
  unfold chX at x ⊢
  rw [m0, m1] at x
  exact x
end D1
